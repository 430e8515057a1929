set_option maxRecDepth 100000
abbrev K_X5_acquits : fw_Kt := (RX5, "acquits", cX5_acquits, 10, some .boolean, [])
def p_X5_acquits_L216b (k41 : Int32 → fw_M → Prop) (r0 : Nat) (i1 : Int32) (i2 : Int32) (i3 : Int32) (i4 : Int32) (i5 : Int32) (k216 : Int32 → fw_M → Prop) (i9 : Int32) (μ : fw_M) (Q : Int32 → fw_M → Prop) : Prop :=
  (if i2 ≤ i9 then
  ((∀ i5_2 : Int32, i5_2 = i5 + (1 : Int32) →
   k41 i5_2 μ))
  else
  ((m_K μ (m_P μ r0 45) = 100 ∧ (vp_in i9 (m_N μ (m_P μ r0 45)) ∧ (m_K μ (m_P μ r0 46) = 100 ∧ (vp_in i9 (m_N μ (m_P μ r0 46)) ∧ (∀ μ8, μ8 = m_uI μ (m_P μ r0 46) i9.toNatClampNeg (m_I μ (m_P μ r0 45) i9.toNatClampNeg) →
   (∀ i9_9 : Int32, i9_9 = i9 + (1 : Int32) →
   k216 i9_9 μ8))))))))
def p_X5_acquits_L216 (k41 : Int32 → fw_M → Prop) (r0 : Nat) (i1 : Int32) (i2 : Int32) (i3 : Int32) (i4 : Int32) (i5 : Int32) (i9 : Int32) (μ : fw_M) (Q : Int32 → fw_M → Prop) : Prop := fw_lp (fun (k : Int32 × fw_M → Prop) (a : Int32 × fw_M) => p_X5_acquits_L216b k41 r0 i1 i2 i3 i4 i5 (fun i9 μ => k (i9, μ)) a.1 a.2 Q) (i9, μ)
theorem r_X5_acquits_L216 {k41 : Int32 → fw_M → Prop} {r0 : Nat} {i1 : Int32} {i2 : Int32} {i3 : Int32} {i4 : Int32} {i5 : Int32} {Q : Int32 → fw_M → Prop} (I : Int32 → fw_M → Prop) (v : Int32 → fw_M → Nat) (hs : ∀ (k : Int32 → fw_M → Prop) (i9 : Int32) (μ : fw_M), I i9 μ → (∀ (i9' : Int32) (ν : fw_M), I i9' ν → v i9' ν < v i9 μ → k i9' ν) → p_X5_acquits_L216b k41 r0 i1 i2 i3 i4 i5 k i9 μ Q) (i9 : Int32) (μ : fw_M) (h : I i9 μ) : p_X5_acquits_L216 k41 r0 i1 i2 i3 i4 i5 i9 μ Q :=
  fw_lp_in (A := Int32 × fw_M) (fun a => I a.1 a.2) (fun a => v a.1 a.2) (fun k a ha hk => hs (fun i9 μ => k (i9, μ)) a.1 a.2 ha (fun i9' ν hb hlt => hk (i9', ν) hb hlt)) (i9, μ) h
set_option maxHeartbeats 4000000 in
theorem w_X5_acquits_L216b {g : fw_G} {f bc bs : Nat} {k41 : Int32 → fw_M → Prop} {r0 : Nat} {i1 : Int32} {i2 : Int32} {i3 : Int32} {i4 : Int32} {i5 : Int32} {k216 : Int32 → fw_M → Prop} {i9 : Int32} {μ : fw_M} {Q : Int32 → fw_M → Prop} (hf : 7 ≤ f) (hk41 : ∀ {i5 : Int32} {μ : fw_M}, m_K μ r0 = 6 → k41 i5 μ → fw_V g K_X5_acquits f bc bs 41 [(0, fw_rv g r0), (1, Value.int i1), (2, Value.int i2), (3, Value.int i3), (4, Value.int i4), (5, Value.int i5)] [] μ (fw_Qi Q) fw_nX) (hk216 : ∀ {i9 : Int32} {μ : fw_M}, m_K μ r0 = 6 → k216 i9 μ → fw_V g K_X5_acquits f bc bs 216 [(0, fw_rv g r0), (1, Value.int i1), (2, Value.int i2), (3, Value.int i3), (4, Value.int i4), (5, Value.int i5), (9, Value.int i9)] [] μ (fw_Qi Q) fw_nX) (hx : m_K μ r0 = 6) (h : p_X5_acquits_L216b k41 r0 i1 i2 i3 i4 i5 k216 i9 μ Q) : fw_V g K_X5_acquits f bc bs 216 [(0, fw_rv g r0), (1, Value.int i1), (2, Value.int i2), (3, Value.int i3), (4, Value.int i4), (5, Value.int i5), (9, Value.int i9)] [] μ (fw_Qi Q) fw_nX := by
  unfold p_X5_acquits_L216b at h
  refine fw_iload dX5_acquits_216 rfl ?_
  refine fw_iload_n dX5_acquits_218 rfl rfl ?_
  refine fw_icmp_ge (tgt := 242) dX5_acquits_219 (by decide) (fun c1 => ?_) (fun c1 => ?_)
  · have h := fw_it h c1
    obtain ⟨i5_2, e3⟩ : ∃ y : Int32, y = i5 + (1 : Int32) := ⟨_, rfl⟩
    have h := h i5_2 e3
    refine fw_iincN (k := 5) (v := i5_2) (Ls' := [(5, Value.int i5_2), (4, Value.int i4), (0, fw_rv g r0), (1, Value.int i1), (2, Value.int i2), (3, Value.int i3), (9, Value.int i9)]) [0, 1, 2, 3, 6] dX5_acquits_242 rfl (by rw [e3]; rfl) (by decide) rfl rfl rfl rfl rfl ?_
    refine fw_goto (tgt := 41) dX5_acquits_245 (by decide) ?_
    refine fw_ls [2, 3, 4, 5, 1, 0] rfl ?_
    exact hk41 hx h
  · have h := fw_if h c1
    refine fw_aload_n dX5_acquits_222 rfl rfl ?_
    refine fw_getfP fl_X5_103 rfl hx dX5_acquits_223 ?_
    refine fw_iload dX5_acquits_226 rfl ?_
    refine fw_aload_n dX5_acquits_228 rfl rfl ?_
    refine fw_getfP fl_X5_100 rfl hx dX5_acquits_229 ?_
    refine fw_iload dX5_acquits_232 rfl ?_
    obtain ⟨hg4, h⟩ := h
    obtain ⟨hc5, h⟩ := h
    refine fw_iald hg4 hc5 dX5_acquits_234 ?_
    obtain ⟨hg6, h⟩ := h
    obtain ⟨hc7, h⟩ := h
    refine fw_iast hg6 hc7 dX5_acquits_235 ?_
    have h := h _ rfl
    obtain ⟨i9_9, e10⟩ : ∃ y : Int32, y = i9 + (1 : Int32) := ⟨_, rfl⟩
    have h := h i9_9 e10
    refine fw_iinc (k := 6) (v := i9_9) (Ls' := [(9, Value.int i9_9), (0, fw_rv g r0), (1, Value.int i1), (2, Value.int i2), (3, Value.int i3), (4, Value.int i4), (5, Value.int i5)]) [0, 1, 2, 3, 4, 5] dX5_acquits_236 rfl (by rw [e10]; rfl) (by decide) rfl rfl ?_
    refine fw_goto (tgt := 216) dX5_acquits_239 (by decide) ?_
    refine fw_ls [1, 2, 3, 4, 5, 6, 0] rfl ?_
    exact hk216 hx h
theorem w_X5_acquits_L216 {g : fw_G} {f bc bs : Nat} {k41 : Int32 → fw_M → Prop} {r0 : Nat} {i1 : Int32} {i2 : Int32} {i3 : Int32} {i4 : Int32} {i5 : Int32} {i9 : Int32} {μ : fw_M} {Q : Int32 → fw_M → Prop} (hf : 7 ≤ f) (hk41 : ∀ {i5 : Int32} {μ : fw_M}, m_K μ r0 = 6 → k41 i5 μ → fw_V g K_X5_acquits f bc bs 41 [(0, fw_rv g r0), (1, Value.int i1), (2, Value.int i2), (3, Value.int i3), (4, Value.int i4), (5, Value.int i5)] [] μ (fw_Qi Q) fw_nX) (hx : m_K μ r0 = 6) (h : p_X5_acquits_L216 k41 r0 i1 i2 i3 i4 i5 i9 μ Q) : fw_V g K_X5_acquits f bc bs 216 [(0, fw_rv g r0), (1, Value.int i1), (2, Value.int i2), (3, Value.int i3), (4, Value.int i4), (5, Value.int i5), (9, Value.int i9)] [] μ (fw_Qi Q) fw_nX := by
  have key := fw_lp_out (R := fun (a : Int32 × fw_M) => m_K a.2 r0 = 6 → fw_V g K_X5_acquits f bc bs 216 [(0, fw_rv g r0), (1, Value.int i1), (2, Value.int i2), (3, Value.int i3), (4, Value.int i4), (5, Value.int i5), (9, Value.int a.1)] [] a.2 (fw_Qi Q) fw_nX) (fun k hk9 a ha hx2 => w_X5_acquits_L216b hf hk41 (fun {i9} {μ} hx3 h3 => hk9 (i9, μ) h3 hx3) hx2 ha) h
  exact key hx
def p_X5_acquits_L199 (k41 : Int32 → fw_M → Prop) (r0 : Nat) (i1 : Int32) (i2 : Int32) (i3 : Int32) (i4 : Int32) (i5 : Int32) (i7 : Int32) (μ : fw_M) (Q : Int32 → fw_M → Prop) : Prop :=
  (p_X5_isGuilty r0 i1 μ (fun v1 μ2 =>
  (if v1 = 0 then
  ((∀ μ8, μ8 = m_uI μ2 r0 47 i7 →
   p_X5_acquits_L216 k41 r0 i1 i2 i3 i4 i5 (0 : Int32) μ8 Q))
  else
  ((∀ i5_6 : Int32, i5_6 = i5 + (1 : Int32) →
   k41 i5_6 μ2)))))
set_option maxHeartbeats 4000000 in
theorem w_X5_acquits_L199 {g : fw_G} {f bc bs : Nat} {k41 : Int32 → fw_M → Prop} {r0 : Nat} {i1 : Int32} {i2 : Int32} {i3 : Int32} {i4 : Int32} {i5 : Int32} {i7 : Int32} {μ : fw_M} {Q : Int32 → fw_M → Prop} (hf : 7 ≤ f) (hk41 : ∀ {i5 : Int32} {μ : fw_M}, m_K μ r0 = 6 → k41 i5 μ → fw_V g K_X5_acquits f bc bs 41 [(0, fw_rv g r0), (1, Value.int i1), (2, Value.int i2), (3, Value.int i3), (4, Value.int i4), (5, Value.int i5)] [] μ (fw_Qi Q) fw_nX) (hx : m_K μ r0 = 6) (h : p_X5_acquits_L199 k41 r0 i1 i2 i3 i4 i5 i7 μ Q) : fw_V g K_X5_acquits f bc bs 199 [(0, fw_rv g r0), (1, Value.int i1), (2, Value.int i2), (3, Value.int i3), (4, Value.int i4), (5, Value.int i5), (7, Value.int i7)] [] μ (fw_Qi Q) fw_nX := by
  unfold p_X5_acquits_L199 at h
  refine fw_aload_n dX5_acquits_199 rfl rfl ?_
  refine fw_iload_n dX5_acquits_200 rfl rfl ?_
  refine fw_callV1z (f1 := f - 1) cl_X5_352 rfl hx (by decide) (by omega) (fw_s4 (Nat.le_of_ble_eq_true rfl)) dX5_acquits_201 (w_X5_isGuilty (f := f - 1) (by omega) hx h) (fun _ _ h9 _ _ => h9.elim) (fun v9 μ2 q9 hs3 => ?_)
  obtain ⟨v1, rfl, h⟩ := q9
  refine fw_ti ?_
  have hg4 := hs3.K hx (by decide)
  refine fw_if_ne (tgt := 242) dX5_acquits_204 (by decide) (fun c5 => ?_) (fun c5 => ?_)
  · have h := fw_if h c5
    obtain ⟨i5_6, e7⟩ : ∃ y : Int32, y = i5 + (1 : Int32) := ⟨_, rfl⟩
    have h := h i5_6 e7
    refine fw_iincN (k := 5) (v := i5_6) (Ls' := [(5, Value.int i5_6), (4, Value.int i4), (0, fw_rv g r0), (1, Value.int i1), (2, Value.int i2), (3, Value.int i3), (7, Value.int i7)]) [0, 1, 2, 3, 6] dX5_acquits_242 rfl (by rw [e7]; rfl) (by decide) rfl rfl rfl rfl rfl ?_
    refine fw_goto (tgt := 41) dX5_acquits_245 (by decide) ?_
    refine fw_ls [2, 3, 4, 5, 1, 0] rfl ?_
    exact hk41 hg4 h
  · have h := fw_it h c5
    refine fw_aload_n dX5_acquits_207 rfl rfl ?_
    refine fw_iload dX5_acquits_208 rfl ?_
    refine fw_putfI fl_X5_382 (fun q hq => Or.inl (by cases hq; rfl)) rfl hg4 dX5_acquits_210 ?_
    have h := h _ rfl
    refine fw_iconst (v := 0) dX5_acquits_213 (by decide) ?_
    refine fw_istore (Ls' := [(9, Value.int (0 : Int32)), (0, fw_rv g r0), (1, Value.int i1), (2, Value.int i2), (3, Value.int i3), (4, Value.int i4), (5, Value.int i5), (7, Value.int i7)]) [0, 1, 2, 3, 4, 5, 6] dX5_acquits_214 (by decide) rfl rfl ?_
    refine fw_ls [1, 2, 3, 4, 5, 6, 0] rfl ?_
    exact w_X5_acquits_L216 hf hk41 hg4 h
def p_X5_acquits_L159 (k41 : Int32 → fw_M → Prop) (r0 : Nat) (i1 : Int32) (i2 : Int32) (i3 : Int32) (i4 : Int32) (i5 : Int32) (i7 : Int32) (i8 : Int32) (μ : fw_M) (Q : Int32 → fw_M → Prop) : Prop :=
  (m_K μ (m_P μ r0 39) = 100 ∧ (vp_in (0 : Int32) (m_N μ (m_P μ r0 39)) ∧ (vp_in (2 : Int32) (m_N μ (m_P μ r0 39)) ∧ (∀ i7_4 : Int32, i7_4 = (i7 - ((m_I μ (m_P μ r0 39) (0 : Int32).toNatClampNeg) + (m_I μ (m_P μ r0 39) (2 : Int32).toNatClampNeg))) →
  (if i8 = 0 then
  ((∀ i5_7 : Int32, i5_7 = i5 + (1 : Int32) →
   k41 i5_7 μ))
  else
  ((if (m_I μ r0 47) = (-1 : Int32) then
   (p_X5_acquits_L199 k41 r0 i1 i2 i3 i4 i5 i7_4 μ Q)
   else
   ((if (m_I μ r0 47) ≤ i7_4 then
    ((∀ i5_11 : Int32, i5_11 = i5 + (1 : Int32) →
     k41 i5_11 μ))
    else
    (p_X5_acquits_L199 k41 r0 i1 i2 i3 i4 i5 i7_4 μ Q))))))))))
set_option maxHeartbeats 4000000 in
theorem w_X5_acquits_L159 {g : fw_G} {f bc bs : Nat} {k41 : Int32 → fw_M → Prop} {r0 : Nat} {i1 : Int32} {i2 : Int32} {i3 : Int32} {i4 : Int32} {i5 : Int32} {i7 : Int32} {i8 : Int32} {μ : fw_M} {Q : Int32 → fw_M → Prop} (hf : 7 ≤ f) (hk41 : ∀ {i5 : Int32} {μ : fw_M}, m_K μ r0 = 6 → k41 i5 μ → fw_V g K_X5_acquits f bc bs 41 [(0, fw_rv g r0), (1, Value.int i1), (2, Value.int i2), (3, Value.int i3), (4, Value.int i4), (5, Value.int i5)] [] μ (fw_Qi Q) fw_nX) (hx : m_K μ r0 = 6) (h : p_X5_acquits_L159 k41 r0 i1 i2 i3 i4 i5 i7 i8 μ Q) : fw_V g K_X5_acquits f bc bs 159 [(0, fw_rv g r0), (1, Value.int i1), (2, Value.int i2), (3, Value.int i3), (4, Value.int i4), (5, Value.int i5), (7, Value.int i7), (8, Value.int i8)] [] μ (fw_Qi Q) fw_nX := by
  unfold p_X5_acquits_L159 at h
  refine fw_iload dX5_acquits_159 rfl ?_
  refine fw_aload_n dX5_acquits_161 rfl rfl ?_
  refine fw_getfP fl_X5_85 rfl hx dX5_acquits_162 ?_
  refine fw_iconst (v := 0) dX5_acquits_165 (by decide) ?_
  obtain ⟨hg1, h⟩ := h
  obtain ⟨hc2, h⟩ := h
  refine fw_iald hg1 hc2 dX5_acquits_166 ?_
  refine fw_aload_n dX5_acquits_167 rfl rfl ?_
  refine fw_getfP fl_X5_85 rfl hx dX5_acquits_168 ?_
  refine fw_iconst (v := 2) dX5_acquits_171 (by decide) ?_
  obtain ⟨hc3, h⟩ := h
  refine fw_iald hg1 hc3 dX5_acquits_172 ?_
  refine fw_iadd dX5_acquits_173 ?_
  refine fw_isub dX5_acquits_174 ?_
  refine fw_topi (fun i7_4 e5 => ?_)
  have h := h i7_4 e5
  refine fw_istore (Ls' := [(7, Value.int i7_4), (0, fw_rv g r0), (1, Value.int i1), (2, Value.int i2), (3, Value.int i3), (4, Value.int i4), (5, Value.int i5), (8, Value.int i8)]) [0, 1, 2, 3, 4, 5, 7] dX5_acquits_175 (by decide) rfl rfl ?_
  refine fw_iload dX5_acquits_177 rfl ?_
  refine fw_if_eq (tgt := 242) dX5_acquits_179 (by decide) (fun c6 => ?_) (fun c6 => ?_)
  · have h := fw_it h c6
    obtain ⟨i5_7, e8⟩ : ∃ y : Int32, y = i5 + (1 : Int32) := ⟨_, rfl⟩
    have h := h i5_7 e8
    refine fw_iincN (k := 6) (v := i5_7) (Ls' := [(5, Value.int i5_7), (4, Value.int i4), (7, Value.int i7_4), (0, fw_rv g r0), (1, Value.int i1), (2, Value.int i2), (3, Value.int i3), (8, Value.int i8)]) [0, 1, 2, 3, 4, 7] dX5_acquits_242 rfl (by rw [e8]; rfl) (by decide) rfl rfl rfl rfl rfl ?_
    refine fw_goto (tgt := 41) dX5_acquits_245 (by decide) ?_
    refine fw_ls [3, 4, 5, 6, 1, 0] rfl ?_
    exact hk41 hx h
  · have h := fw_if h c6
    refine fw_aload_n dX5_acquits_182 rfl rfl ?_
    refine fw_getfI fl_X5_382 rfl hx dX5_acquits_183 ?_
    refine fw_iconst (v := -1) dX5_acquits_186 (by decide) ?_
    refine fw_icmp_eq (tgt := 199) dX5_acquits_187 (by decide) (fun c9 => ?_) (fun c9 => ?_)
    · have h := fw_it h c9
      refine fw_ls [1, 2, 3, 4, 5, 6, 0] rfl ?_
      exact w_X5_acquits_L199 hf hk41 hx h
    · have h := fw_if h c9
      refine fw_iload dX5_acquits_190 rfl ?_
      refine fw_aload_n dX5_acquits_192 rfl rfl ?_
      refine fw_getfI fl_X5_382 rfl hx dX5_acquits_193 ?_
      refine fw_icmp_ge (tgt := 242) dX5_acquits_196 (by decide) (fun c10 => ?_) (fun c10 => ?_)
      · have h := fw_it h c10
        obtain ⟨i5_11, e12⟩ : ∃ y : Int32, y = i5 + (1 : Int32) := ⟨_, rfl⟩
        have h := h i5_11 e12
        refine fw_iincN (k := 6) (v := i5_11) (Ls' := [(5, Value.int i5_11), (4, Value.int i4), (7, Value.int i7_4), (0, fw_rv g r0), (1, Value.int i1), (2, Value.int i2), (3, Value.int i3), (8, Value.int i8)]) [0, 1, 2, 3, 4, 7] dX5_acquits_242 rfl (by rw [e12]; rfl) (by decide) rfl rfl rfl rfl rfl ?_
        refine fw_goto (tgt := 41) dX5_acquits_245 (by decide) ?_
        refine fw_ls [3, 4, 5, 6, 1, 0] rfl ?_
        exact hk41 hx h
      · have h := fw_if h c10
        refine fw_ls [1, 2, 3, 4, 5, 6, 0] rfl ?_
        exact w_X5_acquits_L199 hf hk41 hx h
def p_X5_acquits_L110b (k41 : Int32 → fw_M → Prop) (r0 : Nat) (i1 : Int32) (i2 : Int32) (i3 : Int32) (i4 : Int32) (i5 : Int32) (i7 : Int32) (k110 : Int32 → Int32 → fw_M → Prop) (i8 : Int32) (i9 : Int32) (μ : fw_M) (Q : Int32 → fw_M → Prop) : Prop :=
  (if i2 ≤ i9 then
  (p_X5_acquits_L159 k41 r0 i1 i2 i3 i4 i5 i7 i8 μ Q)
  else
  ((if i8 = 0 then
   (p_X5_acquits_L159 k41 r0 i1 i2 i3 i4 i5 i7 i8 μ Q)
   else
   ((m_K μ (m_P μ r0 45) = 100 ∧ (vp_in i9 (m_N μ (m_P μ r0 45)) ∧ (vp_in i9 (m_N μ (m_P μ r0 45)) ∧ (p_X5_eats r0 ((m_I μ (m_P μ r0 45) i9.toNatClampNeg) / (2 : Int32)) ((m_I μ (m_P μ r0 45) i9.toNatClampNeg) - (m_I μ (m_P μ r0 45) i9.toNatClampNeg) / (2 : Int32) * (2 : Int32)) μ (fun v6 μ7 =>
    (if v6 ≤ 0 then
    ((∀ i9_11 : Int32, i9_11 = i9 + (1 : Int32) →
     k110 (0 : Int32) i9_11 μ7))
    else
    ((∀ i9_13 : Int32, i9_13 = i9 + (1 : Int32) →
     k110 (1 : Int32) i9_13 μ7))))))))))))
def p_X5_acquits_L110 (k41 : Int32 → fw_M → Prop) (r0 : Nat) (i1 : Int32) (i2 : Int32) (i3 : Int32) (i4 : Int32) (i5 : Int32) (i7 : Int32) (i8 : Int32) (i9 : Int32) (μ : fw_M) (Q : Int32 → fw_M → Prop) : Prop := fw_lp (fun (k : Int32 × Int32 × fw_M → Prop) (a : Int32 × Int32 × fw_M) => p_X5_acquits_L110b k41 r0 i1 i2 i3 i4 i5 i7 (fun i8 i9 μ => k (i8, i9, μ)) a.1 a.2.1 a.2.2 Q) (i8, i9, μ)
theorem r_X5_acquits_L110 {k41 : Int32 → fw_M → Prop} {r0 : Nat} {i1 : Int32} {i2 : Int32} {i3 : Int32} {i4 : Int32} {i5 : Int32} {i7 : Int32} {Q : Int32 → fw_M → Prop} (I : Int32 → Int32 → fw_M → Prop) (v : Int32 → Int32 → fw_M → Nat) (hs : ∀ (k : Int32 → Int32 → fw_M → Prop) (i8 : Int32) (i9 : Int32) (μ : fw_M), I i8 i9 μ → (∀ (i8' : Int32) (i9' : Int32) (ν : fw_M), I i8' i9' ν → v i8' i9' ν < v i8 i9 μ → k i8' i9' ν) → p_X5_acquits_L110b k41 r0 i1 i2 i3 i4 i5 i7 k i8 i9 μ Q) (i8 : Int32) (i9 : Int32) (μ : fw_M) (h : I i8 i9 μ) : p_X5_acquits_L110 k41 r0 i1 i2 i3 i4 i5 i7 i8 i9 μ Q :=
  fw_lp_in (A := Int32 × Int32 × fw_M) (fun a => I a.1 a.2.1 a.2.2) (fun a => v a.1 a.2.1 a.2.2) (fun k a ha hk => hs (fun i8 i9 μ => k (i8, i9, μ)) a.1 a.2.1 a.2.2 ha (fun i8' i9' ν hb hlt => hk (i8', i9', ν) hb hlt)) (i8, i9, μ) h
set_option maxHeartbeats 4000000 in
theorem w_X5_acquits_L110b {g : fw_G} {f bc bs : Nat} {k41 : Int32 → fw_M → Prop} {r0 : Nat} {i1 : Int32} {i2 : Int32} {i3 : Int32} {i4 : Int32} {i5 : Int32} {i7 : Int32} {k110 : Int32 → Int32 → fw_M → Prop} {i8 : Int32} {i9 : Int32} {μ : fw_M} {Q : Int32 → fw_M → Prop} (hf : 7 ≤ f) (hk41 : ∀ {i5 : Int32} {μ : fw_M}, m_K μ r0 = 6 → k41 i5 μ → fw_V g K_X5_acquits f bc bs 41 [(0, fw_rv g r0), (1, Value.int i1), (2, Value.int i2), (3, Value.int i3), (4, Value.int i4), (5, Value.int i5)] [] μ (fw_Qi Q) fw_nX) (hk110 : ∀ {i8 : Int32} {i9 : Int32} {μ : fw_M}, m_K μ r0 = 6 → k110 i8 i9 μ → fw_V g K_X5_acquits f bc bs 110 [(0, fw_rv g r0), (1, Value.int i1), (2, Value.int i2), (3, Value.int i3), (4, Value.int i4), (5, Value.int i5), (7, Value.int i7), (8, Value.int i8), (9, Value.int i9)] [] μ (fw_Qi Q) fw_nX) (hx : m_K μ r0 = 6) (h : p_X5_acquits_L110b k41 r0 i1 i2 i3 i4 i5 i7 k110 i8 i9 μ Q) : fw_V g K_X5_acquits f bc bs 110 [(0, fw_rv g r0), (1, Value.int i1), (2, Value.int i2), (3, Value.int i3), (4, Value.int i4), (5, Value.int i5), (7, Value.int i7), (8, Value.int i8), (9, Value.int i9)] [] μ (fw_Qi Q) fw_nX := by
  unfold p_X5_acquits_L110b at h
  refine fw_iload dX5_acquits_110 rfl ?_
  refine fw_iload_n dX5_acquits_112 rfl rfl ?_
  refine fw_icmp_ge (tgt := 159) dX5_acquits_113 (by decide) (fun c1 => ?_) (fun c1 => ?_)
  · have h := fw_it h c1
    refine fw_ls [0, 1, 2, 3, 4, 5, 6, 7] rfl ?_
    exact w_X5_acquits_L159 hf hk41 hx h
  · have h := fw_if h c1
    refine fw_iload dX5_acquits_116 rfl ?_
    refine fw_if_eq (tgt := 159) dX5_acquits_118 (by decide) (fun c2 => ?_) (fun c2 => ?_)
    · have h := fw_it h c2
      refine fw_ls [0, 1, 2, 3, 4, 5, 6, 7] rfl ?_
      exact w_X5_acquits_L159 hf hk41 hx h
    · have h := fw_if h c2
      refine fw_aload_n dX5_acquits_121 rfl rfl ?_
      refine fw_aload_n dX5_acquits_122 rfl rfl ?_
      refine fw_getfP fl_X5_100 rfl hx dX5_acquits_123 ?_
      refine fw_iload dX5_acquits_126 rfl ?_
      obtain ⟨hg3, h⟩ := h
      obtain ⟨hc4, h⟩ := h
      refine fw_iald hg3 hc4 dX5_acquits_128 ?_
      refine fw_iconst (v := 2) dX5_acquits_129 (by decide) ?_
      refine fw_idiv dX5_acquits_130 (by decide) ?_
      refine fw_aload_n dX5_acquits_131 rfl rfl ?_
      refine fw_getfP fl_X5_100 rfl hx dX5_acquits_132 ?_
      refine fw_iload dX5_acquits_135 rfl ?_
      obtain ⟨hc5, h⟩ := h
      refine fw_iald hg3 hc5 dX5_acquits_137 ?_
      refine fw_iconst (v := 2) dX5_acquits_138 (by decide) ?_
      refine fw_irem dX5_acquits_139 (by decide) ?_
      refine fw_callV2z (f1 := f - 1) cl_X5_376 rfl hx (by decide) (by omega) (fw_s4 (Nat.le_of_ble_eq_true rfl)) dX5_acquits_140 (w_X5_eats (f := f - 1) (by omega) hx h) (fun _ _ h9 _ _ => h9.elim) (fun v9 μ7 q9 hs8 => ?_)
      obtain ⟨v6, rfl, h⟩ := q9
      refine fw_ti ?_
      have hg9 := hs8.K hx (by decide)
      refine fw_if_le (tgt := 150) dX5_acquits_143 (by decide) (fun c10 => ?_) (fun c10 => ?_)
      · have h := fw_it h c10
        refine fw_iconst (v := 0) dX5_acquits_150 (by decide) ?_
        refine fw_istoreN (Ls' := [(8, Value.int (0 : Int32)), (7, Value.int i7), (0, fw_rv g r0), (1, Value.int i1), (2, Value.int i2), (3, Value.int i3), (4, Value.int i4), (5, Value.int i5), (9, Value.int i9)]) [0, 1, 2, 3, 4, 5, 8] dX5_acquits_151 (by decide) rfl rfl rfl rfl rfl ?_
        obtain ⟨i9_11, e12⟩ : ∃ y : Int32, y = i9 + (1 : Int32) := ⟨_, rfl⟩
        have h := h i9_11 e12
        refine fw_iincN (k := 8) (v := i9_11) (Ls' := [(9, Value.int i9_11), (8, Value.int (0 : Int32)), (7, Value.int i7), (0, fw_rv g r0), (1, Value.int i1), (2, Value.int i2), (3, Value.int i3), (4, Value.int i4), (5, Value.int i5)]) [1, 2, 3, 4, 5, 6, 7] dX5_acquits_153 rfl (by rw [e12]; rfl) (by decide) rfl rfl rfl rfl rfl ?_
        refine fw_goto (tgt := 110) dX5_acquits_156 (by decide) ?_
        refine fw_ls [3, 4, 5, 6, 7, 8, 2, 1, 0] rfl ?_
        exact hk110 hg9 h
      · have h := fw_if h c10
        refine fw_iconst (v := 1) dX5_acquits_146 (by decide) ?_
        refine fw_goto (tgt := 151) dX5_acquits_147 (by decide) ?_
        refine fw_istoreN (Ls' := [(8, Value.int (1 : Int32)), (7, Value.int i7), (0, fw_rv g r0), (1, Value.int i1), (2, Value.int i2), (3, Value.int i3), (4, Value.int i4), (5, Value.int i5), (9, Value.int i9)]) [0, 1, 2, 3, 4, 5, 8] dX5_acquits_151 (by decide) rfl rfl rfl rfl rfl ?_
        obtain ⟨i9_13, e14⟩ : ∃ y : Int32, y = i9 + (1 : Int32) := ⟨_, rfl⟩
        have h := h i9_13 e14
        refine fw_iincN (k := 8) (v := i9_13) (Ls' := [(9, Value.int i9_13), (8, Value.int (1 : Int32)), (7, Value.int i7), (0, fw_rv g r0), (1, Value.int i1), (2, Value.int i2), (3, Value.int i3), (4, Value.int i4), (5, Value.int i5)]) [1, 2, 3, 4, 5, 6, 7] dX5_acquits_153 rfl (by rw [e14]; rfl) (by decide) rfl rfl rfl rfl rfl ?_
        refine fw_goto (tgt := 110) dX5_acquits_156 (by decide) ?_
        refine fw_ls [3, 4, 5, 6, 7, 8, 2, 1, 0] rfl ?_
        exact hk110 hg9 h
theorem w_X5_acquits_L110 {g : fw_G} {f bc bs : Nat} {k41 : Int32 → fw_M → Prop} {r0 : Nat} {i1 : Int32} {i2 : Int32} {i3 : Int32} {i4 : Int32} {i5 : Int32} {i7 : Int32} {i8 : Int32} {i9 : Int32} {μ : fw_M} {Q : Int32 → fw_M → Prop} (hf : 7 ≤ f) (hk41 : ∀ {i5 : Int32} {μ : fw_M}, m_K μ r0 = 6 → k41 i5 μ → fw_V g K_X5_acquits f bc bs 41 [(0, fw_rv g r0), (1, Value.int i1), (2, Value.int i2), (3, Value.int i3), (4, Value.int i4), (5, Value.int i5)] [] μ (fw_Qi Q) fw_nX) (hx : m_K μ r0 = 6) (h : p_X5_acquits_L110 k41 r0 i1 i2 i3 i4 i5 i7 i8 i9 μ Q) : fw_V g K_X5_acquits f bc bs 110 [(0, fw_rv g r0), (1, Value.int i1), (2, Value.int i2), (3, Value.int i3), (4, Value.int i4), (5, Value.int i5), (7, Value.int i7), (8, Value.int i8), (9, Value.int i9)] [] μ (fw_Qi Q) fw_nX := by
  have key := fw_lp_out (R := fun (a : Int32 × Int32 × fw_M) => m_K a.2.2 r0 = 6 → fw_V g K_X5_acquits f bc bs 110 [(0, fw_rv g r0), (1, Value.int i1), (2, Value.int i2), (3, Value.int i3), (4, Value.int i4), (5, Value.int i5), (7, Value.int i7), (8, Value.int a.1), (9, Value.int a.2.1)] [] a.2.2 (fw_Qi Q) fw_nX) (fun k hk9 a ha hx2 => w_X5_acquits_L110b hf hk41 (fun {i8 i9} {μ} hx3 h3 => hk9 (i8, i9, μ) h3 hx3) hx2 ha) h
  exact key hx
def p_X5_acquits_L57b (k41 : Int32 → fw_M → Prop) (r0 : Nat) (i1 : Int32) (i2 : Int32) (i3 : Int32) (i4 : Int32) (i5 : Int32) (k57 : Int32 → Int32 → fw_M → Prop) (i6 : Int32) (i7 : Int32) (μ : fw_M) (Q : Int32 → fw_M → Prop) : Prop :=
  (if i7 < 0 then
  ((p_X5_laysWorld r0 μ (fun μ3 =>
   (m_K μ3 (m_P μ3 r0 39) = 100 ∧ (vp_in (0 : Int32) (m_N μ3 (m_P μ3 r0 39)) ∧ (vp_in (2 : Int32) (m_N μ3 (m_P μ3 r0 39)) ∧ (∀ i7_9 : Int32, i7_9 = ((m_I μ3 (m_P μ3 r0 39) (0 : Int32).toNatClampNeg) + (m_I μ3 (m_P μ3 r0 39) (2 : Int32).toNatClampNeg)) →
   p_X5_acquits_L110 k41 r0 i1 i2 i3 i4 i5 i7_9 (1 : Int32) (0 : Int32) μ3 Q)))))))
  else
  ((¬ i3 = 0 ∧ (m_K μ (m_P μ r0 45) = 100 ∧ (vp_in i7 (m_N μ (m_P μ r0 45)) ∧ (∀ μ14, μ14 = m_uI μ (m_P μ r0 45) i7.toNatClampNeg (i6 - i6 / i3 * i3) →
   (¬ i3 = 0 ∧ (∀ i6_16 : Int32, i6_16 = (i6 / i3) →
   (∀ i7_18 : Int32, i7_18 = i7 + (-1 : Int32) →
   k57 i6_16 i7_18 μ14)))))))))
def p_X5_acquits_L57 (k41 : Int32 → fw_M → Prop) (r0 : Nat) (i1 : Int32) (i2 : Int32) (i3 : Int32) (i4 : Int32) (i5 : Int32) (i6 : Int32) (i7 : Int32) (μ : fw_M) (Q : Int32 → fw_M → Prop) : Prop := fw_lp (fun (k : Int32 × Int32 × fw_M → Prop) (a : Int32 × Int32 × fw_M) => p_X5_acquits_L57b k41 r0 i1 i2 i3 i4 i5 (fun i6 i7 μ => k (i6, i7, μ)) a.1 a.2.1 a.2.2 Q) (i6, i7, μ)
theorem r_X5_acquits_L57 {k41 : Int32 → fw_M → Prop} {r0 : Nat} {i1 : Int32} {i2 : Int32} {i3 : Int32} {i4 : Int32} {i5 : Int32} {Q : Int32 → fw_M → Prop} (I : Int32 → Int32 → fw_M → Prop) (v : Int32 → Int32 → fw_M → Nat) (hs : ∀ (k : Int32 → Int32 → fw_M → Prop) (i6 : Int32) (i7 : Int32) (μ : fw_M), I i6 i7 μ → (∀ (i6' : Int32) (i7' : Int32) (ν : fw_M), I i6' i7' ν → v i6' i7' ν < v i6 i7 μ → k i6' i7' ν) → p_X5_acquits_L57b k41 r0 i1 i2 i3 i4 i5 k i6 i7 μ Q) (i6 : Int32) (i7 : Int32) (μ : fw_M) (h : I i6 i7 μ) : p_X5_acquits_L57 k41 r0 i1 i2 i3 i4 i5 i6 i7 μ Q :=
  fw_lp_in (A := Int32 × Int32 × fw_M) (fun a => I a.1 a.2.1 a.2.2) (fun a => v a.1 a.2.1 a.2.2) (fun k a ha hk => hs (fun i6 i7 μ => k (i6, i7, μ)) a.1 a.2.1 a.2.2 ha (fun i6' i7' ν hb hlt => hk (i6', i7', ν) hb hlt)) (i6, i7, μ) h
set_option maxHeartbeats 4000000 in
theorem w_X5_acquits_L57b {g : fw_G} {f bc bs : Nat} {k41 : Int32 → fw_M → Prop} {r0 : Nat} {i1 : Int32} {i2 : Int32} {i3 : Int32} {i4 : Int32} {i5 : Int32} {k57 : Int32 → Int32 → fw_M → Prop} {i6 : Int32} {i7 : Int32} {μ : fw_M} {Q : Int32 → fw_M → Prop} (hf : 7 ≤ f) (hk41 : ∀ {i5 : Int32} {μ : fw_M}, m_K μ r0 = 6 → k41 i5 μ → fw_V g K_X5_acquits f bc bs 41 [(0, fw_rv g r0), (1, Value.int i1), (2, Value.int i2), (3, Value.int i3), (4, Value.int i4), (5, Value.int i5)] [] μ (fw_Qi Q) fw_nX) (hk57 : ∀ {i6 : Int32} {i7 : Int32} {μ : fw_M}, m_K μ r0 = 6 → k57 i6 i7 μ → fw_V g K_X5_acquits f bc bs 57 [(0, fw_rv g r0), (1, Value.int i1), (2, Value.int i2), (3, Value.int i3), (4, Value.int i4), (5, Value.int i5), (6, Value.int i6), (7, Value.int i7)] [] μ (fw_Qi Q) fw_nX) (hx : m_K μ r0 = 6) (h : p_X5_acquits_L57b k41 r0 i1 i2 i3 i4 i5 k57 i6 i7 μ Q) : fw_V g K_X5_acquits f bc bs 57 [(0, fw_rv g r0), (1, Value.int i1), (2, Value.int i2), (3, Value.int i3), (4, Value.int i4), (5, Value.int i5), (6, Value.int i6), (7, Value.int i7)] [] μ (fw_Qi Q) fw_nX := by
  unfold p_X5_acquits_L57b at h
  refine fw_iload dX5_acquits_57 rfl ?_
  refine fw_if_lt (tgt := 85) dX5_acquits_59 (by decide) (fun c1 => ?_) (fun c1 => ?_)
  · have h := fw_it h c1
    refine fw_aload_n dX5_acquits_85 rfl rfl ?_
    refine fw_callV0z (f1 := f - 1) cl_X5_349 rfl hx (by decide) (by omega) (fw_s4 (Nat.le_of_ble_eq_true rfl)) dX5_acquits_86 (w_X5_laysWorld (f := f - 1) (by omega) hx h) (fun _ _ h9 _ _ => h9.elim) (fun v9 μ3 q9 hs4 => ?_)
    obtain ⟨rfl, h⟩ := q9
    refine fw_tv ?_
    have hg5 := hs4.K hx (by decide)
    refine fw_aload_n dX5_acquits_89 rfl rfl ?_
    refine fw_getfP fl_X5_85 rfl hg5 dX5_acquits_90 ?_
    refine fw_iconst (v := 0) dX5_acquits_93 (by decide) ?_
    obtain ⟨hg6, h⟩ := h
    obtain ⟨hc7, h⟩ := h
    refine fw_iald hg6 hc7 dX5_acquits_94 ?_
    refine fw_aload_n dX5_acquits_95 rfl rfl ?_
    refine fw_getfP fl_X5_85 rfl hg5 dX5_acquits_96 ?_
    refine fw_iconst (v := 2) dX5_acquits_99 (by decide) ?_
    obtain ⟨hc8, h⟩ := h
    refine fw_iald hg6 hc8 dX5_acquits_100 ?_
    refine fw_iadd dX5_acquits_101 ?_
    refine fw_topi (fun i7_9 e10 => ?_)
    have h := h i7_9 e10
    refine fw_istoreN (Ls' := [(7, Value.int i7_9), (6, Value.int i6), (0, fw_rv g r0), (1, Value.int i1), (2, Value.int i2), (3, Value.int i3), (4, Value.int i4), (5, Value.int i5)]) [0, 1, 2, 3, 4, 5] dX5_acquits_102 (by decide) rfl rfl rfl rfl rfl ?_
    refine fw_iconst (v := 1) dX5_acquits_104 (by decide) ?_
    refine fw_istoreN (Ls' := [(8, Value.int (1 : Int32)), (7, Value.int i7_9), (6, Value.int i6), (0, fw_rv g r0), (1, Value.int i1), (2, Value.int i2), (3, Value.int i3), (4, Value.int i4), (5, Value.int i5)]) [1, 2, 3, 4, 5, 6, 7] dX5_acquits_105 (by decide) rfl rfl rfl rfl rfl ?_
    refine fw_iconst (v := 0) dX5_acquits_107 (by decide) ?_
    refine fw_istoreN (Ls' := [(9, Value.int (0 : Int32)), (8, Value.int (1 : Int32)), (7, Value.int i7_9), (6, Value.int i6), (0, fw_rv g r0), (1, Value.int i1), (2, Value.int i2), (3, Value.int i3), (4, Value.int i4), (5, Value.int i5)]) [1, 2, 3, 4, 5, 6, 7, 8] dX5_acquits_108 (by decide) rfl rfl rfl rfl rfl ?_
    refine fw_ls [4, 5, 6, 7, 8, 9, 2, 1, 0] rfl ?_
    exact w_X5_acquits_L110 hf hk41 hg5 h
  · have h := fw_if h c1
    refine fw_aload_n dX5_acquits_62 rfl rfl ?_
    refine fw_getfP fl_X5_100 rfl hx dX5_acquits_63 ?_
    refine fw_iload dX5_acquits_66 rfl ?_
    refine fw_iload dX5_acquits_68 rfl ?_
    refine fw_iload_n dX5_acquits_70 rfl rfl ?_
    obtain ⟨hc11, h⟩ := h
    refine fw_irem dX5_acquits_71 hc11 ?_
    obtain ⟨hg12, h⟩ := h
    obtain ⟨hc13, h⟩ := h
    refine fw_iast hg12 hc13 dX5_acquits_72 ?_
    have h := h _ rfl
    refine fw_iload dX5_acquits_73 rfl ?_
    refine fw_iload_n dX5_acquits_75 rfl rfl ?_
    obtain ⟨hc15, h⟩ := h
    refine fw_idiv dX5_acquits_76 hc15 ?_
    refine fw_topi (fun i6_16 e17 => ?_)
    have h := h i6_16 e17
    refine fw_istoreN (Ls' := [(6, Value.int i6_16), (5, Value.int i5), (0, fw_rv g r0), (1, Value.int i1), (2, Value.int i2), (3, Value.int i3), (4, Value.int i4), (7, Value.int i7)]) [0, 1, 2, 3, 4, 7] dX5_acquits_77 (by decide) rfl rfl rfl rfl rfl ?_
    obtain ⟨i7_18, e19⟩ : ∃ y : Int32, y = i7 + (-1 : Int32) := ⟨_, rfl⟩
    have h := h i7_18 e19
    refine fw_iincN (k := 7) (v := i7_18) (Ls' := [(7, Value.int i7_18), (6, Value.int i6_16), (5, Value.int i5), (0, fw_rv g r0), (1, Value.int i1), (2, Value.int i2), (3, Value.int i3), (4, Value.int i4)]) [1, 2, 3, 4, 5, 6] dX5_acquits_79 rfl (by rw [e19]; rfl) (by decide) rfl rfl rfl rfl rfl ?_
    refine fw_goto (tgt := 57) dX5_acquits_82 (by decide) ?_
    refine fw_ls [3, 4, 5, 6, 7, 2, 1, 0] rfl ?_
    exact hk57 hx h
theorem w_X5_acquits_L57 {g : fw_G} {f bc bs : Nat} {k41 : Int32 → fw_M → Prop} {r0 : Nat} {i1 : Int32} {i2 : Int32} {i3 : Int32} {i4 : Int32} {i5 : Int32} {i6 : Int32} {i7 : Int32} {μ : fw_M} {Q : Int32 → fw_M → Prop} (hf : 7 ≤ f) (hk41 : ∀ {i5 : Int32} {μ : fw_M}, m_K μ r0 = 6 → k41 i5 μ → fw_V g K_X5_acquits f bc bs 41 [(0, fw_rv g r0), (1, Value.int i1), (2, Value.int i2), (3, Value.int i3), (4, Value.int i4), (5, Value.int i5)] [] μ (fw_Qi Q) fw_nX) (hx : m_K μ r0 = 6) (h : p_X5_acquits_L57 k41 r0 i1 i2 i3 i4 i5 i6 i7 μ Q) : fw_V g K_X5_acquits f bc bs 57 [(0, fw_rv g r0), (1, Value.int i1), (2, Value.int i2), (3, Value.int i3), (4, Value.int i4), (5, Value.int i5), (6, Value.int i6), (7, Value.int i7)] [] μ (fw_Qi Q) fw_nX := by
  have key := fw_lp_out (R := fun (a : Int32 × Int32 × fw_M) => m_K a.2.2 r0 = 6 → fw_V g K_X5_acquits f bc bs 57 [(0, fw_rv g r0), (1, Value.int i1), (2, Value.int i2), (3, Value.int i3), (4, Value.int i4), (5, Value.int i5), (6, Value.int a.1), (7, Value.int a.2.1)] [] a.2.2 (fw_Qi Q) fw_nX) (fun k hk9 a ha hx2 => w_X5_acquits_L57b hf hk41 (fun {i6 i7} {μ} hx3 h3 => hk9 (i6, i7, μ) h3 hx3) hx2 ha) h
  exact key hx
def p_X5_acquits_L41b (r0 : Nat) (i1 : Int32) (i2 : Int32) (i3 : Int32) (i4 : Int32) (k41 : Int32 → fw_M → Prop) (i5 : Int32) (μ : fw_M) (Q : Int32 → fw_M → Prop) : Prop :=
  (if i4 ≤ i5 then
  ((if (m_I μ r0 47) = (-1 : Int32) then
   (Q (0 : Int32) μ)
   else
   (Q (1 : Int32) μ)))
  else
  ((∀ i7_3 : Int32, i7_3 = (i2 - (1 : Int32)) →
   p_X5_acquits_L57 k41 r0 i1 i2 i3 i4 i5 i5 i7_3 μ Q)))
def p_X5_acquits_L41 (r0 : Nat) (i1 : Int32) (i2 : Int32) (i3 : Int32) (i4 : Int32) (i5 : Int32) (μ : fw_M) (Q : Int32 → fw_M → Prop) : Prop := fw_lp (fun (k : Int32 × fw_M → Prop) (a : Int32 × fw_M) => p_X5_acquits_L41b r0 i1 i2 i3 i4 (fun i5 μ => k (i5, μ)) a.1 a.2 Q) (i5, μ)
theorem r_X5_acquits_L41 {r0 : Nat} {i1 : Int32} {i2 : Int32} {i3 : Int32} {i4 : Int32} {Q : Int32 → fw_M → Prop} (I : Int32 → fw_M → Prop) (v : Int32 → fw_M → Nat) (hs : ∀ (k : Int32 → fw_M → Prop) (i5 : Int32) (μ : fw_M), I i5 μ → (∀ (i5' : Int32) (ν : fw_M), I i5' ν → v i5' ν < v i5 μ → k i5' ν) → p_X5_acquits_L41b r0 i1 i2 i3 i4 k i5 μ Q) (i5 : Int32) (μ : fw_M) (h : I i5 μ) : p_X5_acquits_L41 r0 i1 i2 i3 i4 i5 μ Q :=
  fw_lp_in (A := Int32 × fw_M) (fun a => I a.1 a.2) (fun a => v a.1 a.2) (fun k a ha hk => hs (fun i5 μ => k (i5, μ)) a.1 a.2 ha (fun i5' ν hb hlt => hk (i5', ν) hb hlt)) (i5, μ) h
set_option maxHeartbeats 4000000 in
theorem w_X5_acquits_L41b {g : fw_G} {f bc bs : Nat} {r0 : Nat} {i1 : Int32} {i2 : Int32} {i3 : Int32} {i4 : Int32} {k41 : Int32 → fw_M → Prop} {i5 : Int32} {μ : fw_M} {Q : Int32 → fw_M → Prop} (hf : 7 ≤ f) (hk41 : ∀ {i5 : Int32} {μ : fw_M}, m_K μ r0 = 6 → k41 i5 μ → fw_V g K_X5_acquits f bc bs 41 [(0, fw_rv g r0), (1, Value.int i1), (2, Value.int i2), (3, Value.int i3), (4, Value.int i4), (5, Value.int i5)] [] μ (fw_Qi Q) fw_nX) (hx : m_K μ r0 = 6) (h : p_X5_acquits_L41b r0 i1 i2 i3 i4 k41 i5 μ Q) : fw_V g K_X5_acquits f bc bs 41 [(0, fw_rv g r0), (1, Value.int i1), (2, Value.int i2), (3, Value.int i3), (4, Value.int i4), (5, Value.int i5)] [] μ (fw_Qi Q) fw_nX := by
  unfold p_X5_acquits_L41b at h
  refine fw_iload dX5_acquits_41 rfl ?_
  refine fw_iload dX5_acquits_43 rfl ?_
  refine fw_icmp_ge (tgt := 248) dX5_acquits_45 (by decide) (fun c1 => ?_) (fun c1 => ?_)
  · have h := fw_it h c1
    refine fw_aload_n dX5_acquits_248 rfl rfl ?_
    refine fw_getfI fl_X5_382 rfl hx dX5_acquits_249 ?_
    refine fw_iconst (v := -1) dX5_acquits_252 (by decide) ?_
    refine fw_icmp_eq (tgt := 260) dX5_acquits_253 (by decide) (fun c2 => ?_) (fun c2 => ?_)
    · have h := fw_it h c2
      refine fw_iconst (v := 0) dX5_acquits_260 (by decide) ?_
      exact fw_ireturn dX5_acquits_261 rfl (by decide +kernel) ⟨_, rfl, h⟩
    · have h := fw_if h c2
      refine fw_iconst (v := 1) dX5_acquits_256 (by decide) ?_
      refine fw_goto (tgt := 261) dX5_acquits_257 (by decide) ?_
      exact fw_ireturn dX5_acquits_261 rfl (by decide +kernel) ⟨_, rfl, h⟩
  · have h := fw_if h c1
    refine fw_iload dX5_acquits_48 rfl ?_
    refine fw_istoreN (Ls' := [(6, Value.int i5), (5, Value.int i5), (0, fw_rv g r0), (1, Value.int i1), (2, Value.int i2), (3, Value.int i3), (4, Value.int i4)]) [0, 1, 2, 3, 4] dX5_acquits_50 (by decide) rfl rfl rfl rfl rfl ?_
    refine fw_iload_n dX5_acquits_52 rfl rfl ?_
    refine fw_iconst (v := 1) dX5_acquits_53 (by decide) ?_
    refine fw_isub dX5_acquits_54 ?_
    refine fw_topi (fun i7_3 e4 => ?_)
    have h := h i7_3 e4
    refine fw_istoreN (Ls' := [(7, Value.int i7_3), (6, Value.int i5), (5, Value.int i5), (0, fw_rv g r0), (1, Value.int i1), (2, Value.int i2), (3, Value.int i3), (4, Value.int i4)]) [1, 2, 3, 4, 5, 6] dX5_acquits_55 (by decide) rfl rfl rfl rfl rfl ?_
    refine fw_ls [3, 4, 5, 6, 7, 2, 1, 0] rfl ?_
    exact w_X5_acquits_L57 hf hk41 hx h
theorem w_X5_acquits_L41 {g : fw_G} {f bc bs : Nat} {r0 : Nat} {i1 : Int32} {i2 : Int32} {i3 : Int32} {i4 : Int32} {i5 : Int32} {μ : fw_M} {Q : Int32 → fw_M → Prop} (hf : 7 ≤ f) (hx : m_K μ r0 = 6) (h : p_X5_acquits_L41 r0 i1 i2 i3 i4 i5 μ Q) : fw_V g K_X5_acquits f bc bs 41 [(0, fw_rv g r0), (1, Value.int i1), (2, Value.int i2), (3, Value.int i3), (4, Value.int i4), (5, Value.int i5)] [] μ (fw_Qi Q) fw_nX := by
  have key := fw_lp_out (R := fun (a : Int32 × fw_M) => m_K a.2 r0 = 6 → fw_V g K_X5_acquits f bc bs 41 [(0, fw_rv g r0), (1, Value.int i1), (2, Value.int i2), (3, Value.int i3), (4, Value.int i4), (5, Value.int a.1)] [] a.2 (fw_Qi Q) fw_nX) (fun k hk9 a ha hx2 => w_X5_acquits_L41b hf (fun {i5} {μ} hx3 h3 => hk9 (i5, μ) h3 hx3) hx2 ha) h
  exact key hx
def p_X5_acquits_L15b (r0 : Nat) (i1 : Int32) (i2 : Int32) (i3 : Int32) (k15 : Int32 → Int32 → fw_M → Prop) (i4 : Int32) (i5 : Int32) (μ : fw_M) (Q : Int32 → fw_M → Prop) : Prop :=
  (if i2 ≤ i5 then
  ((∀ μ2, μ2 = m_uI μ r0 47 (-1 : Int32) →
   p_X5_acquits_L41 r0 i1 i2 i3 i4 (0 : Int32) μ2 Q))
  else
  ((∀ i4_3 : Int32, i4_3 = (i4 * i3) →
   (∀ i5_5 : Int32, i5_5 = i5 + (1 : Int32) →
   k15 i4_3 i5_5 μ))))
def p_X5_acquits_L15 (r0 : Nat) (i1 : Int32) (i2 : Int32) (i3 : Int32) (i4 : Int32) (i5 : Int32) (μ : fw_M) (Q : Int32 → fw_M → Prop) : Prop := fw_lp (fun (k : Int32 × Int32 × fw_M → Prop) (a : Int32 × Int32 × fw_M) => p_X5_acquits_L15b r0 i1 i2 i3 (fun i4 i5 μ => k (i4, i5, μ)) a.1 a.2.1 a.2.2 Q) (i4, i5, μ)
theorem r_X5_acquits_L15 {r0 : Nat} {i1 : Int32} {i2 : Int32} {i3 : Int32} {Q : Int32 → fw_M → Prop} (I : Int32 → Int32 → fw_M → Prop) (v : Int32 → Int32 → fw_M → Nat) (hs : ∀ (k : Int32 → Int32 → fw_M → Prop) (i4 : Int32) (i5 : Int32) (μ : fw_M), I i4 i5 μ → (∀ (i4' : Int32) (i5' : Int32) (ν : fw_M), I i4' i5' ν → v i4' i5' ν < v i4 i5 μ → k i4' i5' ν) → p_X5_acquits_L15b r0 i1 i2 i3 k i4 i5 μ Q) (i4 : Int32) (i5 : Int32) (μ : fw_M) (h : I i4 i5 μ) : p_X5_acquits_L15 r0 i1 i2 i3 i4 i5 μ Q :=
  fw_lp_in (A := Int32 × Int32 × fw_M) (fun a => I a.1 a.2.1 a.2.2) (fun a => v a.1 a.2.1 a.2.2) (fun k a ha hk => hs (fun i4 i5 μ => k (i4, i5, μ)) a.1 a.2.1 a.2.2 ha (fun i4' i5' ν hb hlt => hk (i4', i5', ν) hb hlt)) (i4, i5, μ) h
set_option maxHeartbeats 4000000 in
theorem w_X5_acquits_L15b {g : fw_G} {f bc bs : Nat} {r0 : Nat} {i1 : Int32} {i2 : Int32} {i3 : Int32} {k15 : Int32 → Int32 → fw_M → Prop} {i4 : Int32} {i5 : Int32} {μ : fw_M} {Q : Int32 → fw_M → Prop} (hf : 7 ≤ f) (hk15 : ∀ {i4 : Int32} {i5 : Int32} {μ : fw_M}, m_K μ r0 = 6 → k15 i4 i5 μ → fw_V g K_X5_acquits f bc bs 15 [(0, fw_rv g r0), (1, Value.int i1), (2, Value.int i2), (3, Value.int i3), (4, Value.int i4), (5, Value.int i5)] [] μ (fw_Qi Q) fw_nX) (hx : m_K μ r0 = 6) (h : p_X5_acquits_L15b r0 i1 i2 i3 k15 i4 i5 μ Q) : fw_V g K_X5_acquits f bc bs 15 [(0, fw_rv g r0), (1, Value.int i1), (2, Value.int i2), (3, Value.int i3), (4, Value.int i4), (5, Value.int i5)] [] μ (fw_Qi Q) fw_nX := by
  unfold p_X5_acquits_L15b at h
  refine fw_iload dX5_acquits_15 rfl ?_
  refine fw_iload_n dX5_acquits_17 rfl rfl ?_
  refine fw_icmp_ge (tgt := 33) dX5_acquits_18 (by decide) (fun c1 => ?_) (fun c1 => ?_)
  · have h := fw_it h c1
    refine fw_aload_n dX5_acquits_33 rfl rfl ?_
    refine fw_iconst (v := -1) dX5_acquits_34 (by decide) ?_
    refine fw_putfI fl_X5_382 (fun q hq => Or.inl (by cases hq; rfl)) rfl hx dX5_acquits_35 ?_
    have h := h _ rfl
    refine fw_iconst (v := 0) dX5_acquits_38 (by decide) ?_
    refine fw_istoreN (Ls' := [(5, Value.int (0 : Int32)), (4, Value.int i4), (0, fw_rv g r0), (1, Value.int i1), (2, Value.int i2), (3, Value.int i3)]) [0, 1, 2, 3] dX5_acquits_39 (by decide) rfl rfl rfl rfl rfl ?_
    refine fw_ls [2, 3, 4, 5, 1, 0] rfl ?_
    exact w_X5_acquits_L41 hf hx h
  · have h := fw_if h c1
    refine fw_iload dX5_acquits_21 rfl ?_
    refine fw_iload_n dX5_acquits_23 rfl rfl ?_
    refine fw_imul dX5_acquits_24 ?_
    refine fw_topi (fun i4_3 e4 => ?_)
    have h := h i4_3 e4
    refine fw_istoreN (Ls' := [(4, Value.int i4_3), (3, Value.int i3), (0, fw_rv g r0), (1, Value.int i1), (2, Value.int i2), (5, Value.int i5)]) [0, 1, 2, 5] dX5_acquits_25 (by decide) rfl rfl rfl rfl rfl ?_
    obtain ⟨i5_5, e6⟩ : ∃ y : Int32, y = i5 + (1 : Int32) := ⟨_, rfl⟩
    have h := h i5_5 e6
    refine fw_iincN (k := 5) (v := i5_5) (Ls' := [(5, Value.int i5_5), (4, Value.int i4_3), (3, Value.int i3), (0, fw_rv g r0), (1, Value.int i1), (2, Value.int i2)]) [1, 2, 3, 4] dX5_acquits_27 rfl (by rw [e6]; rfl) (by decide) rfl rfl rfl rfl rfl ?_
    refine fw_goto (tgt := 15) dX5_acquits_30 (by decide) ?_
    refine fw_ls [3, 4, 5, 2, 1, 0] rfl ?_
    exact hk15 hx h
theorem w_X5_acquits_L15 {g : fw_G} {f bc bs : Nat} {r0 : Nat} {i1 : Int32} {i2 : Int32} {i3 : Int32} {i4 : Int32} {i5 : Int32} {μ : fw_M} {Q : Int32 → fw_M → Prop} (hf : 7 ≤ f) (hx : m_K μ r0 = 6) (h : p_X5_acquits_L15 r0 i1 i2 i3 i4 i5 μ Q) : fw_V g K_X5_acquits f bc bs 15 [(0, fw_rv g r0), (1, Value.int i1), (2, Value.int i2), (3, Value.int i3), (4, Value.int i4), (5, Value.int i5)] [] μ (fw_Qi Q) fw_nX := by
  have key := fw_lp_out (R := fun (a : Int32 × Int32 × fw_M) => m_K a.2.2 r0 = 6 → fw_V g K_X5_acquits f bc bs 15 [(0, fw_rv g r0), (1, Value.int i1), (2, Value.int i2), (3, Value.int i3), (4, Value.int a.1), (5, Value.int a.2.1)] [] a.2.2 (fw_Qi Q) fw_nX) (fun k hk9 a ha hx2 => w_X5_acquits_L15b hf (fun {i4 i5} {μ} hx3 h3 => hk9 (i4, i5, μ) h3 hx3) hx2 ha) h
  exact key hx
def p_X5_acquits (r0 : Nat) (i1 : Int32) (i2 : Int32) (μ : fw_M) (Q : Int32 → fw_M → Prop) : Prop :=
  (m_K μ (m_P μ r0 0) = 100 ∧ (vp_in (0 : Int32) (m_N μ (m_P μ r0 0)) ∧ (∀ i3_3 : Int32, i3_3 = ((2 : Int32) * (m_I μ (m_P μ r0 0) (0 : Int32).toNatClampNeg)) →
  p_X5_acquits_L15 r0 i1 i2 i3_3 (1 : Int32) (0 : Int32) μ Q)))
set_option maxHeartbeats 4000000 in
theorem w_X5_acquits {g : fw_G} {f bc bs : Nat} {r0 : Nat} {i1 : Int32} {i2 : Int32} {μ : fw_M} {Q : Int32 → fw_M → Prop} (hf : 7 ≤ f) (hx : m_K μ r0 = 6) (h : p_X5_acquits r0 i1 i2 μ Q) : fw_C g f bc bs yX5_acquits (ws_ yX5_acquits cX5_acquits 10 (some .boolean)) [fw_rv g r0, Value.int i1, Value.int i2] μ (fw_Qi Q) fw_nX := by
  unfold p_X5_acquits at h
  refine fw_intro' (Ls := [(0, fw_rv g r0), (1, Value.int i1), (2, Value.int i2)]) (by decide +kernel) (by simp [lg_sl, fw_cat, fw_ci, fw_clo]) (by simp [lv_args, fw_cat, fw_ci, fw_clo]) ?_
  show fw_V g K_X5_acquits f bc bs 0 [(0, fw_rv g r0), (1, Value.int i1), (2, Value.int i2)] [] μ (fw_Qi Q) fw_nX
  refine fw_iconst (v := 2) dX5_acquits_0 (by decide) ?_
  refine fw_aload_n dX5_acquits_1 rfl rfl ?_
  refine fw_getfP fl_X5_7 rfl hx dX5_acquits_2 ?_
  refine fw_iconst (v := 0) dX5_acquits_5 (by decide) ?_
  obtain ⟨hg1, h⟩ := h
  obtain ⟨hc2, h⟩ := h
  refine fw_iald hg1 hc2 dX5_acquits_6 ?_
  refine fw_imul dX5_acquits_7 ?_
  refine fw_topi (fun i3_3 e4 => ?_)
  have h := h i3_3 e4
  refine fw_istore_nN (Ls' := [(3, Value.int i3_3), (2, Value.int i2), (0, fw_rv g r0), (1, Value.int i1)]) [0, 1] dX5_acquits_8 rfl (by decide) rfl rfl rfl rfl rfl ?_
  refine fw_iconst (v := 1) dX5_acquits_9 (by decide) ?_
  refine fw_istoreN (Ls' := [(4, Value.int (1 : Int32)), (3, Value.int i3_3), (2, Value.int i2), (0, fw_rv g r0), (1, Value.int i1)]) [1, 2, 3] dX5_acquits_10 (by decide) rfl rfl rfl rfl rfl ?_
  refine fw_iconst (v := 0) dX5_acquits_12 (by decide) ?_
  refine fw_istoreN (Ls' := [(5, Value.int (0 : Int32)), (4, Value.int (1 : Int32)), (3, Value.int i3_3), (2, Value.int i2), (0, fw_rv g r0), (1, Value.int i1)]) [1, 2, 3, 4] dX5_acquits_13 (by decide) rfl rfl rfl rfl rfl ?_
  refine fw_ls [4, 5, 3, 2, 1, 0] rfl ?_
  exact w_X5_acquits_L15 hf hx h
abbrev K_X5_acquitted : fw_Kt := (RX5, "acquitted", cX5_acquitted, 4, some .int, [])
def p_X5_acquitted_L38 (r0 : Nat) (i2 : Int32) (i3 : Int32) (μ : fw_M) (Q : Int32 → fw_M → Prop) : Prop :=
  (if i3 = (5 : Int32) then
  (Q (-3 : Int32) μ)
  else
  ((if i2 < i3 then
   ((if i2 = (-1 : Int32) then
    (Q i3 μ)
    else
    ((if i2 = (-2 : Int32) then
     (Q (m_I μ r0 47) μ)
     else
     ((m_K μ (m_P μ r0 46) = 100 ∧ (vp_in i2 (m_N μ (m_P μ r0 46)) ∧ Q (m_I μ (m_P μ r0 46) i2.toNatClampNeg) μ)))))))
   else
   (Q (-3 : Int32) μ))))
set_option maxHeartbeats 4000000 in
theorem w_X5_acquitted_L38 {g : fw_G} {f bc bs : Nat} {r0 : Nat} {i2 : Int32} {i3 : Int32} {μ : fw_M} {Q : Int32 → fw_M → Prop} (hf : 8 ≤ f) (hx : m_K μ r0 = 6) (h : p_X5_acquitted_L38 r0 i2 i3 μ Q) : fw_V g K_X5_acquitted f bc bs 38 [(0, fw_rv g r0), (2, Value.int i2), (3, Value.int i3)] [] μ (fw_Qi Q) fw_nX := by
  unfold p_X5_acquitted_L38 at h
  refine fw_iload_n dX5_acquitted_38 rfl rfl ?_
  refine fw_iconst (v := 5) dX5_acquitted_39 (by decide) ?_
  refine fw_icmp_eq (tgt := 48) dX5_acquitted_40 (by decide) (fun c1 => ?_) (fun c1 => ?_)
  · have h := fw_it h c1
    refine fw_bipush (v := -3) dX5_acquitted_48 (by decide) ?_
    exact fw_ireturn dX5_acquitted_50 rfl rfl ⟨_, rfl, h⟩
  · have h := fw_if h c1
    refine fw_iload_n dX5_acquitted_43 rfl rfl ?_
    refine fw_iload_n dX5_acquitted_44 rfl rfl ?_
    refine fw_icmp_lt (tgt := 51) dX5_acquitted_45 (by decide) (fun c2 => ?_) (fun c2 => ?_)
    · have h := fw_it h c2
      refine fw_iload_n dX5_acquitted_51 rfl rfl ?_
      refine fw_iconst (v := -1) dX5_acquitted_52 (by decide) ?_
      refine fw_icmp_ne (tgt := 60) dX5_acquitted_53 (by decide) (fun c3 => ?_) (fun c3 => ?_)
      · have h := fw_if h c3
        refine fw_iload_n dX5_acquitted_60 rfl rfl ?_
        refine fw_bipush (v := -2) dX5_acquitted_61 (by decide) ?_
        refine fw_icmp_ne (tgt := 73) dX5_acquitted_63 (by decide) (fun c4 => ?_) (fun c4 => ?_)
        · have h := fw_if h c4
          refine fw_aload_n dX5_acquitted_73 rfl rfl ?_
          refine fw_getfP fl_X5_103 rfl hx dX5_acquitted_74 ?_
          refine fw_iload_n dX5_acquitted_77 rfl rfl ?_
          obtain ⟨hg5, h⟩ := h
          obtain ⟨hc6, h⟩ := h
          refine fw_iald hg5 hc6 dX5_acquitted_78 ?_
          exact fw_ireturn dX5_acquitted_79 rfl rfl ⟨_, rfl, h⟩
        · have h := fw_it h c4
          refine fw_aload_n dX5_acquitted_66 rfl rfl ?_
          refine fw_getfI fl_X5_382 rfl hx dX5_acquitted_67 ?_
          refine fw_goto (tgt := 79) dX5_acquitted_70 (by decide) ?_
          exact fw_ireturn dX5_acquitted_79 rfl rfl ⟨_, rfl, h⟩
      · have h := fw_it h c3
        refine fw_iload_n dX5_acquitted_56 rfl rfl ?_
        refine fw_goto (tgt := 79) dX5_acquitted_57 (by decide) ?_
        exact fw_ireturn dX5_acquitted_79 rfl rfl ⟨_, rfl, h⟩
    · have h := fw_if h c2
      refine fw_bipush (v := -3) dX5_acquitted_48 (by decide) ?_
      exact fw_ireturn dX5_acquitted_50 rfl rfl ⟨_, rfl, h⟩
def p_X5_acquitted_L18b (r0 : Nat) (i1 : Int32) (i2 : Int32) (k18 : Int32 → fw_M → Prop) (i3 : Int32) (μ : fw_M) (Q : Int32 → fw_M → Prop) : Prop :=
  (if (5 : Int32) ≤ i3 then
  (p_X5_acquitted_L38 r0 i2 i3 μ Q)
  else
  ((p_X5_acquits r0 i1 i3 μ (fun v2 μ3 =>
   (if v2 = 0 then
   ((∀ i3_7 : Int32, i3_7 = i3 + (1 : Int32) →
    k18 i3_7 μ3))
   else
   (p_X5_acquitted_L38 r0 i2 i3 μ3 Q))))))
def p_X5_acquitted_L18 (r0 : Nat) (i1 : Int32) (i2 : Int32) (i3 : Int32) (μ : fw_M) (Q : Int32 → fw_M → Prop) : Prop := fw_lp (fun (k : Int32 × fw_M → Prop) (a : Int32 × fw_M) => p_X5_acquitted_L18b r0 i1 i2 (fun i3 μ => k (i3, μ)) a.1 a.2 Q) (i3, μ)
theorem r_X5_acquitted_L18 {r0 : Nat} {i1 : Int32} {i2 : Int32} {Q : Int32 → fw_M → Prop} (I : Int32 → fw_M → Prop) (v : Int32 → fw_M → Nat) (hs : ∀ (k : Int32 → fw_M → Prop) (i3 : Int32) (μ : fw_M), I i3 μ → (∀ (i3' : Int32) (ν : fw_M), I i3' ν → v i3' ν < v i3 μ → k i3' ν) → p_X5_acquitted_L18b r0 i1 i2 k i3 μ Q) (i3 : Int32) (μ : fw_M) (h : I i3 μ) : p_X5_acquitted_L18 r0 i1 i2 i3 μ Q :=
  fw_lp_in (A := Int32 × fw_M) (fun a => I a.1 a.2) (fun a => v a.1 a.2) (fun k a ha hk => hs (fun i3 μ => k (i3, μ)) a.1 a.2 ha (fun i3' ν hb hlt => hk (i3', ν) hb hlt)) (i3, μ) h
set_option maxHeartbeats 4000000 in
theorem w_X5_acquitted_L18b {g : fw_G} {f bc bs : Nat} {r0 : Nat} {i1 : Int32} {i2 : Int32} {k18 : Int32 → fw_M → Prop} {i3 : Int32} {μ : fw_M} {Q : Int32 → fw_M → Prop} (hf : 8 ≤ f) (hk18 : ∀ {i3 : Int32} {μ : fw_M}, m_K μ r0 = 6 → k18 i3 μ → fw_V g K_X5_acquitted f bc bs 18 [(0, fw_rv g r0), (1, Value.int i1), (2, Value.int i2), (3, Value.int i3)] [] μ (fw_Qi Q) fw_nX) (hx : m_K μ r0 = 6) (h : p_X5_acquitted_L18b r0 i1 i2 k18 i3 μ Q) : fw_V g K_X5_acquitted f bc bs 18 [(0, fw_rv g r0), (1, Value.int i1), (2, Value.int i2), (3, Value.int i3)] [] μ (fw_Qi Q) fw_nX := by
  unfold p_X5_acquitted_L18b at h
  refine fw_iload_n dX5_acquitted_18 rfl rfl ?_
  refine fw_iconst (v := 5) dX5_acquitted_19 (by decide) ?_
  refine fw_icmp_ge (tgt := 38) dX5_acquitted_20 (by decide) (fun c1 => ?_) (fun c1 => ?_)
  · have h := fw_it h c1
    refine fw_ls [0, 2, 3] rfl ?_
    exact w_X5_acquitted_L38 hf hx h
  · have h := fw_if h c1
    refine fw_aload_n dX5_acquitted_23 rfl rfl ?_
    refine fw_iload_n dX5_acquitted_24 rfl rfl ?_
    refine fw_iload_n dX5_acquitted_25 rfl rfl ?_
    refine fw_callV2z (f1 := f - 1) cl_X5_385 rfl hx (by decide) (by omega) (fw_s4 (Nat.le_of_ble_eq_true rfl)) dX5_acquitted_26 (w_X5_acquits (f := f - 1) (by omega) hx h) (fun _ _ h9 _ _ => h9.elim) (fun v9 μ3 q9 hs4 => ?_)
    obtain ⟨v2, rfl, h⟩ := q9
    refine fw_ti ?_
    have hg5 := hs4.K hx (by decide)
    refine fw_if_ne (tgt := 38) dX5_acquitted_29 (by decide) (fun c6 => ?_) (fun c6 => ?_)
    · have h := fw_if h c6
      refine fw_ls [0, 2, 3] rfl ?_
      exact w_X5_acquitted_L38 hf hg5 h
    · have h := fw_it h c6
      obtain ⟨i3_7, e8⟩ : ∃ y : Int32, y = i3 + (1 : Int32) := ⟨_, rfl⟩
      have h := h i3_7 e8
      refine fw_iincN (k := 3) (v := i3_7) (Ls' := [(3, Value.int i3_7), (2, Value.int i2), (0, fw_rv g r0), (1, Value.int i1)]) [0, 1] dX5_acquitted_32 rfl (by rw [e8]; rfl) (by decide) rfl rfl rfl rfl rfl ?_
      refine fw_goto (tgt := 18) dX5_acquitted_35 (by decide) ?_
      refine fw_ls [2, 3, 1, 0] rfl ?_
      exact hk18 hg5 h
theorem w_X5_acquitted_L18 {g : fw_G} {f bc bs : Nat} {r0 : Nat} {i1 : Int32} {i2 : Int32} {i3 : Int32} {μ : fw_M} {Q : Int32 → fw_M → Prop} (hf : 8 ≤ f) (hx : m_K μ r0 = 6) (h : p_X5_acquitted_L18 r0 i1 i2 i3 μ Q) : fw_V g K_X5_acquitted f bc bs 18 [(0, fw_rv g r0), (1, Value.int i1), (2, Value.int i2), (3, Value.int i3)] [] μ (fw_Qi Q) fw_nX := by
  have key := fw_lp_out (R := fun (a : Int32 × fw_M) => m_K a.2 r0 = 6 → fw_V g K_X5_acquitted f bc bs 18 [(0, fw_rv g r0), (1, Value.int i1), (2, Value.int i2), (3, Value.int a.1)] [] a.2 (fw_Qi Q) fw_nX) (fun k hk9 a ha hx2 => w_X5_acquitted_L18b hf (fun {i3} {μ} hx3 h3 => hk9 (i3, μ) h3 hx3) hx2 ha) h
  exact key hx
def p_X5_acquitted (r0 : Nat) (i1 : Int32) (i2 : Int32) (μ : fw_M) (Q : Int32 → fw_M → Prop) : Prop :=
  (p_X5_isOne i1 μ (fun v1 μ2 =>
  (if v1 = 0 then
  (Q (-3 : Int32) μ2)
  else
  ((if (-2 : Int32) ≤ i2 then
   (p_X5_acquitted_L18 r0 i1 i2 (0 : Int32) μ2 Q)
   else
   (Q (-3 : Int32) μ2))))))
set_option maxHeartbeats 4000000 in
theorem w_X5_acquitted {g : fw_G} {f bc bs : Nat} {r0 : Nat} {i1 : Int32} {i2 : Int32} {μ : fw_M} {Q : Int32 → fw_M → Prop} (hf : 8 ≤ f) (hx : m_K μ r0 = 6) (h : p_X5_acquitted r0 i1 i2 μ Q) : fw_C g f bc bs yX5_acquitted (ws_ yX5_acquitted cX5_acquitted 4 (some .int)) [fw_rv g r0, Value.int i1, Value.int i2] μ (fw_Qi Q) fw_nX := by
  unfold p_X5_acquitted at h
  refine fw_intro' (Ls := [(0, fw_rv g r0), (1, Value.int i1), (2, Value.int i2)]) (by decide +kernel) (by simp [lg_sl, fw_cat, fw_ci, fw_clo]) (by simp [lv_args, fw_cat, fw_ci, fw_clo]) ?_
  show fw_V g K_X5_acquitted f bc bs 0 [(0, fw_rv g r0), (1, Value.int i1), (2, Value.int i2)] [] μ (fw_Qi Q) fw_nX
  refine fw_iload_n dX5_acquitted_0 rfl rfl ?_
  refine fw_callS1z (f1 := f - 1) cl_X5_114 (by decide) (by omega) (fw_s4 (Nat.le_of_ble_eq_true rfl)) dX5_acquitted_1 (w_X5_isOne (f := f - 1) (by omega) h) (fun _ _ h9 _ _ => h9.elim) (fun v9 μ2 q9 hs3 => ?_)
  obtain ⟨v1, rfl, h⟩ := q9
  refine fw_ti ?_
  have hg4 := hs3.K hx (by decide)
  refine fw_if_eq (tgt := 13) dX5_acquitted_4 (by decide) (fun c5 => ?_) (fun c5 => ?_)
  · have h := fw_it h c5
    refine fw_bipush (v := -3) dX5_acquitted_13 (by decide) ?_
    exact fw_ireturn dX5_acquitted_15 rfl rfl ⟨_, rfl, h⟩
  · have h := fw_if h c5
    refine fw_iload_n dX5_acquitted_7 rfl rfl ?_
    refine fw_bipush (v := -2) dX5_acquitted_8 (by decide) ?_
    refine fw_icmp_ge (tgt := 16) dX5_acquitted_10 (by decide) (fun c6 => ?_) (fun c6 => ?_)
    · have h := fw_it h c6
      refine fw_iconst (v := 0) dX5_acquitted_16 (by decide) ?_
      refine fw_istore_nN (Ls' := [(3, Value.int (0 : Int32)), (2, Value.int i2), (0, fw_rv g r0), (1, Value.int i1)]) [0, 1] dX5_acquitted_17 rfl (by decide) rfl rfl rfl rfl rfl ?_
      refine fw_ls [2, 3, 1, 0] rfl ?_
      exact w_X5_acquitted_L18 hf hg4 h
    · have h := fw_if h c6
      refine fw_bipush (v := -3) dX5_acquitted_13 (by decide) ?_
      exact fw_ireturn dX5_acquitted_15 rfl rfl ⟨_, rfl, h⟩
abbrev K_X5_sets : fw_Kt := (RX5, "sets", cX5_sets, 9, some .int, [])
def p_X5_sets_L98 (k39 : Int32 → Int32 → fw_M → Prop) (k62 : Int32 → Int32 → fw_M → Prop) (r0 : Nat) (i1 : Int32) (i2 : Int32) (i3 : Int32) (i4 : Int32) (i5 : Int32) (i6 : Int32) (i8 : Int32) (μ : fw_M) (Q : Int32 → fw_M → Prop) : Prop :=
  (∀ i8_1 : Int32, i8_1 = i8 + (1 : Int32) →
  k62 (1 : Int32) i8_1 μ)
set_option maxHeartbeats 4000000 in
theorem w_X5_sets_L98 {g : fw_G} {f bc bs : Nat} {k39 : Int32 → Int32 → fw_M → Prop} {k62 : Int32 → Int32 → fw_M → Prop} {r0 : Nat} {i1 : Int32} {i2 : Int32} {i3 : Int32} {i4 : Int32} {i5 : Int32} {i6 : Int32} {i8 : Int32} {μ : fw_M} {Q : Int32 → fw_M → Prop} (hf : 7 ≤ f) (hk39 : ∀ {i5 : Int32} {i6 : Int32} {μ : fw_M}, m_K μ r0 = 6 → k39 i5 i6 μ → fw_V g K_X5_sets f bc bs 39 [(0, fw_rv g r0), (1, Value.int i1), (2, Value.int i2), (3, Value.int i3), (4, Value.int i4), (5, Value.int i5), (6, Value.int i6)] [] μ (fw_Qi Q) fw_nX) (hk62 : ∀ {i7 : Int32} {i8 : Int32} {μ : fw_M}, m_K μ r0 = 6 → k62 i7 i8 μ → fw_V g K_X5_sets f bc bs 62 [(0, fw_rv g r0), (1, Value.int i1), (2, Value.int i2), (3, Value.int i3), (4, Value.int i4), (5, Value.int i5), (6, Value.int i6), (7, Value.int i7), (8, Value.int i8)] [] μ (fw_Qi Q) fw_nX) (hx : m_K μ r0 = 6) (h : p_X5_sets_L98 k39 k62 r0 i1 i2 i3 i4 i5 i6 i8 μ Q) : fw_V g K_X5_sets f bc bs 98 [(0, fw_rv g r0), (1, Value.int i1), (2, Value.int i2), (3, Value.int i3), (4, Value.int i4), (5, Value.int i5), (6, Value.int i6), (8, Value.int i8)] [] μ (fw_Qi Q) fw_nX := by
  unfold p_X5_sets_L98 at h
  refine fw_iconst (v := 1) dX5_sets_98 (by decide) ?_
  refine fw_goto (tgt := 103) dX5_sets_99 (by decide) ?_
  refine fw_istoreN (Ls' := [(7, Value.int (1 : Int32)), (6, Value.int i6), (0, fw_rv g r0), (1, Value.int i1), (2, Value.int i2), (3, Value.int i3), (4, Value.int i4), (5, Value.int i5), (8, Value.int i8)]) [0, 1, 2, 3, 4, 5, 7] dX5_sets_103 (by decide) rfl rfl rfl rfl rfl ?_
  obtain ⟨i8_1, e2⟩ : ∃ y : Int32, y = i8 + (1 : Int32) := ⟨_, rfl⟩
  have h := h i8_1 e2
  refine fw_iincN (k := 8) (v := i8_1) (Ls' := [(8, Value.int i8_1), (7, Value.int (1 : Int32)), (6, Value.int i6), (0, fw_rv g r0), (1, Value.int i1), (2, Value.int i2), (3, Value.int i3), (4, Value.int i4), (5, Value.int i5)]) [1, 2, 3, 4, 5, 6, 7] dX5_sets_105 rfl (by rw [e2]; rfl) (by decide) rfl rfl rfl rfl rfl ?_
  refine fw_goto (tgt := 62) dX5_sets_108 (by decide) ?_
  refine fw_ls [3, 4, 5, 6, 7, 8, 2, 1, 0] rfl ?_
  exact hk62 hx h
def p_X5_sets_L111 (k39 : Int32 → Int32 → fw_M → Prop) (r0 : Nat) (i1 : Int32) (i2 : Int32) (i3 : Int32) (i4 : Int32) (i5 : Int32) (i6 : Int32) (i7 : Int32) (μ : fw_M) (Q : Int32 → fw_M → Prop) : Prop :=
  (if i7 = 0 then
  ((∀ i6_2 : Int32, i6_2 = i6 + (1 : Int32) →
   k39 i5 i6_2 μ))
  else
  ((m_K μ (m_P μ r0 39) = 100 ∧ (vp_in (((2 : Int32) * i1) + i2) (m_N μ (m_P μ r0 39)) ∧ (if (m_I μ (m_P μ r0 39) (((2 : Int32) * i1) + i2).toNatClampNeg) = i3 then
   ((if i5 = i4 then
    (Q i6 μ)
    else
    ((∀ i5_10 : Int32, i5_10 = i5 + (1 : Int32) →
     (∀ i6_12 : Int32, i6_12 = i6 + (1 : Int32) →
     k39 i5_10 i6_12 μ)))))
   else
   ((∀ i6_7 : Int32, i6_7 = i6 + (1 : Int32) →
    k39 i5 i6_7 μ)))))))
set_option maxHeartbeats 4000000 in
theorem w_X5_sets_L111 {g : fw_G} {f bc bs : Nat} {k39 : Int32 → Int32 → fw_M → Prop} {r0 : Nat} {i1 : Int32} {i2 : Int32} {i3 : Int32} {i4 : Int32} {i5 : Int32} {i6 : Int32} {i7 : Int32} {μ : fw_M} {Q : Int32 → fw_M → Prop} (hf : 7 ≤ f) (hk39 : ∀ {i5 : Int32} {i6 : Int32} {μ : fw_M}, m_K μ r0 = 6 → k39 i5 i6 μ → fw_V g K_X5_sets f bc bs 39 [(0, fw_rv g r0), (1, Value.int i1), (2, Value.int i2), (3, Value.int i3), (4, Value.int i4), (5, Value.int i5), (6, Value.int i6)] [] μ (fw_Qi Q) fw_nX) (hx : m_K μ r0 = 6) (h : p_X5_sets_L111 k39 r0 i1 i2 i3 i4 i5 i6 i7 μ Q) : fw_V g K_X5_sets f bc bs 111 [(0, fw_rv g r0), (1, Value.int i1), (2, Value.int i2), (3, Value.int i3), (4, Value.int i4), (5, Value.int i5), (6, Value.int i6), (7, Value.int i7)] [] μ (fw_Qi Q) fw_nX := by
  unfold p_X5_sets_L111 at h
  refine fw_iload dX5_sets_111 rfl ?_
  refine fw_if_eq (tgt := 143) dX5_sets_113 (by decide) (fun c1 => ?_) (fun c1 => ?_)
  · have h := fw_it h c1
    obtain ⟨i6_2, e3⟩ : ∃ y : Int32, y = i6 + (1 : Int32) := ⟨_, rfl⟩
    have h := h i6_2 e3
    refine fw_iincN (k := 6) (v := i6_2) (Ls' := [(6, Value.int i6_2), (5, Value.int i5), (0, fw_rv g r0), (1, Value.int i1), (2, Value.int i2), (3, Value.int i3), (4, Value.int i4), (7, Value.int i7)]) [0, 1, 2, 3, 4, 7] dX5_sets_143 rfl (by rw [e3]; rfl) (by decide) rfl rfl rfl rfl rfl ?_
    refine fw_goto (tgt := 39) dX5_sets_146 (by decide) ?_
    refine fw_ls [2, 3, 4, 5, 6, 1, 0] rfl ?_
    exact hk39 hx h
  · have h := fw_if h c1
    refine fw_aload_n dX5_sets_116 rfl rfl ?_
    refine fw_getfP fl_X5_85 rfl hx dX5_sets_117 ?_
    refine fw_iconst (v := 2) dX5_sets_120 (by decide) ?_
    refine fw_iload_n dX5_sets_121 rfl rfl ?_
    refine fw_imul dX5_sets_122 ?_
    refine fw_iload_n dX5_sets_123 rfl rfl ?_
    refine fw_iadd dX5_sets_124 ?_
    obtain ⟨hg4, h⟩ := h
    obtain ⟨hc5, h⟩ := h
    refine fw_iald hg4 hc5 dX5_sets_125 ?_
    refine fw_iload_n dX5_sets_126 rfl rfl ?_
    refine fw_icmp_ne (tgt := 143) dX5_sets_127 (by decide) (fun c6 => ?_) (fun c6 => ?_)
    · have h := fw_if h c6
      obtain ⟨i6_7, e8⟩ : ∃ y : Int32, y = i6 + (1 : Int32) := ⟨_, rfl⟩
      have h := h i6_7 e8
      refine fw_iincN (k := 6) (v := i6_7) (Ls' := [(6, Value.int i6_7), (5, Value.int i5), (0, fw_rv g r0), (1, Value.int i1), (2, Value.int i2), (3, Value.int i3), (4, Value.int i4), (7, Value.int i7)]) [0, 1, 2, 3, 4, 7] dX5_sets_143 rfl (by rw [e8]; rfl) (by decide) rfl rfl rfl rfl rfl ?_
      refine fw_goto (tgt := 39) dX5_sets_146 (by decide) ?_
      refine fw_ls [2, 3, 4, 5, 6, 1, 0] rfl ?_
      exact hk39 hx h
    · have h := fw_it h c6
      refine fw_iload dX5_sets_130 rfl ?_
      refine fw_iload dX5_sets_132 rfl ?_
      refine fw_icmp_ne (tgt := 140) dX5_sets_134 (by decide) (fun c9 => ?_) (fun c9 => ?_)
      · have h := fw_if h c9
        obtain ⟨i5_10, e11⟩ : ∃ y : Int32, y = i5 + (1 : Int32) := ⟨_, rfl⟩
        have h := h i5_10 e11
        refine fw_iincN (k := 5) (v := i5_10) (Ls' := [(5, Value.int i5_10), (4, Value.int i4), (0, fw_rv g r0), (1, Value.int i1), (2, Value.int i2), (3, Value.int i3), (6, Value.int i6), (7, Value.int i7)]) [0, 1, 2, 3, 6, 7] dX5_sets_140 rfl (by rw [e11]; rfl) (by decide) rfl rfl rfl rfl rfl ?_
        obtain ⟨i6_12, e13⟩ : ∃ y : Int32, y = i6 + (1 : Int32) := ⟨_, rfl⟩
        have h := h i6_12 e13
        refine fw_iincN (k := 6) (v := i6_12) (Ls' := [(6, Value.int i6_12), (5, Value.int i5_10), (4, Value.int i4), (0, fw_rv g r0), (1, Value.int i1), (2, Value.int i2), (3, Value.int i3), (7, Value.int i7)]) [1, 2, 3, 4, 5, 7] dX5_sets_143 rfl (by rw [e13]; rfl) (by decide) rfl rfl rfl rfl rfl ?_
        refine fw_goto (tgt := 39) dX5_sets_146 (by decide) ?_
        refine fw_ls [3, 4, 5, 6, 2, 1, 0] rfl ?_
        exact hk39 hx h
      · have h := fw_it h c9
        refine fw_iload dX5_sets_137 rfl ?_
        exact fw_ireturn dX5_sets_139 rfl rfl ⟨_, rfl, h⟩
def p_X5_sets_L62b (k39 : Int32 → Int32 → fw_M → Prop) (r0 : Nat) (i1 : Int32) (i2 : Int32) (i3 : Int32) (i4 : Int32) (i5 : Int32) (i6 : Int32) (k62 : Int32 → Int32 → fw_M → Prop) (i7 : Int32) (i8 : Int32) (μ : fw_M) (Q : Int32 → fw_M → Prop) : Prop :=
  (m_K μ (m_P μ r0 0) = 100 ∧ (vp_in (0 : Int32) (m_N μ (m_P μ r0 0)) ∧ (if (m_I μ (m_P μ r0 0) (0 : Int32).toNatClampNeg) ≤ i8 then
  (p_X5_sets_L111 k39 r0 i1 i2 i3 i4 i5 i6 i7 μ Q)
  else
  ((if i7 = 0 then
   (p_X5_sets_L111 k39 r0 i1 i2 i3 i4 i5 i6 i7 μ Q)
   else
   ((if ((i6 >>> (i8 &&& 31)) &&& (1 : Int32)) = 0 then
    (p_X5_sets_L98 k39 k62 r0 i1 i2 i3 i4 i5 i6 i8 μ Q)
    else
    ((p_X5_eats r0 i8 i2 μ (fun v6 μ7 =>
     (if v6 ≤ 0 then
     ((∀ i8_11 : Int32, i8_11 = i8 + (1 : Int32) →
      k62 (0 : Int32) i8_11 μ7))
     else
     (p_X5_sets_L98 k39 k62 r0 i1 i2 i3 i4 i5 i6 i8 μ7 Q))))))))))))
def p_X5_sets_L62 (k39 : Int32 → Int32 → fw_M → Prop) (r0 : Nat) (i1 : Int32) (i2 : Int32) (i3 : Int32) (i4 : Int32) (i5 : Int32) (i6 : Int32) (i7 : Int32) (i8 : Int32) (μ : fw_M) (Q : Int32 → fw_M → Prop) : Prop := fw_lp (fun (k : Int32 × Int32 × fw_M → Prop) (a : Int32 × Int32 × fw_M) => p_X5_sets_L62b k39 r0 i1 i2 i3 i4 i5 i6 (fun i7 i8 μ => k (i7, i8, μ)) a.1 a.2.1 a.2.2 Q) (i7, i8, μ)
theorem r_X5_sets_L62 {k39 : Int32 → Int32 → fw_M → Prop} {r0 : Nat} {i1 : Int32} {i2 : Int32} {i3 : Int32} {i4 : Int32} {i5 : Int32} {i6 : Int32} {Q : Int32 → fw_M → Prop} (I : Int32 → Int32 → fw_M → Prop) (v : Int32 → Int32 → fw_M → Nat) (hs : ∀ (k : Int32 → Int32 → fw_M → Prop) (i7 : Int32) (i8 : Int32) (μ : fw_M), I i7 i8 μ → (∀ (i7' : Int32) (i8' : Int32) (ν : fw_M), I i7' i8' ν → v i7' i8' ν < v i7 i8 μ → k i7' i8' ν) → p_X5_sets_L62b k39 r0 i1 i2 i3 i4 i5 i6 k i7 i8 μ Q) (i7 : Int32) (i8 : Int32) (μ : fw_M) (h : I i7 i8 μ) : p_X5_sets_L62 k39 r0 i1 i2 i3 i4 i5 i6 i7 i8 μ Q :=
  fw_lp_in (A := Int32 × Int32 × fw_M) (fun a => I a.1 a.2.1 a.2.2) (fun a => v a.1 a.2.1 a.2.2) (fun k a ha hk => hs (fun i7 i8 μ => k (i7, i8, μ)) a.1 a.2.1 a.2.2 ha (fun i7' i8' ν hb hlt => hk (i7', i8', ν) hb hlt)) (i7, i8, μ) h
set_option maxHeartbeats 4000000 in
theorem w_X5_sets_L62b {g : fw_G} {f bc bs : Nat} {k39 : Int32 → Int32 → fw_M → Prop} {r0 : Nat} {i1 : Int32} {i2 : Int32} {i3 : Int32} {i4 : Int32} {i5 : Int32} {i6 : Int32} {k62 : Int32 → Int32 → fw_M → Prop} {i7 : Int32} {i8 : Int32} {μ : fw_M} {Q : Int32 → fw_M → Prop} (hf : 7 ≤ f) (hk39 : ∀ {i5 : Int32} {i6 : Int32} {μ : fw_M}, m_K μ r0 = 6 → k39 i5 i6 μ → fw_V g K_X5_sets f bc bs 39 [(0, fw_rv g r0), (1, Value.int i1), (2, Value.int i2), (3, Value.int i3), (4, Value.int i4), (5, Value.int i5), (6, Value.int i6)] [] μ (fw_Qi Q) fw_nX) (hk62 : ∀ {i7 : Int32} {i8 : Int32} {μ : fw_M}, m_K μ r0 = 6 → k62 i7 i8 μ → fw_V g K_X5_sets f bc bs 62 [(0, fw_rv g r0), (1, Value.int i1), (2, Value.int i2), (3, Value.int i3), (4, Value.int i4), (5, Value.int i5), (6, Value.int i6), (7, Value.int i7), (8, Value.int i8)] [] μ (fw_Qi Q) fw_nX) (hx : m_K μ r0 = 6) (h : p_X5_sets_L62b k39 r0 i1 i2 i3 i4 i5 i6 k62 i7 i8 μ Q) : fw_V g K_X5_sets f bc bs 62 [(0, fw_rv g r0), (1, Value.int i1), (2, Value.int i2), (3, Value.int i3), (4, Value.int i4), (5, Value.int i5), (6, Value.int i6), (7, Value.int i7), (8, Value.int i8)] [] μ (fw_Qi Q) fw_nX := by
  unfold p_X5_sets_L62b at h
  refine fw_iload dX5_sets_62 rfl ?_
  refine fw_aload_n dX5_sets_64 rfl rfl ?_
  refine fw_getfP fl_X5_7 rfl hx dX5_sets_65 ?_
  refine fw_iconst (v := 0) dX5_sets_68 (by decide) ?_
  obtain ⟨hg1, h⟩ := h
  obtain ⟨hc2, h⟩ := h
  refine fw_iald hg1 hc2 dX5_sets_69 ?_
  refine fw_icmp_ge (tgt := 111) dX5_sets_70 (by decide) (fun c3 => ?_) (fun c3 => ?_)
  · have h := fw_it h c3
    refine fw_ls [0, 1, 2, 3, 4, 5, 6, 7] rfl ?_
    exact w_X5_sets_L111 hf hk39 hx h
  · have h := fw_if h c3
    refine fw_iload dX5_sets_73 rfl ?_
    refine fw_if_eq (tgt := 111) dX5_sets_75 (by decide) (fun c4 => ?_) (fun c4 => ?_)
    · have h := fw_it h c4
      refine fw_ls [0, 1, 2, 3, 4, 5, 6, 7] rfl ?_
      exact w_X5_sets_L111 hf hk39 hx h
    · have h := fw_if h c4
      refine fw_iload dX5_sets_78 rfl ?_
      refine fw_iload dX5_sets_80 rfl ?_
      refine fw_ishr dX5_sets_82 ?_
      refine fw_iconst (v := 1) dX5_sets_83 (by decide) ?_
      refine fw_iand dX5_sets_84 ?_
      refine fw_if_eq (tgt := 98) dX5_sets_85 (by decide) (fun c5 => ?_) (fun c5 => ?_)
      · have h := fw_it h c5
        refine fw_ls [0, 1, 2, 3, 4, 5, 6, 8] rfl ?_
        exact w_X5_sets_L98 hf hk39 hk62 hx h
      · have h := fw_if h c5
        refine fw_aload_n dX5_sets_88 rfl rfl ?_
        refine fw_iload dX5_sets_89 rfl ?_
        refine fw_iload_n dX5_sets_91 rfl rfl ?_
        refine fw_callV2z (f1 := f - 1) cl_X5_376 rfl hx (by decide) (by omega) (fw_s4 (Nat.le_of_ble_eq_true rfl)) dX5_sets_92 (w_X5_eats (f := f - 1) (by omega) hx h) (fun _ _ h9 _ _ => h9.elim) (fun v9 μ7 q9 hs8 => ?_)
        obtain ⟨v6, rfl, h⟩ := q9
        refine fw_ti ?_
        have hg9 := hs8.K hx (by decide)
        refine fw_if_le (tgt := 102) dX5_sets_95 (by decide) (fun c10 => ?_) (fun c10 => ?_)
        · have h := fw_it h c10
          refine fw_iconst (v := 0) dX5_sets_102 (by decide) ?_
          refine fw_istoreN (Ls' := [(7, Value.int (0 : Int32)), (6, Value.int i6), (0, fw_rv g r0), (1, Value.int i1), (2, Value.int i2), (3, Value.int i3), (4, Value.int i4), (5, Value.int i5), (8, Value.int i8)]) [0, 1, 2, 3, 4, 5, 8] dX5_sets_103 (by decide) rfl rfl rfl rfl rfl ?_
          obtain ⟨i8_11, e12⟩ : ∃ y : Int32, y = i8 + (1 : Int32) := ⟨_, rfl⟩
          have h := h i8_11 e12
          refine fw_iincN (k := 8) (v := i8_11) (Ls' := [(8, Value.int i8_11), (7, Value.int (0 : Int32)), (6, Value.int i6), (0, fw_rv g r0), (1, Value.int i1), (2, Value.int i2), (3, Value.int i3), (4, Value.int i4), (5, Value.int i5)]) [1, 2, 3, 4, 5, 6, 7] dX5_sets_105 rfl (by rw [e12]; rfl) (by decide) rfl rfl rfl rfl rfl ?_
          refine fw_goto (tgt := 62) dX5_sets_108 (by decide) ?_
          refine fw_ls [3, 4, 5, 6, 7, 8, 2, 1, 0] rfl ?_
          exact hk62 hg9 h
        · have h := fw_if h c10
          refine fw_ls [0, 1, 2, 3, 4, 5, 6, 8] rfl ?_
          exact w_X5_sets_L98 hf hk39 hk62 hg9 h
theorem w_X5_sets_L62 {g : fw_G} {f bc bs : Nat} {k39 : Int32 → Int32 → fw_M → Prop} {r0 : Nat} {i1 : Int32} {i2 : Int32} {i3 : Int32} {i4 : Int32} {i5 : Int32} {i6 : Int32} {i7 : Int32} {i8 : Int32} {μ : fw_M} {Q : Int32 → fw_M → Prop} (hf : 7 ≤ f) (hk39 : ∀ {i5 : Int32} {i6 : Int32} {μ : fw_M}, m_K μ r0 = 6 → k39 i5 i6 μ → fw_V g K_X5_sets f bc bs 39 [(0, fw_rv g r0), (1, Value.int i1), (2, Value.int i2), (3, Value.int i3), (4, Value.int i4), (5, Value.int i5), (6, Value.int i6)] [] μ (fw_Qi Q) fw_nX) (hx : m_K μ r0 = 6) (h : p_X5_sets_L62 k39 r0 i1 i2 i3 i4 i5 i6 i7 i8 μ Q) : fw_V g K_X5_sets f bc bs 62 [(0, fw_rv g r0), (1, Value.int i1), (2, Value.int i2), (3, Value.int i3), (4, Value.int i4), (5, Value.int i5), (6, Value.int i6), (7, Value.int i7), (8, Value.int i8)] [] μ (fw_Qi Q) fw_nX := by
  have key := fw_lp_out (R := fun (a : Int32 × Int32 × fw_M) => m_K a.2.2 r0 = 6 → fw_V g K_X5_sets f bc bs 62 [(0, fw_rv g r0), (1, Value.int i1), (2, Value.int i2), (3, Value.int i3), (4, Value.int i4), (5, Value.int i5), (6, Value.int i6), (7, Value.int a.1), (8, Value.int a.2.1)] [] a.2.2 (fw_Qi Q) fw_nX) (fun k hk9 a ha hx2 => w_X5_sets_L62b hf hk39 (fun {i7 i8} {μ} hx3 h3 => hk9 (i7, i8, μ) h3 hx3) hx2 ha) h
  exact key hx
def p_X5_sets_L39b (r0 : Nat) (i1 : Int32) (i2 : Int32) (i3 : Int32) (i4 : Int32) (k39 : Int32 → Int32 → fw_M → Prop) (i5 : Int32) (i6 : Int32) (μ : fw_M) (Q : Int32 → fw_M → Prop) : Prop :=
  (m_K μ (m_P μ r0 0) = 100 ∧ (vp_in (0 : Int32) (m_N μ (m_P μ r0 0)) ∧ (if ((1 : Int32) <<< ((m_I μ (m_P μ r0 0) (0 : Int32).toNatClampNeg) &&& 31)) ≤ i6 then
  ((if i4 = (-1 : Int32) then
   (Q i5 μ)
   else
   (Q (-1 : Int32) μ)))
  else
  ((p_X5_laysWorld r0 μ (fun μ6 =>
   p_X5_sets_L62 k39 r0 i1 i2 i3 i4 i5 i6 (1 : Int32) (0 : Int32) μ6 Q))))))
def p_X5_sets_L39 (r0 : Nat) (i1 : Int32) (i2 : Int32) (i3 : Int32) (i4 : Int32) (i5 : Int32) (i6 : Int32) (μ : fw_M) (Q : Int32 → fw_M → Prop) : Prop := fw_lp (fun (k : Int32 × Int32 × fw_M → Prop) (a : Int32 × Int32 × fw_M) => p_X5_sets_L39b r0 i1 i2 i3 i4 (fun i5 i6 μ => k (i5, i6, μ)) a.1 a.2.1 a.2.2 Q) (i5, i6, μ)
theorem r_X5_sets_L39 {r0 : Nat} {i1 : Int32} {i2 : Int32} {i3 : Int32} {i4 : Int32} {Q : Int32 → fw_M → Prop} (I : Int32 → Int32 → fw_M → Prop) (v : Int32 → Int32 → fw_M → Nat) (hs : ∀ (k : Int32 → Int32 → fw_M → Prop) (i5 : Int32) (i6 : Int32) (μ : fw_M), I i5 i6 μ → (∀ (i5' : Int32) (i6' : Int32) (ν : fw_M), I i5' i6' ν → v i5' i6' ν < v i5 i6 μ → k i5' i6' ν) → p_X5_sets_L39b r0 i1 i2 i3 i4 k i5 i6 μ Q) (i5 : Int32) (i6 : Int32) (μ : fw_M) (h : I i5 i6 μ) : p_X5_sets_L39 r0 i1 i2 i3 i4 i5 i6 μ Q :=
  fw_lp_in (A := Int32 × Int32 × fw_M) (fun a => I a.1 a.2.1 a.2.2) (fun a => v a.1 a.2.1 a.2.2) (fun k a ha hk => hs (fun i5 i6 μ => k (i5, i6, μ)) a.1 a.2.1 a.2.2 ha (fun i5' i6' ν hb hlt => hk (i5', i6', ν) hb hlt)) (i5, i6, μ) h
set_option maxHeartbeats 4000000 in
theorem w_X5_sets_L39b {g : fw_G} {f bc bs : Nat} {r0 : Nat} {i1 : Int32} {i2 : Int32} {i3 : Int32} {i4 : Int32} {k39 : Int32 → Int32 → fw_M → Prop} {i5 : Int32} {i6 : Int32} {μ : fw_M} {Q : Int32 → fw_M → Prop} (hf : 7 ≤ f) (hk39 : ∀ {i5 : Int32} {i6 : Int32} {μ : fw_M}, m_K μ r0 = 6 → k39 i5 i6 μ → fw_V g K_X5_sets f bc bs 39 [(0, fw_rv g r0), (1, Value.int i1), (2, Value.int i2), (3, Value.int i3), (4, Value.int i4), (5, Value.int i5), (6, Value.int i6)] [] μ (fw_Qi Q) fw_nX) (hx : m_K μ r0 = 6) (h : p_X5_sets_L39b r0 i1 i2 i3 i4 k39 i5 i6 μ Q) : fw_V g K_X5_sets f bc bs 39 [(0, fw_rv g r0), (1, Value.int i1), (2, Value.int i2), (3, Value.int i3), (4, Value.int i4), (5, Value.int i5), (6, Value.int i6)] [] μ (fw_Qi Q) fw_nX := by
  unfold p_X5_sets_L39b at h
  refine fw_iload dX5_sets_39 rfl ?_
  refine fw_iconst (v := 1) dX5_sets_41 (by decide) ?_
  refine fw_aload_n dX5_sets_42 rfl rfl ?_
  refine fw_getfP fl_X5_7 rfl hx dX5_sets_43 ?_
  refine fw_iconst (v := 0) dX5_sets_46 (by decide) ?_
  obtain ⟨hg1, h⟩ := h
  obtain ⟨hc2, h⟩ := h
  refine fw_iald hg1 hc2 dX5_sets_47 ?_
  refine fw_ishl dX5_sets_48 ?_
  refine fw_icmp_ge (tgt := 149) dX5_sets_49 (by decide) (fun c3 => ?_) (fun c3 => ?_)
  · have h := fw_it h c3
    refine fw_iload dX5_sets_149 rfl ?_
    refine fw_iconst (v := -1) dX5_sets_151 (by decide) ?_
    refine fw_icmp_ne (tgt := 160) dX5_sets_152 (by decide) (fun c4 => ?_) (fun c4 => ?_)
    · have h := fw_if h c4
      refine fw_iconst (v := -1) dX5_sets_160 (by decide) ?_
      exact fw_ireturn dX5_sets_161 rfl rfl ⟨_, rfl, h⟩
    · have h := fw_it h c4
      refine fw_iload dX5_sets_155 rfl ?_
      refine fw_goto (tgt := 161) dX5_sets_157 (by decide) ?_
      exact fw_ireturn dX5_sets_161 rfl rfl ⟨_, rfl, h⟩
  · have h := fw_if h c3
    refine fw_aload_n dX5_sets_52 rfl rfl ?_
    refine fw_callV0z (f1 := f - 1) cl_X5_349 rfl hx (by decide) (by omega) (fw_s4 (Nat.le_of_ble_eq_true rfl)) dX5_sets_53 (w_X5_laysWorld (f := f - 1) (by omega) hx h) (fun _ _ h9 _ _ => h9.elim) (fun v9 μ6 q9 hs7 => ?_)
    obtain ⟨rfl, h⟩ := q9
    refine fw_tv ?_
    have hg8 := hs7.K hx (by decide)
    refine fw_iconst (v := 1) dX5_sets_56 (by decide) ?_
    refine fw_istoreN (Ls' := [(7, Value.int (1 : Int32)), (6, Value.int i6), (0, fw_rv g r0), (1, Value.int i1), (2, Value.int i2), (3, Value.int i3), (4, Value.int i4), (5, Value.int i5)]) [0, 1, 2, 3, 4, 5] dX5_sets_57 (by decide) rfl rfl rfl rfl rfl ?_
    refine fw_iconst (v := 0) dX5_sets_59 (by decide) ?_
    refine fw_istoreN (Ls' := [(8, Value.int (0 : Int32)), (7, Value.int (1 : Int32)), (6, Value.int i6), (0, fw_rv g r0), (1, Value.int i1), (2, Value.int i2), (3, Value.int i3), (4, Value.int i4), (5, Value.int i5)]) [1, 2, 3, 4, 5, 6, 7] dX5_sets_60 (by decide) rfl rfl rfl rfl rfl ?_
    refine fw_ls [3, 4, 5, 6, 7, 8, 2, 1, 0] rfl ?_
    exact w_X5_sets_L62 hf hk39 hg8 h
theorem w_X5_sets_L39 {g : fw_G} {f bc bs : Nat} {r0 : Nat} {i1 : Int32} {i2 : Int32} {i3 : Int32} {i4 : Int32} {i5 : Int32} {i6 : Int32} {μ : fw_M} {Q : Int32 → fw_M → Prop} (hf : 7 ≤ f) (hx : m_K μ r0 = 6) (h : p_X5_sets_L39 r0 i1 i2 i3 i4 i5 i6 μ Q) : fw_V g K_X5_sets f bc bs 39 [(0, fw_rv g r0), (1, Value.int i1), (2, Value.int i2), (3, Value.int i3), (4, Value.int i4), (5, Value.int i5), (6, Value.int i6)] [] μ (fw_Qi Q) fw_nX := by
  have key := fw_lp_out (R := fun (a : Int32 × Int32 × fw_M) => m_K a.2.2 r0 = 6 → fw_V g K_X5_sets f bc bs 39 [(0, fw_rv g r0), (1, Value.int i1), (2, Value.int i2), (3, Value.int i3), (4, Value.int i4), (5, Value.int a.1), (6, Value.int a.2.1)] [] a.2.2 (fw_Qi Q) fw_nX) (fun k hk9 a ha hx2 => w_X5_sets_L39b hf (fun {i5 i6} {μ} hx3 h3 => hk9 (i5, i6, μ) h3 hx3) hx2 ha) h
  exact key hx
def p_X5_sets (r0 : Nat) (i1 : Int32) (i2 : Int32) (i3 : Int32) (i4 : Int32) (μ : fw_M) (Q : Int32 → fw_M → Prop) : Prop :=
  (p_X5_isOne i1 μ (fun v1 μ2 =>
  (if v1 = 0 then
  (Q (-1 : Int32) μ2)
  else
  ((p_X5_isOne i2 μ2 (fun v6 μ7 =>
   (if v6 = 0 then
   (Q (-1 : Int32) μ7)
   else
   ((p_X5_in i3 (0 : Int32) (999 : Int32) μ7 (fun v11 μ12 =>
    (if v11 = 0 then
    (Q (-1 : Int32) μ12)
    else
    ((if (-1 : Int32) ≤ i4 then
     (p_X5_sets_L39 r0 i1 i2 i3 i4 (0 : Int32) (0 : Int32) μ12 Q)
     else
     (Q (-1 : Int32) μ12))))))))))))))
set_option maxHeartbeats 4000000 in
theorem w_X5_sets {g : fw_G} {f bc bs : Nat} {r0 : Nat} {i1 : Int32} {i2 : Int32} {i3 : Int32} {i4 : Int32} {μ : fw_M} {Q : Int32 → fw_M → Prop} (hf : 7 ≤ f) (hx : m_K μ r0 = 6) (h : p_X5_sets r0 i1 i2 i3 i4 μ Q) : fw_C g f bc bs yX5_sets (ws_ yX5_sets cX5_sets 9 (some .int)) [fw_rv g r0, Value.int i1, Value.int i2, Value.int i3, Value.int i4] μ (fw_Qi Q) fw_nX := by
  unfold p_X5_sets at h
  refine fw_intro' (Ls := [(0, fw_rv g r0), (1, Value.int i1), (2, Value.int i2), (3, Value.int i3), (4, Value.int i4)]) (by decide +kernel) (by simp [lg_sl, fw_cat, fw_ci, fw_clo]) (by simp [lv_args, fw_cat, fw_ci, fw_clo]) ?_
  show fw_V g K_X5_sets f bc bs 0 [(0, fw_rv g r0), (1, Value.int i1), (2, Value.int i2), (3, Value.int i3), (4, Value.int i4)] [] μ (fw_Qi Q) fw_nX
  refine fw_iload_n dX5_sets_0 rfl rfl ?_
  refine fw_callS1z (f1 := f - 1) cl_X5_114 (by decide) (by omega) (fw_s4 (Nat.le_of_ble_eq_true rfl)) dX5_sets_1 (w_X5_isOne (f := f - 1) (by omega) h) (fun _ _ h9 _ _ => h9.elim) (fun v9 μ2 q9 hs3 => ?_)
  obtain ⟨v1, rfl, h⟩ := q9
  refine fw_ti ?_
  have hg4 := hs3.K hx (by decide)
  refine fw_if_eq (tgt := 31) dX5_sets_4 (by decide) (fun c5 => ?_) (fun c5 => ?_)
  · have h := fw_it h c5
    refine fw_iconst (v := -1) dX5_sets_31 (by decide) ?_
    exact fw_ireturn dX5_sets_32 rfl rfl ⟨_, rfl, h⟩
  · have h := fw_if h c5
    refine fw_iload_n dX5_sets_7 rfl rfl ?_
    refine fw_callS1z (f1 := f - 1) cl_X5_114 (by decide) (by omega) (fw_s4 (Nat.le_of_ble_eq_true rfl)) dX5_sets_8 (w_X5_isOne (f := f - 1) (by omega) h) (fun _ _ h9 _ _ => h9.elim) (fun v9 μ7 q9 hs8 => ?_)
    obtain ⟨v6, rfl, h⟩ := q9
    refine fw_ti ?_
    have hg9 := hs8.K hg4 (by decide)
    refine fw_if_eq (tgt := 31) dX5_sets_11 (by decide) (fun c10 => ?_) (fun c10 => ?_)
    · have h := fw_it h c10
      refine fw_iconst (v := -1) dX5_sets_31 (by decide) ?_
      exact fw_ireturn dX5_sets_32 rfl rfl ⟨_, rfl, h⟩
    · have h := fw_if h c10
      refine fw_iload_n dX5_sets_14 rfl rfl ?_
      refine fw_iconst (v := 0) dX5_sets_15 (by decide) ?_
      refine fw_sipush (v := 999) dX5_sets_16 (by decide) ?_
      refine fw_callS3z (f1 := f - 1) cl_X5_110 (by decide) (by omega) (fw_s4 (Nat.le_of_ble_eq_true rfl)) dX5_sets_19 (w_X5_in (f := f - 1) (by omega) h) (fun _ _ h9 _ _ => h9.elim) (fun v9 μ12 q9 hs13 => ?_)
      obtain ⟨v11, rfl, h⟩ := q9
      refine fw_ti ?_
      have hg14 := hs13.K hg9 (by decide)
      refine fw_if_eq (tgt := 31) dX5_sets_22 (by decide) (fun c15 => ?_) (fun c15 => ?_)
      · have h := fw_it h c15
        refine fw_iconst (v := -1) dX5_sets_31 (by decide) ?_
        exact fw_ireturn dX5_sets_32 rfl rfl ⟨_, rfl, h⟩
      · have h := fw_if h c15
        refine fw_iload dX5_sets_25 rfl ?_
        refine fw_iconst (v := -1) dX5_sets_27 (by decide) ?_
        refine fw_icmp_ge (tgt := 33) dX5_sets_28 (by decide) (fun c16 => ?_) (fun c16 => ?_)
        · have h := fw_it h c16
          refine fw_iconst (v := 0) dX5_sets_33 (by decide) ?_
          refine fw_istoreN (Ls' := [(5, Value.int (0 : Int32)), (4, Value.int i4), (0, fw_rv g r0), (1, Value.int i1), (2, Value.int i2), (3, Value.int i3)]) [0, 1, 2, 3] dX5_sets_34 (by decide) rfl rfl rfl rfl rfl ?_
          refine fw_iconst (v := 0) dX5_sets_36 (by decide) ?_
          refine fw_istoreN (Ls' := [(6, Value.int (0 : Int32)), (5, Value.int (0 : Int32)), (4, Value.int i4), (0, fw_rv g r0), (1, Value.int i1), (2, Value.int i2), (3, Value.int i3)]) [1, 2, 3, 4, 5] dX5_sets_37 (by decide) rfl rfl rfl rfl rfl ?_
          refine fw_ls [3, 4, 5, 6, 2, 1, 0] rfl ?_
          exact w_X5_sets_L39 hf hg14 h
        · have h := fw_if h c16
          refine fw_iconst (v := -1) dX5_sets_31 (by decide) ?_
          exact fw_ireturn dX5_sets_32 rfl rfl ⟨_, rfl, h⟩
abbrev K_X5_tested : fw_Kt := (RX5, "tested", cX5_tested, 3, some .int, [])
def p_X5_tested (r0 : Nat) (i1 : Int32) (i2 : Int32) (μ : fw_M) (Q : Int32 → fw_M → Prop) : Prop :=
  (p_X5_in i1 (-20 : Int32) (20 : Int32) μ (fun v1 μ2 =>
  (if v1 = 0 then
  (Q (-1 : Int32) μ2)
  else
  ((p_X5_in i2 (-1 : Int32) (1 : Int32) μ2 (fun v6 μ7 =>
   (if v6 = 0 then
   (Q (-1 : Int32) μ7)
   else
   ((m_K μ7 (m_P μ7 r0 0) = 100 ∧ (vp_in (4 : Int32) (m_N μ7 (m_P μ7 r0 0)) ∧ (if (m_I μ7 (m_P μ7 r0 0) (4 : Int32).toNatClampNeg) = (12 : Int32) then
    (Q (-1 : Int32) μ7)
    else
    ((vp_in (4 : Int32) (m_N μ7 (m_P μ7 r0 0)) ∧ (vp_in ((40 : Int32) + ((2 : Int32) * (m_I μ7 (m_P μ7 r0 0) (4 : Int32).toNatClampNeg))) (m_N μ7 (m_P μ7 r0 0)) ∧ (∀ μ16, μ16 = m_uI μ7 (m_P μ7 r0 0) ((40 : Int32) + ((2 : Int32) * (m_I μ7 (m_P μ7 r0 0) (4 : Int32).toNatClampNeg))).toNatClampNeg i1 →
     (m_K μ16 (m_P μ16 r0 0) = 100 ∧ (vp_in (4 : Int32) (m_N μ16 (m_P μ16 r0 0)) ∧ (vp_in (((40 : Int32) + ((2 : Int32) * (m_I μ16 (m_P μ16 r0 0) (4 : Int32).toNatClampNeg))) + (1 : Int32)) (m_N μ16 (m_P μ16 r0 0)) ∧ (∀ μ20, μ20 = m_uI μ16 (m_P μ16 r0 0) (((40 : Int32) + ((2 : Int32) * (m_I μ16 (m_P μ16 r0 0) (4 : Int32).toNatClampNeg))) + (1 : Int32)).toNatClampNeg i2 →
     (m_K μ20 (m_P μ20 r0 0) = 100 ∧ (vp_in (4 : Int32) (m_N μ20 (m_P μ20 r0 0)) ∧ (vp_in (4 : Int32) (m_N μ20 (m_P μ20 r0 0)) ∧ (∀ μ24, μ24 = m_uI μ20 (m_P μ20 r0 0) (4 : Int32).toNatClampNeg ((m_I μ20 (m_P μ20 r0 0) (4 : Int32).toNatClampNeg) + (1 : Int32)) →
     (m_K μ24 (m_P μ24 r0 0) = 100 ∧ (vp_in (4 : Int32) (m_N μ24 (m_P μ24 r0 0)) ∧ Q (m_I μ24 (m_P μ24 r0 0) (4 : Int32).toNatClampNeg) μ24)))))))))))))))))))))))))
set_option maxHeartbeats 4000000 in
theorem w_X5_tested {g : fw_G} {f bc bs : Nat} {r0 : Nat} {i1 : Int32} {i2 : Int32} {μ : fw_M} {Q : Int32 → fw_M → Prop} (hf : 2 ≤ f) (hx : m_K μ r0 = 6) (h : p_X5_tested r0 i1 i2 μ Q) : fw_C g f bc bs yX5_tested (ws_ yX5_tested cX5_tested 3 (some .int)) [fw_rv g r0, Value.int i1, Value.int i2] μ (fw_Qi Q) fw_nX := by
  unfold p_X5_tested at h
  refine fw_intro' (Ls := [(0, fw_rv g r0), (1, Value.int i1), (2, Value.int i2)]) (by decide +kernel) (by simp [lg_sl, fw_cat, fw_ci, fw_clo]) (by simp [lv_args, fw_cat, fw_ci, fw_clo]) ?_
  show fw_V g K_X5_tested f bc bs 0 [(0, fw_rv g r0), (1, Value.int i1), (2, Value.int i2)] [] μ (fw_Qi Q) fw_nX
  refine fw_iload_n dX5_tested_0 rfl rfl ?_
  refine fw_bipush (v := -20) dX5_tested_1 (by decide) ?_
  refine fw_bipush (v := 20) dX5_tested_3 (by decide) ?_
  refine fw_callS3z (f1 := f - 1) cl_X5_110 (by decide) (by omega) (fw_s4 (Nat.le_of_ble_eq_true rfl)) dX5_tested_5 (w_X5_in (f := f - 1) (by omega) h) (fun _ _ h9 _ _ => h9.elim) (fun v9 μ2 q9 hs3 => ?_)
  obtain ⟨v1, rfl, h⟩ := q9
  refine fw_ti ?_
  have hg4 := hs3.K hx (by decide)
  refine fw_if_eq (tgt := 31) dX5_tested_8 (by decide) (fun c5 => ?_) (fun c5 => ?_)
  · have h := fw_it h c5
    refine fw_iconst (v := -1) dX5_tested_31 (by decide) ?_
    exact fw_ireturn dX5_tested_32 rfl rfl ⟨_, rfl, h⟩
  · have h := fw_if h c5
    refine fw_iload_n dX5_tested_11 rfl rfl ?_
    refine fw_iconst (v := -1) dX5_tested_12 (by decide) ?_
    refine fw_iconst (v := 1) dX5_tested_13 (by decide) ?_
    refine fw_callS3z (f1 := f - 1) cl_X5_110 (by decide) (by omega) (fw_s4 (Nat.le_of_ble_eq_true rfl)) dX5_tested_14 (w_X5_in (f := f - 1) (by omega) h) (fun _ _ h9 _ _ => h9.elim) (fun v9 μ7 q9 hs8 => ?_)
    obtain ⟨v6, rfl, h⟩ := q9
    refine fw_ti ?_
    have hg9 := hs8.K hg4 (by decide)
    refine fw_if_eq (tgt := 31) dX5_tested_17 (by decide) (fun c10 => ?_) (fun c10 => ?_)
    · have h := fw_it h c10
      refine fw_iconst (v := -1) dX5_tested_31 (by decide) ?_
      exact fw_ireturn dX5_tested_32 rfl rfl ⟨_, rfl, h⟩
    · have h := fw_if h c10
      refine fw_aload_n dX5_tested_20 rfl rfl ?_
      refine fw_getfP fl_X5_7 rfl hg9 dX5_tested_21 ?_
      refine fw_iconst (v := 4) dX5_tested_24 (by decide) ?_
      obtain ⟨hg11, h⟩ := h
      obtain ⟨hc12, h⟩ := h
      refine fw_iald hg11 hc12 dX5_tested_25 ?_
      refine fw_bipush (v := 12) dX5_tested_26 (by decide) ?_
      refine fw_icmp_ne (tgt := 33) dX5_tested_28 (by decide) (fun c13 => ?_) (fun c13 => ?_)
      · have h := fw_if h c13
        refine fw_aload_n dX5_tested_33 rfl rfl ?_
        refine fw_getfP fl_X5_7 rfl hg9 dX5_tested_34 ?_
        refine fw_bipush (v := 40) dX5_tested_37 (by decide) ?_
        refine fw_iconst (v := 2) dX5_tested_39 (by decide) ?_
        refine fw_aload_n dX5_tested_40 rfl rfl ?_
        refine fw_getfP fl_X5_7 rfl hg9 dX5_tested_41 ?_
        refine fw_iconst (v := 4) dX5_tested_44 (by decide) ?_
        obtain ⟨hc14, h⟩ := h
        refine fw_iald hg11 hc14 dX5_tested_45 ?_
        refine fw_imul dX5_tested_46 ?_
        refine fw_iadd dX5_tested_47 ?_
        refine fw_iload_n dX5_tested_48 rfl rfl ?_
        obtain ⟨hc15, h⟩ := h
        refine fw_iast hg11 hc15 dX5_tested_49 ?_
        have h := h _ rfl
        refine fw_aload_n dX5_tested_50 rfl rfl ?_
        refine fw_getfP fl_X5_7 rfl hg9 dX5_tested_51 ?_
        refine fw_bipush (v := 40) dX5_tested_54 (by decide) ?_
        refine fw_iconst (v := 2) dX5_tested_56 (by decide) ?_
        refine fw_aload_n dX5_tested_57 rfl rfl ?_
        refine fw_getfP fl_X5_7 rfl hg9 dX5_tested_58 ?_
        refine fw_iconst (v := 4) dX5_tested_61 (by decide) ?_
        obtain ⟨hg17, h⟩ := h
        obtain ⟨hc18, h⟩ := h
        refine fw_iald hg17 hc18 dX5_tested_62 ?_
        refine fw_imul dX5_tested_63 ?_
        refine fw_iadd dX5_tested_64 ?_
        refine fw_iconst (v := 1) dX5_tested_65 (by decide) ?_
        refine fw_iadd dX5_tested_66 ?_
        refine fw_iload_n dX5_tested_67 rfl rfl ?_
        obtain ⟨hc19, h⟩ := h
        refine fw_iast hg17 hc19 dX5_tested_68 ?_
        have h := h _ rfl
        refine fw_aload_n dX5_tested_69 rfl rfl ?_
        refine fw_getfP fl_X5_7 rfl hg9 dX5_tested_70 ?_
        refine fw_iconst (v := 4) dX5_tested_73 (by decide) ?_
        refine fw_dup2 dX5_tested_74 rfl (fw_cat _) ?_
        obtain ⟨hg21, h⟩ := h
        obtain ⟨hc22, h⟩ := h
        refine fw_iald hg21 hc22 dX5_tested_75 ?_
        refine fw_iconst (v := 1) dX5_tested_76 (by decide) ?_
        refine fw_iadd dX5_tested_77 ?_
        obtain ⟨hc23, h⟩ := h
        refine fw_iast hg21 hc23 dX5_tested_78 ?_
        have h := h _ rfl
        refine fw_aload_n dX5_tested_79 rfl rfl ?_
        refine fw_getfP fl_X5_7 rfl hg9 dX5_tested_80 ?_
        refine fw_iconst (v := 4) dX5_tested_83 (by decide) ?_
        obtain ⟨hg25, h⟩ := h
        obtain ⟨hc26, h⟩ := h
        refine fw_iald hg25 hc26 dX5_tested_84 ?_
        exact fw_ireturn dX5_tested_85 rfl rfl ⟨_, rfl, h⟩
      · have h := fw_it h c13
        refine fw_iconst (v := -1) dX5_tested_31 (by decide) ?_
        exact fw_ireturn dX5_tested_32 rfl rfl ⟨_, rfl, h⟩
abbrev K_X5_hangs : fw_Kt := (RX5, "hangs", cX5_hangs, 2, some .int, [])
def p_X5_hangs (i0 : Int32) (i1 : Int32) (μ : fw_M) (Q : Int32 → fw_M → Prop) : Prop :=
  (if (i0 + i1) ≤ 0 then
  ((if 0 ≤ (i0 + i1) then
   (Q (0 : Int32) μ)
   else
   (Q (-1 : Int32) μ)))
  else
  (Q (1 : Int32) μ))
set_option maxHeartbeats 4000000 in
theorem w_X5_hangs {g : fw_G} {f bc bs : Nat} {i0 : Int32} {i1 : Int32} {μ : fw_M} {Q : Int32 → fw_M → Prop} (hf : 1 ≤ f) (h : p_X5_hangs i0 i1 μ Q) : fw_C g f bc bs yX5_hangs (ws_ yX5_hangs cX5_hangs 2 (some .int)) [Value.int i0, Value.int i1] μ (fw_Qi Q) fw_nX := by
  unfold p_X5_hangs at h
  refine fw_intro' (Ls := [(0, Value.int i0), (1, Value.int i1)]) (by decide +kernel) (by simp [lg_sl, fw_cat, fw_ci, fw_clo]) (by simp [lv_args, fw_cat, fw_ci, fw_clo]) ?_
  show fw_V g K_X5_hangs f bc bs 0 [(0, Value.int i0), (1, Value.int i1)] [] μ (fw_Qi Q) fw_nX
  refine fw_iload_n dX5_hangs_0 rfl rfl ?_
  refine fw_iload_n dX5_hangs_1 rfl rfl ?_
  refine fw_iadd dX5_hangs_2 ?_
  refine fw_if_le (tgt := 10) dX5_hangs_3 (by decide) (fun c1 => ?_) (fun c1 => ?_)
  · have h := fw_it h c1
    refine fw_iload_n dX5_hangs_10 rfl rfl ?_
    refine fw_iload_n dX5_hangs_11 rfl rfl ?_
    refine fw_iadd dX5_hangs_12 ?_
    refine fw_if_ge (tgt := 20) dX5_hangs_13 (by decide) (fun c2 => ?_) (fun c2 => ?_)
    · have h := fw_it h c2
      refine fw_iconst (v := 0) dX5_hangs_20 (by decide) ?_
      exact fw_ireturn dX5_hangs_21 rfl rfl ⟨_, rfl, h⟩
    · have h := fw_if h c2
      refine fw_iconst (v := -1) dX5_hangs_16 (by decide) ?_
      refine fw_goto (tgt := 21) dX5_hangs_17 (by decide) ?_
      exact fw_ireturn dX5_hangs_21 rfl rfl ⟨_, rfl, h⟩
  · have h := fw_if h c1
    refine fw_iconst (v := 1) dX5_hangs_6 (by decide) ?_
    refine fw_goto (tgt := 21) dX5_hangs_7 (by decide) ?_
    exact fw_ireturn dX5_hangs_21 rfl rfl ⟨_, rfl, h⟩
abbrev K_X5_fits : fw_Kt := (RX5, "fits", cX5_fits, 5, some .int, [])
def p_X5_fits_L15b (k4 : Int32 → Int32 → fw_M → Prop) (r0 : Nat) (i1 : Int32) (i2 : Int32) (k15 : Int32 → Int32 → fw_M → Prop) (i3 : Int32) (i4 : Int32) (μ : fw_M) (Q : Int32 → fw_M → Prop) : Prop :=
  (m_K μ (m_P μ r0 0) = 100 ∧ (vp_in (4 : Int32) (m_N μ (m_P μ r0 0)) ∧ (if (m_I μ (m_P μ r0 0) (4 : Int32).toNatClampNeg) ≤ i4 then
  ((if i3 = 0 then
   ((∀ i1_5 : Int32, i1_5 = (i1 ||| (0 : Int32)) →
    (∀ i2_7 : Int32, i2_7 = i2 + (1 : Int32) →
    k4 i1_5 i2_7 μ)))
   else
   ((∀ i1_9 : Int32, i1_9 = (i1 ||| ((1 : Int32) <<< (i2 &&& 31))) →
    (∀ i2_11 : Int32, i2_11 = i2 + (1 : Int32) →
    k4 i1_9 i2_11 μ)))))
  else
  ((if i3 = 0 then
   ((∀ i4_14 : Int32, i4_14 = i4 + (1 : Int32) →
    k15 (0 : Int32) i4_14 μ))
   else
   ((vp_in ((40 : Int32) + ((2 : Int32) * i4)) (m_N μ (m_P μ r0 0)) ∧ (p_X5_hangs (m_I μ (m_P μ r0 0) ((40 : Int32) + ((2 : Int32) * i4)).toNatClampNeg) i2 μ (fun v17 μ18 =>
    (m_K μ18 (m_P μ18 r0 0) = 100 ∧ (vp_in (((40 : Int32) + ((2 : Int32) * i4)) + (1 : Int32)) (m_N μ18 (m_P μ18 r0 0)) ∧ (if v17 = (m_I μ18 (m_P μ18 r0 0) (((40 : Int32) + ((2 : Int32) * i4)) + (1 : Int32)).toNatClampNeg) then
    ((∀ i4_26 : Int32, i4_26 = i4 + (1 : Int32) →
     k15 (1 : Int32) i4_26 μ18))
    else
    ((∀ i4_24 : Int32, i4_24 = i4 + (1 : Int32) →
     k15 (0 : Int32) i4_24 μ18))))))))))))))
def p_X5_fits_L15 (k4 : Int32 → Int32 → fw_M → Prop) (r0 : Nat) (i1 : Int32) (i2 : Int32) (i3 : Int32) (i4 : Int32) (μ : fw_M) (Q : Int32 → fw_M → Prop) : Prop := fw_lp (fun (k : Int32 × Int32 × fw_M → Prop) (a : Int32 × Int32 × fw_M) => p_X5_fits_L15b k4 r0 i1 i2 (fun i3 i4 μ => k (i3, i4, μ)) a.1 a.2.1 a.2.2 Q) (i3, i4, μ)
theorem r_X5_fits_L15 {k4 : Int32 → Int32 → fw_M → Prop} {r0 : Nat} {i1 : Int32} {i2 : Int32} {Q : Int32 → fw_M → Prop} (I : Int32 → Int32 → fw_M → Prop) (v : Int32 → Int32 → fw_M → Nat) (hs : ∀ (k : Int32 → Int32 → fw_M → Prop) (i3 : Int32) (i4 : Int32) (μ : fw_M), I i3 i4 μ → (∀ (i3' : Int32) (i4' : Int32) (ν : fw_M), I i3' i4' ν → v i3' i4' ν < v i3 i4 μ → k i3' i4' ν) → p_X5_fits_L15b k4 r0 i1 i2 k i3 i4 μ Q) (i3 : Int32) (i4 : Int32) (μ : fw_M) (h : I i3 i4 μ) : p_X5_fits_L15 k4 r0 i1 i2 i3 i4 μ Q :=
  fw_lp_in (A := Int32 × Int32 × fw_M) (fun a => I a.1 a.2.1 a.2.2) (fun a => v a.1 a.2.1 a.2.2) (fun k a ha hk => hs (fun i3 i4 μ => k (i3, i4, μ)) a.1 a.2.1 a.2.2 ha (fun i3' i4' ν hb hlt => hk (i3', i4', ν) hb hlt)) (i3, i4, μ) h
set_option maxHeartbeats 4000000 in
theorem w_X5_fits_L15b {g : fw_G} {f bc bs : Nat} {k4 : Int32 → Int32 → fw_M → Prop} {r0 : Nat} {i1 : Int32} {i2 : Int32} {k15 : Int32 → Int32 → fw_M → Prop} {i3 : Int32} {i4 : Int32} {μ : fw_M} {Q : Int32 → fw_M → Prop} (hf : 2 ≤ f) (hk4 : ∀ {i1 : Int32} {i2 : Int32} {μ : fw_M}, m_K μ r0 = 6 → k4 i1 i2 μ → fw_V g K_X5_fits f bc bs 4 [(0, fw_rv g r0), (1, Value.int i1), (2, Value.int i2)] [] μ (fw_Qi Q) fw_nX) (hk15 : ∀ {i3 : Int32} {i4 : Int32} {μ : fw_M}, m_K μ r0 = 6 → k15 i3 i4 μ → fw_V g K_X5_fits f bc bs 15 [(0, fw_rv g r0), (1, Value.int i1), (2, Value.int i2), (3, Value.int i3), (4, Value.int i4)] [] μ (fw_Qi Q) fw_nX) (hx : m_K μ r0 = 6) (h : p_X5_fits_L15b k4 r0 i1 i2 k15 i3 i4 μ Q) : fw_V g K_X5_fits f bc bs 15 [(0, fw_rv g r0), (1, Value.int i1), (2, Value.int i2), (3, Value.int i3), (4, Value.int i4)] [] μ (fw_Qi Q) fw_nX := by
  unfold p_X5_fits_L15b at h
  refine fw_iload dX5_fits_15 rfl ?_
  refine fw_aload_n dX5_fits_17 rfl rfl ?_
  refine fw_getfP fl_X5_7 rfl hx dX5_fits_18 ?_
  refine fw_iconst (v := 4) dX5_fits_21 (by decide) ?_
  obtain ⟨hg1, h⟩ := h
  obtain ⟨hc2, h⟩ := h
  refine fw_iald hg1 hc2 dX5_fits_22 ?_
  refine fw_icmp_ge (tgt := 75) dX5_fits_23 (by decide) (fun c3 => ?_) (fun c3 => ?_)
  · have h := fw_it h c3
    refine fw_iload_n dX5_fits_75 rfl rfl ?_
    refine fw_iload_n dX5_fits_76 rfl rfl ?_
    refine fw_if_eq (tgt := 86) dX5_fits_77 (by decide) (fun c4 => ?_) (fun c4 => ?_)
    · have h := fw_it h c4
      refine fw_iconst (v := 0) dX5_fits_86 (by decide) ?_
      refine fw_ior dX5_fits_87 ?_
      refine fw_topi (fun i1_5 e6 => ?_)
      have h := h i1_5 e6
      refine fw_istore_nN (Ls' := [(1, Value.int i1_5), (0, fw_rv g r0), (2, Value.int i2), (3, Value.int i3), (4, Value.int i4)]) [2, 3, 4] dX5_fits_88 rfl (by decide) rfl rfl rfl (fw_cat _) rfl ?_
      obtain ⟨i2_7, e8⟩ : ∃ y : Int32, y = i2 + (1 : Int32) := ⟨_, rfl⟩
      have h := h i2_7 e8
      refine fw_iincN (k := 2) (v := i2_7) (Ls' := [(2, Value.int i2_7), (1, Value.int i1_5), (0, fw_rv g r0), (3, Value.int i3), (4, Value.int i4)]) [1, 3, 4] dX5_fits_89 rfl (by rw [e8]; rfl) (by decide) rfl rfl rfl rfl rfl ?_
      refine fw_goto (tgt := 4) dX5_fits_92 (by decide) ?_
      refine fw_ls [2, 1, 0] rfl ?_
      exact hk4 hx h
    · have h := fw_if h c4
      refine fw_iconst (v := 1) dX5_fits_80 (by decide) ?_
      refine fw_iload_n dX5_fits_81 rfl rfl ?_
      refine fw_ishl dX5_fits_82 ?_
      refine fw_goto (tgt := 87) dX5_fits_83 (by decide) ?_
      refine fw_ior dX5_fits_87 ?_
      refine fw_topi (fun i1_9 e10 => ?_)
      have h := h i1_9 e10
      refine fw_istore_nN (Ls' := [(1, Value.int i1_9), (0, fw_rv g r0), (2, Value.int i2), (3, Value.int i3), (4, Value.int i4)]) [2, 3, 4] dX5_fits_88 rfl (by decide) rfl rfl rfl (fw_cat _) rfl ?_
      obtain ⟨i2_11, e12⟩ : ∃ y : Int32, y = i2 + (1 : Int32) := ⟨_, rfl⟩
      have h := h i2_11 e12
      refine fw_iincN (k := 2) (v := i2_11) (Ls' := [(2, Value.int i2_11), (1, Value.int i1_9), (0, fw_rv g r0), (3, Value.int i3), (4, Value.int i4)]) [1, 3, 4] dX5_fits_89 rfl (by rw [e12]; rfl) (by decide) rfl rfl rfl rfl rfl ?_
      refine fw_goto (tgt := 4) dX5_fits_92 (by decide) ?_
      refine fw_ls [2, 1, 0] rfl ?_
      exact hk4 hx h
  · have h := fw_if h c3
    refine fw_iload_n dX5_fits_26 rfl rfl ?_
    refine fw_if_eq (tgt := 67) dX5_fits_27 (by decide) (fun c13 => ?_) (fun c13 => ?_)
    · have h := fw_it h c13
      refine fw_iconst (v := 0) dX5_fits_67 (by decide) ?_
      refine fw_istore_nN (Ls' := [(3, Value.int (0 : Int32)), (2, Value.int i2), (0, fw_rv g r0), (1, Value.int i1), (4, Value.int i4)]) [0, 1, 4] dX5_fits_68 rfl (by decide) rfl rfl rfl rfl rfl ?_
      obtain ⟨i4_14, e15⟩ : ∃ y : Int32, y = i4 + (1 : Int32) := ⟨_, rfl⟩
      have h := h i4_14 e15
      refine fw_iincN (k := 4) (v := i4_14) (Ls' := [(4, Value.int i4_14), (3, Value.int (0 : Int32)), (2, Value.int i2), (0, fw_rv g r0), (1, Value.int i1)]) [1, 2, 3] dX5_fits_69 rfl (by rw [e15]; rfl) (by decide) rfl rfl rfl rfl rfl ?_
      refine fw_goto (tgt := 15) dX5_fits_72 (by decide) ?_
      refine fw_ls [3, 4, 2, 1, 0] rfl ?_
      exact hk15 hx h
    · have h := fw_if h c13
      refine fw_aload_n dX5_fits_30 rfl rfl ?_
      refine fw_getfP fl_X5_7 rfl hx dX5_fits_31 ?_
      refine fw_bipush (v := 40) dX5_fits_34 (by decide) ?_
      refine fw_iconst (v := 2) dX5_fits_36 (by decide) ?_
      refine fw_iload dX5_fits_37 rfl ?_
      refine fw_imul dX5_fits_39 ?_
      refine fw_iadd dX5_fits_40 ?_
      obtain ⟨hc16, h⟩ := h
      refine fw_iald hg1 hc16 dX5_fits_41 ?_
      refine fw_iload_n dX5_fits_42 rfl rfl ?_
      refine fw_callS2z (f1 := f - 1) cl_X5_388 (by decide) (by omega) (fw_s4 (Nat.le_of_ble_eq_true rfl)) dX5_fits_43 (w_X5_hangs (f := f - 1) (by omega) h) (fun _ _ h9 _ _ => h9.elim) (fun v9 μ18 q9 hs19 => ?_)
      obtain ⟨v17, rfl, h⟩ := q9
      refine fw_ti ?_
      have hg20 := hs19.K hx (by decide)
      refine fw_aload_n dX5_fits_46 rfl rfl ?_
      refine fw_getfP fl_X5_7 rfl hg20 dX5_fits_47 ?_
      refine fw_bipush (v := 40) dX5_fits_50 (by decide) ?_
      refine fw_iconst (v := 2) dX5_fits_52 (by decide) ?_
      refine fw_iload dX5_fits_53 rfl ?_
      refine fw_imul dX5_fits_55 ?_
      refine fw_iadd dX5_fits_56 ?_
      refine fw_iconst (v := 1) dX5_fits_57 (by decide) ?_
      refine fw_iadd dX5_fits_58 ?_
      obtain ⟨hg21, h⟩ := h
      obtain ⟨hc22, h⟩ := h
      refine fw_iald hg21 hc22 dX5_fits_59 ?_
      refine fw_icmp_ne (tgt := 67) dX5_fits_60 (by decide) (fun c23 => ?_) (fun c23 => ?_)
      · have h := fw_if h c23
        refine fw_iconst (v := 0) dX5_fits_67 (by decide) ?_
        refine fw_istore_nN (Ls' := [(3, Value.int (0 : Int32)), (2, Value.int i2), (0, fw_rv g r0), (1, Value.int i1), (4, Value.int i4)]) [0, 1, 4] dX5_fits_68 rfl (by decide) rfl rfl rfl rfl rfl ?_
        obtain ⟨i4_24, e25⟩ : ∃ y : Int32, y = i4 + (1 : Int32) := ⟨_, rfl⟩
        have h := h i4_24 e25
        refine fw_iincN (k := 4) (v := i4_24) (Ls' := [(4, Value.int i4_24), (3, Value.int (0 : Int32)), (2, Value.int i2), (0, fw_rv g r0), (1, Value.int i1)]) [1, 2, 3] dX5_fits_69 rfl (by rw [e25]; rfl) (by decide) rfl rfl rfl rfl rfl ?_
        refine fw_goto (tgt := 15) dX5_fits_72 (by decide) ?_
        refine fw_ls [3, 4, 2, 1, 0] rfl ?_
        exact hk15 hg20 h
      · have h := fw_it h c23
        refine fw_iconst (v := 1) dX5_fits_63 (by decide) ?_
        refine fw_goto (tgt := 68) dX5_fits_64 (by decide) ?_
        refine fw_istore_nN (Ls' := [(3, Value.int (1 : Int32)), (2, Value.int i2), (0, fw_rv g r0), (1, Value.int i1), (4, Value.int i4)]) [0, 1, 4] dX5_fits_68 rfl (by decide) rfl rfl rfl rfl rfl ?_
        obtain ⟨i4_26, e27⟩ : ∃ y : Int32, y = i4 + (1 : Int32) := ⟨_, rfl⟩
        have h := h i4_26 e27
        refine fw_iincN (k := 4) (v := i4_26) (Ls' := [(4, Value.int i4_26), (3, Value.int (1 : Int32)), (2, Value.int i2), (0, fw_rv g r0), (1, Value.int i1)]) [1, 2, 3] dX5_fits_69 rfl (by rw [e27]; rfl) (by decide) rfl rfl rfl rfl rfl ?_
        refine fw_goto (tgt := 15) dX5_fits_72 (by decide) ?_
        refine fw_ls [3, 4, 2, 1, 0] rfl ?_
        exact hk15 hg20 h
theorem w_X5_fits_L15 {g : fw_G} {f bc bs : Nat} {k4 : Int32 → Int32 → fw_M → Prop} {r0 : Nat} {i1 : Int32} {i2 : Int32} {i3 : Int32} {i4 : Int32} {μ : fw_M} {Q : Int32 → fw_M → Prop} (hf : 2 ≤ f) (hk4 : ∀ {i1 : Int32} {i2 : Int32} {μ : fw_M}, m_K μ r0 = 6 → k4 i1 i2 μ → fw_V g K_X5_fits f bc bs 4 [(0, fw_rv g r0), (1, Value.int i1), (2, Value.int i2)] [] μ (fw_Qi Q) fw_nX) (hx : m_K μ r0 = 6) (h : p_X5_fits_L15 k4 r0 i1 i2 i3 i4 μ Q) : fw_V g K_X5_fits f bc bs 15 [(0, fw_rv g r0), (1, Value.int i1), (2, Value.int i2), (3, Value.int i3), (4, Value.int i4)] [] μ (fw_Qi Q) fw_nX := by
  have key := fw_lp_out (R := fun (a : Int32 × Int32 × fw_M) => m_K a.2.2 r0 = 6 → fw_V g K_X5_fits f bc bs 15 [(0, fw_rv g r0), (1, Value.int i1), (2, Value.int i2), (3, Value.int a.1), (4, Value.int a.2.1)] [] a.2.2 (fw_Qi Q) fw_nX) (fun k hk9 a ha hx2 => w_X5_fits_L15b hf hk4 (fun {i3 i4} {μ} hx3 h3 => hk9 (i3, i4, μ) h3 hx3) hx2 ha) h
  exact key hx
def p_X5_fits_L4b (r0 : Nat) (k4 : Int32 → Int32 → fw_M → Prop) (i1 : Int32) (i2 : Int32) (μ : fw_M) (Q : Int32 → fw_M → Prop) : Prop :=
  (if (10 : Int32) ≤ i2 then
  (Q i1 μ)
  else
  (p_X5_fits_L15 k4 r0 i1 i2 (1 : Int32) (0 : Int32) μ Q))
def p_X5_fits_L4 (r0 : Nat) (i1 : Int32) (i2 : Int32) (μ : fw_M) (Q : Int32 → fw_M → Prop) : Prop := fw_lp (fun (k : Int32 × Int32 × fw_M → Prop) (a : Int32 × Int32 × fw_M) => p_X5_fits_L4b r0 (fun i1 i2 μ => k (i1, i2, μ)) a.1 a.2.1 a.2.2 Q) (i1, i2, μ)
theorem r_X5_fits_L4 {r0 : Nat} {Q : Int32 → fw_M → Prop} (I : Int32 → Int32 → fw_M → Prop) (v : Int32 → Int32 → fw_M → Nat) (hs : ∀ (k : Int32 → Int32 → fw_M → Prop) (i1 : Int32) (i2 : Int32) (μ : fw_M), I i1 i2 μ → (∀ (i1' : Int32) (i2' : Int32) (ν : fw_M), I i1' i2' ν → v i1' i2' ν < v i1 i2 μ → k i1' i2' ν) → p_X5_fits_L4b r0 k i1 i2 μ Q) (i1 : Int32) (i2 : Int32) (μ : fw_M) (h : I i1 i2 μ) : p_X5_fits_L4 r0 i1 i2 μ Q :=
  fw_lp_in (A := Int32 × Int32 × fw_M) (fun a => I a.1 a.2.1 a.2.2) (fun a => v a.1 a.2.1 a.2.2) (fun k a ha hk => hs (fun i1 i2 μ => k (i1, i2, μ)) a.1 a.2.1 a.2.2 ha (fun i1' i2' ν hb hlt => hk (i1', i2', ν) hb hlt)) (i1, i2, μ) h
set_option maxHeartbeats 4000000 in
theorem w_X5_fits_L4b {g : fw_G} {f bc bs : Nat} {r0 : Nat} {k4 : Int32 → Int32 → fw_M → Prop} {i1 : Int32} {i2 : Int32} {μ : fw_M} {Q : Int32 → fw_M → Prop} (hf : 2 ≤ f) (hk4 : ∀ {i1 : Int32} {i2 : Int32} {μ : fw_M}, m_K μ r0 = 6 → k4 i1 i2 μ → fw_V g K_X5_fits f bc bs 4 [(0, fw_rv g r0), (1, Value.int i1), (2, Value.int i2)] [] μ (fw_Qi Q) fw_nX) (hx : m_K μ r0 = 6) (h : p_X5_fits_L4b r0 k4 i1 i2 μ Q) : fw_V g K_X5_fits f bc bs 4 [(0, fw_rv g r0), (1, Value.int i1), (2, Value.int i2)] [] μ (fw_Qi Q) fw_nX := by
  unfold p_X5_fits_L4b at h
  refine fw_iload_n dX5_fits_4 rfl rfl ?_
  refine fw_bipush (v := 10) dX5_fits_5 (by decide) ?_
  refine fw_icmp_ge (tgt := 95) dX5_fits_7 (by decide) (fun c1 => ?_) (fun c1 => ?_)
  · have h := fw_it h c1
    refine fw_iload_n dX5_fits_95 rfl rfl ?_
    exact fw_ireturn dX5_fits_96 rfl rfl ⟨_, rfl, h⟩
  · have h := fw_if h c1
    refine fw_iconst (v := 1) dX5_fits_10 (by decide) ?_
    refine fw_istore_nN (Ls' := [(3, Value.int (1 : Int32)), (2, Value.int i2), (0, fw_rv g r0), (1, Value.int i1)]) [0, 1] dX5_fits_11 rfl (by decide) rfl rfl rfl rfl rfl ?_
    refine fw_iconst (v := 0) dX5_fits_12 (by decide) ?_
    refine fw_istoreN (Ls' := [(4, Value.int (0 : Int32)), (3, Value.int (1 : Int32)), (2, Value.int i2), (0, fw_rv g r0), (1, Value.int i1)]) [1, 2, 3] dX5_fits_13 (by decide) rfl rfl rfl rfl rfl ?_
    refine fw_ls [3, 4, 2, 1, 0] rfl ?_
    exact w_X5_fits_L15 hf hk4 hx h
theorem w_X5_fits_L4 {g : fw_G} {f bc bs : Nat} {r0 : Nat} {i1 : Int32} {i2 : Int32} {μ : fw_M} {Q : Int32 → fw_M → Prop} (hf : 2 ≤ f) (hx : m_K μ r0 = 6) (h : p_X5_fits_L4 r0 i1 i2 μ Q) : fw_V g K_X5_fits f bc bs 4 [(0, fw_rv g r0), (1, Value.int i1), (2, Value.int i2)] [] μ (fw_Qi Q) fw_nX := by
  have key := fw_lp_out (R := fun (a : Int32 × Int32 × fw_M) => m_K a.2.2 r0 = 6 → fw_V g K_X5_fits f bc bs 4 [(0, fw_rv g r0), (1, Value.int a.1), (2, Value.int a.2.1)] [] a.2.2 (fw_Qi Q) fw_nX) (fun k hk9 a ha hx2 => w_X5_fits_L4b hf (fun {i1 i2} {μ} hx3 h3 => hk9 (i1, i2, μ) h3 hx3) hx2 ha) h
  exact key hx
def p_X5_fits (r0 : Nat) (μ : fw_M) (Q : Int32 → fw_M → Prop) : Prop :=
  p_X5_fits_L4 r0 (0 : Int32) (0 : Int32) μ Q
set_option maxHeartbeats 4000000 in
theorem w_X5_fits {g : fw_G} {f bc bs : Nat} {r0 : Nat} {μ : fw_M} {Q : Int32 → fw_M → Prop} (hf : 2 ≤ f) (hx : m_K μ r0 = 6) (h : p_X5_fits r0 μ Q) : fw_C g f bc bs yX5_fits (ws_ yX5_fits cX5_fits 5 (some .int)) [fw_rv g r0] μ (fw_Qi Q) fw_nX := by
  unfold p_X5_fits at h
  refine fw_intro' (Ls := [(0, fw_rv g r0)]) (by decide +kernel) (by simp [lg_sl, fw_cat, fw_ci, fw_clo]) (by simp [lv_args, fw_cat, fw_ci, fw_clo]) ?_
  show fw_V g K_X5_fits f bc bs 0 [(0, fw_rv g r0)] [] μ (fw_Qi Q) fw_nX
  refine fw_iconst (v := 0) dX5_fits_0 (by decide) ?_
  refine fw_istore_nN (Ls' := [(1, Value.int (0 : Int32)), (0, fw_rv g r0)]) [] dX5_fits_1 rfl (by decide) rfl rfl rfl (fw_cat _) rfl ?_
  refine fw_iconst (v := 0) dX5_fits_2 (by decide) ?_
  refine fw_istore_nN (Ls' := [(2, Value.int (0 : Int32)), (1, Value.int (0 : Int32)), (0, fw_rv g r0)]) [1] dX5_fits_3 rfl (by decide) rfl rfl rfl rfl rfl ?_
  refine fw_ls [2, 1, 0] rfl ?_
  exact w_X5_fits_L4 hf hx h
abbrev K_X5_mostAlike : fw_Kt := (RX5, "mostAlike", cX5_mostAlike, 6, some .int, [])
def p_X5_mostAlike_L48 (k4 : Int32 → Int32 → fw_M → Prop) (k15 : Int32 → Int32 → fw_M → Prop) (i0 : Int32) (i1 : Int32) (i2 : Int32) (i3 : Int32) (i5 : Int32) (is0 : Int32) (μ : fw_M) (Q : Int32 → fw_M → Prop) : Prop :=
  (∀ i4_1 : Int32, i4_1 = (is0 + (0 : Int32)) →
  (∀ i5_3 : Int32, i5_3 = i5 + (1 : Int32) →
  k15 i4_1 i5_3 μ))
set_option maxHeartbeats 4000000 in
theorem w_X5_mostAlike_L48 {g : fw_G} {f bc bs : Nat} {k4 : Int32 → Int32 → fw_M → Prop} {k15 : Int32 → Int32 → fw_M → Prop} {i0 : Int32} {i1 : Int32} {i2 : Int32} {i3 : Int32} {i5 : Int32} {is0 : Int32} {μ : fw_M} {Q : Int32 → fw_M → Prop} (hf : 2 ≤ f) (hk4 : ∀ {i2 : Int32} {i3 : Int32} {μ : fw_M}, k4 i2 i3 μ → fw_V g K_X5_mostAlike f bc bs 4 [(0, Value.int i0), (1, Value.int i1), (2, Value.int i2), (3, Value.int i3)] [] μ (fw_Qi Q) fw_nX) (hk15 : ∀ {i4 : Int32} {i5 : Int32} {μ : fw_M}, k15 i4 i5 μ → fw_V g K_X5_mostAlike f bc bs 15 [(0, Value.int i0), (1, Value.int i1), (2, Value.int i2), (3, Value.int i3), (4, Value.int i4), (5, Value.int i5)] [] μ (fw_Qi Q) fw_nX) (h : p_X5_mostAlike_L48 k4 k15 i0 i1 i2 i3 i5 is0 μ Q) : fw_V g K_X5_mostAlike f bc bs 48 [(0, Value.int i0), (1, Value.int i1), (2, Value.int i2), (3, Value.int i3), (5, Value.int i5)] [Value.int is0] μ (fw_Qi Q) fw_nX := by
  unfold p_X5_mostAlike_L48 at h
  refine fw_iconst (v := 0) dX5_mostAlike_48 (by decide) ?_
  refine fw_iadd dX5_mostAlike_49 ?_
  refine fw_topi (fun i4_1 e2 => ?_)
  have h := h i4_1 e2
  refine fw_istoreN (Ls' := [(4, Value.int i4_1), (3, Value.int i3), (0, Value.int i0), (1, Value.int i1), (2, Value.int i2), (5, Value.int i5)]) [0, 1, 2, 4] dX5_mostAlike_50 (by decide) rfl rfl rfl rfl rfl ?_
  obtain ⟨i5_3, e4⟩ : ∃ y : Int32, y = i5 + (1 : Int32) := ⟨_, rfl⟩
  have h := h i5_3 e4
  refine fw_iincN (k := 5) (v := i5_3) (Ls' := [(5, Value.int i5_3), (4, Value.int i4_1), (3, Value.int i3), (0, Value.int i0), (1, Value.int i1), (2, Value.int i2)]) [1, 2, 3, 4] dX5_mostAlike_52 rfl (by rw [e4]; rfl) (by decide) rfl rfl rfl rfl rfl ?_
  refine fw_goto (tgt := 15) dX5_mostAlike_55 (by decide) ?_
  refine fw_ls [3, 4, 5, 2, 1, 0] rfl ?_
  exact hk15 h
def p_X5_mostAlike_L15b (k4 : Int32 → Int32 → fw_M → Prop) (i0 : Int32) (i1 : Int32) (i2 : Int32) (i3 : Int32) (k15 : Int32 → Int32 → fw_M → Prop) (i4 : Int32) (i5 : Int32) (μ : fw_M) (Q : Int32 → fw_M → Prop) : Prop :=
  (if (10 : Int32) ≤ i5 then
  ((if i4 ≤ i2 then
   ((∀ i3_3 : Int32, i3_3 = i3 + (1 : Int32) →
    k4 i2 i3_3 μ))
   else
   ((∀ i3_5 : Int32, i3_5 = i3 + (1 : Int32) →
    k4 i4 i3_5 μ))))
  else
  ((if ((i0 >>> (i5 &&& 31)) &&& (1 : Int32)) = (1 : Int32) then
   ((p_X5_hangs i1 i5 μ (fun v8 μ9 =>
    (if v8 = i3 then
    ((∀ i4_12 : Int32, i4_12 = (i4 + (1 : Int32)) →
     (∀ i5_14 : Int32, i5_14 = i5 + (1 : Int32) →
     k15 i4_12 i5_14 μ9)))
    else
    (p_X5_mostAlike_L48 k4 k15 i0 i1 i2 i3 i5 i4 μ9 Q)))))
   else
   (p_X5_mostAlike_L48 k4 k15 i0 i1 i2 i3 i5 i4 μ Q))))
def p_X5_mostAlike_L15 (k4 : Int32 → Int32 → fw_M → Prop) (i0 : Int32) (i1 : Int32) (i2 : Int32) (i3 : Int32) (i4 : Int32) (i5 : Int32) (μ : fw_M) (Q : Int32 → fw_M → Prop) : Prop := fw_lp (fun (k : Int32 × Int32 × fw_M → Prop) (a : Int32 × Int32 × fw_M) => p_X5_mostAlike_L15b k4 i0 i1 i2 i3 (fun i4 i5 μ => k (i4, i5, μ)) a.1 a.2.1 a.2.2 Q) (i4, i5, μ)
theorem r_X5_mostAlike_L15 {k4 : Int32 → Int32 → fw_M → Prop} {i0 : Int32} {i1 : Int32} {i2 : Int32} {i3 : Int32} {Q : Int32 → fw_M → Prop} (I : Int32 → Int32 → fw_M → Prop) (v : Int32 → Int32 → fw_M → Nat) (hs : ∀ (k : Int32 → Int32 → fw_M → Prop) (i4 : Int32) (i5 : Int32) (μ : fw_M), I i4 i5 μ → (∀ (i4' : Int32) (i5' : Int32) (ν : fw_M), I i4' i5' ν → v i4' i5' ν < v i4 i5 μ → k i4' i5' ν) → p_X5_mostAlike_L15b k4 i0 i1 i2 i3 k i4 i5 μ Q) (i4 : Int32) (i5 : Int32) (μ : fw_M) (h : I i4 i5 μ) : p_X5_mostAlike_L15 k4 i0 i1 i2 i3 i4 i5 μ Q :=
  fw_lp_in (A := Int32 × Int32 × fw_M) (fun a => I a.1 a.2.1 a.2.2) (fun a => v a.1 a.2.1 a.2.2) (fun k a ha hk => hs (fun i4 i5 μ => k (i4, i5, μ)) a.1 a.2.1 a.2.2 ha (fun i4' i5' ν hb hlt => hk (i4', i5', ν) hb hlt)) (i4, i5, μ) h
set_option maxHeartbeats 4000000 in
theorem w_X5_mostAlike_L15b {g : fw_G} {f bc bs : Nat} {k4 : Int32 → Int32 → fw_M → Prop} {i0 : Int32} {i1 : Int32} {i2 : Int32} {i3 : Int32} {k15 : Int32 → Int32 → fw_M → Prop} {i4 : Int32} {i5 : Int32} {μ : fw_M} {Q : Int32 → fw_M → Prop} (hf : 2 ≤ f) (hk4 : ∀ {i2 : Int32} {i3 : Int32} {μ : fw_M}, k4 i2 i3 μ → fw_V g K_X5_mostAlike f bc bs 4 [(0, Value.int i0), (1, Value.int i1), (2, Value.int i2), (3, Value.int i3)] [] μ (fw_Qi Q) fw_nX) (hk15 : ∀ {i4 : Int32} {i5 : Int32} {μ : fw_M}, k15 i4 i5 μ → fw_V g K_X5_mostAlike f bc bs 15 [(0, Value.int i0), (1, Value.int i1), (2, Value.int i2), (3, Value.int i3), (4, Value.int i4), (5, Value.int i5)] [] μ (fw_Qi Q) fw_nX) (h : p_X5_mostAlike_L15b k4 i0 i1 i2 i3 k15 i4 i5 μ Q) : fw_V g K_X5_mostAlike f bc bs 15 [(0, Value.int i0), (1, Value.int i1), (2, Value.int i2), (3, Value.int i3), (4, Value.int i4), (5, Value.int i5)] [] μ (fw_Qi Q) fw_nX := by
  unfold p_X5_mostAlike_L15b at h
  refine fw_iload dX5_mostAlike_15 rfl ?_
  refine fw_bipush (v := 10) dX5_mostAlike_17 (by decide) ?_
  refine fw_icmp_ge (tgt := 58) dX5_mostAlike_19 (by decide) (fun c1 => ?_) (fun c1 => ?_)
  · have h := fw_it h c1
    refine fw_iload dX5_mostAlike_58 rfl ?_
    refine fw_iload_n dX5_mostAlike_60 rfl rfl ?_
    refine fw_icmp_le (tgt := 69) dX5_mostAlike_61 (by decide) (fun c2 => ?_) (fun c2 => ?_)
    · have h := fw_it h c2
      refine fw_iload_n dX5_mostAlike_69 rfl rfl ?_
      refine fw_istore_nN (Ls' := [(2, Value.int i2), (1, Value.int i1), (0, Value.int i0), (3, Value.int i3), (4, Value.int i4), (5, Value.int i5)]) [0, 3, 4, 5] dX5_mostAlike_70 rfl (by decide) rfl rfl rfl rfl rfl ?_
      obtain ⟨i3_3, e4⟩ : ∃ y : Int32, y = i3 + (1 : Int32) := ⟨_, rfl⟩
      have h := h i3_3 e4
      refine fw_iincN (k := 3) (v := i3_3) (Ls' := [(3, Value.int i3_3), (2, Value.int i2), (1, Value.int i1), (0, Value.int i0), (4, Value.int i4), (5, Value.int i5)]) [1, 2, 4, 5] dX5_mostAlike_71 rfl (by rw [e4]; rfl) (by decide) rfl rfl rfl rfl rfl ?_
      refine fw_goto (tgt := 4) dX5_mostAlike_74 (by decide) ?_
      refine fw_ls [3, 2, 1, 0] rfl ?_
      exact hk4 h
    · have h := fw_if h c2
      refine fw_iload dX5_mostAlike_64 rfl ?_
      refine fw_goto (tgt := 70) dX5_mostAlike_66 (by decide) ?_
      refine fw_istore_nN (Ls' := [(2, Value.int i4), (1, Value.int i1), (0, Value.int i0), (3, Value.int i3), (4, Value.int i4), (5, Value.int i5)]) [0, 3, 4, 5] dX5_mostAlike_70 rfl (by decide) rfl rfl rfl rfl rfl ?_
      obtain ⟨i3_5, e6⟩ : ∃ y : Int32, y = i3 + (1 : Int32) := ⟨_, rfl⟩
      have h := h i3_5 e6
      refine fw_iincN (k := 3) (v := i3_5) (Ls' := [(3, Value.int i3_5), (2, Value.int i4), (1, Value.int i1), (0, Value.int i0), (4, Value.int i4), (5, Value.int i5)]) [1, 2, 4, 5] dX5_mostAlike_71 rfl (by rw [e6]; rfl) (by decide) rfl rfl rfl rfl rfl ?_
      refine fw_goto (tgt := 4) dX5_mostAlike_74 (by decide) ?_
      refine fw_ls [3, 2, 1, 0] rfl ?_
      exact hk4 h
  · have h := fw_if h c1
    refine fw_iload dX5_mostAlike_22 rfl ?_
    refine fw_iload_n dX5_mostAlike_24 rfl rfl ?_
    refine fw_iload dX5_mostAlike_25 rfl ?_
    refine fw_ishr dX5_mostAlike_27 ?_
    refine fw_iconst (v := 1) dX5_mostAlike_28 (by decide) ?_
    refine fw_iand dX5_mostAlike_29 ?_
    refine fw_iconst (v := 1) dX5_mostAlike_30 (by decide) ?_
    refine fw_icmp_ne (tgt := 48) dX5_mostAlike_31 (by decide) (fun c7 => ?_) (fun c7 => ?_)
    · have h := fw_if h c7
      refine fw_ls [0, 1, 2, 3, 5] rfl ?_
      exact w_X5_mostAlike_L48 hf hk4 hk15 h
    · have h := fw_it h c7
      refine fw_iload_n dX5_mostAlike_34 rfl rfl ?_
      refine fw_iload dX5_mostAlike_35 rfl ?_
      refine fw_callS2z (f1 := f - 1) cl_X5_388 (by decide) (by omega) (fw_s4 (Nat.le_of_ble_eq_true rfl)) dX5_mostAlike_37 (w_X5_hangs (f := f - 1) (by omega) h) (fun _ _ h9 _ _ => h9.elim) (fun v9 μ9 q9 hs10 => ?_)
      obtain ⟨v8, rfl, h⟩ := q9
      refine fw_ti ?_
      refine fw_iload_n dX5_mostAlike_40 rfl rfl ?_
      refine fw_icmp_ne (tgt := 48) dX5_mostAlike_41 (by decide) (fun c11 => ?_) (fun c11 => ?_)
      · have h := fw_if h c11
        refine fw_ls [0, 1, 2, 3, 5] rfl ?_
        exact w_X5_mostAlike_L48 hf hk4 hk15 h
      · have h := fw_it h c11
        refine fw_iconst (v := 1) dX5_mostAlike_44 (by decide) ?_
        refine fw_goto (tgt := 49) dX5_mostAlike_45 (by decide) ?_
        refine fw_iadd dX5_mostAlike_49 ?_
        refine fw_topi (fun i4_12 e13 => ?_)
        have h := h i4_12 e13
        refine fw_istoreN (Ls' := [(4, Value.int i4_12), (3, Value.int i3), (0, Value.int i0), (1, Value.int i1), (2, Value.int i2), (5, Value.int i5)]) [0, 1, 2, 5] dX5_mostAlike_50 (by decide) rfl rfl rfl rfl rfl ?_
        obtain ⟨i5_14, e15⟩ : ∃ y : Int32, y = i5 + (1 : Int32) := ⟨_, rfl⟩
        have h := h i5_14 e15
        refine fw_iincN (k := 5) (v := i5_14) (Ls' := [(5, Value.int i5_14), (4, Value.int i4_12), (3, Value.int i3), (0, Value.int i0), (1, Value.int i1), (2, Value.int i2)]) [1, 2, 3, 4] dX5_mostAlike_52 rfl (by rw [e15]; rfl) (by decide) rfl rfl rfl rfl rfl ?_
        refine fw_goto (tgt := 15) dX5_mostAlike_55 (by decide) ?_
        refine fw_ls [3, 4, 5, 2, 1, 0] rfl ?_
        exact hk15 h
theorem w_X5_mostAlike_L15 {g : fw_G} {f bc bs : Nat} {k4 : Int32 → Int32 → fw_M → Prop} {i0 : Int32} {i1 : Int32} {i2 : Int32} {i3 : Int32} {i4 : Int32} {i5 : Int32} {μ : fw_M} {Q : Int32 → fw_M → Prop} (hf : 2 ≤ f) (hk4 : ∀ {i2 : Int32} {i3 : Int32} {μ : fw_M}, k4 i2 i3 μ → fw_V g K_X5_mostAlike f bc bs 4 [(0, Value.int i0), (1, Value.int i1), (2, Value.int i2), (3, Value.int i3)] [] μ (fw_Qi Q) fw_nX) (h : p_X5_mostAlike_L15 k4 i0 i1 i2 i3 i4 i5 μ Q) : fw_V g K_X5_mostAlike f bc bs 15 [(0, Value.int i0), (1, Value.int i1), (2, Value.int i2), (3, Value.int i3), (4, Value.int i4), (5, Value.int i5)] [] μ (fw_Qi Q) fw_nX := by
  have key := fw_lp_out (R := fun (a : Int32 × Int32 × fw_M) => fw_V g K_X5_mostAlike f bc bs 15 [(0, Value.int i0), (1, Value.int i1), (2, Value.int i2), (3, Value.int i3), (4, Value.int a.1), (5, Value.int a.2.1)] [] a.2.2 (fw_Qi Q) fw_nX) (fun k hk9 a ha => w_X5_mostAlike_L15b hf hk4 (fun {i4 i5} {μ} h3 => hk9 (i4, i5, μ) h3) ha) h
  exact key
def p_X5_mostAlike_L4b (i0 : Int32) (i1 : Int32) (k4 : Int32 → Int32 → fw_M → Prop) (i2 : Int32) (i3 : Int32) (μ : fw_M) (Q : Int32 → fw_M → Prop) : Prop :=
  (if (2 : Int32) ≤ i3 then
  (Q i2 μ)
  else
  (p_X5_mostAlike_L15 k4 i0 i1 i2 i3 (0 : Int32) (0 : Int32) μ Q))
def p_X5_mostAlike_L4 (i0 : Int32) (i1 : Int32) (i2 : Int32) (i3 : Int32) (μ : fw_M) (Q : Int32 → fw_M → Prop) : Prop := fw_lp (fun (k : Int32 × Int32 × fw_M → Prop) (a : Int32 × Int32 × fw_M) => p_X5_mostAlike_L4b i0 i1 (fun i2 i3 μ => k (i2, i3, μ)) a.1 a.2.1 a.2.2 Q) (i2, i3, μ)
theorem r_X5_mostAlike_L4 {i0 : Int32} {i1 : Int32} {Q : Int32 → fw_M → Prop} (I : Int32 → Int32 → fw_M → Prop) (v : Int32 → Int32 → fw_M → Nat) (hs : ∀ (k : Int32 → Int32 → fw_M → Prop) (i2 : Int32) (i3 : Int32) (μ : fw_M), I i2 i3 μ → (∀ (i2' : Int32) (i3' : Int32) (ν : fw_M), I i2' i3' ν → v i2' i3' ν < v i2 i3 μ → k i2' i3' ν) → p_X5_mostAlike_L4b i0 i1 k i2 i3 μ Q) (i2 : Int32) (i3 : Int32) (μ : fw_M) (h : I i2 i3 μ) : p_X5_mostAlike_L4 i0 i1 i2 i3 μ Q :=
  fw_lp_in (A := Int32 × Int32 × fw_M) (fun a => I a.1 a.2.1 a.2.2) (fun a => v a.1 a.2.1 a.2.2) (fun k a ha hk => hs (fun i2 i3 μ => k (i2, i3, μ)) a.1 a.2.1 a.2.2 ha (fun i2' i3' ν hb hlt => hk (i2', i3', ν) hb hlt)) (i2, i3, μ) h
set_option maxHeartbeats 4000000 in
theorem w_X5_mostAlike_L4b {g : fw_G} {f bc bs : Nat} {i0 : Int32} {i1 : Int32} {k4 : Int32 → Int32 → fw_M → Prop} {i2 : Int32} {i3 : Int32} {μ : fw_M} {Q : Int32 → fw_M → Prop} (hf : 2 ≤ f) (hk4 : ∀ {i2 : Int32} {i3 : Int32} {μ : fw_M}, k4 i2 i3 μ → fw_V g K_X5_mostAlike f bc bs 4 [(0, Value.int i0), (1, Value.int i1), (2, Value.int i2), (3, Value.int i3)] [] μ (fw_Qi Q) fw_nX) (h : p_X5_mostAlike_L4b i0 i1 k4 i2 i3 μ Q) : fw_V g K_X5_mostAlike f bc bs 4 [(0, Value.int i0), (1, Value.int i1), (2, Value.int i2), (3, Value.int i3)] [] μ (fw_Qi Q) fw_nX := by
  unfold p_X5_mostAlike_L4b at h
  refine fw_iload_n dX5_mostAlike_4 rfl rfl ?_
  refine fw_iconst (v := 2) dX5_mostAlike_5 (by decide) ?_
  refine fw_icmp_ge (tgt := 77) dX5_mostAlike_6 (by decide) (fun c1 => ?_) (fun c1 => ?_)
  · have h := fw_it h c1
    refine fw_iload_n dX5_mostAlike_77 rfl rfl ?_
    exact fw_ireturn dX5_mostAlike_78 rfl rfl ⟨_, rfl, h⟩
  · have h := fw_if h c1
    refine fw_iconst (v := 0) dX5_mostAlike_9 (by decide) ?_
    refine fw_istoreN (Ls' := [(4, Value.int (0 : Int32)), (3, Value.int i3), (0, Value.int i0), (1, Value.int i1), (2, Value.int i2)]) [0, 1, 2] dX5_mostAlike_10 (by decide) rfl rfl rfl rfl rfl ?_
    refine fw_iconst (v := 0) dX5_mostAlike_12 (by decide) ?_
    refine fw_istoreN (Ls' := [(5, Value.int (0 : Int32)), (4, Value.int (0 : Int32)), (3, Value.int i3), (0, Value.int i0), (1, Value.int i1), (2, Value.int i2)]) [1, 2, 3, 4] dX5_mostAlike_13 (by decide) rfl rfl rfl rfl rfl ?_
    refine fw_ls [3, 4, 5, 2, 1, 0] rfl ?_
    exact w_X5_mostAlike_L15 hf hk4 h
theorem w_X5_mostAlike_L4 {g : fw_G} {f bc bs : Nat} {i0 : Int32} {i1 : Int32} {i2 : Int32} {i3 : Int32} {μ : fw_M} {Q : Int32 → fw_M → Prop} (hf : 2 ≤ f) (h : p_X5_mostAlike_L4 i0 i1 i2 i3 μ Q) : fw_V g K_X5_mostAlike f bc bs 4 [(0, Value.int i0), (1, Value.int i1), (2, Value.int i2), (3, Value.int i3)] [] μ (fw_Qi Q) fw_nX := by
  have key := fw_lp_out (R := fun (a : Int32 × Int32 × fw_M) => fw_V g K_X5_mostAlike f bc bs 4 [(0, Value.int i0), (1, Value.int i1), (2, Value.int a.1), (3, Value.int a.2.1)] [] a.2.2 (fw_Qi Q) fw_nX) (fun k hk9 a ha => w_X5_mostAlike_L4b hf (fun {i2 i3} {μ} h3 => hk9 (i2, i3, μ) h3) ha) h
  exact key
def p_X5_mostAlike (i0 : Int32) (i1 : Int32) (μ : fw_M) (Q : Int32 → fw_M → Prop) : Prop :=
  p_X5_mostAlike_L4 i0 i1 (0 : Int32) (-1 : Int32) μ Q
set_option maxHeartbeats 4000000 in
theorem w_X5_mostAlike {g : fw_G} {f bc bs : Nat} {i0 : Int32} {i1 : Int32} {μ : fw_M} {Q : Int32 → fw_M → Prop} (hf : 2 ≤ f) (h : p_X5_mostAlike i0 i1 μ Q) : fw_C g f bc bs yX5_mostAlike (ws_ yX5_mostAlike cX5_mostAlike 6 (some .int)) [Value.int i0, Value.int i1] μ (fw_Qi Q) fw_nX := by
  unfold p_X5_mostAlike at h
  refine fw_intro' (Ls := [(0, Value.int i0), (1, Value.int i1)]) (by decide +kernel) (by simp [lg_sl, fw_cat, fw_ci, fw_clo]) (by simp [lv_args, fw_cat, fw_ci, fw_clo]) ?_
  show fw_V g K_X5_mostAlike f bc bs 0 [(0, Value.int i0), (1, Value.int i1)] [] μ (fw_Qi Q) fw_nX
  refine fw_iconst (v := 0) dX5_mostAlike_0 (by decide) ?_
  refine fw_istore_nN (Ls' := [(2, Value.int (0 : Int32)), (1, Value.int i1), (0, Value.int i0)]) [0] dX5_mostAlike_1 rfl (by decide) rfl rfl rfl rfl rfl ?_
  refine fw_iconst (v := -1) dX5_mostAlike_2 (by decide) ?_
  refine fw_istore_nN (Ls' := [(3, Value.int (-1 : Int32)), (2, Value.int (0 : Int32)), (1, Value.int i1), (0, Value.int i0)]) [1, 2] dX5_mostAlike_3 rfl (by decide) rfl rfl rfl rfl rfl ?_
  refine fw_ls [3, 2, 1, 0] rfl ?_
  exact w_X5_mostAlike_L4 hf h
abbrev K_X5_next : fw_Kt := (RX5, "next", cX5_next, 6, some .int, [])
def p_X5_next_L15b (r0 : Nat) (i1 : Int32) (k15 : Int32 → Int32 → Int32 → fw_M → Prop) (i2 : Int32) (i3 : Int32) (i4 : Int32) (μ : fw_M) (Q : Int32 → fw_M → Prop) : Prop :=
  (if (21 : Int32) ≤ i4 then
  (Q i2 μ)
  else
  ((if i1 = 0 then
   (Q i2 μ)
   else
   ((p_X5_mostAlike i1 i4 μ (fun v3 μ4 =>
    (if i3 ≤ v3 then
    ((∀ i4_8 : Int32, i4_8 = i4 + (1 : Int32) →
     k15 i2 i3 i4_8 μ4))
    else
    ((∀ i4_10 : Int32, i4_10 = i4 + (1 : Int32) →
     k15 i4 v3 i4_10 μ4)))))))))
def p_X5_next_L15 (r0 : Nat) (i1 : Int32) (i2 : Int32) (i3 : Int32) (i4 : Int32) (μ : fw_M) (Q : Int32 → fw_M → Prop) : Prop := fw_lp (fun (k : Int32 × Int32 × Int32 × fw_M → Prop) (a : Int32 × Int32 × Int32 × fw_M) => p_X5_next_L15b r0 i1 (fun i2 i3 i4 μ => k (i2, i3, i4, μ)) a.1 a.2.1 a.2.2.1 a.2.2.2 Q) (i2, i3, i4, μ)
theorem r_X5_next_L15 {r0 : Nat} {i1 : Int32} {Q : Int32 → fw_M → Prop} (I : Int32 → Int32 → Int32 → fw_M → Prop) (v : Int32 → Int32 → Int32 → fw_M → Nat) (hs : ∀ (k : Int32 → Int32 → Int32 → fw_M → Prop) (i2 : Int32) (i3 : Int32) (i4 : Int32) (μ : fw_M), I i2 i3 i4 μ → (∀ (i2' : Int32) (i3' : Int32) (i4' : Int32) (ν : fw_M), I i2' i3' i4' ν → v i2' i3' i4' ν < v i2 i3 i4 μ → k i2' i3' i4' ν) → p_X5_next_L15b r0 i1 k i2 i3 i4 μ Q) (i2 : Int32) (i3 : Int32) (i4 : Int32) (μ : fw_M) (h : I i2 i3 i4 μ) : p_X5_next_L15 r0 i1 i2 i3 i4 μ Q :=
  fw_lp_in (A := Int32 × Int32 × Int32 × fw_M) (fun a => I a.1 a.2.1 a.2.2.1 a.2.2.2) (fun a => v a.1 a.2.1 a.2.2.1 a.2.2.2) (fun k a ha hk => hs (fun i2 i3 i4 μ => k (i2, i3, i4, μ)) a.1 a.2.1 a.2.2.1 a.2.2.2 ha (fun i2' i3' i4' ν hb hlt => hk (i2', i3', i4', ν) hb hlt)) (i2, i3, i4, μ) h
set_option maxHeartbeats 4000000 in
theorem w_X5_next_L15b {g : fw_G} {f bc bs : Nat} {r0 : Nat} {i1 : Int32} {k15 : Int32 → Int32 → Int32 → fw_M → Prop} {i2 : Int32} {i3 : Int32} {i4 : Int32} {μ : fw_M} {Q : Int32 → fw_M → Prop} (hf : 3 ≤ f) (hk15 : ∀ {i2 : Int32} {i3 : Int32} {i4 : Int32} {μ : fw_M}, m_K μ r0 = 6 → k15 i2 i3 i4 μ → fw_V g K_X5_next f bc bs 15 [(0, fw_rv g r0), (1, Value.int i1), (2, Value.int i2), (3, Value.int i3), (4, Value.int i4)] [] μ (fw_Qi Q) fw_nX) (hx : m_K μ r0 = 6) (h : p_X5_next_L15b r0 i1 k15 i2 i3 i4 μ Q) : fw_V g K_X5_next f bc bs 15 [(0, fw_rv g r0), (1, Value.int i1), (2, Value.int i2), (3, Value.int i3), (4, Value.int i4)] [] μ (fw_Qi Q) fw_nX := by
  unfold p_X5_next_L15b at h
  refine fw_iload dX5_next_15 rfl ?_
  refine fw_bipush (v := 21) dX5_next_17 (by decide) ?_
  refine fw_icmp_ge (tgt := 52) dX5_next_19 (by decide) (fun c1 => ?_) (fun c1 => ?_)
  · have h := fw_it h c1
    refine fw_iload_n dX5_next_52 rfl rfl ?_
    exact fw_ireturn dX5_next_53 rfl rfl ⟨_, rfl, h⟩
  · have h := fw_if h c1
    refine fw_iload_n dX5_next_22 rfl rfl ?_
    refine fw_if_eq (tgt := 52) dX5_next_23 (by decide) (fun c2 => ?_) (fun c2 => ?_)
    · have h := fw_it h c2
      refine fw_iload_n dX5_next_52 rfl rfl ?_
      exact fw_ireturn dX5_next_53 rfl rfl ⟨_, rfl, h⟩
    · have h := fw_if h c2
      refine fw_iload_n dX5_next_26 rfl rfl ?_
      refine fw_iload dX5_next_27 rfl ?_
      refine fw_callS2z (f1 := f - 1) cl_X5_394 (by decide) (by omega) (fw_s4 (Nat.le_of_ble_eq_true rfl)) dX5_next_29 (w_X5_mostAlike (f := f - 1) (by omega) h) (fun _ _ h9 _ _ => h9.elim) (fun v9 μ4 q9 hs5 => ?_)
      obtain ⟨v3, rfl, h⟩ := q9
      refine fw_ti ?_
      have hg6 := hs5.K hx (by decide)
      refine fw_istoreN (Ls' := [(5, Value.int v3), (4, Value.int i4), (0, fw_rv g r0), (1, Value.int i1), (2, Value.int i2), (3, Value.int i3)]) [0, 1, 2, 3] dX5_next_32 (by decide) rfl rfl rfl rfl rfl ?_
      refine fw_iload dX5_next_34 rfl ?_
      refine fw_iload_n dX5_next_36 rfl rfl ?_
      refine fw_icmp_ge (tgt := 46) dX5_next_37 (by decide) (fun c7 => ?_) (fun c7 => ?_)
      · have h := fw_it h c7
        obtain ⟨i4_8, e9⟩ : ∃ y : Int32, y = i4 + (1 : Int32) := ⟨_, rfl⟩
        have h := h i4_8 e9
        refine fw_iincN (k := 1) (v := i4_8) (Ls' := [(4, Value.int i4_8), (3, Value.int i3), (5, Value.int v3), (0, fw_rv g r0), (1, Value.int i1), (2, Value.int i2)]) [0, 2, 3, 4] dX5_next_46 rfl (by rw [e9]; rfl) (by decide) rfl rfl rfl rfl rfl ?_
        refine fw_goto (tgt := 15) dX5_next_49 (by decide) ?_
        refine fw_ls [3, 4, 5, 1, 0] rfl ?_
        exact hk15 hg6 h
      · have h := fw_if h c7
        refine fw_iload dX5_next_40 rfl ?_
        refine fw_istore_nN (Ls' := [(3, Value.int v3), (2, Value.int i2), (5, Value.int v3), (4, Value.int i4), (0, fw_rv g r0), (1, Value.int i1)]) [0, 1, 2, 3] dX5_next_42 rfl (by decide) rfl rfl rfl rfl rfl ?_
        refine fw_iload dX5_next_43 rfl ?_
        refine fw_istore_nN (Ls' := [(2, Value.int i4), (1, Value.int i1), (3, Value.int v3), (5, Value.int v3), (4, Value.int i4), (0, fw_rv g r0)]) [0, 2, 3, 4] dX5_next_45 rfl (by decide) rfl rfl rfl rfl rfl ?_
        obtain ⟨i4_10, e11⟩ : ∃ y : Int32, y = i4 + (1 : Int32) := ⟨_, rfl⟩
        have h := h i4_10 e11
        refine fw_iincN (k := 4) (v := i4_10) (Ls' := [(4, Value.int i4_10), (3, Value.int v3), (2, Value.int i4), (1, Value.int i1), (5, Value.int v3), (0, fw_rv g r0)]) [0, 1, 3, 5] dX5_next_46 rfl (by rw [e11]; rfl) (by decide) rfl rfl rfl rfl rfl ?_
        refine fw_goto (tgt := 15) dX5_next_49 (by decide) ?_
        refine fw_ls [5, 3, 2, 1, 0] rfl ?_
        exact hk15 hg6 h
theorem w_X5_next_L15 {g : fw_G} {f bc bs : Nat} {r0 : Nat} {i1 : Int32} {i2 : Int32} {i3 : Int32} {i4 : Int32} {μ : fw_M} {Q : Int32 → fw_M → Prop} (hf : 3 ≤ f) (hx : m_K μ r0 = 6) (h : p_X5_next_L15 r0 i1 i2 i3 i4 μ Q) : fw_V g K_X5_next f bc bs 15 [(0, fw_rv g r0), (1, Value.int i1), (2, Value.int i2), (3, Value.int i3), (4, Value.int i4)] [] μ (fw_Qi Q) fw_nX := by
  have key := fw_lp_out (R := fun (a : Int32 × Int32 × Int32 × fw_M) => m_K a.2.2.2 r0 = 6 → fw_V g K_X5_next f bc bs 15 [(0, fw_rv g r0), (1, Value.int i1), (2, Value.int a.1), (3, Value.int a.2.1), (4, Value.int a.2.2.1)] [] a.2.2.2 (fw_Qi Q) fw_nX) (fun k hk9 a ha hx2 => w_X5_next_L15b hf (fun {i2 i3 i4} {μ} hx3 h3 => hk9 (i2, i3, i4, μ) h3 hx3) hx2 ha) h
  exact key hx
def p_X5_next (r0 : Nat) (μ : fw_M) (Q : Int32 → fw_M → Prop) : Prop :=
  (p_X5_fits r0 μ (fun v1 μ2 =>
  p_X5_next_L15 r0 v1 (-99 : Int32) (11 : Int32) (-20 : Int32) μ2 Q))
set_option maxHeartbeats 4000000 in
theorem w_X5_next {g : fw_G} {f bc bs : Nat} {r0 : Nat} {μ : fw_M} {Q : Int32 → fw_M → Prop} (hf : 3 ≤ f) (hx : m_K μ r0 = 6) (h : p_X5_next r0 μ Q) : fw_C g f bc bs yX5_next (ws_ yX5_next cX5_next 6 (some .int)) [fw_rv g r0] μ (fw_Qi Q) fw_nX := by
  unfold p_X5_next at h
  refine fw_intro' (Ls := [(0, fw_rv g r0)]) (by decide +kernel) (by simp [lg_sl, fw_cat, fw_ci, fw_clo]) (by simp [lv_args, fw_cat, fw_ci, fw_clo]) ?_
  show fw_V g K_X5_next f bc bs 0 [(0, fw_rv g r0)] [] μ (fw_Qi Q) fw_nX
  refine fw_aload_n dX5_next_0 rfl rfl ?_
  refine fw_callV0z (f1 := f - 1) cl_X5_391 rfl hx (by decide) (by omega) (fw_s4 (Nat.le_of_ble_eq_true rfl)) dX5_next_1 (w_X5_fits (f := f - 1) (by omega) hx h) (fun _ _ h9 _ _ => h9.elim) (fun v9 μ2 q9 hs3 => ?_)
  obtain ⟨v1, rfl, h⟩ := q9
  refine fw_ti ?_
  have hg4 := hs3.K hx (by decide)
  refine fw_istore_nN (Ls' := [(1, Value.int v1), (0, fw_rv g r0)]) [] dX5_next_4 rfl (by decide) rfl rfl rfl (fw_cat _) rfl ?_
  refine fw_bipush (v := -99) dX5_next_5 (by decide) ?_
  refine fw_istore_nN (Ls' := [(2, Value.int (-99 : Int32)), (1, Value.int v1), (0, fw_rv g r0)]) [1] dX5_next_7 rfl (by decide) rfl rfl rfl rfl rfl ?_
  refine fw_bipush (v := 11) dX5_next_8 (by decide) ?_
  refine fw_istore_nN (Ls' := [(3, Value.int (11 : Int32)), (2, Value.int (-99 : Int32)), (1, Value.int v1), (0, fw_rv g r0)]) [1, 2] dX5_next_10 rfl (by decide) rfl rfl rfl rfl rfl ?_
  refine fw_bipush (v := -20) dX5_next_11 (by decide) ?_
  refine fw_istoreN (Ls' := [(4, Value.int (-20 : Int32)), (3, Value.int (11 : Int32)), (2, Value.int (-99 : Int32)), (1, Value.int v1), (0, fw_rv g r0)]) [1, 2, 3] dX5_next_13 (by decide) rfl rfl rfl rfl rfl ?_
  refine fw_ls [4, 3, 2, 1, 0] rfl ?_
  exact w_X5_next_L15 hf hg4 h
abbrev K_X5_hired : fw_Kt := (RX5, "hired", cX5_hired, 10, some .int, [])
def p_X5_hired_L143 (k27 : Int32 → Int32 → Int32 → Int32 → fw_M → Prop) (r0 : Nat) (i1 : Int32) (i5 : Int32) (i7 : Int32) (i8 : Int32) (μ : fw_M) (Q : Int32 → fw_M → Prop) : Prop :=
  (∀ i5_1 : Int32, i5_1 = i5 + (1 : Int32) →
  k27 i5 i7 i8 i5_1 μ)
set_option maxHeartbeats 4000000 in
theorem w_X5_hired_L143 {g : fw_G} {f bc bs : Nat} {k27 : Int32 → Int32 → Int32 → Int32 → fw_M → Prop} {r0 : Nat} {i1 : Int32} {i5 : Int32} {i7 : Int32} {i8 : Int32} {μ : fw_M} {Q : Int32 → fw_M → Prop} (hf : 5 ≤ f) (hk27 : ∀ {i2 : Int32} {i3 : Int32} {i4 : Int32} {i5 : Int32} {μ : fw_M}, m_K μ r0 = 6 → k27 i2 i3 i4 i5 μ → fw_V g K_X5_hired f bc bs 27 [(0, fw_rv g r0), (1, Value.int i1), (2, Value.int i2), (3, Value.int i3), (4, Value.int i4), (5, Value.int i5)] [] μ (fw_Qi Q) fw_nX) (hx : m_K μ r0 = 6) (h : p_X5_hired_L143 k27 r0 i1 i5 i7 i8 μ Q) : fw_V g K_X5_hired f bc bs 143 [(0, fw_rv g r0), (1, Value.int i1), (5, Value.int i5), (7, Value.int i7), (8, Value.int i8)] [] μ (fw_Qi Q) fw_nX := by
  unfold p_X5_hired_L143 at h
  refine fw_iload dX5_hired_143 rfl ?_
  refine fw_istore_nN (Ls' := [(2, Value.int i5), (1, Value.int i1), (0, fw_rv g r0), (5, Value.int i5), (7, Value.int i7), (8, Value.int i8)]) [0, 2, 3, 4] dX5_hired_145 rfl (by decide) rfl rfl rfl rfl rfl ?_
  refine fw_iload dX5_hired_146 rfl ?_
  refine fw_istore_nN (Ls' := [(3, Value.int i7), (2, Value.int i5), (1, Value.int i1), (0, fw_rv g r0), (5, Value.int i5), (7, Value.int i7), (8, Value.int i8)]) [1, 2, 3, 4, 5] dX5_hired_148 rfl (by decide) rfl rfl rfl rfl rfl ?_
  refine fw_iload dX5_hired_149 rfl ?_
  refine fw_istoreN (Ls' := [(4, Value.int i8), (3, Value.int i7), (2, Value.int i5), (1, Value.int i1), (0, fw_rv g r0), (5, Value.int i5), (7, Value.int i7), (8, Value.int i8)]) [1, 2, 3, 4, 5, 6] dX5_hired_151 (by decide) rfl rfl rfl rfl rfl ?_
  obtain ⟨i5_1, e2⟩ : ∃ y : Int32, y = i5 + (1 : Int32) := ⟨_, rfl⟩
  have h := h i5_1 e2
  refine fw_iincN (k := 5) (v := i5_1) (Ls' := [(5, Value.int i5_1), (4, Value.int i8), (3, Value.int i7), (2, Value.int i5), (1, Value.int i1), (0, fw_rv g r0), (7, Value.int i7), (8, Value.int i8)]) [1, 2, 3, 4, 6, 7] dX5_hired_153 rfl (by rw [e2]; rfl) (by decide) rfl rfl rfl rfl rfl ?_
  refine fw_goto (tgt := 27) dX5_hired_156 (by decide) ?_
  refine fw_ls [5, 4, 3, 2, 1, 0] rfl ?_
  exact hk27 hx h
def p_X5_hired_L52b (k27 : Int32 → Int32 → Int32 → Int32 → fw_M → Prop) (r0 : Nat) (i1 : Int32) (i2 : Int32) (i3 : Int32) (i4 : Int32) (i5 : Int32) (k52 : Int32 → Int32 → Int32 → Int32 → fw_M → Prop) (i6 : Int32) (i7 : Int32) (i8 : Int32) (i9 : Int32) (μ : fw_M) (Q : Int32 → fw_M → Prop) : Prop :=
  (m_K μ (m_P μ r0 0) = 100 ∧ (vp_in (0 : Int32) (m_N μ (m_P μ r0 0)) ∧ (if (m_I μ (m_P μ r0 0) (0 : Int32).toNatClampNeg) ≤ i9 then
  ((if i6 < i1 then
   ((∀ i5_5 : Int32, i5_5 = i5 + (1 : Int32) →
    k27 i2 i3 i4 i5_5 μ))
   else
   ((if i2 = (-1 : Int32) then
    (p_X5_hired_L143 k27 r0 i1 i5 i7 i8 μ Q)
    else
    ((if i7 < i3 then
     (p_X5_hired_L143 k27 r0 i1 i5 i7 i8 μ Q)
     else
     ((if i7 = i3 then
      ((if i4 ≤ i8 then
       ((∀ i5_13 : Int32, i5_13 = i5 + (1 : Int32) →
        k27 i2 i3 i4 i5_13 μ))
       else
       (p_X5_hired_L143 k27 r0 i1 i5 i7 i8 μ Q)))
      else
      ((∀ i5_10 : Int32, i5_10 = i5 + (1 : Int32) →
       k27 i2 i3 i4 i5_10 μ))))))))))
  else
  ((if ((i5 >>> (i9 &&& 31)) &&& (1 : Int32)) = (1 : Int32) then
   ((p_X5_stillHolds r0 i9 μ (fun v18 μ19 =>
    (∀ i6_22 : Int32, i6_22 = (i6 + v18) →
    (m_K μ19 (m_P μ19 r0 0) = 100 ∧ (vp_in (((10 : Int32) + ((3 : Int32) * i9)) + (2 : Int32)) (m_N μ19 (m_P μ19 r0 0)) ∧ (∀ i7_26 : Int32, i7_26 = (i7 + (m_I μ19 (m_P μ19 r0 0) (((10 : Int32) + ((3 : Int32) * i9)) + (2 : Int32)).toNatClampNeg)) →
    (∀ i8_28 : Int32, i8_28 = i8 + (1 : Int32) →
    (∀ i9_30 : Int32, i9_30 = i9 + (1 : Int32) →
    k52 i6_22 i7_26 i8_28 i9_30 μ19)))))))))
   else
   ((∀ i9_16 : Int32, i9_16 = i9 + (1 : Int32) →
    k52 i6 i7 i8 i9_16 μ)))))))
def p_X5_hired_L52 (k27 : Int32 → Int32 → Int32 → Int32 → fw_M → Prop) (r0 : Nat) (i1 : Int32) (i2 : Int32) (i3 : Int32) (i4 : Int32) (i5 : Int32) (i6 : Int32) (i7 : Int32) (i8 : Int32) (i9 : Int32) (μ : fw_M) (Q : Int32 → fw_M → Prop) : Prop := fw_lp (fun (k : Int32 × Int32 × Int32 × Int32 × fw_M → Prop) (a : Int32 × Int32 × Int32 × Int32 × fw_M) => p_X5_hired_L52b k27 r0 i1 i2 i3 i4 i5 (fun i6 i7 i8 i9 μ => k (i6, i7, i8, i9, μ)) a.1 a.2.1 a.2.2.1 a.2.2.2.1 a.2.2.2.2 Q) (i6, i7, i8, i9, μ)
theorem r_X5_hired_L52 {k27 : Int32 → Int32 → Int32 → Int32 → fw_M → Prop} {r0 : Nat} {i1 : Int32} {i2 : Int32} {i3 : Int32} {i4 : Int32} {i5 : Int32} {Q : Int32 → fw_M → Prop} (I : Int32 → Int32 → Int32 → Int32 → fw_M → Prop) (v : Int32 → Int32 → Int32 → Int32 → fw_M → Nat) (hs : ∀ (k : Int32 → Int32 → Int32 → Int32 → fw_M → Prop) (i6 : Int32) (i7 : Int32) (i8 : Int32) (i9 : Int32) (μ : fw_M), I i6 i7 i8 i9 μ → (∀ (i6' : Int32) (i7' : Int32) (i8' : Int32) (i9' : Int32) (ν : fw_M), I i6' i7' i8' i9' ν → v i6' i7' i8' i9' ν < v i6 i7 i8 i9 μ → k i6' i7' i8' i9' ν) → p_X5_hired_L52b k27 r0 i1 i2 i3 i4 i5 k i6 i7 i8 i9 μ Q) (i6 : Int32) (i7 : Int32) (i8 : Int32) (i9 : Int32) (μ : fw_M) (h : I i6 i7 i8 i9 μ) : p_X5_hired_L52 k27 r0 i1 i2 i3 i4 i5 i6 i7 i8 i9 μ Q :=
  fw_lp_in (A := Int32 × Int32 × Int32 × Int32 × fw_M) (fun a => I a.1 a.2.1 a.2.2.1 a.2.2.2.1 a.2.2.2.2) (fun a => v a.1 a.2.1 a.2.2.1 a.2.2.2.1 a.2.2.2.2) (fun k a ha hk => hs (fun i6 i7 i8 i9 μ => k (i6, i7, i8, i9, μ)) a.1 a.2.1 a.2.2.1 a.2.2.2.1 a.2.2.2.2 ha (fun i6' i7' i8' i9' ν hb hlt => hk (i6', i7', i8', i9', ν) hb hlt)) (i6, i7, i8, i9, μ) h
set_option maxHeartbeats 4000000 in
theorem w_X5_hired_L52b {g : fw_G} {f bc bs : Nat} {k27 : Int32 → Int32 → Int32 → Int32 → fw_M → Prop} {r0 : Nat} {i1 : Int32} {i2 : Int32} {i3 : Int32} {i4 : Int32} {i5 : Int32} {k52 : Int32 → Int32 → Int32 → Int32 → fw_M → Prop} {i6 : Int32} {i7 : Int32} {i8 : Int32} {i9 : Int32} {μ : fw_M} {Q : Int32 → fw_M → Prop} (hf : 5 ≤ f) (hk27 : ∀ {i2 : Int32} {i3 : Int32} {i4 : Int32} {i5 : Int32} {μ : fw_M}, m_K μ r0 = 6 → k27 i2 i3 i4 i5 μ → fw_V g K_X5_hired f bc bs 27 [(0, fw_rv g r0), (1, Value.int i1), (2, Value.int i2), (3, Value.int i3), (4, Value.int i4), (5, Value.int i5)] [] μ (fw_Qi Q) fw_nX) (hk52 : ∀ {i6 : Int32} {i7 : Int32} {i8 : Int32} {i9 : Int32} {μ : fw_M}, m_K μ r0 = 6 → k52 i6 i7 i8 i9 μ → fw_V g K_X5_hired f bc bs 52 [(0, fw_rv g r0), (1, Value.int i1), (2, Value.int i2), (3, Value.int i3), (4, Value.int i4), (5, Value.int i5), (6, Value.int i6), (7, Value.int i7), (8, Value.int i8), (9, Value.int i9)] [] μ (fw_Qi Q) fw_nX) (hx : m_K μ r0 = 6) (h : p_X5_hired_L52b k27 r0 i1 i2 i3 i4 i5 k52 i6 i7 i8 i9 μ Q) : fw_V g K_X5_hired f bc bs 52 [(0, fw_rv g r0), (1, Value.int i1), (2, Value.int i2), (3, Value.int i3), (4, Value.int i4), (5, Value.int i5), (6, Value.int i6), (7, Value.int i7), (8, Value.int i8), (9, Value.int i9)] [] μ (fw_Qi Q) fw_nX := by
  unfold p_X5_hired_L52b at h
  refine fw_iload dX5_hired_52 rfl ?_
  refine fw_aload_n dX5_hired_54 rfl rfl ?_
  refine fw_getfP fl_X5_7 rfl hx dX5_hired_55 ?_
  refine fw_iconst (v := 0) dX5_hired_58 (by decide) ?_
  obtain ⟨hg1, h⟩ := h
  obtain ⟨hc2, h⟩ := h
  refine fw_iald hg1 hc2 dX5_hired_59 ?_
  refine fw_icmp_ge (tgt := 113) dX5_hired_60 (by decide) (fun c3 => ?_) (fun c3 => ?_)
  · have h := fw_it h c3
    refine fw_iload dX5_hired_113 rfl ?_
    refine fw_iload_n dX5_hired_115 rfl rfl ?_
    refine fw_icmp_lt (tgt := 153) dX5_hired_116 (by decide) (fun c4 => ?_) (fun c4 => ?_)
    · have h := fw_it h c4
      obtain ⟨i5_5, e6⟩ : ∃ y : Int32, y = i5 + (1 : Int32) := ⟨_, rfl⟩
      have h := h i5_5 e6
      refine fw_iincN (k := 5) (v := i5_5) (Ls' := [(5, Value.int i5_5), (4, Value.int i4), (0, fw_rv g r0), (1, Value.int i1), (2, Value.int i2), (3, Value.int i3), (6, Value.int i6), (7, Value.int i7), (8, Value.int i8), (9, Value.int i9)]) [0, 1, 2, 3, 6, 7, 8, 9] dX5_hired_153 rfl (by rw [e6]; rfl) (by decide) rfl rfl rfl rfl rfl ?_
      refine fw_goto (tgt := 27) dX5_hired_156 (by decide) ?_
      refine fw_ls [2, 3, 4, 5, 1, 0] rfl ?_
      exact hk27 hx h
    · have h := fw_if h c4
      refine fw_iload_n dX5_hired_119 rfl rfl ?_
      refine fw_iconst (v := -1) dX5_hired_120 (by decide) ?_
      refine fw_icmp_eq (tgt := 143) dX5_hired_121 (by decide) (fun c7 => ?_) (fun c7 => ?_)
      · have h := fw_it h c7
        refine fw_ls [0, 1, 5, 7, 8] rfl ?_
        exact w_X5_hired_L143 hf hk27 hx h
      · have h := fw_if h c7
        refine fw_iload dX5_hired_124 rfl ?_
        refine fw_iload_n dX5_hired_126 rfl rfl ?_
        refine fw_icmp_lt (tgt := 143) dX5_hired_127 (by decide) (fun c8 => ?_) (fun c8 => ?_)
        · have h := fw_it h c8
          refine fw_ls [0, 1, 5, 7, 8] rfl ?_
          exact w_X5_hired_L143 hf hk27 hx h
        · have h := fw_if h c8
          refine fw_iload dX5_hired_130 rfl ?_
          refine fw_iload_n dX5_hired_132 rfl rfl ?_
          refine fw_icmp_ne (tgt := 153) dX5_hired_133 (by decide) (fun c9 => ?_) (fun c9 => ?_)
          · have h := fw_if h c9
            obtain ⟨i5_10, e11⟩ : ∃ y : Int32, y = i5 + (1 : Int32) := ⟨_, rfl⟩
            have h := h i5_10 e11
            refine fw_iincN (k := 5) (v := i5_10) (Ls' := [(5, Value.int i5_10), (4, Value.int i4), (0, fw_rv g r0), (1, Value.int i1), (2, Value.int i2), (3, Value.int i3), (6, Value.int i6), (7, Value.int i7), (8, Value.int i8), (9, Value.int i9)]) [0, 1, 2, 3, 6, 7, 8, 9] dX5_hired_153 rfl (by rw [e11]; rfl) (by decide) rfl rfl rfl rfl rfl ?_
            refine fw_goto (tgt := 27) dX5_hired_156 (by decide) ?_
            refine fw_ls [2, 3, 4, 5, 1, 0] rfl ?_
            exact hk27 hx h
          · have h := fw_it h c9
            refine fw_iload dX5_hired_136 rfl ?_
            refine fw_iload dX5_hired_138 rfl ?_
            refine fw_icmp_ge (tgt := 153) dX5_hired_140 (by decide) (fun c12 => ?_) (fun c12 => ?_)
            · have h := fw_it h c12
              obtain ⟨i5_13, e14⟩ : ∃ y : Int32, y = i5 + (1 : Int32) := ⟨_, rfl⟩
              have h := h i5_13 e14
              refine fw_iincN (k := 5) (v := i5_13) (Ls' := [(5, Value.int i5_13), (4, Value.int i4), (0, fw_rv g r0), (1, Value.int i1), (2, Value.int i2), (3, Value.int i3), (6, Value.int i6), (7, Value.int i7), (8, Value.int i8), (9, Value.int i9)]) [0, 1, 2, 3, 6, 7, 8, 9] dX5_hired_153 rfl (by rw [e14]; rfl) (by decide) rfl rfl rfl rfl rfl ?_
              refine fw_goto (tgt := 27) dX5_hired_156 (by decide) ?_
              refine fw_ls [2, 3, 4, 5, 1, 0] rfl ?_
              exact hk27 hx h
            · have h := fw_if h c12
              refine fw_ls [0, 1, 5, 7, 8] rfl ?_
              exact w_X5_hired_L143 hf hk27 hx h
  · have h := fw_if h c3
    refine fw_iload dX5_hired_63 rfl ?_
    refine fw_iload dX5_hired_65 rfl ?_
    refine fw_ishr dX5_hired_67 ?_
    refine fw_iconst (v := 1) dX5_hired_68 (by decide) ?_
    refine fw_iand dX5_hired_69 ?_
    refine fw_iconst (v := 1) dX5_hired_70 (by decide) ?_
    refine fw_icmp_ne (tgt := 107) dX5_hired_71 (by decide) (fun c15 => ?_) (fun c15 => ?_)
    · have h := fw_if h c15
      obtain ⟨i9_16, e17⟩ : ∃ y : Int32, y = i9 + (1 : Int32) := ⟨_, rfl⟩
      have h := h i9_16 e17
      refine fw_iincN (k := 9) (v := i9_16) (Ls' := [(9, Value.int i9_16), (8, Value.int i8), (0, fw_rv g r0), (1, Value.int i1), (2, Value.int i2), (3, Value.int i3), (4, Value.int i4), (5, Value.int i5), (6, Value.int i6), (7, Value.int i7)]) [0, 1, 2, 3, 4, 5, 6, 7] dX5_hired_107 rfl (by rw [e17]; rfl) (by decide) rfl rfl rfl rfl rfl ?_
      refine fw_goto (tgt := 52) dX5_hired_110 (by decide) ?_
      refine fw_ls [2, 3, 4, 5, 6, 7, 8, 9, 1, 0] rfl ?_
      exact hk52 hx h
    · have h := fw_it h c15
      refine fw_iload dX5_hired_74 rfl ?_
      refine fw_aload_n dX5_hired_76 rfl rfl ?_
      refine fw_iload dX5_hired_77 rfl ?_
      refine fw_callV1z (f1 := f - 1) cl_X5_331 rfl hx (by decide) (by omega) (fw_s4 (Nat.le_of_ble_eq_true rfl)) dX5_hired_79 (w_X5_stillHolds (f := f - 1) (by omega) hx h) (fun _ _ h9 _ _ => h9.elim) (fun v9 μ19 q9 hs20 => ?_)
      obtain ⟨v18, rfl, h⟩ := q9
      refine fw_ti ?_
      have hg21 := hs20.K hx (by decide)
      refine fw_iadd dX5_hired_82 ?_
      refine fw_topi (fun i6_22 e23 => ?_)
      have h := h i6_22 e23
      refine fw_istoreN (Ls' := [(6, Value.int i6_22), (5, Value.int i5), (0, fw_rv g r0), (1, Value.int i1), (2, Value.int i2), (3, Value.int i3), (4, Value.int i4), (7, Value.int i7), (8, Value.int i8), (9, Value.int i9)]) [0, 1, 2, 3, 4, 7, 8, 9] dX5_hired_83 (by decide) rfl rfl rfl rfl rfl ?_
      refine fw_iload dX5_hired_85 rfl ?_
      refine fw_aload_n dX5_hired_87 rfl rfl ?_
      refine fw_getfP fl_X5_7 rfl hg21 dX5_hired_88 ?_
      refine fw_bipush (v := 10) dX5_hired_91 (by decide) ?_
      refine fw_iconst (v := 3) dX5_hired_93 (by decide) ?_
      refine fw_iload dX5_hired_94 rfl ?_
      refine fw_imul dX5_hired_96 ?_
      refine fw_iadd dX5_hired_97 ?_
      refine fw_iconst (v := 2) dX5_hired_98 (by decide) ?_
      refine fw_iadd dX5_hired_99 ?_
      obtain ⟨hg24, h⟩ := h
      obtain ⟨hc25, h⟩ := h
      refine fw_iald hg24 hc25 dX5_hired_100 ?_
      refine fw_iadd dX5_hired_101 ?_
      refine fw_topi (fun i7_26 e27 => ?_)
      have h := h i7_26 e27
      refine fw_istoreN (Ls' := [(7, Value.int i7_26), (6, Value.int i6_22), (5, Value.int i5), (0, fw_rv g r0), (1, Value.int i1), (2, Value.int i2), (3, Value.int i3), (4, Value.int i4), (8, Value.int i8), (9, Value.int i9)]) [1, 2, 3, 4, 5, 6, 8, 9] dX5_hired_102 (by decide) rfl rfl rfl rfl rfl ?_
      obtain ⟨i8_28, e29⟩ : ∃ y : Int32, y = i8 + (1 : Int32) := ⟨_, rfl⟩
      have h := h i8_28 e29
      refine fw_iincN (k := 8) (v := i8_28) (Ls' := [(8, Value.int i8_28), (7, Value.int i7_26), (6, Value.int i6_22), (5, Value.int i5), (0, fw_rv g r0), (1, Value.int i1), (2, Value.int i2), (3, Value.int i3), (4, Value.int i4), (9, Value.int i9)]) [1, 2, 3, 4, 5, 6, 7, 9] dX5_hired_104 rfl (by rw [e29]; rfl) (by decide) rfl rfl rfl rfl rfl ?_
      obtain ⟨i9_30, e31⟩ : ∃ y : Int32, y = i9 + (1 : Int32) := ⟨_, rfl⟩
      have h := h i9_30 e31
      refine fw_iincN (k := 9) (v := i9_30) (Ls' := [(9, Value.int i9_30), (8, Value.int i8_28), (7, Value.int i7_26), (6, Value.int i6_22), (5, Value.int i5), (0, fw_rv g r0), (1, Value.int i1), (2, Value.int i2), (3, Value.int i3), (4, Value.int i4)]) [1, 2, 3, 4, 5, 6, 7, 8] dX5_hired_107 rfl (by rw [e31]; rfl) (by decide) rfl rfl rfl rfl rfl ?_
      refine fw_goto (tgt := 52) dX5_hired_110 (by decide) ?_
      refine fw_ls [5, 6, 7, 8, 9, 4, 3, 2, 1, 0] rfl ?_
      exact hk52 hg21 h
theorem w_X5_hired_L52 {g : fw_G} {f bc bs : Nat} {k27 : Int32 → Int32 → Int32 → Int32 → fw_M → Prop} {r0 : Nat} {i1 : Int32} {i2 : Int32} {i3 : Int32} {i4 : Int32} {i5 : Int32} {i6 : Int32} {i7 : Int32} {i8 : Int32} {i9 : Int32} {μ : fw_M} {Q : Int32 → fw_M → Prop} (hf : 5 ≤ f) (hk27 : ∀ {i2 : Int32} {i3 : Int32} {i4 : Int32} {i5 : Int32} {μ : fw_M}, m_K μ r0 = 6 → k27 i2 i3 i4 i5 μ → fw_V g K_X5_hired f bc bs 27 [(0, fw_rv g r0), (1, Value.int i1), (2, Value.int i2), (3, Value.int i3), (4, Value.int i4), (5, Value.int i5)] [] μ (fw_Qi Q) fw_nX) (hx : m_K μ r0 = 6) (h : p_X5_hired_L52 k27 r0 i1 i2 i3 i4 i5 i6 i7 i8 i9 μ Q) : fw_V g K_X5_hired f bc bs 52 [(0, fw_rv g r0), (1, Value.int i1), (2, Value.int i2), (3, Value.int i3), (4, Value.int i4), (5, Value.int i5), (6, Value.int i6), (7, Value.int i7), (8, Value.int i8), (9, Value.int i9)] [] μ (fw_Qi Q) fw_nX := by
  have key := fw_lp_out (R := fun (a : Int32 × Int32 × Int32 × Int32 × fw_M) => m_K a.2.2.2.2 r0 = 6 → fw_V g K_X5_hired f bc bs 52 [(0, fw_rv g r0), (1, Value.int i1), (2, Value.int i2), (3, Value.int i3), (4, Value.int i4), (5, Value.int i5), (6, Value.int a.1), (7, Value.int a.2.1), (8, Value.int a.2.2.1), (9, Value.int a.2.2.2.1)] [] a.2.2.2.2 (fw_Qi Q) fw_nX) (fun k hk9 a ha hx2 => w_X5_hired_L52b hf hk27 (fun {i6 i7 i8 i9} {μ} hx3 h3 => hk9 (i6, i7, i8, i9, μ) h3 hx3) hx2 ha) h
  exact key hx
def p_X5_hired_L27b (r0 : Nat) (i1 : Int32) (k27 : Int32 → Int32 → Int32 → Int32 → fw_M → Prop) (i2 : Int32) (i3 : Int32) (i4 : Int32) (i5 : Int32) (μ : fw_M) (Q : Int32 → fw_M → Prop) : Prop :=
  (m_K μ (m_P μ r0 0) = 100 ∧ (vp_in (0 : Int32) (m_N μ (m_P μ r0 0)) ∧ (if ((1 : Int32) <<< ((m_I μ (m_P μ r0 0) (0 : Int32).toNatClampNeg) &&& 31)) ≤ i5 then
  (Q i2 μ)
  else
  (p_X5_hired_L52 k27 r0 i1 i2 i3 i4 i5 (0 : Int32) (0 : Int32) (0 : Int32) (0 : Int32) μ Q))))
def p_X5_hired_L27 (r0 : Nat) (i1 : Int32) (i2 : Int32) (i3 : Int32) (i4 : Int32) (i5 : Int32) (μ : fw_M) (Q : Int32 → fw_M → Prop) : Prop := fw_lp (fun (k : Int32 × Int32 × Int32 × Int32 × fw_M → Prop) (a : Int32 × Int32 × Int32 × Int32 × fw_M) => p_X5_hired_L27b r0 i1 (fun i2 i3 i4 i5 μ => k (i2, i3, i4, i5, μ)) a.1 a.2.1 a.2.2.1 a.2.2.2.1 a.2.2.2.2 Q) (i2, i3, i4, i5, μ)
theorem r_X5_hired_L27 {r0 : Nat} {i1 : Int32} {Q : Int32 → fw_M → Prop} (I : Int32 → Int32 → Int32 → Int32 → fw_M → Prop) (v : Int32 → Int32 → Int32 → Int32 → fw_M → Nat) (hs : ∀ (k : Int32 → Int32 → Int32 → Int32 → fw_M → Prop) (i2 : Int32) (i3 : Int32) (i4 : Int32) (i5 : Int32) (μ : fw_M), I i2 i3 i4 i5 μ → (∀ (i2' : Int32) (i3' : Int32) (i4' : Int32) (i5' : Int32) (ν : fw_M), I i2' i3' i4' i5' ν → v i2' i3' i4' i5' ν < v i2 i3 i4 i5 μ → k i2' i3' i4' i5' ν) → p_X5_hired_L27b r0 i1 k i2 i3 i4 i5 μ Q) (i2 : Int32) (i3 : Int32) (i4 : Int32) (i5 : Int32) (μ : fw_M) (h : I i2 i3 i4 i5 μ) : p_X5_hired_L27 r0 i1 i2 i3 i4 i5 μ Q :=
  fw_lp_in (A := Int32 × Int32 × Int32 × Int32 × fw_M) (fun a => I a.1 a.2.1 a.2.2.1 a.2.2.2.1 a.2.2.2.2) (fun a => v a.1 a.2.1 a.2.2.1 a.2.2.2.1 a.2.2.2.2) (fun k a ha hk => hs (fun i2 i3 i4 i5 μ => k (i2, i3, i4, i5, μ)) a.1 a.2.1 a.2.2.1 a.2.2.2.1 a.2.2.2.2 ha (fun i2' i3' i4' i5' ν hb hlt => hk (i2', i3', i4', i5', ν) hb hlt)) (i2, i3, i4, i5, μ) h
set_option maxHeartbeats 4000000 in
theorem w_X5_hired_L27b {g : fw_G} {f bc bs : Nat} {r0 : Nat} {i1 : Int32} {k27 : Int32 → Int32 → Int32 → Int32 → fw_M → Prop} {i2 : Int32} {i3 : Int32} {i4 : Int32} {i5 : Int32} {μ : fw_M} {Q : Int32 → fw_M → Prop} (hf : 5 ≤ f) (hk27 : ∀ {i2 : Int32} {i3 : Int32} {i4 : Int32} {i5 : Int32} {μ : fw_M}, m_K μ r0 = 6 → k27 i2 i3 i4 i5 μ → fw_V g K_X5_hired f bc bs 27 [(0, fw_rv g r0), (1, Value.int i1), (2, Value.int i2), (3, Value.int i3), (4, Value.int i4), (5, Value.int i5)] [] μ (fw_Qi Q) fw_nX) (hx : m_K μ r0 = 6) (h : p_X5_hired_L27b r0 i1 k27 i2 i3 i4 i5 μ Q) : fw_V g K_X5_hired f bc bs 27 [(0, fw_rv g r0), (1, Value.int i1), (2, Value.int i2), (3, Value.int i3), (4, Value.int i4), (5, Value.int i5)] [] μ (fw_Qi Q) fw_nX := by
  unfold p_X5_hired_L27b at h
  refine fw_iload dX5_hired_27 rfl ?_
  refine fw_iconst (v := 1) dX5_hired_29 (by decide) ?_
  refine fw_aload_n dX5_hired_30 rfl rfl ?_
  refine fw_getfP fl_X5_7 rfl hx dX5_hired_31 ?_
  refine fw_iconst (v := 0) dX5_hired_34 (by decide) ?_
  obtain ⟨hg1, h⟩ := h
  obtain ⟨hc2, h⟩ := h
  refine fw_iald hg1 hc2 dX5_hired_35 ?_
  refine fw_ishl dX5_hired_36 ?_
  refine fw_icmp_ge (tgt := 159) dX5_hired_37 (by decide) (fun c3 => ?_) (fun c3 => ?_)
  · have h := fw_it h c3
    refine fw_iload_n dX5_hired_159 rfl rfl ?_
    exact fw_ireturn dX5_hired_160 rfl rfl ⟨_, rfl, h⟩
  · have h := fw_if h c3
    refine fw_iconst (v := 0) dX5_hired_40 (by decide) ?_
    refine fw_istoreN (Ls' := [(6, Value.int (0 : Int32)), (5, Value.int i5), (0, fw_rv g r0), (1, Value.int i1), (2, Value.int i2), (3, Value.int i3), (4, Value.int i4)]) [0, 1, 2, 3, 4] dX5_hired_41 (by decide) rfl rfl rfl rfl rfl ?_
    refine fw_iconst (v := 0) dX5_hired_43 (by decide) ?_
    refine fw_istoreN (Ls' := [(7, Value.int (0 : Int32)), (6, Value.int (0 : Int32)), (5, Value.int i5), (0, fw_rv g r0), (1, Value.int i1), (2, Value.int i2), (3, Value.int i3), (4, Value.int i4)]) [1, 2, 3, 4, 5, 6] dX5_hired_44 (by decide) rfl rfl rfl rfl rfl ?_
    refine fw_iconst (v := 0) dX5_hired_46 (by decide) ?_
    refine fw_istoreN (Ls' := [(8, Value.int (0 : Int32)), (7, Value.int (0 : Int32)), (6, Value.int (0 : Int32)), (5, Value.int i5), (0, fw_rv g r0), (1, Value.int i1), (2, Value.int i2), (3, Value.int i3), (4, Value.int i4)]) [1, 2, 3, 4, 5, 6, 7] dX5_hired_47 (by decide) rfl rfl rfl rfl rfl ?_
    refine fw_iconst (v := 0) dX5_hired_49 (by decide) ?_
    refine fw_istoreN (Ls' := [(9, Value.int (0 : Int32)), (8, Value.int (0 : Int32)), (7, Value.int (0 : Int32)), (6, Value.int (0 : Int32)), (5, Value.int i5), (0, fw_rv g r0), (1, Value.int i1), (2, Value.int i2), (3, Value.int i3), (4, Value.int i4)]) [1, 2, 3, 4, 5, 6, 7, 8] dX5_hired_50 (by decide) rfl rfl rfl rfl rfl ?_
    refine fw_ls [5, 6, 7, 8, 9, 4, 3, 2, 1, 0] rfl ?_
    exact w_X5_hired_L52 hf hk27 hx h
theorem w_X5_hired_L27 {g : fw_G} {f bc bs : Nat} {r0 : Nat} {i1 : Int32} {i2 : Int32} {i3 : Int32} {i4 : Int32} {i5 : Int32} {μ : fw_M} {Q : Int32 → fw_M → Prop} (hf : 5 ≤ f) (hx : m_K μ r0 = 6) (h : p_X5_hired_L27 r0 i1 i2 i3 i4 i5 μ Q) : fw_V g K_X5_hired f bc bs 27 [(0, fw_rv g r0), (1, Value.int i1), (2, Value.int i2), (3, Value.int i3), (4, Value.int i4), (5, Value.int i5)] [] μ (fw_Qi Q) fw_nX := by
  have key := fw_lp_out (R := fun (a : Int32 × Int32 × Int32 × Int32 × fw_M) => m_K a.2.2.2.2 r0 = 6 → fw_V g K_X5_hired f bc bs 27 [(0, fw_rv g r0), (1, Value.int i1), (2, Value.int a.1), (3, Value.int a.2.1), (4, Value.int a.2.2.1), (5, Value.int a.2.2.2.1)] [] a.2.2.2.2 (fw_Qi Q) fw_nX) (fun k hk9 a ha hx2 => w_X5_hired_L27b hf (fun {i2 i3 i4 i5} {μ} hx3 h3 => hk9 (i2, i3, i4, i5, μ) h3 hx3) hx2 ha) h
  exact key hx
def p_X5_hired (r0 : Nat) (i1 : Int32) (μ : fw_M) (Q : Int32 → fw_M → Prop) : Prop :=
  (p_X5_in i1 (1 : Int32) (9999 : Int32) μ (fun v1 μ2 =>
  (if v1 = 0 then
  (Q (-1 : Int32) μ2)
  else
  ((p_X5_laysWorld r0 μ2 (fun μ7 =>
   p_X5_hired_L27 r0 i1 (-1 : Int32) (0 : Int32) (0 : Int32) (1 : Int32) μ7 Q))))))
set_option maxHeartbeats 4000000 in
theorem w_X5_hired {g : fw_G} {f bc bs : Nat} {r0 : Nat} {i1 : Int32} {μ : fw_M} {Q : Int32 → fw_M → Prop} (hf : 5 ≤ f) (hx : m_K μ r0 = 6) (h : p_X5_hired r0 i1 μ Q) : fw_C g f bc bs yX5_hired (ws_ yX5_hired cX5_hired 10 (some .int)) [fw_rv g r0, Value.int i1] μ (fw_Qi Q) fw_nX := by
  unfold p_X5_hired at h
  refine fw_intro' (Ls := [(0, fw_rv g r0), (1, Value.int i1)]) (by decide +kernel) (by simp [lg_sl, fw_cat, fw_ci, fw_clo]) (by simp [lv_args, fw_cat, fw_ci, fw_clo]) ?_
  show fw_V g K_X5_hired f bc bs 0 [(0, fw_rv g r0), (1, Value.int i1)] [] μ (fw_Qi Q) fw_nX
  refine fw_iload_n dX5_hired_0 rfl rfl ?_
  refine fw_iconst (v := 1) dX5_hired_1 (by decide) ?_
  refine fw_sipush (v := 9999) dX5_hired_2 (by decide) ?_
  refine fw_callS3z (f1 := f - 1) cl_X5_110 (by decide) (by omega) (fw_s4 (Nat.le_of_ble_eq_true rfl)) dX5_hired_5 (w_X5_in (f := f - 1) (by omega) h) (fun _ _ h9 _ _ => h9.elim) (fun v9 μ2 q9 hs3 => ?_)
  obtain ⟨v1, rfl, h⟩ := q9
  refine fw_ti ?_
  have hg4 := hs3.K hx (by decide)
  refine fw_if_ne (tgt := 13) dX5_hired_8 (by decide) (fun c5 => ?_) (fun c5 => ?_)
  · have h := fw_if h c5
    refine fw_aload_n dX5_hired_13 rfl rfl ?_
    refine fw_callV0z (f1 := f - 1) cl_X5_349 rfl hg4 (by decide) (by omega) (fw_s4 (Nat.le_of_ble_eq_true rfl)) dX5_hired_14 (w_X5_laysWorld (f := f - 1) (by omega) hg4 h) (fun _ _ h9 _ _ => h9.elim) (fun v9 μ7 q9 hs8 => ?_)
    obtain ⟨rfl, h⟩ := q9
    refine fw_tv ?_
    have hg9 := hs8.K hg4 (by decide)
    refine fw_iconst (v := -1) dX5_hired_17 (by decide) ?_
    refine fw_istore_nN (Ls' := [(2, Value.int (-1 : Int32)), (1, Value.int i1), (0, fw_rv g r0)]) [0] dX5_hired_18 rfl (by decide) rfl rfl rfl rfl rfl ?_
    refine fw_iconst (v := 0) dX5_hired_19 (by decide) ?_
    refine fw_istore_nN (Ls' := [(3, Value.int (0 : Int32)), (2, Value.int (-1 : Int32)), (1, Value.int i1), (0, fw_rv g r0)]) [1, 2] dX5_hired_20 rfl (by decide) rfl rfl rfl rfl rfl ?_
    refine fw_iconst (v := 0) dX5_hired_21 (by decide) ?_
    refine fw_istoreN (Ls' := [(4, Value.int (0 : Int32)), (3, Value.int (0 : Int32)), (2, Value.int (-1 : Int32)), (1, Value.int i1), (0, fw_rv g r0)]) [1, 2, 3] dX5_hired_22 (by decide) rfl rfl rfl rfl rfl ?_
    refine fw_iconst (v := 1) dX5_hired_24 (by decide) ?_
    refine fw_istoreN (Ls' := [(5, Value.int (1 : Int32)), (4, Value.int (0 : Int32)), (3, Value.int (0 : Int32)), (2, Value.int (-1 : Int32)), (1, Value.int i1), (0, fw_rv g r0)]) [1, 2, 3, 4] dX5_hired_25 (by decide) rfl rfl rfl rfl rfl ?_
    refine fw_ls [5, 4, 3, 2, 1, 0] rfl ?_
    exact w_X5_hired_L27 hf hg9 h
  · have h := fw_it h c5
    refine fw_iconst (v := -1) dX5_hired_11 (by decide) ?_
    exact fw_ireturn dX5_hired_12 rfl rfl ⟨_, rfl, h⟩
abbrev K_X5_contrary : fw_Kt := (RX5, "contrary", cX5_contrary, 5, some .int, [])
def p_X5_contrary_L16b (k2 : Int32 → fw_M → Prop) (r0 : Nat) (i1 : Int32) (k16 : Int32 → fw_M → Prop) (i2 : Int32) (μ : fw_M) (Q : Int32 → fw_M → Prop) : Prop :=
  (if i1 ≤ i2 then
  ((∀ i1_2 : Int32, i1_2 = i1 + (1 : Int32) →
   k2 i1_2 μ))
  else
  ((∀ i3_4 : Int32, i3_4 = ((374 : Int32) + ((3 : Int32) * i2)) →
   (∀ i4_6 : Int32, i4_6 = ((374 : Int32) + ((3 : Int32) * i1)) →
   (m_K μ (m_P μ r0 0) = 100 ∧ (vp_in i3_4 (m_N μ (m_P μ r0 0)) ∧ (vp_in i4_6 (m_N μ (m_P μ r0 0)) ∧ (if (m_I μ (m_P μ r0 0) i3_4.toNatClampNeg) = (m_I μ (m_P μ r0 0) i4_6.toNatClampNeg) then
   ((vp_in (i3_4 + (1 : Int32)) (m_N μ (m_P μ r0 0)) ∧ (vp_in (i4_6 + (1 : Int32)) (m_N μ (m_P μ r0 0)) ∧ (if (m_I μ (m_P μ r0 0) (i3_4 + (1 : Int32)).toNatClampNeg) = (m_I μ (m_P μ r0 0) (i4_6 + (1 : Int32)).toNatClampNeg) then
    ((vp_in (i3_4 + (2 : Int32)) (m_N μ (m_P μ r0 0)) ∧ (vp_in (i4_6 + (2 : Int32)) (m_N μ (m_P μ r0 0)) ∧ (if (m_I μ (m_P μ r0 0) (i3_4 + (2 : Int32)).toNatClampNeg) = (m_I μ (m_P μ r0 0) (i4_6 + (2 : Int32)).toNatClampNeg) then
     ((∀ i2_22 : Int32, i2_22 = i2 + (1 : Int32) →
      k16 i2_22 μ))
     else
     (Q (((30 : Int32) * i2) + i1) μ)))))
    else
    ((∀ i2_17 : Int32, i2_17 = i2 + (1 : Int32) →
     k16 i2_17 μ))))))
   else
   ((∀ i2_12 : Int32, i2_12 = i2 + (1 : Int32) →
    k16 i2_12 μ))))))))))
def p_X5_contrary_L16 (k2 : Int32 → fw_M → Prop) (r0 : Nat) (i1 : Int32) (i2 : Int32) (μ : fw_M) (Q : Int32 → fw_M → Prop) : Prop := fw_lp (fun (k : Int32 × fw_M → Prop) (a : Int32 × fw_M) => p_X5_contrary_L16b k2 r0 i1 (fun i2 μ => k (i2, μ)) a.1 a.2 Q) (i2, μ)
theorem r_X5_contrary_L16 {k2 : Int32 → fw_M → Prop} {r0 : Nat} {i1 : Int32} {Q : Int32 → fw_M → Prop} (I : Int32 → fw_M → Prop) (v : Int32 → fw_M → Nat) (hs : ∀ (k : Int32 → fw_M → Prop) (i2 : Int32) (μ : fw_M), I i2 μ → (∀ (i2' : Int32) (ν : fw_M), I i2' ν → v i2' ν < v i2 μ → k i2' ν) → p_X5_contrary_L16b k2 r0 i1 k i2 μ Q) (i2 : Int32) (μ : fw_M) (h : I i2 μ) : p_X5_contrary_L16 k2 r0 i1 i2 μ Q :=
  fw_lp_in (A := Int32 × fw_M) (fun a => I a.1 a.2) (fun a => v a.1 a.2) (fun k a ha hk => hs (fun i2 μ => k (i2, μ)) a.1 a.2 ha (fun i2' ν hb hlt => hk (i2', ν) hb hlt)) (i2, μ) h
set_option maxHeartbeats 4000000 in
theorem w_X5_contrary_L16b {g : fw_G} {f bc bs : Nat} {k2 : Int32 → fw_M → Prop} {r0 : Nat} {i1 : Int32} {k16 : Int32 → fw_M → Prop} {i2 : Int32} {μ : fw_M} {Q : Int32 → fw_M → Prop} (hf : 1 ≤ f) (hk2 : ∀ {i1 : Int32} {μ : fw_M}, m_K μ r0 = 6 → k2 i1 μ → fw_V g K_X5_contrary f bc bs 2 [(0, fw_rv g r0), (1, Value.int i1)] [] μ (fw_Qi Q) fw_nX) (hk16 : ∀ {i2 : Int32} {μ : fw_M}, m_K μ r0 = 6 → k16 i2 μ → fw_V g K_X5_contrary f bc bs 16 [(0, fw_rv g r0), (1, Value.int i1), (2, Value.int i2)] [] μ (fw_Qi Q) fw_nX) (hx : m_K μ r0 = 6) (h : p_X5_contrary_L16b k2 r0 i1 k16 i2 μ Q) : fw_V g K_X5_contrary f bc bs 16 [(0, fw_rv g r0), (1, Value.int i1), (2, Value.int i2)] [] μ (fw_Qi Q) fw_nX := by
  unfold p_X5_contrary_L16b at h
  refine fw_iload_n dX5_contrary_16 rfl rfl ?_
  refine fw_iload_n dX5_contrary_17 rfl rfl ?_
  refine fw_icmp_ge (tgt := 107) dX5_contrary_18 (by decide) (fun c1 => ?_) (fun c1 => ?_)
  · have h := fw_it h c1
    obtain ⟨i1_2, e3⟩ : ∃ y : Int32, y = i1 + (1 : Int32) := ⟨_, rfl⟩
    have h := h i1_2 e3
    refine fw_iincN (k := 1) (v := i1_2) (Ls' := [(1, Value.int i1_2), (0, fw_rv g r0), (2, Value.int i2)]) [2] dX5_contrary_107 rfl (by rw [e3]; rfl) (by decide) rfl rfl rfl (fw_cat _) rfl ?_
    refine fw_goto (tgt := 2) dX5_contrary_110 (by decide) ?_
    refine fw_ls [1, 0] rfl ?_
    exact hk2 hx h
  · have h := fw_if h c1
    refine fw_sipush (v := 374) dX5_contrary_21 (by decide) ?_
    refine fw_iconst (v := 3) dX5_contrary_24 (by decide) ?_
    refine fw_iload_n dX5_contrary_25 rfl rfl ?_
    refine fw_imul dX5_contrary_26 ?_
    refine fw_iadd dX5_contrary_27 ?_
    refine fw_topi (fun i3_4 e5 => ?_)
    have h := h i3_4 e5
    refine fw_istore_nN (Ls' := [(3, Value.int i3_4), (2, Value.int i2), (0, fw_rv g r0), (1, Value.int i1)]) [0, 1] dX5_contrary_28 rfl (by decide) rfl rfl rfl rfl rfl ?_
    refine fw_sipush (v := 374) dX5_contrary_29 (by decide) ?_
    refine fw_iconst (v := 3) dX5_contrary_32 (by decide) ?_
    refine fw_iload_n dX5_contrary_33 rfl rfl ?_
    refine fw_imul dX5_contrary_34 ?_
    refine fw_iadd dX5_contrary_35 ?_
    refine fw_topi (fun i4_6 e7 => ?_)
    have h := h i4_6 e7
    refine fw_istoreN (Ls' := [(4, Value.int i4_6), (3, Value.int i3_4), (2, Value.int i2), (0, fw_rv g r0), (1, Value.int i1)]) [1, 2, 3] dX5_contrary_36 (by decide) rfl rfl rfl rfl rfl ?_
    refine fw_aload_n dX5_contrary_38 rfl rfl ?_
    refine fw_getfP fl_X5_7 rfl hx dX5_contrary_39 ?_
    refine fw_iload_n dX5_contrary_42 rfl rfl ?_
    obtain ⟨hg8, h⟩ := h
    obtain ⟨hc9, h⟩ := h
    refine fw_iald hg8 hc9 dX5_contrary_43 ?_
    refine fw_aload_n dX5_contrary_44 rfl rfl ?_
    refine fw_getfP fl_X5_7 rfl hx dX5_contrary_45 ?_
    refine fw_iload dX5_contrary_48 rfl ?_
    obtain ⟨hc10, h⟩ := h
    refine fw_iald hg8 hc10 dX5_contrary_50 ?_
    refine fw_icmp_ne (tgt := 101) dX5_contrary_51 (by decide) (fun c11 => ?_) (fun c11 => ?_)
    · have h := fw_if h c11
      obtain ⟨i2_12, e13⟩ : ∃ y : Int32, y = i2 + (1 : Int32) := ⟨_, rfl⟩
      have h := h i2_12 e13
      refine fw_iincN (k := 2) (v := i2_12) (Ls' := [(2, Value.int i2_12), (1, Value.int i1), (4, Value.int i4_6), (3, Value.int i3_4), (0, fw_rv g r0)]) [0, 1, 3] dX5_contrary_101 rfl (by rw [e13]; rfl) (by decide) rfl rfl rfl rfl rfl ?_
      refine fw_goto (tgt := 16) dX5_contrary_104 (by decide) ?_
      refine fw_ls [4, 1, 0] rfl ?_
      exact hk16 hx h
    · have h := fw_it h c11
      refine fw_aload_n dX5_contrary_54 rfl rfl ?_
      refine fw_getfP fl_X5_7 rfl hx dX5_contrary_55 ?_
      refine fw_iload_n dX5_contrary_58 rfl rfl ?_
      refine fw_iconst (v := 1) dX5_contrary_59 (by decide) ?_
      refine fw_iadd dX5_contrary_60 ?_
      obtain ⟨hc14, h⟩ := h
      refine fw_iald hg8 hc14 dX5_contrary_61 ?_
      refine fw_aload_n dX5_contrary_62 rfl rfl ?_
      refine fw_getfP fl_X5_7 rfl hx dX5_contrary_63 ?_
      refine fw_iload dX5_contrary_66 rfl ?_
      refine fw_iconst (v := 1) dX5_contrary_68 (by decide) ?_
      refine fw_iadd dX5_contrary_69 ?_
      obtain ⟨hc15, h⟩ := h
      refine fw_iald hg8 hc15 dX5_contrary_70 ?_
      refine fw_icmp_ne (tgt := 101) dX5_contrary_71 (by decide) (fun c16 => ?_) (fun c16 => ?_)
      · have h := fw_if h c16
        obtain ⟨i2_17, e18⟩ : ∃ y : Int32, y = i2 + (1 : Int32) := ⟨_, rfl⟩
        have h := h i2_17 e18
        refine fw_iincN (k := 2) (v := i2_17) (Ls' := [(2, Value.int i2_17), (1, Value.int i1), (4, Value.int i4_6), (3, Value.int i3_4), (0, fw_rv g r0)]) [0, 1, 3] dX5_contrary_101 rfl (by rw [e18]; rfl) (by decide) rfl rfl rfl rfl rfl ?_
        refine fw_goto (tgt := 16) dX5_contrary_104 (by decide) ?_
        refine fw_ls [4, 1, 0] rfl ?_
        exact hk16 hx h
      · have h := fw_it h c16
        refine fw_aload_n dX5_contrary_74 rfl rfl ?_
        refine fw_getfP fl_X5_7 rfl hx dX5_contrary_75 ?_
        refine fw_iload_n dX5_contrary_78 rfl rfl ?_
        refine fw_iconst (v := 2) dX5_contrary_79 (by decide) ?_
        refine fw_iadd dX5_contrary_80 ?_
        obtain ⟨hc19, h⟩ := h
        refine fw_iald hg8 hc19 dX5_contrary_81 ?_
        refine fw_aload_n dX5_contrary_82 rfl rfl ?_
        refine fw_getfP fl_X5_7 rfl hx dX5_contrary_83 ?_
        refine fw_iload dX5_contrary_86 rfl ?_
        refine fw_iconst (v := 2) dX5_contrary_88 (by decide) ?_
        refine fw_iadd dX5_contrary_89 ?_
        obtain ⟨hc20, h⟩ := h
        refine fw_iald hg8 hc20 dX5_contrary_90 ?_
        refine fw_icmp_eq (tgt := 101) dX5_contrary_91 (by decide) (fun c21 => ?_) (fun c21 => ?_)
        · have h := fw_it h c21
          obtain ⟨i2_22, e23⟩ : ∃ y : Int32, y = i2 + (1 : Int32) := ⟨_, rfl⟩
          have h := h i2_22 e23
          refine fw_iincN (k := 2) (v := i2_22) (Ls' := [(2, Value.int i2_22), (1, Value.int i1), (4, Value.int i4_6), (3, Value.int i3_4), (0, fw_rv g r0)]) [0, 1, 3] dX5_contrary_101 rfl (by rw [e23]; rfl) (by decide) rfl rfl rfl rfl rfl ?_
          refine fw_goto (tgt := 16) dX5_contrary_104 (by decide) ?_
          refine fw_ls [4, 1, 0] rfl ?_
          exact hk16 hx h
        · have h := fw_if h c21
          refine fw_bipush (v := 30) dX5_contrary_94 (by decide) ?_
          refine fw_iload_n dX5_contrary_96 rfl rfl ?_
          refine fw_imul dX5_contrary_97 ?_
          refine fw_iload_n dX5_contrary_98 rfl rfl ?_
          refine fw_iadd dX5_contrary_99 ?_
          exact fw_ireturn dX5_contrary_100 rfl rfl ⟨_, rfl, h⟩
theorem w_X5_contrary_L16 {g : fw_G} {f bc bs : Nat} {k2 : Int32 → fw_M → Prop} {r0 : Nat} {i1 : Int32} {i2 : Int32} {μ : fw_M} {Q : Int32 → fw_M → Prop} (hf : 1 ≤ f) (hk2 : ∀ {i1 : Int32} {μ : fw_M}, m_K μ r0 = 6 → k2 i1 μ → fw_V g K_X5_contrary f bc bs 2 [(0, fw_rv g r0), (1, Value.int i1)] [] μ (fw_Qi Q) fw_nX) (hx : m_K μ r0 = 6) (h : p_X5_contrary_L16 k2 r0 i1 i2 μ Q) : fw_V g K_X5_contrary f bc bs 16 [(0, fw_rv g r0), (1, Value.int i1), (2, Value.int i2)] [] μ (fw_Qi Q) fw_nX := by
  have key := fw_lp_out (R := fun (a : Int32 × fw_M) => m_K a.2 r0 = 6 → fw_V g K_X5_contrary f bc bs 16 [(0, fw_rv g r0), (1, Value.int i1), (2, Value.int a.1)] [] a.2 (fw_Qi Q) fw_nX) (fun k hk9 a ha hx2 => w_X5_contrary_L16b hf hk2 (fun {i2} {μ} hx3 h3 => hk9 (i2, μ) h3 hx3) hx2 ha) h
  exact key hx
def p_X5_contrary_L2b (r0 : Nat) (k2 : Int32 → fw_M → Prop) (i1 : Int32) (μ : fw_M) (Q : Int32 → fw_M → Prop) : Prop :=
  (m_K μ (m_P μ r0 0) = 100 ∧ (vp_in (373 : Int32) (m_N μ (m_P μ r0 0)) ∧ (if (m_I μ (m_P μ r0 0) (373 : Int32).toNatClampNeg) ≤ i1 then
  (Q (-1 : Int32) μ)
  else
  (p_X5_contrary_L16 k2 r0 i1 (0 : Int32) μ Q))))
def p_X5_contrary_L2 (r0 : Nat) (i1 : Int32) (μ : fw_M) (Q : Int32 → fw_M → Prop) : Prop := fw_lp (fun (k : Int32 × fw_M → Prop) (a : Int32 × fw_M) => p_X5_contrary_L2b r0 (fun i1 μ => k (i1, μ)) a.1 a.2 Q) (i1, μ)
theorem r_X5_contrary_L2 {r0 : Nat} {Q : Int32 → fw_M → Prop} (I : Int32 → fw_M → Prop) (v : Int32 → fw_M → Nat) (hs : ∀ (k : Int32 → fw_M → Prop) (i1 : Int32) (μ : fw_M), I i1 μ → (∀ (i1' : Int32) (ν : fw_M), I i1' ν → v i1' ν < v i1 μ → k i1' ν) → p_X5_contrary_L2b r0 k i1 μ Q) (i1 : Int32) (μ : fw_M) (h : I i1 μ) : p_X5_contrary_L2 r0 i1 μ Q :=
  fw_lp_in (A := Int32 × fw_M) (fun a => I a.1 a.2) (fun a => v a.1 a.2) (fun k a ha hk => hs (fun i1 μ => k (i1, μ)) a.1 a.2 ha (fun i1' ν hb hlt => hk (i1', ν) hb hlt)) (i1, μ) h
set_option maxHeartbeats 4000000 in
theorem w_X5_contrary_L2b {g : fw_G} {f bc bs : Nat} {r0 : Nat} {k2 : Int32 → fw_M → Prop} {i1 : Int32} {μ : fw_M} {Q : Int32 → fw_M → Prop} (hf : 1 ≤ f) (hk2 : ∀ {i1 : Int32} {μ : fw_M}, m_K μ r0 = 6 → k2 i1 μ → fw_V g K_X5_contrary f bc bs 2 [(0, fw_rv g r0), (1, Value.int i1)] [] μ (fw_Qi Q) fw_nX) (hx : m_K μ r0 = 6) (h : p_X5_contrary_L2b r0 k2 i1 μ Q) : fw_V g K_X5_contrary f bc bs 2 [(0, fw_rv g r0), (1, Value.int i1)] [] μ (fw_Qi Q) fw_nX := by
  unfold p_X5_contrary_L2b at h
  refine fw_iload_n dX5_contrary_2 rfl rfl ?_
  refine fw_aload_n dX5_contrary_3 rfl rfl ?_
  refine fw_getfP fl_X5_7 rfl hx dX5_contrary_4 ?_
  refine fw_sipush (v := 373) dX5_contrary_7 (by decide) ?_
  obtain ⟨hg1, h⟩ := h
  obtain ⟨hc2, h⟩ := h
  refine fw_iald hg1 hc2 dX5_contrary_10 ?_
  refine fw_icmp_ge (tgt := 113) dX5_contrary_11 (by decide) (fun c3 => ?_) (fun c3 => ?_)
  · have h := fw_it h c3
    refine fw_iconst (v := -1) dX5_contrary_113 (by decide) ?_
    exact fw_ireturn dX5_contrary_114 rfl rfl ⟨_, rfl, h⟩
  · have h := fw_if h c3
    refine fw_iconst (v := 0) dX5_contrary_14 (by decide) ?_
    refine fw_istore_nN (Ls' := [(2, Value.int (0 : Int32)), (1, Value.int i1), (0, fw_rv g r0)]) [0] dX5_contrary_15 rfl (by decide) rfl rfl rfl rfl rfl ?_
    refine fw_ls [2, 1, 0] rfl ?_
    exact w_X5_contrary_L16 hf hk2 hx h
theorem w_X5_contrary_L2 {g : fw_G} {f bc bs : Nat} {r0 : Nat} {i1 : Int32} {μ : fw_M} {Q : Int32 → fw_M → Prop} (hf : 1 ≤ f) (hx : m_K μ r0 = 6) (h : p_X5_contrary_L2 r0 i1 μ Q) : fw_V g K_X5_contrary f bc bs 2 [(0, fw_rv g r0), (1, Value.int i1)] [] μ (fw_Qi Q) fw_nX := by
  have key := fw_lp_out (R := fun (a : Int32 × fw_M) => m_K a.2 r0 = 6 → fw_V g K_X5_contrary f bc bs 2 [(0, fw_rv g r0), (1, Value.int a.1)] [] a.2 (fw_Qi Q) fw_nX) (fun k hk9 a ha hx2 => w_X5_contrary_L2b hf (fun {i1} {μ} hx3 h3 => hk9 (i1, μ) h3 hx3) hx2 ha) h
  exact key hx
def p_X5_contrary (r0 : Nat) (μ : fw_M) (Q : Int32 → fw_M → Prop) : Prop :=
  p_X5_contrary_L2 r0 (1 : Int32) μ Q
set_option maxHeartbeats 4000000 in
theorem w_X5_contrary {g : fw_G} {f bc bs : Nat} {r0 : Nat} {μ : fw_M} {Q : Int32 → fw_M → Prop} (hf : 1 ≤ f) (hx : m_K μ r0 = 6) (h : p_X5_contrary r0 μ Q) : fw_C g f bc bs yX5_contrary (ws_ yX5_contrary cX5_contrary 5 (some .int)) [fw_rv g r0] μ (fw_Qi Q) fw_nX := by
  unfold p_X5_contrary at h
  refine fw_intro' (Ls := [(0, fw_rv g r0)]) (by decide +kernel) (by simp [lg_sl, fw_cat, fw_ci, fw_clo]) (by simp [lv_args, fw_cat, fw_ci, fw_clo]) ?_
  show fw_V g K_X5_contrary f bc bs 0 [(0, fw_rv g r0)] [] μ (fw_Qi Q) fw_nX
  refine fw_iconst (v := 1) dX5_contrary_0 (by decide) ?_
  refine fw_istore_nN (Ls' := [(1, Value.int (1 : Int32)), (0, fw_rv g r0)]) [] dX5_contrary_1 rfl (by decide) rfl rfl rfl (fw_cat _) rfl ?_
  refine fw_ls [1, 0] rfl ?_
  exact w_X5_contrary_L2 hf hx h
abbrev K_X5_common : fw_Kt := (RX5, "common", cX5_common, 10, some .long, [])
def p_X5_common_L6b (k6 : Int64 → Int64 → fw_M → Prop) (l4 : Int64) (l6 : Int64) (μ : fw_M) (Q : Int64 → fw_M → Prop) : Prop :=
  (if l6 = (0 : Int64) then
  (Q l4 μ)
  else
  ((¬ l6 = 0 ∧ (∀ l8_3 : Int64, l8_3 = (l4 - l4 / l6 * l6) →
   k6 l6 l8_3 μ))))
def p_X5_common_L6 (l4 : Int64) (l6 : Int64) (μ : fw_M) (Q : Int64 → fw_M → Prop) : Prop := fw_lp (fun (k : Int64 × Int64 × fw_M → Prop) (a : Int64 × Int64 × fw_M) => p_X5_common_L6b (fun l4 l6 μ => k (l4, l6, μ)) a.1 a.2.1 a.2.2 Q) (l4, l6, μ)
theorem r_X5_common_L6 {Q : Int64 → fw_M → Prop} (I : Int64 → Int64 → fw_M → Prop) (v : Int64 → Int64 → fw_M → Nat) (hs : ∀ (k : Int64 → Int64 → fw_M → Prop) (l4 : Int64) (l6 : Int64) (μ : fw_M), I l4 l6 μ → (∀ (l4' : Int64) (l6' : Int64) (ν : fw_M), I l4' l6' ν → v l4' l6' ν < v l4 l6 μ → k l4' l6' ν) → p_X5_common_L6b k l4 l6 μ Q) (l4 : Int64) (l6 : Int64) (μ : fw_M) (h : I l4 l6 μ) : p_X5_common_L6 l4 l6 μ Q :=
  fw_lp_in (A := Int64 × Int64 × fw_M) (fun a => I a.1 a.2.1 a.2.2) (fun a => v a.1 a.2.1 a.2.2) (fun k a ha hk => hs (fun l4 l6 μ => k (l4, l6, μ)) a.1 a.2.1 a.2.2 ha (fun l4' l6' ν hb hlt => hk (l4', l6', ν) hb hlt)) (l4, l6, μ) h
set_option maxHeartbeats 4000000 in
theorem w_X5_common_L6b {g : fw_G} {f bc bs : Nat} {k6 : Int64 → Int64 → fw_M → Prop} {l4 : Int64} {l6 : Int64} {μ : fw_M} {Q : Int64 → fw_M → Prop} (hf : 1 ≤ f) (hk6 : ∀ {l4 : Int64} {l6 : Int64} {μ : fw_M}, k6 l4 l6 μ → fw_V g K_X5_common f bc bs 6 [(4, Value.long l4), (6, Value.long l6)] [] μ (fw_Ql Q) fw_nX) (h : p_X5_common_L6b k6 l4 l6 μ Q) : fw_V g K_X5_common f bc bs 6 [(4, Value.long l4), (6, Value.long l6)] [] μ (fw_Ql Q) fw_nX := by
  unfold p_X5_common_L6b at h
  refine fw_lload dX5_common_6 rfl ?_
  refine fw_lconst (v := 0) dX5_common_8 (by decide) ?_
  refine fw_leq (tgt := 31) dX5_common_9 dX5_common_10 (by decide) (fun c1 => ?_) (fun c1 => ?_)
  · have h := fw_it h c1
    refine fw_lload dX5_common_31 rfl ?_
    exact fw_lreturn dX5_common_33 rfl ⟨_, rfl, h⟩
  · have h := fw_if h c1
    refine fw_lload dX5_common_13 rfl ?_
    refine fw_lload dX5_common_15 rfl ?_
    obtain ⟨hc2, h⟩ := h
    refine fw_lrem dX5_common_17 hc2 ?_
    refine fw_topl (fun l8_3 e4 => ?_)
    have h := h l8_3 e4
    refine fw_lstore (Ls' := [(8, Value.long l8_3), (4, Value.long l4), (6, Value.long l6)]) [0, 1] dX5_common_18 (by decide) rfl rfl ?_
    refine fw_lload dX5_common_20 rfl ?_
    refine fw_lstore (Ls' := [(4, Value.long l6), (8, Value.long l8_3), (6, Value.long l6)]) [0, 2] dX5_common_22 (by decide) rfl rfl ?_
    refine fw_lload dX5_common_24 rfl ?_
    refine fw_lstore (Ls' := [(6, Value.long l8_3), (4, Value.long l6), (8, Value.long l8_3)]) [0, 1] dX5_common_26 (by decide) rfl rfl ?_
    refine fw_goto (tgt := 6) dX5_common_28 (by decide) ?_
    refine fw_ls [1, 0] rfl ?_
    exact hk6 h
theorem w_X5_common_L6 {g : fw_G} {f bc bs : Nat} {l4 : Int64} {l6 : Int64} {μ : fw_M} {Q : Int64 → fw_M → Prop} (hf : 1 ≤ f) (h : p_X5_common_L6 l4 l6 μ Q) : fw_V g K_X5_common f bc bs 6 [(4, Value.long l4), (6, Value.long l6)] [] μ (fw_Ql Q) fw_nX := by
  have key := fw_lp_out (R := fun (a : Int64 × Int64 × fw_M) => fw_V g K_X5_common f bc bs 6 [(4, Value.long a.1), (6, Value.long a.2.1)] [] a.2.2 (fw_Ql Q) fw_nX) (fun k hk9 a ha => w_X5_common_L6b hf (fun {l4 l6} {μ} h3 => hk9 (l4, l6, μ) h3) ha) h
  exact key
def p_X5_common (l0 : Int64) (l2 : Int64) (μ : fw_M) (Q : Int64 → fw_M → Prop) : Prop :=
  p_X5_common_L6 l0 l2 μ Q
set_option maxHeartbeats 4000000 in
theorem w_X5_common {g : fw_G} {f bc bs : Nat} {l0 : Int64} {l2 : Int64} {μ : fw_M} {Q : Int64 → fw_M → Prop} (hf : 1 ≤ f) (h : p_X5_common l0 l2 μ Q) : fw_C g f bc bs yX5_common (ws_ yX5_common cX5_common 10 (some .long)) [Value.long l0, Value.long l2] μ (fw_Ql Q) fw_nX := by
  unfold p_X5_common at h
  refine fw_intro' (Ls := [(0, Value.long l0), (2, Value.long l2)]) (by decide +kernel) (by simp [lg_sl, fw_cat, fw_ci, fw_clo]) (by simp [lv_args, fw_cat, fw_ci, fw_clo]) ?_
  show fw_V g K_X5_common f bc bs 0 [(0, Value.long l0), (2, Value.long l2)] [] μ (fw_Ql Q) fw_nX
  refine fw_lload_n dX5_common_0 rfl rfl ?_
  refine fw_lstore (Ls' := [(4, Value.long l0), (0, Value.long l0), (2, Value.long l2)]) [0, 1] dX5_common_1 (by decide) rfl rfl ?_
  refine fw_lload_n dX5_common_3 rfl rfl ?_
  refine fw_lstore (Ls' := [(6, Value.long l2), (4, Value.long l0), (0, Value.long l0), (2, Value.long l2)]) [0, 1, 2] dX5_common_4 (by decide) rfl rfl ?_
  refine fw_ls [1, 0] rfl ?_
  exact w_X5_common_L6 hf h
abbrev K_X5_odds : fw_Kt := (RX5, "odds", cX5_odds, 9, some .long, [])
def p_X5_odds_L54b (k40 : Int32 → Int32 → fw_M → Prop) (r0 : Nat) (i1 : Int32) (i2 : Int32) (i3 : Int32) (i4 : Int32) (i5 : Int32) (i6 : Int32) (k54 : Int32 → fw_M → Prop) (i7 : Int32) (μ : fw_M) (Q : Int64 → fw_M → Prop) : Prop :=
  (if i2 ≤ i7 then
  ((p_X5_tilt r0 μ (fun v2 μ3 =>
   (if v2 = i1 then
   ((∀ i5_11 : Int32, i5_11 = (i5 + (1 : Int32)) →
    (∀ i6_13 : Int32, i6_13 = i6 + (1 : Int32) →
    k40 i5_11 i6_13 μ3)))
   else
   ((∀ i5_7 : Int32, i5_7 = (i5 + (0 : Int32)) →
    (∀ i6_9 : Int32, i6_9 = i6 + (1 : Int32) →
    k40 i5_7 i6_9 μ3)))))))
  else
  ((∀ i8_15 : Int32, i8_15 = ((i6 >>> (((2 : Int32) * i7) &&& 31)) &&& (3 : Int32)) →
   (m_K μ (m_P μ r0 39) = 100 ∧ (vp_in i8_15 (m_N μ (m_P μ r0 39)) ∧ (vp_in i8_15 (m_N μ (m_P μ r0 39)) ∧ (if (m_I μ (m_P μ r0 39) i8_15.toNatClampNeg) ≤ 0 then
   ((vp_in i8_15 (m_N μ (m_P μ r0 39)) ∧ (∀ μ22, μ22 = m_uI μ (m_P μ r0 39) i8_15.toNatClampNeg ((m_I μ (m_P μ r0 39) i8_15.toNatClampNeg) - (0 : Int32)) →
    (∀ i7_23 : Int32, i7_23 = i7 + (1 : Int32) →
    k54 i7_23 μ22))))
   else
   ((vp_in i8_15 (m_N μ (m_P μ r0 39)) ∧ (∀ μ26, μ26 = m_uI μ (m_P μ r0 39) i8_15.toNatClampNeg ((m_I μ (m_P μ r0 39) i8_15.toNatClampNeg) - (1 : Int32)) →
    (∀ i7_27 : Int32, i7_27 = i7 + (1 : Int32) →
    k54 i7_27 μ26)))))))))))
def p_X5_odds_L54 (k40 : Int32 → Int32 → fw_M → Prop) (r0 : Nat) (i1 : Int32) (i2 : Int32) (i3 : Int32) (i4 : Int32) (i5 : Int32) (i6 : Int32) (i7 : Int32) (μ : fw_M) (Q : Int64 → fw_M → Prop) : Prop := fw_lp (fun (k : Int32 × fw_M → Prop) (a : Int32 × fw_M) => p_X5_odds_L54b k40 r0 i1 i2 i3 i4 i5 i6 (fun i7 μ => k (i7, μ)) a.1 a.2 Q) (i7, μ)
theorem r_X5_odds_L54 {k40 : Int32 → Int32 → fw_M → Prop} {r0 : Nat} {i1 : Int32} {i2 : Int32} {i3 : Int32} {i4 : Int32} {i5 : Int32} {i6 : Int32} {Q : Int64 → fw_M → Prop} (I : Int32 → fw_M → Prop) (v : Int32 → fw_M → Nat) (hs : ∀ (k : Int32 → fw_M → Prop) (i7 : Int32) (μ : fw_M), I i7 μ → (∀ (i7' : Int32) (ν : fw_M), I i7' ν → v i7' ν < v i7 μ → k i7' ν) → p_X5_odds_L54b k40 r0 i1 i2 i3 i4 i5 i6 k i7 μ Q) (i7 : Int32) (μ : fw_M) (h : I i7 μ) : p_X5_odds_L54 k40 r0 i1 i2 i3 i4 i5 i6 i7 μ Q :=
  fw_lp_in (A := Int32 × fw_M) (fun a => I a.1 a.2) (fun a => v a.1 a.2) (fun k a ha hk => hs (fun i7 μ => k (i7, μ)) a.1 a.2 ha (fun i7' ν hb hlt => hk (i7', ν) hb hlt)) (i7, μ) h
set_option maxHeartbeats 4000000 in
theorem w_X5_odds_L54b {g : fw_G} {f bc bs : Nat} {k40 : Int32 → Int32 → fw_M → Prop} {r0 : Nat} {i1 : Int32} {i2 : Int32} {i3 : Int32} {i4 : Int32} {i5 : Int32} {i6 : Int32} {k54 : Int32 → fw_M → Prop} {i7 : Int32} {μ : fw_M} {Q : Int64 → fw_M → Prop} (hf : 2 ≤ f) (hk40 : ∀ {i5 : Int32} {i6 : Int32} {μ : fw_M}, m_K μ r0 = 6 → k40 i5 i6 μ → fw_V g K_X5_odds f bc bs 40 [(0, fw_rv g r0), (1, Value.int i1), (2, Value.int i2), (3, Value.int i3), (4, Value.int i4), (5, Value.int i5), (6, Value.int i6)] [] μ (fw_Ql Q) fw_nX) (hk54 : ∀ {i7 : Int32} {μ : fw_M}, m_K μ r0 = 6 → k54 i7 μ → fw_V g K_X5_odds f bc bs 54 [(0, fw_rv g r0), (1, Value.int i1), (2, Value.int i2), (3, Value.int i3), (4, Value.int i4), (5, Value.int i5), (6, Value.int i6), (7, Value.int i7)] [] μ (fw_Ql Q) fw_nX) (hx : m_K μ r0 = 6) (h : p_X5_odds_L54b k40 r0 i1 i2 i3 i4 i5 i6 k54 i7 μ Q) : fw_V g K_X5_odds f bc bs 54 [(0, fw_rv g r0), (1, Value.int i1), (2, Value.int i2), (3, Value.int i3), (4, Value.int i4), (5, Value.int i5), (6, Value.int i6), (7, Value.int i7)] [] μ (fw_Ql Q) fw_nX := by
  unfold p_X5_odds_L54b at h
  refine fw_iload dX5_odds_54 rfl ?_
  refine fw_iload_n dX5_odds_56 rfl rfl ?_
  refine fw_icmp_ge (tgt := 102) dX5_odds_57 (by decide) (fun c1 => ?_) (fun c1 => ?_)
  · have h := fw_it h c1
    refine fw_iload dX5_odds_102 rfl ?_
    refine fw_aload_n dX5_odds_104 rfl rfl ?_
    refine fw_callV0z (f1 := f - 1) cl_X5_340 rfl hx (by decide) (by omega) (fw_s4 (Nat.le_of_ble_eq_true rfl)) dX5_odds_105 (w_X5_tilt (f := f - 1) (by omega) hx h) (fun _ _ h9 _ _ => h9.elim) (fun v9 μ3 q9 hs4 => ?_)
    obtain ⟨v2, rfl, h⟩ := q9
    refine fw_ti ?_
    have hg5 := hs4.K hx (by decide)
    refine fw_iload_n dX5_odds_108 rfl rfl ?_
    refine fw_icmp_ne (tgt := 116) dX5_odds_109 (by decide) (fun c6 => ?_) (fun c6 => ?_)
    · have h := fw_if h c6
      refine fw_iconst (v := 0) dX5_odds_116 (by decide) ?_
      refine fw_iadd dX5_odds_117 ?_
      refine fw_topi (fun i5_7 e8 => ?_)
      have h := h i5_7 e8
      refine fw_istoreN (Ls' := [(5, Value.int i5_7), (4, Value.int i4), (0, fw_rv g r0), (1, Value.int i1), (2, Value.int i2), (3, Value.int i3), (6, Value.int i6), (7, Value.int i7)]) [0, 1, 2, 3, 6, 7] dX5_odds_118 (by decide) rfl rfl rfl rfl rfl ?_
      obtain ⟨i6_9, e10⟩ : ∃ y : Int32, y = i6 + (1 : Int32) := ⟨_, rfl⟩
      have h := h i6_9 e10
      refine fw_iincN (k := 6) (v := i6_9) (Ls' := [(6, Value.int i6_9), (5, Value.int i5_7), (4, Value.int i4), (0, fw_rv g r0), (1, Value.int i1), (2, Value.int i2), (3, Value.int i3), (7, Value.int i7)]) [1, 2, 3, 4, 5, 7] dX5_odds_120 rfl (by rw [e10]; rfl) (by decide) rfl rfl rfl rfl rfl ?_
      refine fw_goto (tgt := 40) dX5_odds_123 (by decide) ?_
      refine fw_ls [3, 4, 5, 6, 2, 1, 0] rfl ?_
      exact hk40 hg5 h
    · have h := fw_it h c6
      refine fw_iconst (v := 1) dX5_odds_112 (by decide) ?_
      refine fw_goto (tgt := 117) dX5_odds_113 (by decide) ?_
      refine fw_iadd dX5_odds_117 ?_
      refine fw_topi (fun i5_11 e12 => ?_)
      have h := h i5_11 e12
      refine fw_istoreN (Ls' := [(5, Value.int i5_11), (4, Value.int i4), (0, fw_rv g r0), (1, Value.int i1), (2, Value.int i2), (3, Value.int i3), (6, Value.int i6), (7, Value.int i7)]) [0, 1, 2, 3, 6, 7] dX5_odds_118 (by decide) rfl rfl rfl rfl rfl ?_
      obtain ⟨i6_13, e14⟩ : ∃ y : Int32, y = i6 + (1 : Int32) := ⟨_, rfl⟩
      have h := h i6_13 e14
      refine fw_iincN (k := 6) (v := i6_13) (Ls' := [(6, Value.int i6_13), (5, Value.int i5_11), (4, Value.int i4), (0, fw_rv g r0), (1, Value.int i1), (2, Value.int i2), (3, Value.int i3), (7, Value.int i7)]) [1, 2, 3, 4, 5, 7] dX5_odds_120 rfl (by rw [e14]; rfl) (by decide) rfl rfl rfl rfl rfl ?_
      refine fw_goto (tgt := 40) dX5_odds_123 (by decide) ?_
      refine fw_ls [3, 4, 5, 6, 2, 1, 0] rfl ?_
      exact hk40 hg5 h
  · have h := fw_if h c1
    refine fw_iload dX5_odds_60 rfl ?_
    refine fw_iconst (v := 2) dX5_odds_62 (by decide) ?_
    refine fw_iload dX5_odds_63 rfl ?_
    refine fw_imul dX5_odds_65 ?_
    refine fw_ishr dX5_odds_66 ?_
    refine fw_iconst (v := 3) dX5_odds_67 (by decide) ?_
    refine fw_iand dX5_odds_68 ?_
    refine fw_topi (fun i8_15 e16 => ?_)
    have h := h i8_15 e16
    refine fw_istoreN (Ls' := [(8, Value.int i8_15), (7, Value.int i7), (0, fw_rv g r0), (1, Value.int i1), (2, Value.int i2), (3, Value.int i3), (4, Value.int i4), (5, Value.int i5), (6, Value.int i6)]) [0, 1, 2, 3, 4, 5, 6] dX5_odds_69 (by decide) rfl rfl rfl rfl rfl ?_
    refine fw_aload_n dX5_odds_71 rfl rfl ?_
    refine fw_getfP fl_X5_85 rfl hx dX5_odds_72 ?_
    refine fw_iload dX5_odds_75 rfl ?_
    refine fw_dup2 dX5_odds_77 rfl (fw_cat _) ?_
    obtain ⟨hg17, h⟩ := h
    obtain ⟨hc18, h⟩ := h
    refine fw_iald hg17 hc18 dX5_odds_78 ?_
    refine fw_aload_n dX5_odds_79 rfl rfl ?_
    refine fw_getfP fl_X5_85 rfl hx dX5_odds_80 ?_
    refine fw_iload dX5_odds_83 rfl ?_
    obtain ⟨hc19, h⟩ := h
    refine fw_iald hg17 hc19 dX5_odds_85 ?_
    refine fw_if_le (tgt := 93) dX5_odds_86 (by decide) (fun c20 => ?_) (fun c20 => ?_)
    · have h := fw_it h c20
      refine fw_iconst (v := 0) dX5_odds_93 (by decide) ?_
      refine fw_isub dX5_odds_94 ?_
      obtain ⟨hc21, h⟩ := h
      refine fw_iast hg17 hc21 dX5_odds_95 ?_
      have h := h _ rfl
      obtain ⟨i7_23, e24⟩ : ∃ y : Int32, y = i7 + (1 : Int32) := ⟨_, rfl⟩
      have h := h i7_23 e24
      refine fw_iincN (k := 1) (v := i7_23) (Ls' := [(7, Value.int i7_23), (6, Value.int i6), (8, Value.int i8_15), (0, fw_rv g r0), (1, Value.int i1), (2, Value.int i2), (3, Value.int i3), (4, Value.int i4), (5, Value.int i5)]) [0, 2, 3, 4, 5, 6, 7] dX5_odds_96 rfl (by rw [e24]; rfl) (by decide) rfl rfl rfl rfl rfl ?_
      refine fw_goto (tgt := 54) dX5_odds_99 (by decide) ?_
      refine fw_ls [3, 4, 5, 6, 7, 8, 1, 0] rfl ?_
      exact hk54 hx h
    · have h := fw_if h c20
      refine fw_iconst (v := 1) dX5_odds_89 (by decide) ?_
      refine fw_goto (tgt := 94) dX5_odds_90 (by decide) ?_
      refine fw_isub dX5_odds_94 ?_
      obtain ⟨hc25, h⟩ := h
      refine fw_iast hg17 hc25 dX5_odds_95 ?_
      have h := h _ rfl
      obtain ⟨i7_27, e28⟩ : ∃ y : Int32, y = i7 + (1 : Int32) := ⟨_, rfl⟩
      have h := h i7_27 e28
      refine fw_iincN (k := 1) (v := i7_27) (Ls' := [(7, Value.int i7_27), (6, Value.int i6), (8, Value.int i8_15), (0, fw_rv g r0), (1, Value.int i1), (2, Value.int i2), (3, Value.int i3), (4, Value.int i4), (5, Value.int i5)]) [0, 2, 3, 4, 5, 6, 7] dX5_odds_96 rfl (by rw [e28]; rfl) (by decide) rfl rfl rfl rfl rfl ?_
      refine fw_goto (tgt := 54) dX5_odds_99 (by decide) ?_
      refine fw_ls [3, 4, 5, 6, 7, 8, 1, 0] rfl ?_
      exact hk54 hx h
theorem w_X5_odds_L54 {g : fw_G} {f bc bs : Nat} {k40 : Int32 → Int32 → fw_M → Prop} {r0 : Nat} {i1 : Int32} {i2 : Int32} {i3 : Int32} {i4 : Int32} {i5 : Int32} {i6 : Int32} {i7 : Int32} {μ : fw_M} {Q : Int64 → fw_M → Prop} (hf : 2 ≤ f) (hk40 : ∀ {i5 : Int32} {i6 : Int32} {μ : fw_M}, m_K μ r0 = 6 → k40 i5 i6 μ → fw_V g K_X5_odds f bc bs 40 [(0, fw_rv g r0), (1, Value.int i1), (2, Value.int i2), (3, Value.int i3), (4, Value.int i4), (5, Value.int i5), (6, Value.int i6)] [] μ (fw_Ql Q) fw_nX) (hx : m_K μ r0 = 6) (h : p_X5_odds_L54 k40 r0 i1 i2 i3 i4 i5 i6 i7 μ Q) : fw_V g K_X5_odds f bc bs 54 [(0, fw_rv g r0), (1, Value.int i1), (2, Value.int i2), (3, Value.int i3), (4, Value.int i4), (5, Value.int i5), (6, Value.int i6), (7, Value.int i7)] [] μ (fw_Ql Q) fw_nX := by
  have key := fw_lp_out (R := fun (a : Int32 × fw_M) => m_K a.2 r0 = 6 → fw_V g K_X5_odds f bc bs 54 [(0, fw_rv g r0), (1, Value.int i1), (2, Value.int i2), (3, Value.int i3), (4, Value.int i4), (5, Value.int i5), (6, Value.int i6), (7, Value.int a.1)] [] a.2 (fw_Ql Q) fw_nX) (fun k hk9 a ha hx2 => w_X5_odds_L54b hf hk40 (fun {i7} {μ} hx3 h3 => hk9 (i7, μ) h3 hx3) hx2 ha) h
  exact key hx
def p_X5_odds_L40b (r0 : Nat) (i1 : Int32) (i2 : Int32) (i3 : Int32) (i4 : Int32) (k40 : Int32 → Int32 → fw_M → Prop) (i5 : Int32) (i6 : Int32) (μ : fw_M) (Q : Int64 → fw_M → Prop) : Prop :=
  (if i4 ≤ i6 then
  ((p_X5_common i4.toInt64 i5.toInt64 μ (fun w2 μ3 =>
   (if i3 = 0 then
   ((¬ w2 = 0 ∧ Q (i5.toInt64 / w2) μ3))
   else
   ((¬ w2 = 0 ∧ Q (i4.toInt64 / w2) μ3))))))
  else
  ((p_X5_laysWorld r0 μ (fun μ10 =>
   p_X5_odds_L54 k40 r0 i1 i2 i3 i4 i5 i6 (0 : Int32) μ10 Q))))
def p_X5_odds_L40 (r0 : Nat) (i1 : Int32) (i2 : Int32) (i3 : Int32) (i4 : Int32) (i5 : Int32) (i6 : Int32) (μ : fw_M) (Q : Int64 → fw_M → Prop) : Prop := fw_lp (fun (k : Int32 × Int32 × fw_M → Prop) (a : Int32 × Int32 × fw_M) => p_X5_odds_L40b r0 i1 i2 i3 i4 (fun i5 i6 μ => k (i5, i6, μ)) a.1 a.2.1 a.2.2 Q) (i5, i6, μ)
theorem r_X5_odds_L40 {r0 : Nat} {i1 : Int32} {i2 : Int32} {i3 : Int32} {i4 : Int32} {Q : Int64 → fw_M → Prop} (I : Int32 → Int32 → fw_M → Prop) (v : Int32 → Int32 → fw_M → Nat) (hs : ∀ (k : Int32 → Int32 → fw_M → Prop) (i5 : Int32) (i6 : Int32) (μ : fw_M), I i5 i6 μ → (∀ (i5' : Int32) (i6' : Int32) (ν : fw_M), I i5' i6' ν → v i5' i6' ν < v i5 i6 μ → k i5' i6' ν) → p_X5_odds_L40b r0 i1 i2 i3 i4 k i5 i6 μ Q) (i5 : Int32) (i6 : Int32) (μ : fw_M) (h : I i5 i6 μ) : p_X5_odds_L40 r0 i1 i2 i3 i4 i5 i6 μ Q :=
  fw_lp_in (A := Int32 × Int32 × fw_M) (fun a => I a.1 a.2.1 a.2.2) (fun a => v a.1 a.2.1 a.2.2) (fun k a ha hk => hs (fun i5 i6 μ => k (i5, i6, μ)) a.1 a.2.1 a.2.2 ha (fun i5' i6' ν hb hlt => hk (i5', i6', ν) hb hlt)) (i5, i6, μ) h
set_option maxHeartbeats 4000000 in
theorem w_X5_odds_L40b {g : fw_G} {f bc bs : Nat} {r0 : Nat} {i1 : Int32} {i2 : Int32} {i3 : Int32} {i4 : Int32} {k40 : Int32 → Int32 → fw_M → Prop} {i5 : Int32} {i6 : Int32} {μ : fw_M} {Q : Int64 → fw_M → Prop} (hf : 2 ≤ f) (hk40 : ∀ {i5 : Int32} {i6 : Int32} {μ : fw_M}, m_K μ r0 = 6 → k40 i5 i6 μ → fw_V g K_X5_odds f bc bs 40 [(0, fw_rv g r0), (1, Value.int i1), (2, Value.int i2), (3, Value.int i3), (4, Value.int i4), (5, Value.int i5), (6, Value.int i6)] [] μ (fw_Ql Q) fw_nX) (hx : m_K μ r0 = 6) (h : p_X5_odds_L40b r0 i1 i2 i3 i4 k40 i5 i6 μ Q) : fw_V g K_X5_odds f bc bs 40 [(0, fw_rv g r0), (1, Value.int i1), (2, Value.int i2), (3, Value.int i3), (4, Value.int i4), (5, Value.int i5), (6, Value.int i6)] [] μ (fw_Ql Q) fw_nX := by
  unfold p_X5_odds_L40b at h
  refine fw_iload dX5_odds_40 rfl ?_
  refine fw_iload dX5_odds_42 rfl ?_
  refine fw_icmp_ge (tgt := 126) dX5_odds_44 (by decide) (fun c1 => ?_) (fun c1 => ?_)
  · have h := fw_it h c1
    refine fw_iload dX5_odds_126 rfl ?_
    refine fw_i2l dX5_odds_128 ?_
    refine fw_iload dX5_odds_129 rfl ?_
    refine fw_i2l dX5_odds_131 ?_
    refine fw_callS2z (f1 := f - 1) cl_X5_399 (by decide) (by omega) (fw_s4 (Nat.le_of_ble_eq_true rfl)) dX5_odds_132 (w_X5_common (f := f - 1) (by omega) h) (fun _ _ h9 _ _ => h9.elim) (fun v9 μ3 q9 hs4 => ?_)
    obtain ⟨w2, rfl, h⟩ := q9
    refine fw_tl ?_
    have hg5 := hs4.K hx (by decide)
    refine fw_lstoreN (Ls' := [(6, Value.long w2), (5, Value.int i5), (0, fw_rv g r0), (1, Value.int i1), (2, Value.int i2), (3, Value.int i3), (4, Value.int i4)]) [0, 1, 2, 3, 4] dX5_odds_135 (by decide) rfl rfl rfl rfl rfl ?_
    refine fw_iload_n dX5_odds_137 rfl rfl ?_
    refine fw_if_eq (tgt := 150) dX5_odds_138 (by decide) (fun c6 => ?_) (fun c6 => ?_)
    · have h := fw_it h c6
      refine fw_iload dX5_odds_150 rfl ?_
      refine fw_i2l dX5_odds_152 ?_
      refine fw_lload dX5_odds_153 rfl ?_
      obtain ⟨hc7, h⟩ := h
      refine fw_ldiv dX5_odds_155 hc7 ?_
      exact fw_lreturn dX5_odds_156 rfl ⟨_, rfl, h⟩
    · have h := fw_if h c6
      refine fw_iload dX5_odds_141 rfl ?_
      refine fw_i2l dX5_odds_143 ?_
      refine fw_lload dX5_odds_144 rfl ?_
      obtain ⟨hc8, h⟩ := h
      refine fw_ldiv dX5_odds_146 hc8 ?_
      refine fw_goto (tgt := 156) dX5_odds_147 (by decide) ?_
      exact fw_lreturn dX5_odds_156 rfl ⟨_, rfl, h⟩
  · have h := fw_if h c1
    refine fw_aload_n dX5_odds_47 rfl rfl ?_
    refine fw_callV0z (f1 := f - 1) cl_X5_349 rfl hx (by decide) (by omega) (fw_s4 (Nat.le_of_ble_eq_true rfl)) dX5_odds_48 (w_X5_laysWorld (f := f - 1) (by omega) hx h) (fun _ _ h9 _ _ => h9.elim) (fun v9 μ10 q9 hs11 => ?_)
    obtain ⟨rfl, h⟩ := q9
    refine fw_tv ?_
    have hg12 := hs11.K hx (by decide)
    refine fw_iconst (v := 0) dX5_odds_51 (by decide) ?_
    refine fw_istoreN (Ls' := [(7, Value.int (0 : Int32)), (6, Value.int i6), (0, fw_rv g r0), (1, Value.int i1), (2, Value.int i2), (3, Value.int i3), (4, Value.int i4), (5, Value.int i5)]) [0, 1, 2, 3, 4, 5] dX5_odds_52 (by decide) rfl rfl rfl rfl rfl ?_
    refine fw_ls [2, 3, 4, 5, 6, 7, 1, 0] rfl ?_
    exact w_X5_odds_L54 hf hk40 hg12 h
theorem w_X5_odds_L40 {g : fw_G} {f bc bs : Nat} {r0 : Nat} {i1 : Int32} {i2 : Int32} {i3 : Int32} {i4 : Int32} {i5 : Int32} {i6 : Int32} {μ : fw_M} {Q : Int64 → fw_M → Prop} (hf : 2 ≤ f) (hx : m_K μ r0 = 6) (h : p_X5_odds_L40 r0 i1 i2 i3 i4 i5 i6 μ Q) : fw_V g K_X5_odds f bc bs 40 [(0, fw_rv g r0), (1, Value.int i1), (2, Value.int i2), (3, Value.int i3), (4, Value.int i4), (5, Value.int i5), (6, Value.int i6)] [] μ (fw_Ql Q) fw_nX := by
  have key := fw_lp_out (R := fun (a : Int32 × Int32 × fw_M) => m_K a.2.2 r0 = 6 → fw_V g K_X5_odds f bc bs 40 [(0, fw_rv g r0), (1, Value.int i1), (2, Value.int i2), (3, Value.int i3), (4, Value.int i4), (5, Value.int a.1), (6, Value.int a.2.1)] [] a.2.2 (fw_Ql Q) fw_nX) (fun k hk9 a ha hx2 => w_X5_odds_L40b hf (fun {i5 i6} {μ} hx3 h3 => hk9 (i5, i6, μ) h3 hx3) hx2 ha) h
  exact key hx
def p_X5_odds (r0 : Nat) (i1 : Int32) (i2 : Int32) (i3 : Int32) (μ : fw_M) (Q : Int64 → fw_M → Prop) : Prop :=
  (p_X5_in i1 (-9999 : Int32) (9999 : Int32) μ (fun v1 μ2 =>
  (if v1 = 0 then
  (Q (-1 : Int64) μ2)
  else
  ((p_X5_in i2 (0 : Int32) (6 : Int32) μ2 (fun v6 μ7 =>
   (if v6 = 0 then
   (Q (-1 : Int64) μ7)
   else
   ((∀ i4_11 : Int32, i4_11 = ((1 : Int32) <<< (((2 : Int32) * i2) &&& 31)) →
    p_X5_odds_L40 r0 i1 i2 i3 i4_11 (0 : Int32) (0 : Int32) μ7 Q)))))))))
set_option maxHeartbeats 4000000 in
theorem w_X5_odds {g : fw_G} {f bc bs : Nat} {r0 : Nat} {i1 : Int32} {i2 : Int32} {i3 : Int32} {μ : fw_M} {Q : Int64 → fw_M → Prop} (hf : 2 ≤ f) (hx : m_K μ r0 = 6) (h : p_X5_odds r0 i1 i2 i3 μ Q) : fw_C g f bc bs yX5_odds (ws_ yX5_odds cX5_odds 9 (some .long)) [fw_rv g r0, Value.int i1, Value.int i2, Value.int i3] μ (fw_Ql Q) fw_nX := by
  unfold p_X5_odds at h
  refine fw_intro' (Ls := [(0, fw_rv g r0), (1, Value.int i1), (2, Value.int i2), (3, Value.int i3)]) (by decide +kernel) (by simp [lg_sl, fw_cat, fw_ci, fw_clo]) (by simp [lv_args, fw_cat, fw_ci, fw_clo]) ?_
  show fw_V g K_X5_odds f bc bs 0 [(0, fw_rv g r0), (1, Value.int i1), (2, Value.int i2), (3, Value.int i3)] [] μ (fw_Ql Q) fw_nX
  refine fw_iload_n dX5_odds_0 rfl rfl ?_
  refine fw_sipush (v := -9999) dX5_odds_1 (by decide) ?_
  refine fw_sipush (v := 9999) dX5_odds_4 (by decide) ?_
  refine fw_callS3z (f1 := f - 1) cl_X5_110 (by decide) (by omega) (fw_s4 (Nat.le_of_ble_eq_true rfl)) dX5_odds_7 (w_X5_in (f := f - 1) (by omega) h) (fun _ _ h9 _ _ => h9.elim) (fun v9 μ2 q9 hs3 => ?_)
  obtain ⟨v1, rfl, h⟩ := q9
  refine fw_ti ?_
  have hg4 := hs3.K hx (by decide)
  refine fw_if_eq (tgt := 23) dX5_odds_10 (by decide) (fun c5 => ?_) (fun c5 => ?_)
  · have h := fw_it h c5
    refine fw_ldc2 q1521 dX5_odds_23 ?_
    exact fw_lreturn dX5_odds_26 rfl ⟨_, rfl, h⟩
  · have h := fw_if h c5
    refine fw_iload_n dX5_odds_13 rfl rfl ?_
    refine fw_iconst (v := 0) dX5_odds_14 (by decide) ?_
    refine fw_bipush (v := 6) dX5_odds_15 (by decide) ?_
    refine fw_callS3z (f1 := f - 1) cl_X5_110 (by decide) (by omega) (fw_s4 (Nat.le_of_ble_eq_true rfl)) dX5_odds_17 (w_X5_in (f := f - 1) (by omega) h) (fun _ _ h9 _ _ => h9.elim) (fun v9 μ7 q9 hs8 => ?_)
    obtain ⟨v6, rfl, h⟩ := q9
    refine fw_ti ?_
    have hg9 := hs8.K hg4 (by decide)
    refine fw_if_ne (tgt := 27) dX5_odds_20 (by decide) (fun c10 => ?_) (fun c10 => ?_)
    · have h := fw_if h c10
      refine fw_iconst (v := 1) dX5_odds_27 (by decide) ?_
      refine fw_iconst (v := 2) dX5_odds_28 (by decide) ?_
      refine fw_iload_n dX5_odds_29 rfl rfl ?_
      refine fw_imul dX5_odds_30 ?_
      refine fw_ishl dX5_odds_31 ?_
      refine fw_topi (fun i4_11 e12 => ?_)
      have h := h i4_11 e12
      refine fw_istoreN (Ls' := [(4, Value.int i4_11), (3, Value.int i3), (0, fw_rv g r0), (1, Value.int i1), (2, Value.int i2)]) [0, 1, 2] dX5_odds_32 (by decide) rfl rfl rfl rfl rfl ?_
      refine fw_iconst (v := 0) dX5_odds_34 (by decide) ?_
      refine fw_istoreN (Ls' := [(5, Value.int (0 : Int32)), (4, Value.int i4_11), (3, Value.int i3), (0, fw_rv g r0), (1, Value.int i1), (2, Value.int i2)]) [1, 2, 3, 4] dX5_odds_35 (by decide) rfl rfl rfl rfl rfl ?_
      refine fw_iconst (v := 0) dX5_odds_37 (by decide) ?_
      refine fw_istoreN (Ls' := [(6, Value.int (0 : Int32)), (5, Value.int (0 : Int32)), (4, Value.int i4_11), (3, Value.int i3), (0, fw_rv g r0), (1, Value.int i1), (2, Value.int i2)]) [1, 2, 3, 4, 5] dX5_odds_38 (by decide) rfl rfl rfl rfl rfl ?_
      refine fw_ls [4, 5, 6, 3, 2, 1, 0] rfl ?_
      exact w_X5_odds_L40 hf hg9 h
    · have h := fw_it h c10
      refine fw_ldc2 q1521 dX5_odds_23 ?_
      exact fw_lreturn dX5_odds_26 rfl ⟨_, rfl, h⟩
abbrev K_X5_tell : fw_Kt := (RX5, "tell", cX5_tell, 3, some .int, [])
def p_X5_tell (r0 : Nat) (i1 : Int32) (i2 : Int32) (μ : fw_M) (Q : Int32 → fw_M → Prop) : Prop :=
  (if i1 = (-1 : Int32) then
  ((m_K μ (m_P μ r0 0) = 100 ∧ (vp_in (5 : Int32) (m_N μ (m_P μ r0 0)) ∧ (∀ μ30, μ30 = m_uI μ (m_P μ r0 0) (5 : Int32).toNatClampNeg (0 : Int32) →
   Q (0 : Int32) μ30))))
  else
  ((p_X5_isEater r0 i1 μ (fun v2 μ3 =>
   (if v2 = 0 then
   (Q (-2 : Int32) μ3)
   else
   ((p_X5_in i2 (1 : Int32) (999 : Int32) μ3 (fun v7 μ8 =>
    (if v7 = 0 then
    (Q (-2 : Int32) μ8)
    else
    ((m_K μ8 (m_P μ8 r0 0) = 100 ∧ (vp_in (5 : Int32) (m_N μ8 (m_P μ8 r0 0)) ∧ (if (m_I μ8 (m_P μ8 r0 0) (5 : Int32).toNatClampNeg) = (20 : Int32) then
     (Q (-2 : Int32) μ8)
     else
     ((vp_in (5 : Int32) (m_N μ8 (m_P μ8 r0 0)) ∧ (vp_in ((64 : Int32) + ((2 : Int32) * (m_I μ8 (m_P μ8 r0 0) (5 : Int32).toNatClampNeg))) (m_N μ8 (m_P μ8 r0 0)) ∧ (∀ μ17, μ17 = m_uI μ8 (m_P μ8 r0 0) ((64 : Int32) + ((2 : Int32) * (m_I μ8 (m_P μ8 r0 0) (5 : Int32).toNatClampNeg))).toNatClampNeg i1 →
      (m_K μ17 (m_P μ17 r0 0) = 100 ∧ (vp_in (5 : Int32) (m_N μ17 (m_P μ17 r0 0)) ∧ (vp_in (((64 : Int32) + ((2 : Int32) * (m_I μ17 (m_P μ17 r0 0) (5 : Int32).toNatClampNeg))) + (1 : Int32)) (m_N μ17 (m_P μ17 r0 0)) ∧ (∀ μ21, μ21 = m_uI μ17 (m_P μ17 r0 0) (((64 : Int32) + ((2 : Int32) * (m_I μ17 (m_P μ17 r0 0) (5 : Int32).toNatClampNeg))) + (1 : Int32)).toNatClampNeg i2 →
      (m_K μ21 (m_P μ21 r0 0) = 100 ∧ (vp_in (5 : Int32) (m_N μ21 (m_P μ21 r0 0)) ∧ (vp_in (5 : Int32) (m_N μ21 (m_P μ21 r0 0)) ∧ (∀ μ25, μ25 = m_uI μ21 (m_P μ21 r0 0) (5 : Int32).toNatClampNeg ((m_I μ21 (m_P μ21 r0 0) (5 : Int32).toNatClampNeg) + (1 : Int32)) →
      (m_K μ25 (m_P μ25 r0 0) = 100 ∧ (vp_in (5 : Int32) (m_N μ25 (m_P μ25 r0 0)) ∧ Q (m_I μ25 (m_P μ25 r0 0) (5 : Int32).toNatClampNeg) μ25)))))))))))))))))))))))))))
set_option maxHeartbeats 4000000 in
theorem w_X5_tell {g : fw_G} {f bc bs : Nat} {r0 : Nat} {i1 : Int32} {i2 : Int32} {μ : fw_M} {Q : Int32 → fw_M → Prop} (hf : 3 ≤ f) (hx : m_K μ r0 = 6) (h : p_X5_tell r0 i1 i2 μ Q) : fw_C g f bc bs yX5_tell (ws_ yX5_tell cX5_tell 3 (some .int)) [fw_rv g r0, Value.int i1, Value.int i2] μ (fw_Qi Q) fw_nX := by
  unfold p_X5_tell at h
  refine fw_intro' (Ls := [(0, fw_rv g r0), (1, Value.int i1), (2, Value.int i2)]) (by decide +kernel) (by simp [lg_sl, fw_cat, fw_ci, fw_clo]) (by simp [lv_args, fw_cat, fw_ci, fw_clo]) ?_
  show fw_V g K_X5_tell f bc bs 0 [(0, fw_rv g r0), (1, Value.int i1), (2, Value.int i2)] [] μ (fw_Qi Q) fw_nX
  refine fw_iload_n dX5_tell_0 rfl rfl ?_
  refine fw_iconst (v := -1) dX5_tell_1 (by decide) ?_
  refine fw_icmp_ne (tgt := 14) dX5_tell_2 (by decide) (fun c1 => ?_) (fun c1 => ?_)
  · have h := fw_if h c1
    refine fw_aload_n dX5_tell_14 rfl rfl ?_
    refine fw_iload_n dX5_tell_15 rfl rfl ?_
    refine fw_callV1z (f1 := f - 1) cl_X5_343 rfl hx (by decide) (by omega) (fw_s4 (Nat.le_of_ble_eq_true rfl)) dX5_tell_16 (w_X5_isEater (f := f - 1) (by omega) hx h) (fun _ _ h9 _ _ => h9.elim) (fun v9 μ3 q9 hs4 => ?_)
    obtain ⟨v2, rfl, h⟩ := q9
    refine fw_ti ?_
    have hg5 := hs4.K hx (by decide)
    refine fw_if_eq (tgt := 44) dX5_tell_19 (by decide) (fun c6 => ?_) (fun c6 => ?_)
    · have h := fw_it h c6
      refine fw_bipush (v := -2) dX5_tell_44 (by decide) ?_
      exact fw_ireturn dX5_tell_46 rfl rfl ⟨_, rfl, h⟩
    · have h := fw_if h c6
      refine fw_iload_n dX5_tell_22 rfl rfl ?_
      refine fw_iconst (v := 1) dX5_tell_23 (by decide) ?_
      refine fw_sipush (v := 999) dX5_tell_24 (by decide) ?_
      refine fw_callS3z (f1 := f - 1) cl_X5_110 (by decide) (by omega) (fw_s4 (Nat.le_of_ble_eq_true rfl)) dX5_tell_27 (w_X5_in (f := f - 1) (by omega) h) (fun _ _ h9 _ _ => h9.elim) (fun v9 μ8 q9 hs9 => ?_)
      obtain ⟨v7, rfl, h⟩ := q9
      refine fw_ti ?_
      have hg10 := hs9.K hg5 (by decide)
      refine fw_if_eq (tgt := 44) dX5_tell_30 (by decide) (fun c11 => ?_) (fun c11 => ?_)
      · have h := fw_it h c11
        refine fw_bipush (v := -2) dX5_tell_44 (by decide) ?_
        exact fw_ireturn dX5_tell_46 rfl rfl ⟨_, rfl, h⟩
      · have h := fw_if h c11
        refine fw_aload_n dX5_tell_33 rfl rfl ?_
        refine fw_getfP fl_X5_7 rfl hg10 dX5_tell_34 ?_
        refine fw_iconst (v := 5) dX5_tell_37 (by decide) ?_
        obtain ⟨hg12, h⟩ := h
        obtain ⟨hc13, h⟩ := h
        refine fw_iald hg12 hc13 dX5_tell_38 ?_
        refine fw_bipush (v := 20) dX5_tell_39 (by decide) ?_
        refine fw_icmp_ne (tgt := 47) dX5_tell_41 (by decide) (fun c14 => ?_) (fun c14 => ?_)
        · have h := fw_if h c14
          refine fw_aload_n dX5_tell_47 rfl rfl ?_
          refine fw_getfP fl_X5_7 rfl hg10 dX5_tell_48 ?_
          refine fw_bipush (v := 64) dX5_tell_51 (by decide) ?_
          refine fw_iconst (v := 2) dX5_tell_53 (by decide) ?_
          refine fw_aload_n dX5_tell_54 rfl rfl ?_
          refine fw_getfP fl_X5_7 rfl hg10 dX5_tell_55 ?_
          refine fw_iconst (v := 5) dX5_tell_58 (by decide) ?_
          obtain ⟨hc15, h⟩ := h
          refine fw_iald hg12 hc15 dX5_tell_59 ?_
          refine fw_imul dX5_tell_60 ?_
          refine fw_iadd dX5_tell_61 ?_
          refine fw_iload_n dX5_tell_62 rfl rfl ?_
          obtain ⟨hc16, h⟩ := h
          refine fw_iast hg12 hc16 dX5_tell_63 ?_
          have h := h _ rfl
          refine fw_aload_n dX5_tell_64 rfl rfl ?_
          refine fw_getfP fl_X5_7 rfl hg10 dX5_tell_65 ?_
          refine fw_bipush (v := 64) dX5_tell_68 (by decide) ?_
          refine fw_iconst (v := 2) dX5_tell_70 (by decide) ?_
          refine fw_aload_n dX5_tell_71 rfl rfl ?_
          refine fw_getfP fl_X5_7 rfl hg10 dX5_tell_72 ?_
          refine fw_iconst (v := 5) dX5_tell_75 (by decide) ?_
          obtain ⟨hg18, h⟩ := h
          obtain ⟨hc19, h⟩ := h
          refine fw_iald hg18 hc19 dX5_tell_76 ?_
          refine fw_imul dX5_tell_77 ?_
          refine fw_iadd dX5_tell_78 ?_
          refine fw_iconst (v := 1) dX5_tell_79 (by decide) ?_
          refine fw_iadd dX5_tell_80 ?_
          refine fw_iload_n dX5_tell_81 rfl rfl ?_
          obtain ⟨hc20, h⟩ := h
          refine fw_iast hg18 hc20 dX5_tell_82 ?_
          have h := h _ rfl
          refine fw_aload_n dX5_tell_83 rfl rfl ?_
          refine fw_getfP fl_X5_7 rfl hg10 dX5_tell_84 ?_
          refine fw_iconst (v := 5) dX5_tell_87 (by decide) ?_
          refine fw_dup2 dX5_tell_88 rfl (fw_cat _) ?_
          obtain ⟨hg22, h⟩ := h
          obtain ⟨hc23, h⟩ := h
          refine fw_iald hg22 hc23 dX5_tell_89 ?_
          refine fw_iconst (v := 1) dX5_tell_90 (by decide) ?_
          refine fw_iadd dX5_tell_91 ?_
          obtain ⟨hc24, h⟩ := h
          refine fw_iast hg22 hc24 dX5_tell_92 ?_
          have h := h _ rfl
          refine fw_aload_n dX5_tell_93 rfl rfl ?_
          refine fw_getfP fl_X5_7 rfl hg10 dX5_tell_94 ?_
          refine fw_iconst (v := 5) dX5_tell_97 (by decide) ?_
          obtain ⟨hg26, h⟩ := h
          obtain ⟨hc27, h⟩ := h
          refine fw_iald hg26 hc27 dX5_tell_98 ?_
          exact fw_ireturn dX5_tell_99 rfl rfl ⟨_, rfl, h⟩
        · have h := fw_it h c14
          refine fw_bipush (v := -2) dX5_tell_44 (by decide) ?_
          exact fw_ireturn dX5_tell_46 rfl rfl ⟨_, rfl, h⟩
  · have h := fw_it h c1
    refine fw_aload_n dX5_tell_5 rfl rfl ?_
    refine fw_getfP fl_X5_7 rfl hx dX5_tell_6 ?_
    refine fw_iconst (v := 5) dX5_tell_9 (by decide) ?_
    refine fw_iconst (v := 0) dX5_tell_10 (by decide) ?_
    obtain ⟨hg28, h⟩ := h
    obtain ⟨hc29, h⟩ := h
    refine fw_iast hg28 hc29 dX5_tell_11 ?_
    have h := h _ rfl
    refine fw_iconst (v := 0) dX5_tell_12 (by decide) ?_
    exact fw_ireturn dX5_tell_13 rfl rfl ⟨_, rfl, h⟩
abbrev K_X5_toldMore : fw_Kt := (RX5, "toldMore", cX5_toldMore, 4, some .int, [])
def p_X5_toldMore_L13b (r0 : Nat) (i1 : Int32) (k13 : Int32 → Int32 → fw_M → Prop) (i2 : Int32) (i3 : Int32) (μ : fw_M) (Q : Int32 → fw_M → Prop) : Prop :=
  (m_K μ (m_P μ r0 0) = 100 ∧ (vp_in (5 : Int32) (m_N μ (m_P μ r0 0)) ∧ (if (m_I μ (m_P μ r0 0) (5 : Int32).toNatClampNeg) ≤ i3 then
  (Q i2 μ)
  else
  ((vp_in ((64 : Int32) + ((2 : Int32) * i3)) (m_N μ (m_P μ r0 0)) ∧ (if (m_I μ (m_P μ r0 0) ((64 : Int32) + ((2 : Int32) * i3)).toNatClampNeg) = i1 then
   ((vp_in (((64 : Int32) + ((2 : Int32) * i3)) + (1 : Int32)) (m_N μ (m_P μ r0 0)) ∧ (∀ i2_11 : Int32, i2_11 = (i2 + (m_I μ (m_P μ r0 0) (((64 : Int32) + ((2 : Int32) * i3)) + (1 : Int32)).toNatClampNeg)) →
    (∀ i3_13 : Int32, i3_13 = i3 + (1 : Int32) →
    k13 i2_11 i3_13 μ))))
   else
   ((∀ i2_6 : Int32, i2_6 = (i2 + (0 : Int32)) →
    (∀ i3_8 : Int32, i3_8 = i3 + (1 : Int32) →
    k13 i2_6 i3_8 μ)))))))))
def p_X5_toldMore_L13 (r0 : Nat) (i1 : Int32) (i2 : Int32) (i3 : Int32) (μ : fw_M) (Q : Int32 → fw_M → Prop) : Prop := fw_lp (fun (k : Int32 × Int32 × fw_M → Prop) (a : Int32 × Int32 × fw_M) => p_X5_toldMore_L13b r0 i1 (fun i2 i3 μ => k (i2, i3, μ)) a.1 a.2.1 a.2.2 Q) (i2, i3, μ)
theorem r_X5_toldMore_L13 {r0 : Nat} {i1 : Int32} {Q : Int32 → fw_M → Prop} (I : Int32 → Int32 → fw_M → Prop) (v : Int32 → Int32 → fw_M → Nat) (hs : ∀ (k : Int32 → Int32 → fw_M → Prop) (i2 : Int32) (i3 : Int32) (μ : fw_M), I i2 i3 μ → (∀ (i2' : Int32) (i3' : Int32) (ν : fw_M), I i2' i3' ν → v i2' i3' ν < v i2 i3 μ → k i2' i3' ν) → p_X5_toldMore_L13b r0 i1 k i2 i3 μ Q) (i2 : Int32) (i3 : Int32) (μ : fw_M) (h : I i2 i3 μ) : p_X5_toldMore_L13 r0 i1 i2 i3 μ Q :=
  fw_lp_in (A := Int32 × Int32 × fw_M) (fun a => I a.1 a.2.1 a.2.2) (fun a => v a.1 a.2.1 a.2.2) (fun k a ha hk => hs (fun i2 i3 μ => k (i2, i3, μ)) a.1 a.2.1 a.2.2 ha (fun i2' i3' ν hb hlt => hk (i2', i3', ν) hb hlt)) (i2, i3, μ) h
set_option maxHeartbeats 4000000 in
theorem w_X5_toldMore_L13b {g : fw_G} {f bc bs : Nat} {r0 : Nat} {i1 : Int32} {k13 : Int32 → Int32 → fw_M → Prop} {i2 : Int32} {i3 : Int32} {μ : fw_M} {Q : Int32 → fw_M → Prop} (hf : 1 ≤ f) (hk13 : ∀ {i2 : Int32} {i3 : Int32} {μ : fw_M}, m_K μ r0 = 6 → k13 i2 i3 μ → fw_V g K_X5_toldMore f bc bs 13 [(0, fw_rv g r0), (1, Value.int i1), (2, Value.int i2), (3, Value.int i3)] [] μ (fw_Qi Q) fw_nX) (hx : m_K μ r0 = 6) (h : p_X5_toldMore_L13b r0 i1 k13 i2 i3 μ Q) : fw_V g K_X5_toldMore f bc bs 13 [(0, fw_rv g r0), (1, Value.int i1), (2, Value.int i2), (3, Value.int i3)] [] μ (fw_Qi Q) fw_nX := by
  unfold p_X5_toldMore_L13b at h
  refine fw_iload_n dX5_toldMore_13 rfl rfl ?_
  refine fw_aload_n dX5_toldMore_14 rfl rfl ?_
  refine fw_getfP fl_X5_7 rfl hx dX5_toldMore_15 ?_
  refine fw_iconst (v := 5) dX5_toldMore_18 (by decide) ?_
  obtain ⟨hg1, h⟩ := h
  obtain ⟨hc2, h⟩ := h
  refine fw_iald hg1 hc2 dX5_toldMore_19 ?_
  refine fw_icmp_ge (tgt := 64) dX5_toldMore_20 (by decide) (fun c3 => ?_) (fun c3 => ?_)
  · have h := fw_it h c3
    refine fw_iload_n dX5_toldMore_64 rfl rfl ?_
    exact fw_ireturn dX5_toldMore_65 rfl rfl ⟨_, rfl, h⟩
  · have h := fw_if h c3
    refine fw_iload_n dX5_toldMore_23 rfl rfl ?_
    refine fw_aload_n dX5_toldMore_24 rfl rfl ?_
    refine fw_getfP fl_X5_7 rfl hx dX5_toldMore_25 ?_
    refine fw_bipush (v := 64) dX5_toldMore_28 (by decide) ?_
    refine fw_iconst (v := 2) dX5_toldMore_30 (by decide) ?_
    refine fw_iload_n dX5_toldMore_31 rfl rfl ?_
    refine fw_imul dX5_toldMore_32 ?_
    refine fw_iadd dX5_toldMore_33 ?_
    obtain ⟨hc4, h⟩ := h
    refine fw_iald hg1 hc4 dX5_toldMore_34 ?_
    refine fw_iload_n dX5_toldMore_35 rfl rfl ?_
    refine fw_icmp_ne (tgt := 55) dX5_toldMore_36 (by decide) (fun c5 => ?_) (fun c5 => ?_)
    · have h := fw_if h c5
      refine fw_iconst (v := 0) dX5_toldMore_55 (by decide) ?_
      refine fw_iadd dX5_toldMore_56 ?_
      refine fw_topi (fun i2_6 e7 => ?_)
      have h := h i2_6 e7
      refine fw_istore_nN (Ls' := [(2, Value.int i2_6), (1, Value.int i1), (0, fw_rv g r0), (3, Value.int i3)]) [0, 3] dX5_toldMore_57 rfl (by decide) rfl rfl rfl rfl rfl ?_
      obtain ⟨i3_8, e9⟩ : ∃ y : Int32, y = i3 + (1 : Int32) := ⟨_, rfl⟩
      have h := h i3_8 e9
      refine fw_iincN (k := 3) (v := i3_8) (Ls' := [(3, Value.int i3_8), (2, Value.int i2_6), (1, Value.int i1), (0, fw_rv g r0)]) [1, 2] dX5_toldMore_58 rfl (by rw [e9]; rfl) (by decide) rfl rfl rfl rfl rfl ?_
      refine fw_goto (tgt := 13) dX5_toldMore_61 (by decide) ?_
      refine fw_ls [3, 2, 1, 0] rfl ?_
      exact hk13 hx h
    · have h := fw_it h c5
      refine fw_aload_n dX5_toldMore_39 rfl rfl ?_
      refine fw_getfP fl_X5_7 rfl hx dX5_toldMore_40 ?_
      refine fw_bipush (v := 64) dX5_toldMore_43 (by decide) ?_
      refine fw_iconst (v := 2) dX5_toldMore_45 (by decide) ?_
      refine fw_iload_n dX5_toldMore_46 rfl rfl ?_
      refine fw_imul dX5_toldMore_47 ?_
      refine fw_iadd dX5_toldMore_48 ?_
      refine fw_iconst (v := 1) dX5_toldMore_49 (by decide) ?_
      refine fw_iadd dX5_toldMore_50 ?_
      obtain ⟨hc10, h⟩ := h
      refine fw_iald hg1 hc10 dX5_toldMore_51 ?_
      refine fw_goto (tgt := 56) dX5_toldMore_52 (by decide) ?_
      refine fw_iadd dX5_toldMore_56 ?_
      refine fw_topi (fun i2_11 e12 => ?_)
      have h := h i2_11 e12
      refine fw_istore_nN (Ls' := [(2, Value.int i2_11), (1, Value.int i1), (0, fw_rv g r0), (3, Value.int i3)]) [0, 3] dX5_toldMore_57 rfl (by decide) rfl rfl rfl rfl rfl ?_
      obtain ⟨i3_13, e14⟩ : ∃ y : Int32, y = i3 + (1 : Int32) := ⟨_, rfl⟩
      have h := h i3_13 e14
      refine fw_iincN (k := 3) (v := i3_13) (Ls' := [(3, Value.int i3_13), (2, Value.int i2_11), (1, Value.int i1), (0, fw_rv g r0)]) [1, 2] dX5_toldMore_58 rfl (by rw [e14]; rfl) (by decide) rfl rfl rfl rfl rfl ?_
      refine fw_goto (tgt := 13) dX5_toldMore_61 (by decide) ?_
      refine fw_ls [3, 2, 1, 0] rfl ?_
      exact hk13 hx h
theorem w_X5_toldMore_L13 {g : fw_G} {f bc bs : Nat} {r0 : Nat} {i1 : Int32} {i2 : Int32} {i3 : Int32} {μ : fw_M} {Q : Int32 → fw_M → Prop} (hf : 1 ≤ f) (hx : m_K μ r0 = 6) (h : p_X5_toldMore_L13 r0 i1 i2 i3 μ Q) : fw_V g K_X5_toldMore f bc bs 13 [(0, fw_rv g r0), (1, Value.int i1), (2, Value.int i2), (3, Value.int i3)] [] μ (fw_Qi Q) fw_nX := by
  have key := fw_lp_out (R := fun (a : Int32 × Int32 × fw_M) => m_K a.2.2 r0 = 6 → fw_V g K_X5_toldMore f bc bs 13 [(0, fw_rv g r0), (1, Value.int i1), (2, Value.int a.1), (3, Value.int a.2.1)] [] a.2.2 (fw_Qi Q) fw_nX) (fun k hk9 a ha hx2 => w_X5_toldMore_L13b hf (fun {i2 i3} {μ} hx3 h3 => hk9 (i2, i3, μ) h3 hx3) hx2 ha) h
  exact key hx
def p_X5_toldMore (r0 : Nat) (i1 : Int32) (μ : fw_M) (Q : Int32 → fw_M → Prop) : Prop :=
  (m_K μ (m_P μ r0 0) = 100 ∧ (vp_in ((123 : Int32) + i1) (m_N μ (m_P μ r0 0)) ∧ (∀ i2_3 : Int32, i2_3 = (-(m_I μ (m_P μ r0 0) ((123 : Int32) + i1).toNatClampNeg)) →
  p_X5_toldMore_L13 r0 i1 i2_3 (0 : Int32) μ Q)))
set_option maxHeartbeats 4000000 in
theorem w_X5_toldMore {g : fw_G} {f bc bs : Nat} {r0 : Nat} {i1 : Int32} {μ : fw_M} {Q : Int32 → fw_M → Prop} (hf : 1 ≤ f) (hx : m_K μ r0 = 6) (h : p_X5_toldMore r0 i1 μ Q) : fw_C g f bc bs yX5_toldMore (ws_ yX5_toldMore cX5_toldMore 4 (some .int)) [fw_rv g r0, Value.int i1] μ (fw_Qi Q) fw_nX := by
  unfold p_X5_toldMore at h
  refine fw_intro' (Ls := [(0, fw_rv g r0), (1, Value.int i1)]) (by decide +kernel) (by simp [lg_sl, fw_cat, fw_ci, fw_clo]) (by simp [lv_args, fw_cat, fw_ci, fw_clo]) ?_
  show fw_V g K_X5_toldMore f bc bs 0 [(0, fw_rv g r0), (1, Value.int i1)] [] μ (fw_Qi Q) fw_nX
  refine fw_aload_n dX5_toldMore_0 rfl rfl ?_
  refine fw_getfP fl_X5_7 rfl hx dX5_toldMore_1 ?_
  refine fw_bipush (v := 123) dX5_toldMore_4 (by decide) ?_
  refine fw_iload_n dX5_toldMore_6 rfl rfl ?_
  refine fw_iadd dX5_toldMore_7 ?_
  obtain ⟨hg1, h⟩ := h
  obtain ⟨hc2, h⟩ := h
  refine fw_iald hg1 hc2 dX5_toldMore_8 ?_
  refine fw_ineg dX5_toldMore_9 ?_
  refine fw_topi (fun i2_3 e4 => ?_)
  have h := h i2_3 e4
  refine fw_istore_nN (Ls' := [(2, Value.int i2_3), (1, Value.int i1), (0, fw_rv g r0)]) [0] dX5_toldMore_10 rfl (by decide) rfl rfl rfl rfl rfl ?_
  refine fw_iconst (v := 0) dX5_toldMore_11 (by decide) ?_
  refine fw_istore_nN (Ls' := [(3, Value.int (0 : Int32)), (2, Value.int i2_3), (1, Value.int i1), (0, fw_rv g r0)]) [1, 2] dX5_toldMore_12 rfl (by decide) rfl rfl rfl rfl rfl ?_
  refine fw_ls [3, 2, 1, 0] rfl ?_
  exact w_X5_toldMore_L13 hf hx h
abbrev K_X5_liars : fw_Kt := (RX5, "liars", cX5_liars, 3, some .int, [])
def p_X5_liars_L4b (r0 : Nat) (k4 : Int32 → Int32 → fw_M → Prop) (i1 : Int32) (i2 : Int32) (μ : fw_M) (Q : Int32 → fw_M → Prop) : Prop :=
  (m_K μ (m_P μ r0 0) = 100 ∧ (vp_in (0 : Int32) (m_N μ (m_P μ r0 0)) ∧ (if (m_I μ (m_P μ r0 0) (0 : Int32).toNatClampNeg) ≤ i2 then
  (Q i1 μ)
  else
  ((p_X5_toldMore r0 i2 μ (fun v4 μ5 =>
   (if v4 = 0 then
   ((∀ i1_13 : Int32, i1_13 = (i1 ||| (0 : Int32)) →
    (∀ i2_15 : Int32, i2_15 = i2 + (1 : Int32) →
    k4 i1_13 i2_15 μ5)))
   else
   ((∀ i1_9 : Int32, i1_9 = (i1 ||| ((1 : Int32) <<< (i2 &&& 31))) →
    (∀ i2_11 : Int32, i2_11 = i2 + (1 : Int32) →
    k4 i1_9 i2_11 μ5))))))))))
def p_X5_liars_L4 (r0 : Nat) (i1 : Int32) (i2 : Int32) (μ : fw_M) (Q : Int32 → fw_M → Prop) : Prop := fw_lp (fun (k : Int32 × Int32 × fw_M → Prop) (a : Int32 × Int32 × fw_M) => p_X5_liars_L4b r0 (fun i1 i2 μ => k (i1, i2, μ)) a.1 a.2.1 a.2.2 Q) (i1, i2, μ)
theorem r_X5_liars_L4 {r0 : Nat} {Q : Int32 → fw_M → Prop} (I : Int32 → Int32 → fw_M → Prop) (v : Int32 → Int32 → fw_M → Nat) (hs : ∀ (k : Int32 → Int32 → fw_M → Prop) (i1 : Int32) (i2 : Int32) (μ : fw_M), I i1 i2 μ → (∀ (i1' : Int32) (i2' : Int32) (ν : fw_M), I i1' i2' ν → v i1' i2' ν < v i1 i2 μ → k i1' i2' ν) → p_X5_liars_L4b r0 k i1 i2 μ Q) (i1 : Int32) (i2 : Int32) (μ : fw_M) (h : I i1 i2 μ) : p_X5_liars_L4 r0 i1 i2 μ Q :=
  fw_lp_in (A := Int32 × Int32 × fw_M) (fun a => I a.1 a.2.1 a.2.2) (fun a => v a.1 a.2.1 a.2.2) (fun k a ha hk => hs (fun i1 i2 μ => k (i1, i2, μ)) a.1 a.2.1 a.2.2 ha (fun i1' i2' ν hb hlt => hk (i1', i2', ν) hb hlt)) (i1, i2, μ) h
set_option maxHeartbeats 4000000 in
theorem w_X5_liars_L4b {g : fw_G} {f bc bs : Nat} {r0 : Nat} {k4 : Int32 → Int32 → fw_M → Prop} {i1 : Int32} {i2 : Int32} {μ : fw_M} {Q : Int32 → fw_M → Prop} (hf : 2 ≤ f) (hk4 : ∀ {i1 : Int32} {i2 : Int32} {μ : fw_M}, m_K μ r0 = 6 → k4 i1 i2 μ → fw_V g K_X5_liars f bc bs 4 [(0, fw_rv g r0), (1, Value.int i1), (2, Value.int i2)] [] μ (fw_Qi Q) fw_nX) (hx : m_K μ r0 = 6) (h : p_X5_liars_L4b r0 k4 i1 i2 μ Q) : fw_V g K_X5_liars f bc bs 4 [(0, fw_rv g r0), (1, Value.int i1), (2, Value.int i2)] [] μ (fw_Qi Q) fw_nX := by
  unfold p_X5_liars_L4b at h
  refine fw_iload_n dX5_liars_4 rfl rfl ?_
  refine fw_aload_n dX5_liars_5 rfl rfl ?_
  refine fw_getfP fl_X5_7 rfl hx dX5_liars_6 ?_
  refine fw_iconst (v := 0) dX5_liars_9 (by decide) ?_
  obtain ⟨hg1, h⟩ := h
  obtain ⟨hc2, h⟩ := h
  refine fw_iald hg1 hc2 dX5_liars_10 ?_
  refine fw_icmp_ge (tgt := 38) dX5_liars_11 (by decide) (fun c3 => ?_) (fun c3 => ?_)
  · have h := fw_it h c3
    refine fw_iload_n dX5_liars_38 rfl rfl ?_
    exact fw_ireturn dX5_liars_39 rfl rfl ⟨_, rfl, h⟩
  · have h := fw_if h c3
    refine fw_iload_n dX5_liars_14 rfl rfl ?_
    refine fw_aload_n dX5_liars_15 rfl rfl ?_
    refine fw_iload_n dX5_liars_16 rfl rfl ?_
    refine fw_callV1z (f1 := f - 1) cl_X5_403 rfl hx (by decide) (by omega) (fw_s4 (Nat.le_of_ble_eq_true rfl)) dX5_liars_17 (w_X5_toldMore (f := f - 1) (by omega) hx h) (fun _ _ h9 _ _ => h9.elim) (fun v9 μ5 q9 hs6 => ?_)
    obtain ⟨v4, rfl, h⟩ := q9
    refine fw_ti ?_
    have hg7 := hs6.K hx (by decide)
    refine fw_if_ne (tgt := 27) dX5_liars_20 (by decide) (fun c8 => ?_) (fun c8 => ?_)
    · have h := fw_if h c8
      refine fw_iconst (v := 1) dX5_liars_27 (by decide) ?_
      refine fw_iload_n dX5_liars_28 rfl rfl ?_
      refine fw_ishl dX5_liars_29 ?_
      refine fw_ior dX5_liars_30 ?_
      refine fw_topi (fun i1_9 e10 => ?_)
      have h := h i1_9 e10
      refine fw_istore_nN (Ls' := [(1, Value.int i1_9), (0, fw_rv g r0), (2, Value.int i2)]) [2] dX5_liars_31 rfl (by decide) rfl rfl rfl (fw_cat _) rfl ?_
      obtain ⟨i2_11, e12⟩ : ∃ y : Int32, y = i2 + (1 : Int32) := ⟨_, rfl⟩
      have h := h i2_11 e12
      refine fw_iincN (k := 2) (v := i2_11) (Ls' := [(2, Value.int i2_11), (1, Value.int i1_9), (0, fw_rv g r0)]) [1] dX5_liars_32 rfl (by rw [e12]; rfl) (by decide) rfl rfl rfl rfl rfl ?_
      refine fw_goto (tgt := 4) dX5_liars_35 (by decide) ?_
      refine fw_ls [2, 1, 0] rfl ?_
      exact hk4 hg7 h
    · have h := fw_it h c8
      refine fw_iconst (v := 0) dX5_liars_23 (by decide) ?_
      refine fw_goto (tgt := 30) dX5_liars_24 (by decide) ?_
      refine fw_ior dX5_liars_30 ?_
      refine fw_topi (fun i1_13 e14 => ?_)
      have h := h i1_13 e14
      refine fw_istore_nN (Ls' := [(1, Value.int i1_13), (0, fw_rv g r0), (2, Value.int i2)]) [2] dX5_liars_31 rfl (by decide) rfl rfl rfl (fw_cat _) rfl ?_
      obtain ⟨i2_15, e16⟩ : ∃ y : Int32, y = i2 + (1 : Int32) := ⟨_, rfl⟩
      have h := h i2_15 e16
      refine fw_iincN (k := 2) (v := i2_15) (Ls' := [(2, Value.int i2_15), (1, Value.int i1_13), (0, fw_rv g r0)]) [1] dX5_liars_32 rfl (by rw [e16]; rfl) (by decide) rfl rfl rfl rfl rfl ?_
      refine fw_goto (tgt := 4) dX5_liars_35 (by decide) ?_
      refine fw_ls [2, 1, 0] rfl ?_
      exact hk4 hg7 h
theorem w_X5_liars_L4 {g : fw_G} {f bc bs : Nat} {r0 : Nat} {i1 : Int32} {i2 : Int32} {μ : fw_M} {Q : Int32 → fw_M → Prop} (hf : 2 ≤ f) (hx : m_K μ r0 = 6) (h : p_X5_liars_L4 r0 i1 i2 μ Q) : fw_V g K_X5_liars f bc bs 4 [(0, fw_rv g r0), (1, Value.int i1), (2, Value.int i2)] [] μ (fw_Qi Q) fw_nX := by
  have key := fw_lp_out (R := fun (a : Int32 × Int32 × fw_M) => m_K a.2.2 r0 = 6 → fw_V g K_X5_liars f bc bs 4 [(0, fw_rv g r0), (1, Value.int a.1), (2, Value.int a.2.1)] [] a.2.2 (fw_Qi Q) fw_nX) (fun k hk9 a ha hx2 => w_X5_liars_L4b hf (fun {i1 i2} {μ} hx3 h3 => hk9 (i1, i2, μ) h3 hx3) hx2 ha) h
  exact key hx
def p_X5_liars (r0 : Nat) (μ : fw_M) (Q : Int32 → fw_M → Prop) : Prop :=
  p_X5_liars_L4 r0 (0 : Int32) (0 : Int32) μ Q
set_option maxHeartbeats 4000000 in
theorem w_X5_liars {g : fw_G} {f bc bs : Nat} {r0 : Nat} {μ : fw_M} {Q : Int32 → fw_M → Prop} (hf : 2 ≤ f) (hx : m_K μ r0 = 6) (h : p_X5_liars r0 μ Q) : fw_C g f bc bs yX5_liars (ws_ yX5_liars cX5_liars 3 (some .int)) [fw_rv g r0] μ (fw_Qi Q) fw_nX := by
  unfold p_X5_liars at h
  refine fw_intro' (Ls := [(0, fw_rv g r0)]) (by decide +kernel) (by simp [lg_sl, fw_cat, fw_ci, fw_clo]) (by simp [lv_args, fw_cat, fw_ci, fw_clo]) ?_
  show fw_V g K_X5_liars f bc bs 0 [(0, fw_rv g r0)] [] μ (fw_Qi Q) fw_nX
  refine fw_iconst (v := 0) dX5_liars_0 (by decide) ?_
  refine fw_istore_nN (Ls' := [(1, Value.int (0 : Int32)), (0, fw_rv g r0)]) [] dX5_liars_1 rfl (by decide) rfl rfl rfl (fw_cat _) rfl ?_
  refine fw_iconst (v := 0) dX5_liars_2 (by decide) ?_
  refine fw_istore_nN (Ls' := [(2, Value.int (0 : Int32)), (1, Value.int (0 : Int32)), (0, fw_rv g r0)]) [1] dX5_liars_3 rfl (by decide) rfl rfl rfl rfl rfl ?_
  refine fw_ls [2, 1, 0] rfl ?_
  exact w_X5_liars_L4 hf hx h
abbrev K_X5_inWhoseName : fw_Kt := (RX5, "inWhoseName", cX5_inWhoseName, 3, some .int, [])
def p_X5_inWhoseName_L20b (r0 : Nat) (i1 : Int32) (k20 : Int32 → fw_M → Prop) (i2 : Int32) (μ : fw_M) (Q : Int32 → fw_M → Prop) : Prop :=
  (m_K μ (m_P μ r0 0) = 100 ∧ (vp_in (0 : Int32) (m_N μ (m_P μ r0 0)) ∧ (if (m_I μ (m_P μ r0 0) (0 : Int32).toNatClampNeg) ≤ i2 then
  (Q (-1 : Int32) μ)
  else
  ((if i2 = i1 then
   ((∀ i2_5 : Int32, i2_5 = i2 + (1 : Int32) →
    k20 i2_5 μ))
   else
   ((p_X5_toldMore r0 i2 μ (fun v7 μ8 =>
    (p_X5_toldMore r0 i1 μ8 (fun v11 μ12 =>
    (if v7 = (-v11) then
    (Q i2 μ12)
    else
    ((∀ i2_16 : Int32, i2_16 = i2 + (1 : Int32) →
     k20 i2_16 μ12)))))))))))))
def p_X5_inWhoseName_L20 (r0 : Nat) (i1 : Int32) (i2 : Int32) (μ : fw_M) (Q : Int32 → fw_M → Prop) : Prop := fw_lp (fun (k : Int32 × fw_M → Prop) (a : Int32 × fw_M) => p_X5_inWhoseName_L20b r0 i1 (fun i2 μ => k (i2, μ)) a.1 a.2 Q) (i2, μ)
theorem r_X5_inWhoseName_L20 {r0 : Nat} {i1 : Int32} {Q : Int32 → fw_M → Prop} (I : Int32 → fw_M → Prop) (v : Int32 → fw_M → Nat) (hs : ∀ (k : Int32 → fw_M → Prop) (i2 : Int32) (μ : fw_M), I i2 μ → (∀ (i2' : Int32) (ν : fw_M), I i2' ν → v i2' ν < v i2 μ → k i2' ν) → p_X5_inWhoseName_L20b r0 i1 k i2 μ Q) (i2 : Int32) (μ : fw_M) (h : I i2 μ) : p_X5_inWhoseName_L20 r0 i1 i2 μ Q :=
  fw_lp_in (A := Int32 × fw_M) (fun a => I a.1 a.2) (fun a => v a.1 a.2) (fun k a ha hk => hs (fun i2 μ => k (i2, μ)) a.1 a.2 ha (fun i2' ν hb hlt => hk (i2', ν) hb hlt)) (i2, μ) h
set_option maxHeartbeats 4000000 in
theorem w_X5_inWhoseName_L20b {g : fw_G} {f bc bs : Nat} {r0 : Nat} {i1 : Int32} {k20 : Int32 → fw_M → Prop} {i2 : Int32} {μ : fw_M} {Q : Int32 → fw_M → Prop} (hf : 3 ≤ f) (hk20 : ∀ {i2 : Int32} {μ : fw_M}, m_K μ r0 = 6 → k20 i2 μ → fw_V g K_X5_inWhoseName f bc bs 20 [(0, fw_rv g r0), (1, Value.int i1), (2, Value.int i2)] [] μ (fw_Qi Q) fw_nX) (hx : m_K μ r0 = 6) (h : p_X5_inWhoseName_L20b r0 i1 k20 i2 μ Q) : fw_V g K_X5_inWhoseName f bc bs 20 [(0, fw_rv g r0), (1, Value.int i1), (2, Value.int i2)] [] μ (fw_Qi Q) fw_nX := by
  unfold p_X5_inWhoseName_L20b at h
  refine fw_iload_n dX5_inWhoseName_20 rfl rfl ?_
  refine fw_aload_n dX5_inWhoseName_21 rfl rfl ?_
  refine fw_getfP fl_X5_7 rfl hx dX5_inWhoseName_22 ?_
  refine fw_iconst (v := 0) dX5_inWhoseName_25 (by decide) ?_
  obtain ⟨hg1, h⟩ := h
  obtain ⟨hc2, h⟩ := h
  refine fw_iald hg1 hc2 dX5_inWhoseName_26 ?_
  refine fw_icmp_ge (tgt := 57) dX5_inWhoseName_27 (by decide) (fun c3 => ?_) (fun c3 => ?_)
  · have h := fw_it h c3
    refine fw_iconst (v := -1) dX5_inWhoseName_57 (by decide) ?_
    exact fw_ireturn dX5_inWhoseName_58 rfl rfl ⟨_, rfl, h⟩
  · have h := fw_if h c3
    refine fw_iload_n dX5_inWhoseName_30 rfl rfl ?_
    refine fw_iload_n dX5_inWhoseName_31 rfl rfl ?_
    refine fw_icmp_eq (tgt := 51) dX5_inWhoseName_32 (by decide) (fun c4 => ?_) (fun c4 => ?_)
    · have h := fw_it h c4
      obtain ⟨i2_5, e6⟩ : ∃ y : Int32, y = i2 + (1 : Int32) := ⟨_, rfl⟩
      have h := h i2_5 e6
      refine fw_iincN (k := 2) (v := i2_5) (Ls' := [(2, Value.int i2_5), (1, Value.int i1), (0, fw_rv g r0)]) [0] dX5_inWhoseName_51 rfl (by rw [e6]; rfl) (by decide) rfl rfl rfl rfl rfl ?_
      refine fw_goto (tgt := 20) dX5_inWhoseName_54 (by decide) ?_
      refine fw_ls [2, 1, 0] rfl ?_
      exact hk20 hx h
    · have h := fw_if h c4
      refine fw_aload_n dX5_inWhoseName_35 rfl rfl ?_
      refine fw_iload_n dX5_inWhoseName_36 rfl rfl ?_
      refine fw_callV1z (f1 := f - 1) cl_X5_403 rfl hx (by decide) (by omega) (fw_s4 (Nat.le_of_ble_eq_true rfl)) dX5_inWhoseName_37 (w_X5_toldMore (f := f - 1) (by omega) hx h) (fun _ _ h9 _ _ => h9.elim) (fun v9 μ8 q9 hs9 => ?_)
      obtain ⟨v7, rfl, h⟩ := q9
      refine fw_ti ?_
      have hg10 := hs9.K hx (by decide)
      refine fw_aload_n dX5_inWhoseName_40 rfl rfl ?_
      refine fw_iload_n dX5_inWhoseName_41 rfl rfl ?_
      refine fw_callV1z (f1 := f - 1) cl_X5_403 rfl hg10 (by decide) (by omega) (fw_s4 (Nat.le_of_ble_eq_true rfl)) dX5_inWhoseName_42 (w_X5_toldMore (f := f - 1) (by omega) hg10 h) (fun _ _ h9 _ _ => h9.elim) (fun v9 μ12 q9 hs13 => ?_)
      obtain ⟨v11, rfl, h⟩ := q9
      refine fw_ti ?_
      have hg14 := hs13.K hg10 (by decide)
      refine fw_ineg dX5_inWhoseName_45 ?_
      refine fw_icmp_ne (tgt := 51) dX5_inWhoseName_46 (by decide) (fun c15 => ?_) (fun c15 => ?_)
      · have h := fw_if h c15
        obtain ⟨i2_16, e17⟩ : ∃ y : Int32, y = i2 + (1 : Int32) := ⟨_, rfl⟩
        have h := h i2_16 e17
        refine fw_iincN (k := 2) (v := i2_16) (Ls' := [(2, Value.int i2_16), (1, Value.int i1), (0, fw_rv g r0)]) [0] dX5_inWhoseName_51 rfl (by rw [e17]; rfl) (by decide) rfl rfl rfl rfl rfl ?_
        refine fw_goto (tgt := 20) dX5_inWhoseName_54 (by decide) ?_
        refine fw_ls [2, 1, 0] rfl ?_
        exact hk20 hg14 h
      · have h := fw_it h c15
        refine fw_iload_n dX5_inWhoseName_49 rfl rfl ?_
        exact fw_ireturn dX5_inWhoseName_50 rfl rfl ⟨_, rfl, h⟩
theorem w_X5_inWhoseName_L20 {g : fw_G} {f bc bs : Nat} {r0 : Nat} {i1 : Int32} {i2 : Int32} {μ : fw_M} {Q : Int32 → fw_M → Prop} (hf : 3 ≤ f) (hx : m_K μ r0 = 6) (h : p_X5_inWhoseName_L20 r0 i1 i2 μ Q) : fw_V g K_X5_inWhoseName f bc bs 20 [(0, fw_rv g r0), (1, Value.int i1), (2, Value.int i2)] [] μ (fw_Qi Q) fw_nX := by
  have key := fw_lp_out (R := fun (a : Int32 × fw_M) => m_K a.2 r0 = 6 → fw_V g K_X5_inWhoseName f bc bs 20 [(0, fw_rv g r0), (1, Value.int i1), (2, Value.int a.1)] [] a.2 (fw_Qi Q) fw_nX) (fun k hk9 a ha hx2 => w_X5_inWhoseName_L20b hf (fun {i2} {μ} hx3 h3 => hk9 (i2, μ) h3 hx3) hx2 ha) h
  exact key hx
def p_X5_inWhoseName (r0 : Nat) (i1 : Int32) (μ : fw_M) (Q : Int32 → fw_M → Prop) : Prop :=
  (p_X5_isEater r0 i1 μ (fun v1 μ2 =>
  (if v1 = 0 then
  (Q (-1 : Int32) μ2)
  else
  ((p_X5_toldMore r0 i1 μ2 (fun v6 μ7 =>
   (if v6 < 0 then
   (p_X5_inWhoseName_L20 r0 i1 (0 : Int32) μ7 Q)
   else
   (Q (-1 : Int32) μ7))))))))
set_option maxHeartbeats 4000000 in
theorem w_X5_inWhoseName {g : fw_G} {f bc bs : Nat} {r0 : Nat} {i1 : Int32} {μ : fw_M} {Q : Int32 → fw_M → Prop} (hf : 3 ≤ f) (hx : m_K μ r0 = 6) (h : p_X5_inWhoseName r0 i1 μ Q) : fw_C g f bc bs yX5_inWhoseName (ws_ yX5_inWhoseName cX5_inWhoseName 3 (some .int)) [fw_rv g r0, Value.int i1] μ (fw_Qi Q) fw_nX := by
  unfold p_X5_inWhoseName at h
  refine fw_intro' (Ls := [(0, fw_rv g r0), (1, Value.int i1)]) (by decide +kernel) (by simp [lg_sl, fw_cat, fw_ci, fw_clo]) (by simp [lv_args, fw_cat, fw_ci, fw_clo]) ?_
  show fw_V g K_X5_inWhoseName f bc bs 0 [(0, fw_rv g r0), (1, Value.int i1)] [] μ (fw_Qi Q) fw_nX
  refine fw_aload_n dX5_inWhoseName_0 rfl rfl ?_
  refine fw_iload_n dX5_inWhoseName_1 rfl rfl ?_
  refine fw_callV1z (f1 := f - 1) cl_X5_343 rfl hx (by decide) (by omega) (fw_s4 (Nat.le_of_ble_eq_true rfl)) dX5_inWhoseName_2 (w_X5_isEater (f := f - 1) (by omega) hx h) (fun _ _ h9 _ _ => h9.elim) (fun v9 μ2 q9 hs3 => ?_)
  obtain ⟨v1, rfl, h⟩ := q9
  refine fw_ti ?_
  have hg4 := hs3.K hx (by decide)
  refine fw_if_eq (tgt := 16) dX5_inWhoseName_5 (by decide) (fun c5 => ?_) (fun c5 => ?_)
  · have h := fw_it h c5
    refine fw_iconst (v := -1) dX5_inWhoseName_16 (by decide) ?_
    exact fw_ireturn dX5_inWhoseName_17 rfl rfl ⟨_, rfl, h⟩
  · have h := fw_if h c5
    refine fw_aload_n dX5_inWhoseName_8 rfl rfl ?_
    refine fw_iload_n dX5_inWhoseName_9 rfl rfl ?_
    refine fw_callV1z (f1 := f - 1) cl_X5_403 rfl hg4 (by decide) (by omega) (fw_s4 (Nat.le_of_ble_eq_true rfl)) dX5_inWhoseName_10 (w_X5_toldMore (f := f - 1) (by omega) hg4 h) (fun _ _ h9 _ _ => h9.elim) (fun v9 μ7 q9 hs8 => ?_)
    obtain ⟨v6, rfl, h⟩ := q9
    refine fw_ti ?_
    have hg9 := hs8.K hg4 (by decide)
    refine fw_if_lt (tgt := 18) dX5_inWhoseName_13 (by decide) (fun c10 => ?_) (fun c10 => ?_)
    · have h := fw_it h c10
      refine fw_iconst (v := 0) dX5_inWhoseName_18 (by decide) ?_
      refine fw_istore_nN (Ls' := [(2, Value.int (0 : Int32)), (1, Value.int i1), (0, fw_rv g r0)]) [0] dX5_inWhoseName_19 rfl (by decide) rfl rfl rfl rfl rfl ?_
      refine fw_ls [2, 1, 0] rfl ?_
      exact w_X5_inWhoseName_L20 hf hg9 h
    · have h := fw_if h c10
      refine fw_iconst (v := -1) dX5_inWhoseName_16 (by decide) ?_
      exact fw_ireturn dX5_inWhoseName_17 rfl rfl ⟨_, rfl, h⟩
abbrev K_X5_image : fw_Kt := (RX5, "image", cX5_image, 1, some .int, [])
def p_X5_image (r0 : Nat) (μ : fw_M) (Q : Int32 → fw_M → Prop) : Prop :=
  (p_X5_copies r0 (1 : Int32) μ (fun μ2 =>
  (m_K μ2 (m_P μ2 r0 0) = 100 ∧ (vp_in (132 : Int32) (m_N μ2 (m_P μ2 r0 0)) ∧ Q (m_I μ2 (m_P μ2 r0 0) (132 : Int32).toNatClampNeg) μ2))))
set_option maxHeartbeats 4000000 in
theorem w_X5_image {g : fw_G} {f bc bs : Nat} {r0 : Nat} {μ : fw_M} {Q : Int32 → fw_M → Prop} (hf : 2 ≤ f) (hx : m_K μ r0 = 6) (h : p_X5_image r0 μ Q) : fw_C g f bc bs yX5_image (ws_ yX5_image cX5_image 1 (some .int)) [fw_rv g r0] μ (fw_Qi Q) fw_nX := by
  unfold p_X5_image at h
  refine fw_intro' (Ls := [(0, fw_rv g r0)]) (by decide +kernel) (by simp [lg_sl, fw_cat, fw_ci, fw_clo]) (by simp [lv_args, fw_cat, fw_ci, fw_clo]) ?_
  show fw_V g K_X5_image f bc bs 0 [(0, fw_rv g r0)] [] μ (fw_Qi Q) fw_nX
  refine fw_aload_n dX5_image_0 rfl rfl ?_
  refine fw_iconst (v := 1) dX5_image_1 (by decide) ?_
  refine fw_callV1z (f1 := f - 1) cl_X5_106 rfl hx (by decide) (by omega) (fw_s4 (Nat.le_of_ble_eq_true rfl)) dX5_image_2 (w_X5_copies (f := f - 1) (by omega) hx h) (fun _ _ h9 _ _ => h9.elim) (fun v9 μ2 q9 hs3 => ?_)
  obtain ⟨rfl, h⟩ := q9
  refine fw_tv ?_
  have hg4 := hs3.K hx (by decide)
  refine fw_aload_n dX5_image_5 rfl rfl ?_
  refine fw_getfP fl_X5_7 rfl hg4 dX5_image_6 ?_
  refine fw_sipush (v := 132) dX5_image_9 (by decide) ?_
  obtain ⟨hg5, h⟩ := h
  obtain ⟨hc6, h⟩ := h
  refine fw_iald hg5 hc6 dX5_image_12 ?_
  exact fw_ireturn dX5_image_13 rfl rfl ⟨_, rfl, h⟩
abbrev K_X5_back : fw_Kt := (RX5, "back", cX5_back, 1, some .int, [])
def p_X5_back (r0 : Nat) (μ : fw_M) (Q : Int32 → fw_M → Prop) : Prop :=
  (p_X5_copies r0 (0 : Int32) μ (fun μ2 =>
  (m_K μ2 (m_P μ2 r0 0) = 100 ∧ (vp_in (132 : Int32) (m_N μ2 (m_P μ2 r0 0)) ∧ Q (m_I μ2 (m_P μ2 r0 0) (132 : Int32).toNatClampNeg) μ2))))
set_option maxHeartbeats 4000000 in
theorem w_X5_back {g : fw_G} {f bc bs : Nat} {r0 : Nat} {μ : fw_M} {Q : Int32 → fw_M → Prop} (hf : 2 ≤ f) (hx : m_K μ r0 = 6) (h : p_X5_back r0 μ Q) : fw_C g f bc bs yX5_back (ws_ yX5_back cX5_back 1 (some .int)) [fw_rv g r0] μ (fw_Qi Q) fw_nX := by
  unfold p_X5_back at h
  refine fw_intro' (Ls := [(0, fw_rv g r0)]) (by decide +kernel) (by simp [lg_sl, fw_cat, fw_ci, fw_clo]) (by simp [lv_args, fw_cat, fw_ci, fw_clo]) ?_
  show fw_V g K_X5_back f bc bs 0 [(0, fw_rv g r0)] [] μ (fw_Qi Q) fw_nX
  refine fw_aload_n dX5_back_0 rfl rfl ?_
  refine fw_iconst (v := 0) dX5_back_1 (by decide) ?_
  refine fw_callV1z (f1 := f - 1) cl_X5_106 rfl hx (by decide) (by omega) (fw_s4 (Nat.le_of_ble_eq_true rfl)) dX5_back_2 (w_X5_copies (f := f - 1) (by omega) hx h) (fun _ _ h9 _ _ => h9.elim) (fun v9 μ2 q9 hs3 => ?_)
  obtain ⟨rfl, h⟩ := q9
  refine fw_tv ?_
  have hg4 := hs3.K hx (by decide)
  refine fw_aload_n dX5_back_5 rfl rfl ?_
  refine fw_getfP fl_X5_7 rfl hg4 dX5_back_6 ?_
  refine fw_sipush (v := 132) dX5_back_9 (by decide) ?_
  obtain ⟨hg5, h⟩ := h
  obtain ⟨hc6, h⟩ := h
  refine fw_iald hg5 hc6 dX5_back_12 ?_
  exact fw_ireturn dX5_back_13 rfl rfl ⟨_, rfl, h⟩
