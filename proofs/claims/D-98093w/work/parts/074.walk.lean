set_option maxRecDepth 100000
abbrev K_X5_nextToken : fw_Kt := (RX5, "nextToken", cX5_nextToken, 5, none, [])
def p_X5_nextToken_L39 (k0 : fw_M → Prop) (r0 : Nat) (μ : fw_M) (Q : fw_M → Prop) : Prop :=
  (∀ μ1, μ1 = m_uI μ r0 14 ((m_I μ r0 14) + (1 : Int32)) →
  k0 μ1)
set_option maxHeartbeats 4000000 in
theorem w_X5_nextToken_L39 {g : fw_G} {f bc bs : Nat} {k0 : fw_M → Prop} {r0 : Nat} {μ : fw_M} {Q : fw_M → Prop} (hf : 3 ≤ f) (hk0 : ∀ {μ : fw_M}, m_K μ r0 = 6 → k0 μ → fw_V g K_X5_nextToken f bc bs 0 [(0, fw_rv g r0)] [] μ (fw_Qv Q) fw_nX) (hx : m_K μ r0 = 6) (h : p_X5_nextToken_L39 k0 r0 μ Q) : fw_V g K_X5_nextToken f bc bs 39 [(0, fw_rv g r0)] [] μ (fw_Qv Q) fw_nX := by
  unfold p_X5_nextToken_L39 at h
  refine fw_aload_n dX5_nextToken_39 rfl rfl ?_
  refine fw_dup dX5_nextToken_40 (fw_cat _) ?_
  refine fw_getfI fl_X5_173 rfl hx dX5_nextToken_41 ?_
  refine fw_iconst (v := 1) dX5_nextToken_44 (by decide) ?_
  refine fw_iadd dX5_nextToken_45 ?_
  refine fw_putfI fl_X5_173 (fun q hq => Or.inl (by cases hq; rfl)) rfl hx dX5_nextToken_46 ?_
  have h := h _ rfl
  refine fw_goto (tgt := 0) dX5_nextToken_49 (by decide) ?_
  exact hk0 hx h
def p_X5_nextToken_L156 (k99 : Int64 → Int32 → fw_M → Prop) (r0 : Nat) (i4 : Int32) (ls0 : Int64) (μ : fw_M) (Q : fw_M → Prop) : Prop :=
  (∀ i4_1 : Int32, i4_1 = i4 + (1 : Int32) →
  (∀ μ3, μ3 = m_uI μ r0 14 ((m_I μ r0 14) + (1 : Int32)) →
  k99 ls0 i4_1 μ3))
set_option maxHeartbeats 4000000 in
theorem w_X5_nextToken_L156 {g : fw_G} {f bc bs : Nat} {k99 : Int64 → Int32 → fw_M → Prop} {r0 : Nat} {i4 : Int32} {ls0 : Int64} {μ : fw_M} {Q : fw_M → Prop} (hf : 3 ≤ f) (hk99 : ∀ {l2 : Int64} {i4 : Int32} {μ : fw_M}, m_K μ r0 = 6 → k99 l2 i4 μ → fw_V g K_X5_nextToken f bc bs 99 [(0, fw_rv g r0), (2, Value.long l2), (4, Value.int i4)] [] μ (fw_Qv Q) fw_nX) (hx : m_K μ r0 = 6) (h : p_X5_nextToken_L156 k99 r0 i4 ls0 μ Q) : fw_V g K_X5_nextToken f bc bs 156 [(0, fw_rv g r0), (4, Value.int i4)] [Value.long ls0] μ (fw_Qv Q) fw_nX := by
  unfold p_X5_nextToken_L156 at h
  refine fw_lstore_n (Ls' := [(2, Value.long ls0), (0, fw_rv g r0), (4, Value.int i4)]) [0, 1] dX5_nextToken_156 rfl (by decide) rfl rfl ?_
  obtain ⟨i4_1, e2⟩ : ∃ y : Int32, y = i4 + (1 : Int32) := ⟨_, rfl⟩
  have h := h i4_1 e2
  refine fw_iinc (k := 2) (v := i4_1) (Ls' := [(4, Value.int i4_1), (2, Value.long ls0), (0, fw_rv g r0)]) [0, 1] dX5_nextToken_157 rfl (by rw [e2]; rfl) (by decide) rfl rfl ?_
  refine fw_aload_n dX5_nextToken_160 rfl rfl ?_
  refine fw_dup dX5_nextToken_161 (fw_cat _) ?_
  refine fw_getfI fl_X5_173 rfl hx dX5_nextToken_162 ?_
  refine fw_iconst (v := 1) dX5_nextToken_165 (by decide) ?_
  refine fw_iadd dX5_nextToken_166 ?_
  refine fw_putfI fl_X5_173 (fun q hq => Or.inl (by cases hq; rfl)) rfl hx dX5_nextToken_167 ?_
  have h := h _ rfl
  refine fw_goto (tgt := 99) dX5_nextToken_170 (by decide) ?_
  refine fw_ls [2, 1, 0] rfl ?_
  exact hk99 hx h
def p_X5_nextToken_L205 (r0 : Nat) (rs0 : Nat) (is1 : Int32) (μ : fw_M) (Q : fw_M → Prop) : Prop :=
  (m_K μ rs0 = 6 ∧ (∀ μ2, μ2 = m_uI μ rs0 16 is1 →
  Q μ2))
set_option maxHeartbeats 4000000 in
theorem w_X5_nextToken_L205 {g : fw_G} {f bc bs : Nat} {r0 : Nat} {rs0 : Nat} {is1 : Int32} {μ : fw_M} {Q : fw_M → Prop} (hf : 3 ≤ f) (hx : m_K μ r0 = 6) (h : p_X5_nextToken_L205 r0 rs0 is1 μ Q) : fw_V g K_X5_nextToken f bc bs 205 [(0, fw_rv g r0)] [Value.int is1, fw_rv g rs0] μ (fw_Qv Q) fw_nX := by
  unfold p_X5_nextToken_L205 at h
  obtain ⟨hg1, h⟩ := h
  refine fw_putfI fl_X5_182 (fun q hq => Or.inl (by cases hq; rfl)) rfl hg1 dX5_nextToken_205 ?_
  have h := h _ rfl
  refine fw_goto (tgt := 439) dX5_nextToken_208 (by decide) ?_
  exact fw_return dX5_nextToken_439 rfl ⟨rfl, h⟩
def p_X5_nextToken_L189 (r0 : Nat) (rs0 : Nat) (is1 : Int32) (μ : fw_M) (Q : fw_M → Prop) : Prop :=
  (m_K μ rs0 = 6 ∧ (∀ μ2, μ2 = m_uI μ rs0 17 is1 →
  (if 0 ≤ (m_I μ2 r0 17) then
  (p_X5_nextToken_L205 r0 r0 (1 : Int32) μ2 Q)
  else
  (p_X5_nextToken_L205 r0 r0 (4 : Int32) μ2 Q))))
set_option maxHeartbeats 4000000 in
theorem w_X5_nextToken_L189 {g : fw_G} {f bc bs : Nat} {r0 : Nat} {rs0 : Nat} {is1 : Int32} {μ : fw_M} {Q : fw_M → Prop} (hf : 3 ≤ f) (hx : m_K μ r0 = 6) (h : p_X5_nextToken_L189 r0 rs0 is1 μ Q) : fw_V g K_X5_nextToken f bc bs 189 [(0, fw_rv g r0)] [Value.int is1, fw_rv g rs0] μ (fw_Qv Q) fw_nX := by
  unfold p_X5_nextToken_L189 at h
  obtain ⟨hg1, h⟩ := h
  refine fw_putfI fl_X5_194 (fun q hq => Or.inl (by cases hq; rfl)) rfl hg1 dX5_nextToken_189 ?_
  have h := h _ rfl
  refine fw_aload_n dX5_nextToken_192 rfl rfl ?_
  refine fw_aload_n dX5_nextToken_193 rfl rfl ?_
  refine fw_getfI fl_X5_194 rfl hx dX5_nextToken_194 ?_
  refine fw_if_ge (tgt := 204) dX5_nextToken_197 (by decide) (fun c3 => ?_) (fun c3 => ?_)
  · have h := fw_it h c3
    refine fw_iconst (v := 1) dX5_nextToken_204 (by decide) ?_
    exact w_X5_nextToken_L205 hf hx h
  · have h := fw_if h c3
    refine fw_iconst (v := 4) dX5_nextToken_200 (by decide) ?_
    refine fw_goto (tgt := 205) dX5_nextToken_201 (by decide) ?_
    exact w_X5_nextToken_L205 hf hx h
def p_X5_nextToken_L173 (r0 : Nat) (l2 : Int64) (i4 : Int32) (μ : fw_M) (Q : fw_M → Prop) : Prop :=
  (if i4 ≤ (8 : Int32) then
  ((p_X5_wordOf l2 μ (fun v2 μ3 =>
   p_X5_nextToken_L189 r0 r0 v2 μ3 Q)))
  else
  (p_X5_nextToken_L189 r0 r0 (-1 : Int32) μ Q))
set_option maxHeartbeats 4000000 in
theorem w_X5_nextToken_L173 {g : fw_G} {f bc bs : Nat} {r0 : Nat} {l2 : Int64} {i4 : Int32} {μ : fw_M} {Q : fw_M → Prop} (hf : 3 ≤ f) (hx : m_K μ r0 = 6) (h : p_X5_nextToken_L173 r0 l2 i4 μ Q) : fw_V g K_X5_nextToken f bc bs 173 [(0, fw_rv g r0), (2, Value.long l2), (4, Value.int i4)] [] μ (fw_Qv Q) fw_nX := by
  unfold p_X5_nextToken_L173 at h
  refine fw_aload_n dX5_nextToken_173 rfl rfl ?_
  refine fw_iload dX5_nextToken_174 rfl ?_
  refine fw_bipush (v := 8) dX5_nextToken_176 (by decide) ?_
  refine fw_icmp_le (tgt := 185) dX5_nextToken_178 (by decide) (fun c1 => ?_) (fun c1 => ?_)
  · have h := fw_it h c1
    refine fw_lload_n dX5_nextToken_185 rfl rfl ?_
    refine fw_callS1z (f1 := f - 1) cl_X5_190 (by decide) (by omega) (fw_s4 (Nat.le_of_ble_eq_true rfl)) dX5_nextToken_186 (w_X5_wordOf (f := f - 1) (by omega) h) (fun _ _ h9 _ _ => h9.elim) (fun v9 μ3 q9 hs4 => ?_)
    obtain ⟨v2, rfl, h⟩ := q9
    refine fw_ti ?_
    have hg5 := hs4.K hx (by decide)
    refine fw_ls [0] rfl ?_
    exact w_X5_nextToken_L189 hf hg5 h
  · have h := fw_if h c1
    refine fw_iconst (v := -1) dX5_nextToken_181 (by decide) ?_
    refine fw_goto (tgt := 189) dX5_nextToken_182 (by decide) ?_
    refine fw_ls [0] rfl ?_
    exact w_X5_nextToken_L189 hf hx h
def p_X5_nextToken_L99b (r0 : Nat) (k99 : Int64 → Int32 → fw_M → Prop) (l2 : Int64) (i4 : Int32) (μ : fw_M) (Q : fw_M → Prop) : Prop :=
  (if (m_I μ r0 13) ≤ (m_I μ r0 14) then
  (p_X5_nextToken_L173 r0 l2 i4 μ Q)
  else
  ((m_K μ (m_P μ r0 2) = 101 ∧ (vp_in (m_I μ r0 14) (m_N μ (m_P μ r0 2)) ∧ (p_X5_isLetter (m_I μ (m_P μ r0 2) (m_I μ r0 14).toNatClampNeg) μ (fun v4 μ5 =>
   (if v4 = 0 then
   (p_X5_nextToken_L173 r0 l2 i4 μ5 Q)
   else
   ((if (9 : Int32) ≤ i4 then
    (p_X5_nextToken_L156 k99 r0 i4 l2 μ5 Q)
    else
    ((m_K μ5 (m_P μ5 r0 2) = 101 ∧ (vp_in (m_I μ5 r0 14) (m_N μ5 (m_P μ5 r0 2)) ∧ p_X5_nextToken_L156 k99 r0 i4 ((((64 : Int64) * l2) + (m_I μ5 (m_P μ5 r0 2) (m_I μ5 r0 14).toNatClampNeg).toInt64) - (64 : Int64)) μ5 Q))))))))))))
def p_X5_nextToken_L99 (r0 : Nat) (l2 : Int64) (i4 : Int32) (μ : fw_M) (Q : fw_M → Prop) : Prop := fw_lp (fun (k : Int64 × Int32 × fw_M → Prop) (a : Int64 × Int32 × fw_M) => p_X5_nextToken_L99b r0 (fun l2 i4 μ => k (l2, i4, μ)) a.1 a.2.1 a.2.2 Q) (l2, i4, μ)
theorem r_X5_nextToken_L99 {r0 : Nat} {Q : fw_M → Prop} (I : Int64 → Int32 → fw_M → Prop) (v : Int64 → Int32 → fw_M → Nat) (hs : ∀ (k : Int64 → Int32 → fw_M → Prop) (l2 : Int64) (i4 : Int32) (μ : fw_M), I l2 i4 μ → (∀ (l2' : Int64) (i4' : Int32) (ν : fw_M), I l2' i4' ν → v l2' i4' ν < v l2 i4 μ → k l2' i4' ν) → p_X5_nextToken_L99b r0 k l2 i4 μ Q) (l2 : Int64) (i4 : Int32) (μ : fw_M) (h : I l2 i4 μ) : p_X5_nextToken_L99 r0 l2 i4 μ Q :=
  fw_lp_in (A := Int64 × Int32 × fw_M) (fun a => I a.1 a.2.1 a.2.2) (fun a => v a.1 a.2.1 a.2.2) (fun k a ha hk => hs (fun l2 i4 μ => k (l2, i4, μ)) a.1 a.2.1 a.2.2 ha (fun l2' i4' ν hb hlt => hk (l2', i4', ν) hb hlt)) (l2, i4, μ) h
set_option maxHeartbeats 4000000 in
theorem w_X5_nextToken_L99b {g : fw_G} {f bc bs : Nat} {r0 : Nat} {k99 : Int64 → Int32 → fw_M → Prop} {l2 : Int64} {i4 : Int32} {μ : fw_M} {Q : fw_M → Prop} (hf : 3 ≤ f) (hk99 : ∀ {l2 : Int64} {i4 : Int32} {μ : fw_M}, m_K μ r0 = 6 → k99 l2 i4 μ → fw_V g K_X5_nextToken f bc bs 99 [(0, fw_rv g r0), (2, Value.long l2), (4, Value.int i4)] [] μ (fw_Qv Q) fw_nX) (hx : m_K μ r0 = 6) (h : p_X5_nextToken_L99b r0 k99 l2 i4 μ Q) : fw_V g K_X5_nextToken f bc bs 99 [(0, fw_rv g r0), (2, Value.long l2), (4, Value.int i4)] [] μ (fw_Qv Q) fw_nX := by
  unfold p_X5_nextToken_L99b at h
  refine fw_aload_n dX5_nextToken_99 rfl rfl ?_
  refine fw_getfI fl_X5_173 rfl hx dX5_nextToken_100 ?_
  refine fw_aload_n dX5_nextToken_103 rfl rfl ?_
  refine fw_getfI fl_X5_176 rfl hx dX5_nextToken_104 ?_
  refine fw_icmp_ge (tgt := 173) dX5_nextToken_107 (by decide) (fun c1 => ?_) (fun c1 => ?_)
  · have h := fw_it h c1
    exact w_X5_nextToken_L173 hf hx h
  · have h := fw_if h c1
    refine fw_aload_n dX5_nextToken_110 rfl rfl ?_
    refine fw_getfP fl_X5_16 rfl hx dX5_nextToken_111 ?_
    refine fw_aload_n dX5_nextToken_114 rfl rfl ?_
    refine fw_getfI fl_X5_173 rfl hx dX5_nextToken_115 ?_
    obtain ⟨hg2, h⟩ := h
    obtain ⟨hc3, h⟩ := h
    refine fw_bald hg2 hc3 dX5_nextToken_118 ?_
    refine fw_callS1z (f1 := f - 1) cl_X5_185 (by decide) (by omega) (fw_s4 (Nat.le_of_ble_eq_true rfl)) dX5_nextToken_119 (w_X5_isLetter (f := f - 1) (by omega) h) (fun _ _ h9 _ _ => h9.elim) (fun v9 μ5 q9 hs6 => ?_)
    obtain ⟨v4, rfl, h⟩ := q9
    refine fw_ti ?_
    have hg7 := hs6.K hx (by decide)
    refine fw_if_eq (tgt := 173) dX5_nextToken_122 (by decide) (fun c8 => ?_) (fun c8 => ?_)
    · have h := fw_it h c8
      exact w_X5_nextToken_L173 hf hg7 h
    · have h := fw_if h c8
      refine fw_iload dX5_nextToken_125 rfl ?_
      refine fw_bipush (v := 9) dX5_nextToken_127 (by decide) ?_
      refine fw_icmp_ge (tgt := 155) dX5_nextToken_129 (by decide) (fun c9 => ?_) (fun c9 => ?_)
      · have h := fw_it h c9
        refine fw_lload_n dX5_nextToken_155 rfl rfl ?_
        refine fw_ls [0, 2] rfl ?_
        exact w_X5_nextToken_L156 hf hk99 hg7 h
      · have h := fw_if h c9
        refine fw_ldc2 q1240 dX5_nextToken_132 ?_
        refine fw_lload_n dX5_nextToken_135 rfl rfl ?_
        refine fw_lmul dX5_nextToken_136 ?_
        refine fw_aload_n dX5_nextToken_137 rfl rfl ?_
        refine fw_getfP fl_X5_16 rfl hg7 dX5_nextToken_138 ?_
        refine fw_aload_n dX5_nextToken_141 rfl rfl ?_
        refine fw_getfI fl_X5_173 rfl hg7 dX5_nextToken_142 ?_
        obtain ⟨hg10, h⟩ := h
        obtain ⟨hc11, h⟩ := h
        refine fw_bald hg10 hc11 dX5_nextToken_145 ?_
        refine fw_i2l dX5_nextToken_146 ?_
        refine fw_ladd dX5_nextToken_147 ?_
        refine fw_ldc2 q1240 dX5_nextToken_148 ?_
        refine fw_lsub dX5_nextToken_151 ?_
        refine fw_goto (tgt := 156) dX5_nextToken_152 (by decide) ?_
        refine fw_ls [0, 2] rfl ?_
        exact w_X5_nextToken_L156 hf hk99 hg7 h
theorem w_X5_nextToken_L99 {g : fw_G} {f bc bs : Nat} {r0 : Nat} {l2 : Int64} {i4 : Int32} {μ : fw_M} {Q : fw_M → Prop} (hf : 3 ≤ f) (hx : m_K μ r0 = 6) (h : p_X5_nextToken_L99 r0 l2 i4 μ Q) : fw_V g K_X5_nextToken f bc bs 99 [(0, fw_rv g r0), (2, Value.long l2), (4, Value.int i4)] [] μ (fw_Qv Q) fw_nX := by
  have key := fw_lp_out (R := fun (a : Int64 × Int32 × fw_M) => m_K a.2.2 r0 = 6 → fw_V g K_X5_nextToken f bc bs 99 [(0, fw_rv g r0), (2, Value.long a.1), (4, Value.int a.2.1)] [] a.2.2 (fw_Qv Q) fw_nX) (fun k hk9 a ha hx2 => w_X5_nextToken_L99b hf (fun {l2 i4} {μ} hx3 h3 => hk9 (l2, i4, μ) h3 hx3) hx2 ha) h
  exact key hx
def p_X5_nextToken_L299 (k232 : fw_M → Prop) (r0 : Nat) (rs0 : Nat) (is1 : Int32) (μ : fw_M) (Q : fw_M → Prop) : Prop :=
  (m_K μ rs0 = 6 ∧ (∀ μ2, μ2 = m_uI μ rs0 17 is1 →
  (∀ μ3, μ3 = m_uI μ2 r0 14 ((m_I μ2 r0 14) + (1 : Int32)) →
  k232 μ3)))
set_option maxHeartbeats 4000000 in
theorem w_X5_nextToken_L299 {g : fw_G} {f bc bs : Nat} {k232 : fw_M → Prop} {r0 : Nat} {rs0 : Nat} {is1 : Int32} {μ : fw_M} {Q : fw_M → Prop} (hf : 3 ≤ f) (hk232 : ∀ {μ : fw_M}, m_K μ r0 = 6 → k232 μ → fw_V g K_X5_nextToken f bc bs 232 [(0, fw_rv g r0)] [] μ (fw_Qv Q) fw_nX) (hx : m_K μ r0 = 6) (h : p_X5_nextToken_L299 k232 r0 rs0 is1 μ Q) : fw_V g K_X5_nextToken f bc bs 299 [(0, fw_rv g r0)] [Value.int is1, fw_rv g rs0] μ (fw_Qv Q) fw_nX := by
  unfold p_X5_nextToken_L299 at h
  obtain ⟨hg1, h⟩ := h
  refine fw_putfI fl_X5_194 (fun q hq => Or.inl (by cases hq; rfl)) rfl hg1 dX5_nextToken_299 ?_
  have h := h _ rfl
  refine fw_aload_n dX5_nextToken_302 rfl rfl ?_
  refine fw_dup dX5_nextToken_303 (fw_cat _) ?_
  refine fw_getfI fl_X5_173 rfl hx dX5_nextToken_304 ?_
  refine fw_iconst (v := 1) dX5_nextToken_307 (by decide) ?_
  refine fw_iadd dX5_nextToken_308 ?_
  refine fw_putfI fl_X5_173 (fun q hq => Or.inl (by cases hq; rfl)) rfl hx dX5_nextToken_309 ?_
  have h := h _ rfl
  refine fw_goto (tgt := 232) dX5_nextToken_312 (by decide) ?_
  exact hk232 hx h
def p_X5_nextToken_L232b (r0 : Nat) (k232 : fw_M → Prop) (μ : fw_M) (Q : fw_M → Prop) : Prop :=
  (if (m_I μ r0 13) ≤ (m_I μ r0 14) then
  (Q μ)
  else
  ((m_K μ (m_P μ r0 2) = 101 ∧ (vp_in (m_I μ r0 14) (m_N μ (m_P μ r0 2)) ∧ (p_X5_in (m_I μ (m_P μ r0 2) (m_I μ r0 14).toNatClampNeg) (48 : Int32) (57 : Int32) μ (fun v4 μ5 =>
   (if v4 = 0 then
   (Q μ5)
   else
   ((if (m_I μ5 r0 17) ≤ (99999 : Int32) then
    ((m_K μ5 (m_P μ5 r0 2) = 101 ∧ (vp_in (m_I μ5 r0 14) (m_N μ5 (m_P μ5 r0 2)) ∧ p_X5_nextToken_L299 k232 r0 r0 ((((10 : Int32) * (m_I μ5 r0 17)) + (m_I μ5 (m_P μ5 r0 2) (m_I μ5 r0 14).toNatClampNeg)) - (48 : Int32)) μ5 Q)))
    else
    (p_X5_nextToken_L299 k232 r0 r0 (m_I μ5 r0 17) μ5 Q))))))))))
def p_X5_nextToken_L232 (r0 : Nat) (μ : fw_M) (Q : fw_M → Prop) : Prop := fw_lp (fun (k : fw_M → Prop) (a : fw_M) => p_X5_nextToken_L232b r0 (fun μ => k μ) a Q) μ
theorem r_X5_nextToken_L232 {r0 : Nat} {Q : fw_M → Prop} (I : fw_M → Prop) (v : fw_M → Nat) (hs : ∀ (k : fw_M → Prop) (μ : fw_M), I μ → (∀ (ν : fw_M), I ν → v ν < v μ → k ν) → p_X5_nextToken_L232b r0 k μ Q) (μ : fw_M) (h : I μ) : p_X5_nextToken_L232 r0 μ Q :=
  fw_lp_in (A := fw_M) (fun a => I a) (fun a => v a) (fun k a ha hk => hs (fun μ => k μ) a ha (fun ν hb hlt => hk ν hb hlt)) μ h
set_option maxHeartbeats 4000000 in
theorem w_X5_nextToken_L232b {g : fw_G} {f bc bs : Nat} {r0 : Nat} {k232 : fw_M → Prop} {μ : fw_M} {Q : fw_M → Prop} (hf : 3 ≤ f) (hk232 : ∀ {μ : fw_M}, m_K μ r0 = 6 → k232 μ → fw_V g K_X5_nextToken f bc bs 232 [(0, fw_rv g r0)] [] μ (fw_Qv Q) fw_nX) (hx : m_K μ r0 = 6) (h : p_X5_nextToken_L232b r0 k232 μ Q) : fw_V g K_X5_nextToken f bc bs 232 [(0, fw_rv g r0)] [] μ (fw_Qv Q) fw_nX := by
  unfold p_X5_nextToken_L232b at h
  refine fw_aload_n dX5_nextToken_232 rfl rfl ?_
  refine fw_getfI fl_X5_173 rfl hx dX5_nextToken_233 ?_
  refine fw_aload_n dX5_nextToken_236 rfl rfl ?_
  refine fw_getfI fl_X5_176 rfl hx dX5_nextToken_237 ?_
  refine fw_icmp_ge (tgt := 439) dX5_nextToken_240 (by decide) (fun c1 => ?_) (fun c1 => ?_)
  · have h := fw_it h c1
    exact fw_return dX5_nextToken_439 rfl ⟨rfl, h⟩
  · have h := fw_if h c1
    refine fw_aload_n dX5_nextToken_243 rfl rfl ?_
    refine fw_getfP fl_X5_16 rfl hx dX5_nextToken_244 ?_
    refine fw_aload_n dX5_nextToken_247 rfl rfl ?_
    refine fw_getfI fl_X5_173 rfl hx dX5_nextToken_248 ?_
    obtain ⟨hg2, h⟩ := h
    obtain ⟨hc3, h⟩ := h
    refine fw_bald hg2 hc3 dX5_nextToken_251 ?_
    refine fw_bipush (v := 48) dX5_nextToken_252 (by decide) ?_
    refine fw_bipush (v := 57) dX5_nextToken_254 (by decide) ?_
    refine fw_callS3z (f1 := f - 1) cl_X5_110 (by decide) (by omega) (fw_s4 (Nat.le_of_ble_eq_true rfl)) dX5_nextToken_256 (w_X5_in (f := f - 1) (by omega) h) (fun _ _ h9 _ _ => h9.elim) (fun v9 μ5 q9 hs6 => ?_)
    obtain ⟨v4, rfl, h⟩ := q9
    refine fw_ti ?_
    have hg7 := hs6.K hx (by decide)
    refine fw_if_eq (tgt := 439) dX5_nextToken_259 (by decide) (fun c8 => ?_) (fun c8 => ?_)
    · have h := fw_it h c8
      exact fw_return dX5_nextToken_439 rfl ⟨rfl, h⟩
    · have h := fw_if h c8
      refine fw_aload_n dX5_nextToken_262 rfl rfl ?_
      refine fw_aload_n dX5_nextToken_263 rfl rfl ?_
      refine fw_getfI fl_X5_194 rfl hg7 dX5_nextToken_264 ?_
      refine fw_ldc q1268 dX5_nextToken_267 ?_
      refine fw_icmp_le (tgt := 279) dX5_nextToken_269 (by decide) (fun c9 => ?_) (fun c9 => ?_)
      · have h := fw_it h c9
        refine fw_bipush (v := 10) dX5_nextToken_279 (by decide) ?_
        refine fw_aload_n dX5_nextToken_281 rfl rfl ?_
        refine fw_getfI fl_X5_194 rfl hg7 dX5_nextToken_282 ?_
        refine fw_imul dX5_nextToken_285 ?_
        refine fw_aload_n dX5_nextToken_286 rfl rfl ?_
        refine fw_getfP fl_X5_16 rfl hg7 dX5_nextToken_287 ?_
        refine fw_aload_n dX5_nextToken_290 rfl rfl ?_
        refine fw_getfI fl_X5_173 rfl hg7 dX5_nextToken_291 ?_
        obtain ⟨hg10, h⟩ := h
        obtain ⟨hc11, h⟩ := h
        refine fw_bald hg10 hc11 dX5_nextToken_294 ?_
        refine fw_iadd dX5_nextToken_295 ?_
        refine fw_bipush (v := 48) dX5_nextToken_296 (by decide) ?_
        refine fw_isub dX5_nextToken_298 ?_
        exact w_X5_nextToken_L299 hf hk232 hg7 h
      · have h := fw_if h c9
        refine fw_aload_n dX5_nextToken_272 rfl rfl ?_
        refine fw_getfI fl_X5_194 rfl hg7 dX5_nextToken_273 ?_
        refine fw_goto (tgt := 299) dX5_nextToken_276 (by decide) ?_
        exact w_X5_nextToken_L299 hf hk232 hg7 h
theorem w_X5_nextToken_L232 {g : fw_G} {f bc bs : Nat} {r0 : Nat} {μ : fw_M} {Q : fw_M → Prop} (hf : 3 ≤ f) (hx : m_K μ r0 = 6) (h : p_X5_nextToken_L232 r0 μ Q) : fw_V g K_X5_nextToken f bc bs 232 [(0, fw_rv g r0)] [] μ (fw_Qv Q) fw_nX := by
  have key := fw_lp_out (R := fun (a : fw_M) => m_K a r0 = 6 → fw_V g K_X5_nextToken f bc bs 232 [(0, fw_rv g r0)] [] a (fw_Qv Q) fw_nX) (fun k hk9 a ha hx2 => w_X5_nextToken_L232b hf (fun {μ} hx3 h3 => hk9 μ h3 hx3) hx2 ha) h
  exact key hx
def p_X5_nextToken_L426 (r0 : Nat) (rs0 : Nat) (is1 : Int32) (μ : fw_M) (Q : fw_M → Prop) : Prop :=
  (m_K μ rs0 = 6 ∧ (∀ μ2, μ2 = m_uI μ rs0 17 is1 →
  (∀ μ3, μ3 = m_uI μ2 r0 14 ((m_I μ2 r0 14) + (1 : Int32)) →
  Q μ3)))
set_option maxHeartbeats 4000000 in
theorem w_X5_nextToken_L426 {g : fw_G} {f bc bs : Nat} {r0 : Nat} {rs0 : Nat} {is1 : Int32} {μ : fw_M} {Q : fw_M → Prop} (hf : 3 ≤ f) (hx : m_K μ r0 = 6) (h : p_X5_nextToken_L426 r0 rs0 is1 μ Q) : fw_V g K_X5_nextToken f bc bs 426 [(0, fw_rv g r0)] [Value.int is1, fw_rv g rs0] μ (fw_Qv Q) fw_nX := by
  unfold p_X5_nextToken_L426 at h
  obtain ⟨hg1, h⟩ := h
  refine fw_putfI fl_X5_194 (fun q hq => Or.inl (by cases hq; rfl)) rfl hg1 dX5_nextToken_426 ?_
  have h := h _ rfl
  refine fw_aload_n dX5_nextToken_429 rfl rfl ?_
  refine fw_dup dX5_nextToken_430 (fw_cat _) ?_
  refine fw_getfI fl_X5_173 rfl hx dX5_nextToken_431 ?_
  refine fw_iconst (v := 1) dX5_nextToken_434 (by decide) ?_
  refine fw_iadd dX5_nextToken_435 ?_
  refine fw_putfI fl_X5_173 (fun q hq => Or.inl (by cases hq; rfl)) rfl hx dX5_nextToken_436 ?_
  have h := h _ rfl
  exact fw_return dX5_nextToken_439 rfl ⟨rfl, h⟩
def p_X5_nextToken_L385 (r0 : Nat) (i1 : Int32) (μ : fw_M) (Q : fw_M → Prop) : Prop :=
  (if (m_I μ r0 13) ≤ (m_I μ r0 14) then
  (Q μ)
  else
  ((m_K μ (m_P μ r0 2) = 101 ∧ (vp_in (m_I μ r0 14) (m_N μ (m_P μ r0 2)) ∧ (if (m_I μ (m_P μ r0 2) (m_I μ r0 14).toNatClampNeg) = (61 : Int32) then
   ((if i1 = (60 : Int32) then
    (p_X5_nextToken_L426 r0 r0 (300 : Int32) μ Q)
    else
    (p_X5_nextToken_L426 r0 r0 (301 : Int32) μ Q)))
   else
   (Q μ))))))
set_option maxHeartbeats 4000000 in
theorem w_X5_nextToken_L385 {g : fw_G} {f bc bs : Nat} {r0 : Nat} {i1 : Int32} {μ : fw_M} {Q : fw_M → Prop} (hf : 3 ≤ f) (hx : m_K μ r0 = 6) (h : p_X5_nextToken_L385 r0 i1 μ Q) : fw_V g K_X5_nextToken f bc bs 385 [(0, fw_rv g r0), (1, Value.int i1)] [] μ (fw_Qv Q) fw_nX := by
  unfold p_X5_nextToken_L385 at h
  refine fw_aload_n dX5_nextToken_385 rfl rfl ?_
  refine fw_getfI fl_X5_173 rfl hx dX5_nextToken_386 ?_
  refine fw_aload_n dX5_nextToken_389 rfl rfl ?_
  refine fw_getfI fl_X5_176 rfl hx dX5_nextToken_390 ?_
  refine fw_icmp_ge (tgt := 439) dX5_nextToken_393 (by decide) (fun c1 => ?_) (fun c1 => ?_)
  · have h := fw_it h c1
    exact fw_return dX5_nextToken_439 rfl ⟨rfl, h⟩
  · have h := fw_if h c1
    refine fw_aload_n dX5_nextToken_396 rfl rfl ?_
    refine fw_getfP fl_X5_16 rfl hx dX5_nextToken_397 ?_
    refine fw_aload_n dX5_nextToken_400 rfl rfl ?_
    refine fw_getfI fl_X5_173 rfl hx dX5_nextToken_401 ?_
    obtain ⟨hg2, h⟩ := h
    obtain ⟨hc3, h⟩ := h
    refine fw_bald hg2 hc3 dX5_nextToken_404 ?_
    refine fw_bipush (v := 61) dX5_nextToken_405 (by decide) ?_
    refine fw_icmp_ne (tgt := 439) dX5_nextToken_407 (by decide) (fun c4 => ?_) (fun c4 => ?_)
    · have h := fw_if h c4
      exact fw_return dX5_nextToken_439 rfl ⟨rfl, h⟩
    · have h := fw_it h c4
      refine fw_aload_n dX5_nextToken_410 rfl rfl ?_
      refine fw_iload_n dX5_nextToken_411 rfl rfl ?_
      refine fw_bipush (v := 60) dX5_nextToken_412 (by decide) ?_
      refine fw_icmp_ne (tgt := 423) dX5_nextToken_414 (by decide) (fun c5 => ?_) (fun c5 => ?_)
      · have h := fw_if h c5
        refine fw_sipush (v := 301) dX5_nextToken_423 (by decide) ?_
        refine fw_ls [0] rfl ?_
        exact w_X5_nextToken_L426 hf hx h
      · have h := fw_it h c5
        refine fw_sipush (v := 300) dX5_nextToken_417 (by decide) ?_
        refine fw_goto (tgt := 426) dX5_nextToken_420 (by decide) ?_
        refine fw_ls [0] rfl ?_
        exact w_X5_nextToken_L426 hf hx h
def p_X5_nextToken_L370 (r0 : Nat) (i1 : Int32) (rs0 : Nat) (is1 : Int32) (μ : fw_M) (Q : fw_M → Prop) : Prop :=
  (m_K μ rs0 = 6 ∧ (∀ μ2, μ2 = m_uI μ rs0 16 is1 →
  (if i1 = (60 : Int32) then
  (p_X5_nextToken_L385 r0 i1 μ2 Q)
  else
  ((if i1 = (62 : Int32) then
   (p_X5_nextToken_L385 r0 i1 μ2 Q)
   else
   (Q μ2))))))
set_option maxHeartbeats 4000000 in
theorem w_X5_nextToken_L370 {g : fw_G} {f bc bs : Nat} {r0 : Nat} {i1 : Int32} {rs0 : Nat} {is1 : Int32} {μ : fw_M} {Q : fw_M → Prop} (hf : 3 ≤ f) (hx : m_K μ r0 = 6) (h : p_X5_nextToken_L370 r0 i1 rs0 is1 μ Q) : fw_V g K_X5_nextToken f bc bs 370 [(0, fw_rv g r0), (1, Value.int i1)] [Value.int is1, fw_rv g rs0] μ (fw_Qv Q) fw_nX := by
  unfold p_X5_nextToken_L370 at h
  obtain ⟨hg1, h⟩ := h
  refine fw_putfI fl_X5_182 (fun q hq => Or.inl (by cases hq; rfl)) rfl hg1 dX5_nextToken_370 ?_
  have h := h _ rfl
  refine fw_iload_n dX5_nextToken_373 rfl rfl ?_
  refine fw_bipush (v := 60) dX5_nextToken_374 (by decide) ?_
  refine fw_icmp_eq (tgt := 385) dX5_nextToken_376 (by decide) (fun c3 => ?_) (fun c3 => ?_)
  · have h := fw_it h c3
    exact w_X5_nextToken_L385 hf hx h
  · have h := fw_if h c3
    refine fw_iload_n dX5_nextToken_379 rfl rfl ?_
    refine fw_bipush (v := 62) dX5_nextToken_380 (by decide) ?_
    refine fw_icmp_ne (tgt := 439) dX5_nextToken_382 (by decide) (fun c4 => ?_) (fun c4 => ?_)
    · have h := fw_if h c4
      exact fw_return dX5_nextToken_439 rfl ⟨rfl, h⟩
    · have h := fw_it h c4
      exact w_X5_nextToken_L385 hf hx h
def p_X5_nextToken_L365 (r0 : Nat) (i1 : Int32) (rs0 : Nat) (μ : fw_M) (Q : fw_M → Prop) : Prop :=
  p_X5_nextToken_L370 r0 i1 rs0 (3 : Int32) μ Q
set_option maxHeartbeats 4000000 in
theorem w_X5_nextToken_L365 {g : fw_G} {f bc bs : Nat} {r0 : Nat} {i1 : Int32} {rs0 : Nat} {μ : fw_M} {Q : fw_M → Prop} (hf : 3 ≤ f) (hx : m_K μ r0 = 6) (h : p_X5_nextToken_L365 r0 i1 rs0 μ Q) : fw_V g K_X5_nextToken f bc bs 365 [(0, fw_rv g r0), (1, Value.int i1)] [fw_rv g rs0] μ (fw_Qv Q) fw_nX := by
  unfold p_X5_nextToken_L365 at h
  refine fw_iconst (v := 3) dX5_nextToken_365 (by decide) ?_
  refine fw_goto (tgt := 370) dX5_nextToken_366 (by decide) ?_
  exact w_X5_nextToken_L370 hf hx h
def p_X5_nextToken_L52 (r0 : Nat) (μ : fw_M) (Q : fw_M → Prop) : Prop :=
  (∀ μ1, μ1 = m_uI μ r0 15 (m_I μ r0 14) →
  (if (m_I μ1 r0 14) = (m_I μ1 r0 13) then
  ((∀ μ33, μ33 = m_uI μ1 r0 16 (0 : Int32) →
   Q μ33))
  else
  ((m_K μ1 (m_P μ1 r0 2) = 101 ∧ (vp_in (m_I μ1 r0 14) (m_N μ1 (m_P μ1 r0 2)) ∧ (∀ i1_5 : Int32, i1_5 = (m_I μ1 (m_P μ1 r0 2) (m_I μ1 r0 14).toNatClampNeg) →
   (p_X5_isLetter i1_5 μ1 (fun v7 μ8 =>
   (if v7 = 0 then
   ((p_X5_in i1_5 (48 : Int32) (57 : Int32) μ8 (fun v12 μ13 =>
    (if v12 = 0 then
    ((∀ μ17, μ17 = m_uI μ13 r0 14 ((m_I μ13 r0 14) + (1 : Int32)) →
     (∀ μ18, μ18 = m_uI μ17 r0 17 i1_5 →
     (p_X5_in i1_5 (59 : Int32) (62 : Int32) μ18 (fun v19 μ20 =>
     (if v19 = 0 then
     ((p_X5_in i1_5 (40 : Int32) (45 : Int32) μ20 (fun v24 μ25 =>
      (if v24 = 0 then
      ((if i1_5 = (47 : Int32) then
       (p_X5_nextToken_L365 r0 i1_5 r0 μ25 Q)
       else
       ((if i1_5 = (35 : Int32) then
        (p_X5_nextToken_L365 r0 i1_5 r0 μ25 Q)
        else
        (p_X5_nextToken_L370 r0 i1_5 r0 (4 : Int32) μ25 Q)))))
      else
      (p_X5_nextToken_L365 r0 i1_5 r0 μ25 Q)))))
     else
     (p_X5_nextToken_L365 r0 i1_5 r0 μ20 Q)))))))
    else
    ((∀ μ31, μ31 = m_uI μ13 r0 16 (2 : Int32) →
     (∀ μ32, μ32 = m_uI μ31 r0 17 (0 : Int32) →
     p_X5_nextToken_L232 r0 μ32 Q)))))))
   else
   (p_X5_nextToken_L99 r0 (0 : Int64) (0 : Int32) μ8 Q))))))))))
set_option maxHeartbeats 4000000 in
theorem w_X5_nextToken_L52 {g : fw_G} {f bc bs : Nat} {r0 : Nat} {μ : fw_M} {Q : fw_M → Prop} (hf : 3 ≤ f) (hx : m_K μ r0 = 6) (h : p_X5_nextToken_L52 r0 μ Q) : fw_V g K_X5_nextToken f bc bs 52 [(0, fw_rv g r0)] [] μ (fw_Qv Q) fw_nX := by
  unfold p_X5_nextToken_L52 at h
  refine fw_aload_n dX5_nextToken_52 rfl rfl ?_
  refine fw_aload_n dX5_nextToken_53 rfl rfl ?_
  refine fw_getfI fl_X5_173 rfl hx dX5_nextToken_54 ?_
  refine fw_putfI fl_X5_179 (fun q hq => Or.inl (by cases hq; rfl)) rfl hx dX5_nextToken_57 ?_
  have h := h _ rfl
  refine fw_aload_n dX5_nextToken_60 rfl rfl ?_
  refine fw_getfI fl_X5_173 rfl hx dX5_nextToken_61 ?_
  refine fw_aload_n dX5_nextToken_64 rfl rfl ?_
  refine fw_getfI fl_X5_176 rfl hx dX5_nextToken_65 ?_
  refine fw_icmp_ne (tgt := 77) dX5_nextToken_68 (by decide) (fun c2 => ?_) (fun c2 => ?_)
  · have h := fw_if h c2
    refine fw_aload_n dX5_nextToken_77 rfl rfl ?_
    refine fw_getfP fl_X5_16 rfl hx dX5_nextToken_78 ?_
    refine fw_aload_n dX5_nextToken_81 rfl rfl ?_
    refine fw_getfI fl_X5_173 rfl hx dX5_nextToken_82 ?_
    obtain ⟨hg3, h⟩ := h
    obtain ⟨hc4, h⟩ := h
    refine fw_bald hg3 hc4 dX5_nextToken_85 ?_
    refine fw_topi (fun i1_5 e6 => ?_)
    have h := h i1_5 e6
    refine fw_istore_nN (Ls' := [(1, Value.int i1_5), (0, fw_rv g r0)]) [] dX5_nextToken_86 rfl (by decide) rfl rfl rfl (fw_cat _) rfl ?_
    refine fw_iload_n dX5_nextToken_87 rfl rfl ?_
    refine fw_callS1z (f1 := f - 1) cl_X5_185 (by decide) (by omega) (fw_s4 (Nat.le_of_ble_eq_true rfl)) dX5_nextToken_88 (w_X5_isLetter (f := f - 1) (by omega) h) (fun _ _ h9 _ _ => h9.elim) (fun v9 μ8 q9 hs9 => ?_)
    obtain ⟨v7, rfl, h⟩ := q9
    refine fw_ti ?_
    have hg10 := hs9.K hx (by decide)
    refine fw_if_eq (tgt := 211) dX5_nextToken_91 (by decide) (fun c11 => ?_) (fun c11 => ?_)
    · have h := fw_it h c11
      refine fw_iload_n dX5_nextToken_211 rfl rfl ?_
      refine fw_bipush (v := 48) dX5_nextToken_212 (by decide) ?_
      refine fw_bipush (v := 57) dX5_nextToken_214 (by decide) ?_
      refine fw_callS3z (f1 := f - 1) cl_X5_110 (by decide) (by omega) (fw_s4 (Nat.le_of_ble_eq_true rfl)) dX5_nextToken_216 (w_X5_in (f := f - 1) (by omega) h) (fun _ _ h9 _ _ => h9.elim) (fun v9 μ13 q9 hs14 => ?_)
      obtain ⟨v12, rfl, h⟩ := q9
      refine fw_ti ?_
      have hg15 := hs14.K hg10 (by decide)
      refine fw_if_eq (tgt := 315) dX5_nextToken_219 (by decide) (fun c16 => ?_) (fun c16 => ?_)
      · have h := fw_it h c16
        refine fw_aload_n dX5_nextToken_315 rfl rfl ?_
        refine fw_dup dX5_nextToken_316 (fw_cat _) ?_
        refine fw_getfI fl_X5_173 rfl hg15 dX5_nextToken_317 ?_
        refine fw_iconst (v := 1) dX5_nextToken_320 (by decide) ?_
        refine fw_iadd dX5_nextToken_321 ?_
        refine fw_putfI fl_X5_173 (fun q hq => Or.inl (by cases hq; rfl)) rfl hg15 dX5_nextToken_322 ?_
        have h := h _ rfl
        refine fw_aload_n dX5_nextToken_325 rfl rfl ?_
        refine fw_iload_n dX5_nextToken_326 rfl rfl ?_
        refine fw_putfI fl_X5_194 (fun q hq => Or.inl (by cases hq; rfl)) rfl hg15 dX5_nextToken_327 ?_
        have h := h _ rfl
        refine fw_aload_n dX5_nextToken_330 rfl rfl ?_
        refine fw_iload_n dX5_nextToken_331 rfl rfl ?_
        refine fw_bipush (v := 59) dX5_nextToken_332 (by decide) ?_
        refine fw_bipush (v := 62) dX5_nextToken_334 (by decide) ?_
        refine fw_callS3z (f1 := f - 1) cl_X5_110 (by decide) (by omega) (fw_s4 (Nat.le_of_ble_eq_true rfl)) dX5_nextToken_336 (w_X5_in (f := f - 1) (by omega) h) (fun _ _ h9 _ _ => h9.elim) (fun v9 μ20 q9 hs21 => ?_)
        obtain ⟨v19, rfl, h⟩ := q9
        refine fw_ti ?_
        have hg22 := hs21.K hg15 (by decide)
        refine fw_if_ne (tgt := 365) dX5_nextToken_339 (by decide) (fun c23 => ?_) (fun c23 => ?_)
        · have h := fw_if h c23
          refine fw_ls [1, 0] rfl ?_
          exact w_X5_nextToken_L365 hf hg22 h
        · have h := fw_it h c23
          refine fw_iload_n dX5_nextToken_342 rfl rfl ?_
          refine fw_bipush (v := 40) dX5_nextToken_343 (by decide) ?_
          refine fw_bipush (v := 45) dX5_nextToken_345 (by decide) ?_
          refine fw_callS3z (f1 := f - 1) cl_X5_110 (by decide) (by omega) (fw_s4 (Nat.le_of_ble_eq_true rfl)) dX5_nextToken_347 (w_X5_in (f := f - 1) (by omega) h) (fun _ _ h9 _ _ => h9.elim) (fun v9 μ25 q9 hs26 => ?_)
          obtain ⟨v24, rfl, h⟩ := q9
          refine fw_ti ?_
          have hg27 := hs26.K hg22 (by decide)
          refine fw_if_ne (tgt := 365) dX5_nextToken_350 (by decide) (fun c28 => ?_) (fun c28 => ?_)
          · have h := fw_if h c28
            refine fw_ls [1, 0] rfl ?_
            exact w_X5_nextToken_L365 hf hg27 h
          · have h := fw_it h c28
            refine fw_iload_n dX5_nextToken_353 rfl rfl ?_
            refine fw_bipush (v := 47) dX5_nextToken_354 (by decide) ?_
            refine fw_icmp_eq (tgt := 365) dX5_nextToken_356 (by decide) (fun c29 => ?_) (fun c29 => ?_)
            · have h := fw_it h c29
              refine fw_ls [1, 0] rfl ?_
              exact w_X5_nextToken_L365 hf hg27 h
            · have h := fw_if h c29
              refine fw_iload_n dX5_nextToken_359 rfl rfl ?_
              refine fw_bipush (v := 35) dX5_nextToken_360 (by decide) ?_
              refine fw_icmp_ne (tgt := 369) dX5_nextToken_362 (by decide) (fun c30 => ?_) (fun c30 => ?_)
              · have h := fw_if h c30
                refine fw_iconst (v := 4) dX5_nextToken_369 (by decide) ?_
                refine fw_ls [1, 0] rfl ?_
                exact w_X5_nextToken_L370 hf hg27 h
              · have h := fw_it h c30
                refine fw_ls [1, 0] rfl ?_
                exact w_X5_nextToken_L365 hf hg27 h
      · have h := fw_if h c16
        refine fw_aload_n dX5_nextToken_222 rfl rfl ?_
        refine fw_iconst (v := 2) dX5_nextToken_223 (by decide) ?_
        refine fw_putfI fl_X5_182 (fun q hq => Or.inl (by cases hq; rfl)) rfl hg15 dX5_nextToken_224 ?_
        have h := h _ rfl
        refine fw_aload_n dX5_nextToken_227 rfl rfl ?_
        refine fw_iconst (v := 0) dX5_nextToken_228 (by decide) ?_
        refine fw_putfI fl_X5_194 (fun q hq => Or.inl (by cases hq; rfl)) rfl hg15 dX5_nextToken_229 ?_
        have h := h _ rfl
        refine fw_ls [1] rfl ?_
        exact w_X5_nextToken_L232 hf hg15 h
    · have h := fw_if h c11
      refine fw_lconst (v := 0) dX5_nextToken_94 (by decide) ?_
      refine fw_lstore_nN (Ls' := [(2, Value.long (0 : Int64)), (1, Value.int i1_5), (0, fw_rv g r0)]) [1] dX5_nextToken_95 rfl (by decide) rfl rfl rfl rfl rfl ?_
      refine fw_iconst (v := 0) dX5_nextToken_96 (by decide) ?_
      refine fw_istore (Ls' := [(4, Value.int (0 : Int32)), (2, Value.long (0 : Int64)), (1, Value.int i1_5), (0, fw_rv g r0)]) [0, 1, 2] dX5_nextToken_97 (by decide) rfl rfl ?_
      refine fw_ls [3, 1, 0] rfl ?_
      exact w_X5_nextToken_L99 hf hg10 h
  · have h := fw_it h c2
    refine fw_aload_n dX5_nextToken_71 rfl rfl ?_
    refine fw_iconst (v := 0) dX5_nextToken_72 (by decide) ?_
    refine fw_putfI fl_X5_182 (fun q hq => Or.inl (by cases hq; rfl)) rfl hx dX5_nextToken_73 ?_
    have h := h _ rfl
    exact fw_return dX5_nextToken_76 rfl ⟨rfl, h⟩
def p_X5_nextToken_L0b (r0 : Nat) (k0 : fw_M → Prop) (μ : fw_M) (Q : fw_M → Prop) : Prop :=
  (if (m_I μ r0 13) ≤ (m_I μ r0 14) then
  (p_X5_nextToken_L52 r0 μ Q)
  else
  ((m_K μ (m_P μ r0 2) = 101 ∧ (vp_in (m_I μ r0 14) (m_N μ (m_P μ r0 2)) ∧ (if (m_I μ (m_P μ r0 2) (m_I μ r0 14).toNatClampNeg) = (32 : Int32) then
   (p_X5_nextToken_L39 k0 r0 μ Q)
   else
   ((vp_in (m_I μ r0 14) (m_N μ (m_P μ r0 2)) ∧ (if (m_I μ (m_P μ r0 2) (m_I μ r0 14).toNatClampNeg) = (10 : Int32) then
    (p_X5_nextToken_L39 k0 r0 μ Q)
    else
    (p_X5_nextToken_L52 r0 μ Q)))))))))
def p_X5_nextToken_L0 (r0 : Nat) (μ : fw_M) (Q : fw_M → Prop) : Prop := fw_lp (fun (k : fw_M → Prop) (a : fw_M) => p_X5_nextToken_L0b r0 (fun μ => k μ) a Q) μ
theorem r_X5_nextToken_L0 {r0 : Nat} {Q : fw_M → Prop} (I : fw_M → Prop) (v : fw_M → Nat) (hs : ∀ (k : fw_M → Prop) (μ : fw_M), I μ → (∀ (ν : fw_M), I ν → v ν < v μ → k ν) → p_X5_nextToken_L0b r0 k μ Q) (μ : fw_M) (h : I μ) : p_X5_nextToken_L0 r0 μ Q :=
  fw_lp_in (A := fw_M) (fun a => I a) (fun a => v a) (fun k a ha hk => hs (fun μ => k μ) a ha (fun ν hb hlt => hk ν hb hlt)) μ h
set_option maxHeartbeats 4000000 in
theorem w_X5_nextToken_L0b {g : fw_G} {f bc bs : Nat} {r0 : Nat} {k0 : fw_M → Prop} {μ : fw_M} {Q : fw_M → Prop} (hf : 3 ≤ f) (hk0 : ∀ {μ : fw_M}, m_K μ r0 = 6 → k0 μ → fw_V g K_X5_nextToken f bc bs 0 [(0, fw_rv g r0)] [] μ (fw_Qv Q) fw_nX) (hx : m_K μ r0 = 6) (h : p_X5_nextToken_L0b r0 k0 μ Q) : fw_V g K_X5_nextToken f bc bs 0 [(0, fw_rv g r0)] [] μ (fw_Qv Q) fw_nX := by
  unfold p_X5_nextToken_L0b at h
  refine fw_aload_n dX5_nextToken_0 rfl rfl ?_
  refine fw_getfI fl_X5_173 rfl hx dX5_nextToken_1 ?_
  refine fw_aload_n dX5_nextToken_4 rfl rfl ?_
  refine fw_getfI fl_X5_176 rfl hx dX5_nextToken_5 ?_
  refine fw_icmp_ge (tgt := 52) dX5_nextToken_8 (by decide) (fun c1 => ?_) (fun c1 => ?_)
  · have h := fw_it h c1
    exact w_X5_nextToken_L52 hf hx h
  · have h := fw_if h c1
    refine fw_aload_n dX5_nextToken_11 rfl rfl ?_
    refine fw_getfP fl_X5_16 rfl hx dX5_nextToken_12 ?_
    refine fw_aload_n dX5_nextToken_15 rfl rfl ?_
    refine fw_getfI fl_X5_173 rfl hx dX5_nextToken_16 ?_
    obtain ⟨hg2, h⟩ := h
    obtain ⟨hc3, h⟩ := h
    refine fw_bald hg2 hc3 dX5_nextToken_19 ?_
    refine fw_bipush (v := 32) dX5_nextToken_20 (by decide) ?_
    refine fw_icmp_eq (tgt := 39) dX5_nextToken_22 (by decide) (fun c4 => ?_) (fun c4 => ?_)
    · have h := fw_it h c4
      exact w_X5_nextToken_L39 hf hk0 hx h
    · have h := fw_if h c4
      refine fw_aload_n dX5_nextToken_25 rfl rfl ?_
      refine fw_getfP fl_X5_16 rfl hx dX5_nextToken_26 ?_
      refine fw_aload_n dX5_nextToken_29 rfl rfl ?_
      refine fw_getfI fl_X5_173 rfl hx dX5_nextToken_30 ?_
      obtain ⟨hc5, h⟩ := h
      refine fw_bald hg2 hc5 dX5_nextToken_33 ?_
      refine fw_bipush (v := 10) dX5_nextToken_34 (by decide) ?_
      refine fw_icmp_ne (tgt := 52) dX5_nextToken_36 (by decide) (fun c6 => ?_) (fun c6 => ?_)
      · have h := fw_if h c6
        exact w_X5_nextToken_L52 hf hx h
      · have h := fw_it h c6
        exact w_X5_nextToken_L39 hf hk0 hx h
theorem w_X5_nextToken_L0 {g : fw_G} {f bc bs : Nat} {r0 : Nat} {μ : fw_M} {Q : fw_M → Prop} (hf : 3 ≤ f) (hx : m_K μ r0 = 6) (h : p_X5_nextToken_L0 r0 μ Q) : fw_V g K_X5_nextToken f bc bs 0 [(0, fw_rv g r0)] [] μ (fw_Qv Q) fw_nX := by
  have key := fw_lp_out (R := fun (a : fw_M) => m_K a r0 = 6 → fw_V g K_X5_nextToken f bc bs 0 [(0, fw_rv g r0)] [] a (fw_Qv Q) fw_nX) (fun k hk9 a ha hx2 => w_X5_nextToken_L0b hf (fun {μ} hx3 h3 => hk9 μ h3 hx3) hx2 ha) h
  exact key hx
def p_X5_nextToken (r0 : Nat) (μ : fw_M) (Q : fw_M → Prop) : Prop :=
  p_X5_nextToken_L0 r0 μ Q
set_option maxHeartbeats 4000000 in
theorem w_X5_nextToken {g : fw_G} {f bc bs : Nat} {r0 : Nat} {μ : fw_M} {Q : fw_M → Prop} (hf : 3 ≤ f) (hx : m_K μ r0 = 6) (h : p_X5_nextToken r0 μ Q) : fw_C g f bc bs yX5_nextToken (ws_ yX5_nextToken cX5_nextToken 5 (none)) [fw_rv g r0] μ (fw_Qv Q) fw_nX := by
  unfold p_X5_nextToken at h
  refine fw_intro' (Ls := [(0, fw_rv g r0)]) (by decide +kernel) (by simp [lg_sl, fw_cat, fw_ci, fw_clo]) (by simp [lv_args, fw_cat, fw_ci, fw_clo]) ?_
  show fw_V g K_X5_nextToken f bc bs 0 [(0, fw_rv g r0)] [] μ (fw_Qv Q) fw_nX
  exact w_X5_nextToken_L0 hf hx h
abbrev K_X5_opensSign : fw_Kt := (RX5, "opensSign", cX5_opensSign, 2, some .boolean, [])
def p_X5_opensSign (r0 : Nat) (i1 : Int32) (μ : fw_M) (Q : Int32 → fw_M → Prop) : Prop :=
  (if (m_I μ r0 20) = (8 : Int32) then
  ((p_X5_errs r0 (3 : Int32) μ (fun μ12 =>
   Q (0 : Int32) μ12)))
  else
  ((∀ μ2, μ2 = m_uI μ r0 20 ((m_I μ r0 20) + (1 : Int32)) →
   (p_X5_opensFrame r0 i1 μ2 (fun μ4 =>
   (p_X5_nextToken r0 μ4 (fun μ8 =>
   Q (1 : Int32) μ8)))))))
set_option maxHeartbeats 4000000 in
theorem w_X5_opensSign {g : fw_G} {f bc bs : Nat} {r0 : Nat} {i1 : Int32} {μ : fw_M} {Q : Int32 → fw_M → Prop} (hf : 4 ≤ f) (hx : m_K μ r0 = 6) (h : p_X5_opensSign r0 i1 μ Q) : fw_C g f bc bs yX5_opensSign (ws_ yX5_opensSign cX5_opensSign 2 (some .boolean)) [fw_rv g r0, Value.int i1] μ (fw_Qi Q) fw_nX := by
  unfold p_X5_opensSign at h
  refine fw_intro' (Ls := [(0, fw_rv g r0), (1, Value.int i1)]) (by decide +kernel) (by simp [lg_sl, fw_cat, fw_ci, fw_clo]) (by simp [lv_args, fw_cat, fw_ci, fw_clo]) ?_
  show fw_V g K_X5_opensSign f bc bs 0 [(0, fw_rv g r0), (1, Value.int i1)] [] μ (fw_Qi Q) fw_nX
  refine fw_aload_n dX5_opensSign_0 rfl rfl ?_
  refine fw_getfI fl_X5_210 rfl hx dX5_opensSign_1 ?_
  refine fw_bipush (v := 8) dX5_opensSign_4 (by decide) ?_
  refine fw_icmp_ne (tgt := 16) dX5_opensSign_6 (by decide) (fun c1 => ?_) (fun c1 => ?_)
  · have h := fw_if h c1
    refine fw_aload_n dX5_opensSign_16 rfl rfl ?_
    refine fw_dup dX5_opensSign_17 (fw_cat _) ?_
    refine fw_getfI fl_X5_210 rfl hx dX5_opensSign_18 ?_
    refine fw_iconst (v := 1) dX5_opensSign_21 (by decide) ?_
    refine fw_iadd dX5_opensSign_22 ?_
    refine fw_putfI fl_X5_210 (fun q hq => Or.inl (by cases hq; rfl)) rfl hx dX5_opensSign_23 ?_
    have h := h _ rfl
    refine fw_aload_n dX5_opensSign_26 rfl rfl ?_
    refine fw_iload_n dX5_opensSign_27 rfl rfl ?_
    refine fw_callV1z (f1 := f - 1) cl_X5_216 rfl hx (by decide) (by omega) (fw_s4 (Nat.le_of_ble_eq_true rfl)) dX5_opensSign_28 (w_X5_opensFrame (f := f - 1) (by omega) hx h) (fun _ _ h9 _ _ => h9.elim) (fun v9 μ4 q9 hs5 => ?_)
    obtain ⟨rfl, h⟩ := q9
    refine fw_tv ?_
    have hg6 := hs5.K hx (by decide)
    refine fw_aload_n dX5_opensSign_31 rfl rfl ?_
    refine fw_callV0z (f1 := f - 1) cl_X5_219 rfl hg6 (by decide) (by omega) (fw_s4 (Nat.le_of_ble_eq_true rfl)) dX5_opensSign_32 (w_X5_nextToken (f := f - 1) (by omega) hg6 h) (fun _ _ h9 _ _ => h9.elim) (fun v9 μ8 q9 hs9 => ?_)
    obtain ⟨rfl, h⟩ := q9
    refine fw_tv ?_
    have hg10 := hs9.K hg6 (by decide)
    refine fw_iconst (v := 1) dX5_opensSign_35 (by decide) ?_
    exact fw_ireturn dX5_opensSign_36 rfl (by decide +kernel) ⟨_, rfl, h⟩
  · have h := fw_it h c1
    refine fw_aload_n dX5_opensSign_9 rfl rfl ?_
    refine fw_iconst (v := 3) dX5_opensSign_10 (by decide) ?_
    refine fw_callV1z (f1 := f - 1) cl_X5_213 rfl hx (by decide) (by omega) (fw_s4 (Nat.le_of_ble_eq_true rfl)) dX5_opensSign_11 (w_X5_errs (f := f - 1) (by omega) hx h) (fun _ _ h9 _ _ => h9.elim) (fun v9 μ12 q9 hs13 => ?_)
    obtain ⟨rfl, h⟩ := q9
    refine fw_tv ?_
    have hg14 := hs13.K hx (by decide)
    refine fw_iconst (v := 0) dX5_opensSign_14 (by decide) ?_
    exact fw_ireturn dX5_opensSign_15 rfl (by decide +kernel) ⟨_, rfl, h⟩
abbrev K_X5_asks : fw_Kt := (RX5, "asks", cX5_asks, 2, none, [])
def p_X5_asks (r0 : Nat) (μ : fw_M) (Q : fw_M → Prop) : Prop :=
  (p_X5_isWord r0 (11 : Int32) μ (fun v1 μ2 =>
  (if v1 = 0 then
  ((p_X5_opensFrame r0 (4 : Int32) μ2 (fun μ7 =>
   (∀ μ10, μ10 = m_uI μ7 r0 27 (1 : Int32) →
   Q μ10))))
  else
  ((p_X5_opensSign r0 (3 : Int32) μ2 (fun v11 μ12 =>
   Q μ12))))))
set_option maxHeartbeats 4000000 in
theorem w_X5_asks {g : fw_G} {f bc bs : Nat} {r0 : Nat} {μ : fw_M} {Q : fw_M → Prop} (hf : 5 ≤ f) (hx : m_K μ r0 = 6) (h : p_X5_asks r0 μ Q) : fw_C g f bc bs yX5_asks (ws_ yX5_asks cX5_asks 2 (none)) [fw_rv g r0] μ (fw_Qv Q) fw_nX := by
  unfold p_X5_asks at h
  refine fw_intro' (Ls := [(0, fw_rv g r0)]) (by decide +kernel) (by simp [lg_sl, fw_cat, fw_ci, fw_clo]) (by simp [lv_args, fw_cat, fw_ci, fw_clo]) ?_
  show fw_V g K_X5_asks f bc bs 0 [(0, fw_rv g r0)] [] μ (fw_Qv Q) fw_nX
  refine fw_aload_n dX5_asks_0 rfl rfl ?_
  refine fw_bipush (v := 11) dX5_asks_1 (by decide) ?_
  refine fw_callV1z (f1 := f - 1) cl_X5_236 rfl hx (by decide) (by omega) (fw_s4 (Nat.le_of_ble_eq_true rfl)) dX5_asks_3 (w_X5_isWord (f := f - 1) (by omega) hx h) (fun _ _ h9 _ _ => h9.elim) (fun v9 μ2 q9 hs3 => ?_)
  obtain ⟨v1, rfl, h⟩ := q9
  refine fw_ti ?_
  have hg4 := hs3.K hx (by decide)
  refine fw_if_eq (tgt := 18) dX5_asks_6 (by decide) (fun c5 => ?_) (fun c5 => ?_)
  · have h := fw_it h c5
    refine fw_aload_n dX5_asks_18 rfl rfl ?_
    refine fw_iconst (v := 4) dX5_asks_19 (by decide) ?_
    refine fw_callV1z (f1 := f - 1) cl_X5_216 rfl hg4 (by decide) (by omega) (fw_s4 (Nat.le_of_ble_eq_true rfl)) dX5_asks_20 (w_X5_opensFrame (f := f - 1) (by omega) hg4 h) (fun _ _ h9 _ _ => h9.elim) (fun v9 μ7 q9 hs8 => ?_)
    obtain ⟨rfl, h⟩ := q9
    refine fw_tv ?_
    have hg9 := hs8.K hg4 (by decide)
    refine fw_aload_n dX5_asks_23 rfl rfl ?_
    refine fw_iconst (v := 1) dX5_asks_24 (by decide) ?_
    refine fw_putfI fl_X5_242 (fun q hq => Or.inl (by cases hq; rfl)) rfl hg9 dX5_asks_25 ?_
    have h := h _ rfl
    exact fw_return dX5_asks_28 rfl ⟨rfl, h⟩
  · have h := fw_if h c5
    refine fw_aload_n dX5_asks_9 rfl rfl ?_
    refine fw_iconst (v := 3) dX5_asks_10 (by decide) ?_
    refine fw_callV1z (f1 := f - 1) cl_X5_239 rfl hg4 (by decide) (by omega) (fw_s4 (Nat.le_of_ble_eq_true rfl)) dX5_asks_11 (w_X5_opensSign (f := f - 1) (by omega) hg4 h) (fun _ _ h9 _ _ => h9.elim) (fun v9 μ12 q9 hs13 => ?_)
    obtain ⟨v11, rfl, h⟩ := q9
    refine fw_ti ?_
    have hg14 := hs13.K hg4 (by decide)
    refine fw_istore_nN (Ls' := [(1, Value.int v11), (0, fw_rv g r0)]) [] dX5_asks_14 rfl (by decide) rfl rfl rfl (fw_cat _) rfl ?_
    refine fw_goto (tgt := 28) dX5_asks_15 (by decide) ?_
    exact fw_return dX5_asks_28 rfl ⟨rfl, h⟩
abbrev K_X5_emits : fw_Kt := (RX5, "emits", cX5_emits, 3, none, [])
def p_X5_emits (r0 : Nat) (i1 : Int32) (i2 : Int32) (μ : fw_M) (Q : fw_M → Prop) : Prop :=
  (m_K μ (m_P μ r0 35) = 100 ∧ (vp_in (m_I μ r0 34) (m_N μ (m_P μ r0 35)) ∧ (∀ μ3, μ3 = m_uI μ (m_P μ r0 35) (m_I μ r0 34).toNatClampNeg i1 →
  (m_K μ3 (m_P μ3 r0 36) = 100 ∧ (vp_in (m_I μ3 r0 34) (m_N μ3 (m_P μ3 r0 36)) ∧ (∀ μ6, μ6 = m_uI μ3 (m_P μ3 r0 36) (m_I μ3 r0 34).toNatClampNeg i2 →
  (∀ μ7, μ7 = m_uI μ6 r0 34 ((m_I μ6 r0 34) + (1 : Int32)) →
  Q μ7)))))))
set_option maxHeartbeats 4000000 in
theorem w_X5_emits {g : fw_G} {f bc bs : Nat} {r0 : Nat} {i1 : Int32} {i2 : Int32} {μ : fw_M} {Q : fw_M → Prop} (hf : 1 ≤ f) (hx : m_K μ r0 = 6) (h : p_X5_emits r0 i1 i2 μ Q) : fw_C g f bc bs yX5_emits (ws_ yX5_emits cX5_emits 3 (none)) [fw_rv g r0, Value.int i1, Value.int i2] μ (fw_Qv Q) fw_nX := by
  unfold p_X5_emits at h
  refine fw_intro' (Ls := [(0, fw_rv g r0), (1, Value.int i1), (2, Value.int i2)]) (by decide +kernel) (by simp [lg_sl, fw_cat, fw_ci, fw_clo]) (by simp [lv_args, fw_cat, fw_ci, fw_clo]) ?_
  show fw_V g K_X5_emits f bc bs 0 [(0, fw_rv g r0), (1, Value.int i1), (2, Value.int i2)] [] μ (fw_Qv Q) fw_nX
  refine fw_aload_n dX5_emits_0 rfl rfl ?_
  refine fw_getfP fl_X5_72 rfl hx dX5_emits_1 ?_
  refine fw_aload_n dX5_emits_4 rfl rfl ?_
  refine fw_getfI fl_X5_204 rfl hx dX5_emits_5 ?_
  refine fw_iload_n dX5_emits_8 rfl rfl ?_
  obtain ⟨hg1, h⟩ := h
  obtain ⟨hc2, h⟩ := h
  refine fw_iast hg1 hc2 dX5_emits_9 ?_
  have h := h _ rfl
  refine fw_aload_n dX5_emits_10 rfl rfl ?_
  refine fw_getfP fl_X5_75 rfl hx dX5_emits_11 ?_
  refine fw_aload_n dX5_emits_14 rfl rfl ?_
  refine fw_getfI fl_X5_204 rfl hx dX5_emits_15 ?_
  refine fw_iload_n dX5_emits_18 rfl rfl ?_
  obtain ⟨hg4, h⟩ := h
  obtain ⟨hc5, h⟩ := h
  refine fw_iast hg4 hc5 dX5_emits_19 ?_
  have h := h _ rfl
  refine fw_aload_n dX5_emits_20 rfl rfl ?_
  refine fw_dup dX5_emits_21 (fw_cat _) ?_
  refine fw_getfI fl_X5_204 rfl hx dX5_emits_22 ?_
  refine fw_iconst (v := 1) dX5_emits_25 (by decide) ?_
  refine fw_iadd dX5_emits_26 ?_
  refine fw_putfI fl_X5_204 (fun q hq => Or.inl (by cases hq; rfl)) rfl hx dX5_emits_27 ?_
  have h := h _ rfl
  exact fw_return dX5_emits_30 rfl ⟨rfl, h⟩
abbrev K_X5_rank : fw_Kt := (RX5, "rank", cX5_rank, 1, some .int, [])
def p_X5_rank_L34 (μ : fw_M) (Q : Int32 → fw_M → Prop) : Prop :=
  Q (3 : Int32) μ
set_option maxHeartbeats 4000000 in
theorem w_X5_rank_L34 {g : fw_G} {f bc bs : Nat} {μ : fw_M} {Q : Int32 → fw_M → Prop} (hf : 1 ≤ f) (h : p_X5_rank_L34 μ Q) : fw_V g K_X5_rank f bc bs 34 [] [] μ (fw_Qi Q) fw_nX := by
  unfold p_X5_rank_L34 at h
  refine fw_iconst (v := 3) dX5_rank_34 (by decide) ?_
  refine fw_goto (tgt := 39) dX5_rank_35 (by decide) ?_
  exact fw_ireturn dX5_rank_39 rfl rfl ⟨_, rfl, h⟩
def p_X5_rank (i0 : Int32) (μ : fw_M) (Q : Int32 → fw_M → Prop) : Prop :=
  (if i0 = (407 : Int32) then
  (Q (1 : Int32) μ)
  else
  ((if i0 = (406 : Int32) then
   (Q (2 : Int32) μ)
   else
   ((if i0 = (43 : Int32) then
    (p_X5_rank_L34 μ Q)
    else
    ((if i0 = (45 : Int32) then
     (p_X5_rank_L34 μ Q)
     else
     (Q (4 : Int32) μ))))))))
set_option maxHeartbeats 4000000 in
theorem w_X5_rank {g : fw_G} {f bc bs : Nat} {i0 : Int32} {μ : fw_M} {Q : Int32 → fw_M → Prop} (hf : 1 ≤ f) (h : p_X5_rank i0 μ Q) : fw_C g f bc bs yX5_rank (ws_ yX5_rank cX5_rank 1 (some .int)) [Value.int i0] μ (fw_Qi Q) fw_nX := by
  unfold p_X5_rank at h
  refine fw_intro' (Ls := [(0, Value.int i0)]) (by decide +kernel) (by simp [lg_sl, fw_cat, fw_ci, fw_clo]) (by simp [lv_args, fw_cat, fw_ci, fw_clo]) ?_
  show fw_V g K_X5_rank f bc bs 0 [(0, Value.int i0)] [] μ (fw_Qi Q) fw_nX
  refine fw_iload_n dX5_rank_0 rfl rfl ?_
  refine fw_sipush (v := 407) dX5_rank_1 (by decide) ?_
  refine fw_icmp_ne (tgt := 11) dX5_rank_4 (by decide) (fun c1 => ?_) (fun c1 => ?_)
  · have h := fw_if h c1
    refine fw_iload_n dX5_rank_11 rfl rfl ?_
    refine fw_sipush (v := 406) dX5_rank_12 (by decide) ?_
    refine fw_icmp_ne (tgt := 22) dX5_rank_15 (by decide) (fun c2 => ?_) (fun c2 => ?_)
    · have h := fw_if h c2
      refine fw_iload_n dX5_rank_22 rfl rfl ?_
      refine fw_bipush (v := 43) dX5_rank_23 (by decide) ?_
      refine fw_icmp_eq (tgt := 34) dX5_rank_25 (by decide) (fun c3 => ?_) (fun c3 => ?_)
      · have h := fw_it h c3
        refine fw_ls [] rfl ?_
        exact w_X5_rank_L34 hf h
      · have h := fw_if h c3
        refine fw_iload_n dX5_rank_28 rfl rfl ?_
        refine fw_bipush (v := 45) dX5_rank_29 (by decide) ?_
        refine fw_icmp_ne (tgt := 38) dX5_rank_31 (by decide) (fun c4 => ?_) (fun c4 => ?_)
        · have h := fw_if h c4
          refine fw_iconst (v := 4) dX5_rank_38 (by decide) ?_
          exact fw_ireturn dX5_rank_39 rfl rfl ⟨_, rfl, h⟩
        · have h := fw_it h c4
          refine fw_ls [] rfl ?_
          exact w_X5_rank_L34 hf h
    · have h := fw_it h c2
      refine fw_iconst (v := 2) dX5_rank_18 (by decide) ?_
      refine fw_goto (tgt := 39) dX5_rank_19 (by decide) ?_
      exact fw_ireturn dX5_rank_39 rfl rfl ⟨_, rfl, h⟩
  · have h := fw_it h c1
    refine fw_iconst (v := 1) dX5_rank_7 (by decide) ?_
    refine fw_goto (tgt := 39) dX5_rank_8 (by decide) ?_
    exact fw_ireturn dX5_rank_39 rfl rfl ⟨_, rfl, h⟩
abbrev K_X5_works : fw_Kt := (RX5, "works", cX5_works, 2, none, [])
def p_X5_works_L0b (r0 : Nat) (i1 : Int32) (k0 : fw_M → Prop) (μ : fw_M) (Q : fw_M → Prop) : Prop :=
  (if (m_I μ r0 24) ≤ 0 then
  (Q μ)
  else
  ((m_K μ (m_P μ r0 26) = 100 ∧ (vp_in ((m_I μ r0 24) - (1 : Int32)) (m_N μ (m_P μ r0 26)) ∧ (if (m_I μ (m_P μ r0 26) ((m_I μ r0 24) - (1 : Int32)).toNatClampNeg) = (m_I μ r0 21) then
   ((m_K μ (m_P μ r0 25) = 100 ∧ (vp_in ((m_I μ r0 24) - (1 : Int32)) (m_N μ (m_P μ r0 25)) ∧ (p_X5_rank (m_I μ (m_P μ r0 25) ((m_I μ r0 24) - (1 : Int32)).toNatClampNeg) μ (fun v7 μ8 =>
    (if v7 < i1 then
    (Q μ8)
    else
    ((∀ μ12, μ12 = m_uI μ8 r0 24 ((m_I μ8 r0 24) - (1 : Int32)) →
     (m_K μ12 (m_P μ12 r0 25) = 100 ∧ (vp_in (m_I μ12 r0 24) (m_N μ12 (m_P μ12 r0 25)) ∧ (p_X5_emits r0 (m_I μ12 (m_P μ12 r0 25) (m_I μ12 r0 24).toNatClampNeg) (0 : Int32) μ12 (fun μ16 =>
     k0 μ16))))))))))))
   else
   (Q μ))))))
def p_X5_works_L0 (r0 : Nat) (i1 : Int32) (μ : fw_M) (Q : fw_M → Prop) : Prop := fw_lp (fun (k : fw_M → Prop) (a : fw_M) => p_X5_works_L0b r0 i1 (fun μ => k μ) a Q) μ
theorem r_X5_works_L0 {r0 : Nat} {i1 : Int32} {Q : fw_M → Prop} (I : fw_M → Prop) (v : fw_M → Nat) (hs : ∀ (k : fw_M → Prop) (μ : fw_M), I μ → (∀ (ν : fw_M), I ν → v ν < v μ → k ν) → p_X5_works_L0b r0 i1 k μ Q) (μ : fw_M) (h : I μ) : p_X5_works_L0 r0 i1 μ Q :=
  fw_lp_in (A := fw_M) (fun a => I a) (fun a => v a) (fun k a ha hk => hs (fun μ => k μ) a ha (fun ν hb hlt => hk ν hb hlt)) μ h
set_option maxHeartbeats 4000000 in
theorem w_X5_works_L0b {g : fw_G} {f bc bs : Nat} {r0 : Nat} {i1 : Int32} {k0 : fw_M → Prop} {μ : fw_M} {Q : fw_M → Prop} (hf : 2 ≤ f) (hk0 : ∀ {μ : fw_M}, m_K μ r0 = 6 → k0 μ → fw_V g K_X5_works f bc bs 0 [(0, fw_rv g r0), (1, Value.int i1)] [] μ (fw_Qv Q) fw_nX) (hx : m_K μ r0 = 6) (h : p_X5_works_L0b r0 i1 k0 μ Q) : fw_V g K_X5_works f bc bs 0 [(0, fw_rv g r0), (1, Value.int i1)] [] μ (fw_Qv Q) fw_nX := by
  unfold p_X5_works_L0b at h
  refine fw_aload_n dX5_works_0 rfl rfl ?_
  refine fw_getfI fl_X5_222 rfl hx dX5_works_1 ?_
  refine fw_if_le (tgt := 70) dX5_works_4 (by decide) (fun c1 => ?_) (fun c1 => ?_)
  · have h := fw_it h c1
    exact fw_return dX5_works_70 rfl ⟨rfl, h⟩
  · have h := fw_if h c1
    refine fw_aload_n dX5_works_7 rfl rfl ?_
    refine fw_getfP fl_X5_57 rfl hx dX5_works_8 ?_
    refine fw_aload_n dX5_works_11 rfl rfl ?_
    refine fw_getfI fl_X5_222 rfl hx dX5_works_12 ?_
    refine fw_iconst (v := 1) dX5_works_15 (by decide) ?_
    refine fw_isub dX5_works_16 ?_
    obtain ⟨hg2, h⟩ := h
    obtain ⟨hc3, h⟩ := h
    refine fw_iald hg2 hc3 dX5_works_17 ?_
    refine fw_aload_n dX5_works_18 rfl rfl ?_
    refine fw_getfI fl_X5_207 rfl hx dX5_works_19 ?_
    refine fw_icmp_ne (tgt := 70) dX5_works_22 (by decide) (fun c4 => ?_) (fun c4 => ?_)
    · have h := fw_if h c4
      exact fw_return dX5_works_70 rfl ⟨rfl, h⟩
    · have h := fw_it h c4
      refine fw_aload_n dX5_works_25 rfl rfl ?_
      refine fw_getfP fl_X5_54 rfl hx dX5_works_26 ?_
      refine fw_aload_n dX5_works_29 rfl rfl ?_
      refine fw_getfI fl_X5_222 rfl hx dX5_works_30 ?_
      refine fw_iconst (v := 1) dX5_works_33 (by decide) ?_
      refine fw_isub dX5_works_34 ?_
      obtain ⟨hg5, h⟩ := h
      obtain ⟨hc6, h⟩ := h
      refine fw_iald hg5 hc6 dX5_works_35 ?_
      refine fw_callS1z (f1 := f - 1) cl_X5_225 (by decide) (by omega) (fw_s4 (Nat.le_of_ble_eq_true rfl)) dX5_works_36 (w_X5_rank (f := f - 1) (by omega) h) (fun _ _ h9 _ _ => h9.elim) (fun v9 μ8 q9 hs9 => ?_)
      obtain ⟨v7, rfl, h⟩ := q9
      refine fw_ti ?_
      have hg10 := hs9.K hx (by decide)
      refine fw_iload_n dX5_works_39 rfl rfl ?_
      refine fw_icmp_lt (tgt := 70) dX5_works_40 (by decide) (fun c11 => ?_) (fun c11 => ?_)
      · have h := fw_it h c11
        exact fw_return dX5_works_70 rfl ⟨rfl, h⟩
      · have h := fw_if h c11
        refine fw_aload_n dX5_works_43 rfl rfl ?_
        refine fw_dup dX5_works_44 (fw_cat _) ?_
        refine fw_getfI fl_X5_222 rfl hg10 dX5_works_45 ?_
        refine fw_iconst (v := 1) dX5_works_48 (by decide) ?_
        refine fw_isub dX5_works_49 ?_
        refine fw_putfI fl_X5_222 (fun q hq => Or.inl (by cases hq; rfl)) rfl hg10 dX5_works_50 ?_
        have h := h _ rfl
        refine fw_aload_n dX5_works_53 rfl rfl ?_
        refine fw_aload_n dX5_works_54 rfl rfl ?_
        refine fw_getfP fl_X5_54 rfl hg10 dX5_works_55 ?_
        refine fw_aload_n dX5_works_58 rfl rfl ?_
        refine fw_getfI fl_X5_222 rfl hg10 dX5_works_59 ?_
        obtain ⟨hg13, h⟩ := h
        obtain ⟨hc14, h⟩ := h
        refine fw_iald hg13 hc14 dX5_works_62 ?_
        refine fw_iconst (v := 0) dX5_works_63 (by decide) ?_
        refine fw_callV2z (f1 := f - 1) cl_X5_229 rfl hg10 (by decide) (by omega) (fw_s4 (Nat.le_of_ble_eq_true rfl)) dX5_works_64 (w_X5_emits (f := f - 1) (by omega) hg10 h) (fun _ _ h9 _ _ => h9.elim) (fun v9 μ16 q9 hs17 => ?_)
        obtain ⟨rfl, h⟩ := q9
        refine fw_tv ?_
        have hg18 := hs17.K hg10 (by decide)
        refine fw_goto (tgt := 0) dX5_works_67 (by decide) ?_
        exact hk0 hg18 h
theorem w_X5_works_L0 {g : fw_G} {f bc bs : Nat} {r0 : Nat} {i1 : Int32} {μ : fw_M} {Q : fw_M → Prop} (hf : 2 ≤ f) (hx : m_K μ r0 = 6) (h : p_X5_works_L0 r0 i1 μ Q) : fw_V g K_X5_works f bc bs 0 [(0, fw_rv g r0), (1, Value.int i1)] [] μ (fw_Qv Q) fw_nX := by
  have key := fw_lp_out (R := fun (a : fw_M) => m_K a r0 = 6 → fw_V g K_X5_works f bc bs 0 [(0, fw_rv g r0), (1, Value.int i1)] [] a (fw_Qv Q) fw_nX) (fun k hk9 a ha hx2 => w_X5_works_L0b hf (fun {μ} hx3 h3 => hk9 μ h3 hx3) hx2 ha) h
  exact key hx
def p_X5_works (r0 : Nat) (i1 : Int32) (μ : fw_M) (Q : fw_M → Prop) : Prop :=
  p_X5_works_L0 r0 i1 μ Q
set_option maxHeartbeats 4000000 in
theorem w_X5_works {g : fw_G} {f bc bs : Nat} {r0 : Nat} {i1 : Int32} {μ : fw_M} {Q : fw_M → Prop} (hf : 2 ≤ f) (hx : m_K μ r0 = 6) (h : p_X5_works r0 i1 μ Q) : fw_C g f bc bs yX5_works (ws_ yX5_works cX5_works 2 (none)) [fw_rv g r0, Value.int i1] μ (fw_Qv Q) fw_nX := by
  unfold p_X5_works at h
  refine fw_intro' (Ls := [(0, fw_rv g r0), (1, Value.int i1)]) (by decide +kernel) (by simp [lg_sl, fw_cat, fw_ci, fw_clo]) (by simp [lv_args, fw_cat, fw_ci, fw_clo]) ?_
  show fw_V g K_X5_works f bc bs 0 [(0, fw_rv g r0), (1, Value.int i1)] [] μ (fw_Qv Q) fw_nX
  exact w_X5_works_L0 hf hx h
abbrev K_X5_clauseIsOver : fw_Kt := (RX5, "clauseIsOver", cX5_clauseIsOver, 1, none, [])
def p_X5_clauseIsOver (r0 : Nat) (μ : fw_M) (Q : fw_M → Prop) : Prop :=
  (p_X5_works r0 (1 : Int32) μ (fun μ2 =>
  (∀ μ5, μ5 = m_uI μ2 r0 21 (0 : Int32) →
  (p_X5_emits r0 (408 : Int32) (0 : Int32) μ5 (fun μ7 =>
  (∀ μ10, μ10 = m_uI μ7 r0 28 ((m_I μ7 r0 28) + (1 : Int32)) →
  (p_X5_nextToken r0 μ10 (fun μ12 =>
  (∀ μ15, μ15 = m_uI μ12 r0 27 (4 : Int32) →
  Q μ15)))))))))
set_option maxHeartbeats 4000000 in
theorem w_X5_clauseIsOver {g : fw_G} {f bc bs : Nat} {r0 : Nat} {μ : fw_M} {Q : fw_M → Prop} (hf : 4 ≤ f) (hx : m_K μ r0 = 6) (h : p_X5_clauseIsOver r0 μ Q) : fw_C g f bc bs yX5_clauseIsOver (ws_ yX5_clauseIsOver cX5_clauseIsOver 1 (none)) [fw_rv g r0] μ (fw_Qv Q) fw_nX := by
  unfold p_X5_clauseIsOver at h
  refine fw_intro' (Ls := [(0, fw_rv g r0)]) (by decide +kernel) (by simp [lg_sl, fw_cat, fw_ci, fw_clo]) (by simp [lv_args, fw_cat, fw_ci, fw_clo]) ?_
  show fw_V g K_X5_clauseIsOver f bc bs 0 [(0, fw_rv g r0)] [] μ (fw_Qv Q) fw_nX
  refine fw_aload_n dX5_clauseIsOver_0 rfl rfl ?_
  refine fw_iconst (v := 1) dX5_clauseIsOver_1 (by decide) ?_
  refine fw_callV1z (f1 := f - 1) cl_X5_233 rfl hx (by decide) (by omega) (fw_s4 (Nat.le_of_ble_eq_true rfl)) dX5_clauseIsOver_2 (w_X5_works (f := f - 1) (by omega) hx h) (fun _ _ h9 _ _ => h9.elim) (fun v9 μ2 q9 hs3 => ?_)
  obtain ⟨rfl, h⟩ := q9
  refine fw_tv ?_
  have hg4 := hs3.K hx (by decide)
  refine fw_aload_n dX5_clauseIsOver_5 rfl rfl ?_
  refine fw_iconst (v := 0) dX5_clauseIsOver_6 (by decide) ?_
  refine fw_putfI fl_X5_207 (fun q hq => Or.inl (by cases hq; rfl)) rfl hg4 dX5_clauseIsOver_7 ?_
  have h := h _ rfl
  refine fw_aload_n dX5_clauseIsOver_10 rfl rfl ?_
  refine fw_sipush (v := 408) dX5_clauseIsOver_11 (by decide) ?_
  refine fw_iconst (v := 0) dX5_clauseIsOver_14 (by decide) ?_
  refine fw_callV2z (f1 := f - 1) cl_X5_229 rfl hg4 (by decide) (by omega) (fw_s4 (Nat.le_of_ble_eq_true rfl)) dX5_clauseIsOver_15 (w_X5_emits (f := f - 1) (by omega) hg4 h) (fun _ _ h9 _ _ => h9.elim) (fun v9 μ7 q9 hs8 => ?_)
  obtain ⟨rfl, h⟩ := q9
  refine fw_tv ?_
  have hg9 := hs8.K hg4 (by decide)
  refine fw_aload_n dX5_clauseIsOver_18 rfl rfl ?_
  refine fw_dup dX5_clauseIsOver_19 (fw_cat _) ?_
  refine fw_getfI fl_X5_274 rfl hg9 dX5_clauseIsOver_20 ?_
  refine fw_iconst (v := 1) dX5_clauseIsOver_23 (by decide) ?_
  refine fw_iadd dX5_clauseIsOver_24 ?_
  refine fw_putfI fl_X5_274 (fun q hq => Or.inl (by cases hq; rfl)) rfl hg9 dX5_clauseIsOver_25 ?_
  have h := h _ rfl
  refine fw_aload_n dX5_clauseIsOver_28 rfl rfl ?_
  refine fw_callV0z (f1 := f - 1) cl_X5_219 rfl hg9 (by decide) (by omega) (fw_s4 (Nat.le_of_ble_eq_true rfl)) dX5_clauseIsOver_29 (w_X5_nextToken (f := f - 1) (by omega) hg9 h) (fun _ _ h9 _ _ => h9.elim) (fun v9 μ12 q9 hs13 => ?_)
  obtain ⟨rfl, h⟩ := q9
  refine fw_tv ?_
  have hg14 := hs13.K hg9 (by decide)
  refine fw_aload_n dX5_clauseIsOver_32 rfl rfl ?_
  refine fw_iconst (v := 4) dX5_clauseIsOver_33 (by decide) ?_
  refine fw_putfI fl_X5_242 (fun q hq => Or.inl (by cases hq; rfl)) rfl hg14 dX5_clauseIsOver_34 ?_
  have h := h _ rfl
  exact fw_return dX5_clauseIsOver_37 rfl ⟨rfl, h⟩
abbrev K_X5_isSign : fw_Kt := (RX5, "isSign", cX5_isSign, 2, some .boolean, [])
def p_X5_isSign (r0 : Nat) (i1 : Int32) (μ : fw_M) (Q : Int32 → fw_M → Prop) : Prop :=
  (if (m_I μ r0 16) = (3 : Int32) then
  ((if (m_I μ r0 17) = i1 then
   (Q (1 : Int32) μ)
   else
   (Q (0 : Int32) μ)))
  else
  (Q (0 : Int32) μ))
set_option maxHeartbeats 4000000 in
theorem w_X5_isSign {g : fw_G} {f bc bs : Nat} {r0 : Nat} {i1 : Int32} {μ : fw_M} {Q : Int32 → fw_M → Prop} (hf : 1 ≤ f) (hx : m_K μ r0 = 6) (h : p_X5_isSign r0 i1 μ Q) : fw_C g f bc bs yX5_isSign (ws_ yX5_isSign cX5_isSign 2 (some .boolean)) [fw_rv g r0, Value.int i1] μ (fw_Qi Q) fw_nX := by
  unfold p_X5_isSign at h
  refine fw_intro' (Ls := [(0, fw_rv g r0), (1, Value.int i1)]) (by decide +kernel) (by simp [lg_sl, fw_cat, fw_ci, fw_clo]) (by simp [lv_args, fw_cat, fw_ci, fw_clo]) ?_
  show fw_V g K_X5_isSign f bc bs 0 [(0, fw_rv g r0), (1, Value.int i1)] [] μ (fw_Qi Q) fw_nX
  refine fw_aload_n dX5_isSign_0 rfl rfl ?_
  refine fw_getfI fl_X5_182 rfl hx dX5_isSign_1 ?_
  refine fw_iconst (v := 3) dX5_isSign_4 (by decide) ?_
  refine fw_icmp_ne (tgt := 20) dX5_isSign_5 (by decide) (fun c1 => ?_) (fun c1 => ?_)
  · have h := fw_if h c1
    refine fw_iconst (v := 0) dX5_isSign_20 (by decide) ?_
    exact fw_ireturn dX5_isSign_21 rfl (by decide +kernel) ⟨_, rfl, h⟩
  · have h := fw_it h c1
    refine fw_aload_n dX5_isSign_8 rfl rfl ?_
    refine fw_getfI fl_X5_194 rfl hx dX5_isSign_9 ?_
    refine fw_iload_n dX5_isSign_12 rfl rfl ?_
    refine fw_icmp_ne (tgt := 20) dX5_isSign_13 (by decide) (fun c2 => ?_) (fun c2 => ?_)
    · have h := fw_if h c2
      refine fw_iconst (v := 0) dX5_isSign_20 (by decide) ?_
      exact fw_ireturn dX5_isSign_21 rfl (by decide +kernel) ⟨_, rfl, h⟩
    · have h := fw_it h c2
      refine fw_iconst (v := 1) dX5_isSign_16 (by decide) ?_
      refine fw_goto (tgt := 21) dX5_isSign_17 (by decide) ?_
      exact fw_ireturn dX5_isSign_21 rfl (by decide +kernel) ⟨_, rfl, h⟩
abbrev K_X5_top : fw_Kt := (RX5, "top", cX5_top, 1, some .int, [])
def p_X5_top (r0 : Nat) (μ : fw_M) (Q : Int32 → fw_M → Prop) : Prop :=
  (m_K μ (m_P μ r0 22) = 100 ∧ (vp_in ((m_I μ r0 21) - (1 : Int32)) (m_N μ (m_P μ r0 22)) ∧ Q (m_I μ (m_P μ r0 22) ((m_I μ r0 21) - (1 : Int32)).toNatClampNeg) μ))
set_option maxHeartbeats 4000000 in
theorem w_X5_top {g : fw_G} {f bc bs : Nat} {r0 : Nat} {μ : fw_M} {Q : Int32 → fw_M → Prop} (hf : 1 ≤ f) (hx : m_K μ r0 = 6) (h : p_X5_top r0 μ Q) : fw_C g f bc bs yX5_top (ws_ yX5_top cX5_top 1 (some .int)) [fw_rv g r0] μ (fw_Qi Q) fw_nX := by
  unfold p_X5_top at h
  refine fw_intro' (Ls := [(0, fw_rv g r0)]) (by decide +kernel) (by simp [lg_sl, fw_cat, fw_ci, fw_clo]) (by simp [lv_args, fw_cat, fw_ci, fw_clo]) ?_
  show fw_V g K_X5_top f bc bs 0 [(0, fw_rv g r0)] [] μ (fw_Qi Q) fw_nX
  refine fw_aload_n dX5_top_0 rfl rfl ?_
  refine fw_getfP fl_X5_48 rfl hx dX5_top_1 ?_
  refine fw_aload_n dX5_top_4 rfl rfl ?_
  refine fw_getfI fl_X5_207 rfl hx dX5_top_5 ?_
  refine fw_iconst (v := 1) dX5_top_8 (by decide) ?_
  refine fw_isub dX5_top_9 ?_
  obtain ⟨hg1, h⟩ := h
  obtain ⟨hc2, h⟩ := h
  refine fw_iald hg1 hc2 dX5_top_10 ?_
  exact fw_ireturn dX5_top_11 rfl rfl ⟨_, rfl, h⟩
abbrev K_X5_waitsFor : fw_Kt := (RX5, "waitsFor", cX5_waitsFor, 2, none, [])
def p_X5_waitsFor (r0 : Nat) (i1 : Int32) (μ : fw_M) (Q : fw_M → Prop) : Prop :=
  (p_X5_rank i1 μ (fun v1 μ2 =>
  (p_X5_works r0 v1 μ2 (fun μ6 =>
  (m_K μ6 (m_P μ6 r0 25) = 100 ∧ (vp_in (m_I μ6 r0 24) (m_N μ6 (m_P μ6 r0 25)) ∧ (∀ μ11, μ11 = m_uI μ6 (m_P μ6 r0 25) (m_I μ6 r0 24).toNatClampNeg i1 →
  (m_K μ11 (m_P μ11 r0 26) = 100 ∧ (vp_in (m_I μ11 r0 24) (m_N μ11 (m_P μ11 r0 26)) ∧ (∀ μ14, μ14 = m_uI μ11 (m_P μ11 r0 26) (m_I μ11 r0 24).toNatClampNeg (m_I μ11 r0 21) →
  (∀ μ15, μ15 = m_uI μ14 r0 24 ((m_I μ14 r0 24) + (1 : Int32)) →
  (p_X5_nextToken r0 μ15 (fun μ17 =>
  Q μ17)))))))))))))
set_option maxHeartbeats 4000000 in
theorem w_X5_waitsFor {g : fw_G} {f bc bs : Nat} {r0 : Nat} {i1 : Int32} {μ : fw_M} {Q : fw_M → Prop} (hf : 4 ≤ f) (hx : m_K μ r0 = 6) (h : p_X5_waitsFor r0 i1 μ Q) : fw_C g f bc bs yX5_waitsFor (ws_ yX5_waitsFor cX5_waitsFor 2 (none)) [fw_rv g r0, Value.int i1] μ (fw_Qv Q) fw_nX := by
  unfold p_X5_waitsFor at h
  refine fw_intro' (Ls := [(0, fw_rv g r0), (1, Value.int i1)]) (by decide +kernel) (by simp [lg_sl, fw_cat, fw_ci, fw_clo]) (by simp [lv_args, fw_cat, fw_ci, fw_clo]) ?_
  show fw_V g K_X5_waitsFor f bc bs 0 [(0, fw_rv g r0), (1, Value.int i1)] [] μ (fw_Qv Q) fw_nX
  refine fw_aload_n dX5_waitsFor_0 rfl rfl ?_
  refine fw_iload_n dX5_waitsFor_1 rfl rfl ?_
  refine fw_callS1z (f1 := f - 1) cl_X5_225 (by decide) (by omega) (fw_s4 (Nat.le_of_ble_eq_true rfl)) dX5_waitsFor_2 (w_X5_rank (f := f - 1) (by omega) h) (fun _ _ h9 _ _ => h9.elim) (fun v9 μ2 q9 hs3 => ?_)
  obtain ⟨v1, rfl, h⟩ := q9
  refine fw_ti ?_
  have hg4 := hs3.K hx (by decide)
  refine fw_callV1z (f1 := f - 1) cl_X5_233 rfl hg4 (by decide) (by omega) (fw_s4 (Nat.le_of_ble_eq_true rfl)) dX5_waitsFor_5 (w_X5_works (f := f - 1) (by omega) hg4 h) (fun _ _ h9 _ _ => h9.elim) (fun v9 μ6 q9 hs7 => ?_)
  obtain ⟨rfl, h⟩ := q9
  refine fw_tv ?_
  have hg8 := hs7.K hg4 (by decide)
  refine fw_aload_n dX5_waitsFor_8 rfl rfl ?_
  refine fw_getfP fl_X5_54 rfl hg8 dX5_waitsFor_9 ?_
  refine fw_aload_n dX5_waitsFor_12 rfl rfl ?_
  refine fw_getfI fl_X5_222 rfl hg8 dX5_waitsFor_13 ?_
  refine fw_iload_n dX5_waitsFor_16 rfl rfl ?_
  obtain ⟨hg9, h⟩ := h
  obtain ⟨hc10, h⟩ := h
  refine fw_iast hg9 hc10 dX5_waitsFor_17 ?_
  have h := h _ rfl
  refine fw_aload_n dX5_waitsFor_18 rfl rfl ?_
  refine fw_getfP fl_X5_57 rfl hg8 dX5_waitsFor_19 ?_
  refine fw_aload_n dX5_waitsFor_22 rfl rfl ?_
  refine fw_getfI fl_X5_222 rfl hg8 dX5_waitsFor_23 ?_
  refine fw_aload_n dX5_waitsFor_26 rfl rfl ?_
  refine fw_getfI fl_X5_207 rfl hg8 dX5_waitsFor_27 ?_
  obtain ⟨hg12, h⟩ := h
  obtain ⟨hc13, h⟩ := h
  refine fw_iast hg12 hc13 dX5_waitsFor_30 ?_
  have h := h _ rfl
  refine fw_aload_n dX5_waitsFor_31 rfl rfl ?_
  refine fw_dup dX5_waitsFor_32 (fw_cat _) ?_
  refine fw_getfI fl_X5_222 rfl hg8 dX5_waitsFor_33 ?_
  refine fw_iconst (v := 1) dX5_waitsFor_36 (by decide) ?_
  refine fw_iadd dX5_waitsFor_37 ?_
  refine fw_putfI fl_X5_222 (fun q hq => Or.inl (by cases hq; rfl)) rfl hg8 dX5_waitsFor_38 ?_
  have h := h _ rfl
  refine fw_aload_n dX5_waitsFor_41 rfl rfl ?_
  refine fw_callV0z (f1 := f - 1) cl_X5_219 rfl hg8 (by decide) (by omega) (fw_s4 (Nat.le_of_ble_eq_true rfl)) dX5_waitsFor_42 (w_X5_nextToken (f := f - 1) (by omega) hg8 h) (fun _ _ h9 _ _ => h9.elim) (fun v9 μ17 q9 hs18 => ?_)
  obtain ⟨rfl, h⟩ := q9
  refine fw_tv ?_
  have hg19 := hs18.K hg8 (by decide)
  exact fw_return dX5_waitsFor_45 rfl ⟨rfl, h⟩
abbrev K_X5_asksOn : fw_Kt := (RX5, "asksOn", cX5_asksOn, 1, none, [])
def p_X5_asksOn_L37 (r0 : Nat) (rs0 : Nat) (is1 : Int32) (μ : fw_M) (Q : fw_M → Prop) : Prop :=
  (m_K μ rs0 = 6 ∧ (p_X5_waitsFor rs0 is1 μ (fun μ3 =>
  (∀ μ7, μ7 = m_uI μ3 r0 27 (0 : Int32) →
  Q μ7))))
set_option maxHeartbeats 4000000 in
theorem w_X5_asksOn_L37 {g : fw_G} {f bc bs : Nat} {r0 : Nat} {rs0 : Nat} {is1 : Int32} {μ : fw_M} {Q : fw_M → Prop} (hf : 5 ≤ f) (hx : m_K μ r0 = 6) (h : p_X5_asksOn_L37 r0 rs0 is1 μ Q) : fw_V g K_X5_asksOn f bc bs 37 [(0, fw_rv g r0)] [Value.int is1, fw_rv g rs0] μ (fw_Qv Q) fw_nX := by
  unfold p_X5_asksOn_L37 at h
  obtain ⟨hg1, h⟩ := h
  refine fw_callV1z (f1 := f - 1) cl_X5_262 rfl hg1 (by decide) (by omega) (fw_s4 (Nat.le_of_ble_eq_true rfl)) dX5_asksOn_37 (w_X5_waitsFor (f := f - 1) (by omega) hg1 h) (fun _ _ h9 _ _ => h9.elim) (fun v9 μ3 q9 hs4 => ?_)
  obtain ⟨rfl, h⟩ := q9
  refine fw_tv ?_
  have hg5 := hs4.K hx (by decide)
  have hg6 := hs4.K hg1 (by decide)
  refine fw_aload_n dX5_asksOn_40 rfl rfl ?_
  refine fw_iconst (v := 0) dX5_asksOn_41 (by decide) ?_
  refine fw_putfI fl_X5_242 (fun q hq => Or.inl (by cases hq; rfl)) rfl hg5 dX5_asksOn_42 ?_
  have h := h _ rfl
  refine fw_goto (tgt := 77) dX5_asksOn_45 (by decide) ?_
  exact fw_return dX5_asksOn_77 rfl ⟨rfl, h⟩
def p_X5_asksOn_L18 (r0 : Nat) (μ : fw_M) (Q : fw_M → Prop) : Prop :=
  (p_X5_isWord r0 (9 : Int32) μ (fun v1 μ2 =>
  (if v1 = 0 then
  (p_X5_asksOn_L37 r0 r0 (406 : Int32) μ2 Q)
  else
  (p_X5_asksOn_L37 r0 r0 (407 : Int32) μ2 Q))))
set_option maxHeartbeats 4000000 in
theorem w_X5_asksOn_L18 {g : fw_G} {f bc bs : Nat} {r0 : Nat} {μ : fw_M} {Q : fw_M → Prop} (hf : 5 ≤ f) (hx : m_K μ r0 = 6) (h : p_X5_asksOn_L18 r0 μ Q) : fw_V g K_X5_asksOn f bc bs 18 [(0, fw_rv g r0)] [] μ (fw_Qv Q) fw_nX := by
  unfold p_X5_asksOn_L18 at h
  refine fw_aload_n dX5_asksOn_18 rfl rfl ?_
  refine fw_aload_n dX5_asksOn_19 rfl rfl ?_
  refine fw_bipush (v := 9) dX5_asksOn_20 (by decide) ?_
  refine fw_callV1z (f1 := f - 1) cl_X5_236 rfl hx (by decide) (by omega) (fw_s4 (Nat.le_of_ble_eq_true rfl)) dX5_asksOn_22 (w_X5_isWord (f := f - 1) (by omega) hx h) (fun _ _ h9 _ _ => h9.elim) (fun v9 μ2 q9 hs3 => ?_)
  obtain ⟨v1, rfl, h⟩ := q9
  refine fw_ti ?_
  have hg4 := hs3.K hx (by decide)
  refine fw_if_eq (tgt := 34) dX5_asksOn_25 (by decide) (fun c5 => ?_) (fun c5 => ?_)
  · have h := fw_it h c5
    refine fw_sipush (v := 406) dX5_asksOn_34 (by decide) ?_
    exact w_X5_asksOn_L37 hf hg4 h
  · have h := fw_if h c5
    refine fw_sipush (v := 407) dX5_asksOn_28 (by decide) ?_
    refine fw_goto (tgt := 37) dX5_asksOn_31 (by decide) ?_
    exact w_X5_asksOn_L37 hf hg4 h
def p_X5_asksOn_L72 (r0 : Nat) (μ : fw_M) (Q : fw_M → Prop) : Prop :=
  (p_X5_errs r0 (1 : Int32) μ (fun μ2 =>
  Q μ2))
set_option maxHeartbeats 4000000 in
theorem w_X5_asksOn_L72 {g : fw_G} {f bc bs : Nat} {r0 : Nat} {μ : fw_M} {Q : fw_M → Prop} (hf : 5 ≤ f) (hx : m_K μ r0 = 6) (h : p_X5_asksOn_L72 r0 μ Q) : fw_V g K_X5_asksOn f bc bs 72 [(0, fw_rv g r0)] [] μ (fw_Qv Q) fw_nX := by
  unfold p_X5_asksOn_L72 at h
  refine fw_aload_n dX5_asksOn_72 rfl rfl ?_
  refine fw_iconst (v := 1) dX5_asksOn_73 (by decide) ?_
  refine fw_callV1z (f1 := f - 1) cl_X5_213 rfl hx (by decide) (by omega) (fw_s4 (Nat.le_of_ble_eq_true rfl)) dX5_asksOn_74 (w_X5_errs (f := f - 1) (by omega) hx h) (fun _ _ h9 _ _ => h9.elim) (fun v9 μ2 q9 hs3 => ?_)
  obtain ⟨rfl, h⟩ := q9
  refine fw_tv ?_
  have hg4 := hs3.K hx (by decide)
  exact fw_return dX5_asksOn_77 rfl ⟨rfl, h⟩
def p_X5_asksOn (r0 : Nat) (μ : fw_M) (Q : fw_M → Prop) : Prop :=
  (p_X5_isWord r0 (9 : Int32) μ (fun v1 μ2 =>
  (if v1 = 0 then
  ((p_X5_isWord r0 (10 : Int32) μ2 (fun v6 μ7 =>
   (if v6 = 0 then
   ((p_X5_top r0 μ7 (fun v11 μ12 =>
    (if v11 = (2 : Int32) then
    ((p_X5_isSign r0 (59 : Int32) μ12 (fun v16 μ17 =>
     (if v16 = 0 then
     (p_X5_asksOn_L72 r0 μ17 Q)
     else
     ((p_X5_clauseIsOver r0 μ17 (fun μ22 =>
      Q μ22)))))))
    else
    (p_X5_asksOn_L72 r0 μ12 Q)))))
   else
   (p_X5_asksOn_L18 r0 μ7 Q)))))
  else
  (p_X5_asksOn_L18 r0 μ2 Q))))
set_option maxHeartbeats 4000000 in
theorem w_X5_asksOn {g : fw_G} {f bc bs : Nat} {r0 : Nat} {μ : fw_M} {Q : fw_M → Prop} (hf : 5 ≤ f) (hx : m_K μ r0 = 6) (h : p_X5_asksOn r0 μ Q) : fw_C g f bc bs yX5_asksOn (ws_ yX5_asksOn cX5_asksOn 1 (none)) [fw_rv g r0] μ (fw_Qv Q) fw_nX := by
  unfold p_X5_asksOn at h
  refine fw_intro' (Ls := [(0, fw_rv g r0)]) (by decide +kernel) (by simp [lg_sl, fw_cat, fw_ci, fw_clo]) (by simp [lv_args, fw_cat, fw_ci, fw_clo]) ?_
  show fw_V g K_X5_asksOn f bc bs 0 [(0, fw_rv g r0)] [] μ (fw_Qv Q) fw_nX
  refine fw_aload_n dX5_asksOn_0 rfl rfl ?_
  refine fw_bipush (v := 9) dX5_asksOn_1 (by decide) ?_
  refine fw_callV1z (f1 := f - 1) cl_X5_236 rfl hx (by decide) (by omega) (fw_s4 (Nat.le_of_ble_eq_true rfl)) dX5_asksOn_3 (w_X5_isWord (f := f - 1) (by omega) hx h) (fun _ _ h9 _ _ => h9.elim) (fun v9 μ2 q9 hs3 => ?_)
  obtain ⟨v1, rfl, h⟩ := q9
  refine fw_ti ?_
  have hg4 := hs3.K hx (by decide)
  refine fw_if_ne (tgt := 18) dX5_asksOn_6 (by decide) (fun c5 => ?_) (fun c5 => ?_)
  · have h := fw_if h c5
    exact w_X5_asksOn_L18 hf hg4 h
  · have h := fw_it h c5
    refine fw_aload_n dX5_asksOn_9 rfl rfl ?_
    refine fw_bipush (v := 10) dX5_asksOn_10 (by decide) ?_
    refine fw_callV1z (f1 := f - 1) cl_X5_236 rfl hg4 (by decide) (by omega) (fw_s4 (Nat.le_of_ble_eq_true rfl)) dX5_asksOn_12 (w_X5_isWord (f := f - 1) (by omega) hg4 h) (fun _ _ h9 _ _ => h9.elim) (fun v9 μ7 q9 hs8 => ?_)
    obtain ⟨v6, rfl, h⟩ := q9
    refine fw_ti ?_
    have hg9 := hs8.K hg4 (by decide)
    refine fw_if_eq (tgt := 48) dX5_asksOn_15 (by decide) (fun c10 => ?_) (fun c10 => ?_)
    · have h := fw_it h c10
      refine fw_aload_n dX5_asksOn_48 rfl rfl ?_
      refine fw_callV0z (f1 := f - 1) cl_X5_258 rfl hg9 (by decide) (by omega) (fw_s4 (Nat.le_of_ble_eq_true rfl)) dX5_asksOn_49 (w_X5_top (f := f - 1) (by omega) hg9 h) (fun _ _ h9 _ _ => h9.elim) (fun v9 μ12 q9 hs13 => ?_)
      obtain ⟨v11, rfl, h⟩ := q9
      refine fw_ti ?_
      have hg14 := hs13.K hg9 (by decide)
      refine fw_iconst (v := 2) dX5_asksOn_52 (by decide) ?_
      refine fw_icmp_ne (tgt := 72) dX5_asksOn_53 (by decide) (fun c15 => ?_) (fun c15 => ?_)
      · have h := fw_if h c15
        exact w_X5_asksOn_L72 hf hg14 h
      · have h := fw_it h c15
        refine fw_aload_n dX5_asksOn_56 rfl rfl ?_
        refine fw_bipush (v := 59) dX5_asksOn_57 (by decide) ?_
        refine fw_callV1z (f1 := f - 1) cl_X5_255 rfl hg14 (by decide) (by omega) (fw_s4 (Nat.le_of_ble_eq_true rfl)) dX5_asksOn_59 (w_X5_isSign (f := f - 1) (by omega) hg14 h) (fun _ _ h9 _ _ => h9.elim) (fun v9 μ17 q9 hs18 => ?_)
        obtain ⟨v16, rfl, h⟩ := q9
        refine fw_ti ?_
        have hg19 := hs18.K hg14 (by decide)
        refine fw_if_eq (tgt := 72) dX5_asksOn_62 (by decide) (fun c20 => ?_) (fun c20 => ?_)
        · have h := fw_it h c20
          exact w_X5_asksOn_L72 hf hg19 h
        · have h := fw_if h c20
          refine fw_aload_n dX5_asksOn_65 rfl rfl ?_
          refine fw_callV0z (f1 := f - 1) cl_X5_271 rfl hg19 (by decide) (by omega) (fw_s4 (Nat.le_of_ble_eq_true rfl)) dX5_asksOn_66 (w_X5_clauseIsOver (f := f - 1) (by omega) hg19 h) (fun _ _ h9 _ _ => h9.elim) (fun v9 μ22 q9 hs23 => ?_)
          obtain ⟨rfl, h⟩ := q9
          refine fw_tv ?_
          have hg24 := hs23.K hg19 (by decide)
          refine fw_goto (tgt := 77) dX5_asksOn_69 (by decide) ?_
          exact fw_return dX5_asksOn_77 rfl ⟨rfl, h⟩
    · have h := fw_if h c10
      exact w_X5_asksOn_L18 hf hg9 h
abbrev K_X5_mayName : fw_Kt := (RX5, "mayName", cX5_mayName, 2, some .boolean, [])
def p_X5_mayName (i0 : Int32) (i1 : Int32) (μ : fw_M) (Q : Int32 → fw_M → Prop) : Prop :=
  (if i1 = 0 then
  ((if (8 : Int32) ≤ i0 then
   (Q (0 : Int32) μ)
   else
   (Q (1 : Int32) μ)))
  else
  ((if i1 = (1 : Int32) then
   ((if (4 : Int32) ≤ i0 then
    (Q (0 : Int32) μ)
    else
    (Q (1 : Int32) μ)))
   else
   ((if i0 ≤ (6 : Int32) then
    (Q (0 : Int32) μ)
    else
    (Q (1 : Int32) μ))))))
set_option maxHeartbeats 4000000 in
theorem w_X5_mayName {g : fw_G} {f bc bs : Nat} {i0 : Int32} {i1 : Int32} {μ : fw_M} {Q : Int32 → fw_M → Prop} (hf : 1 ≤ f) (h : p_X5_mayName i0 i1 μ Q) : fw_C g f bc bs yX5_mayName (ws_ yX5_mayName cX5_mayName 2 (some .boolean)) [Value.int i0, Value.int i1] μ (fw_Qi Q) fw_nX := by
  unfold p_X5_mayName at h
  refine fw_intro' (Ls := [(0, Value.int i0), (1, Value.int i1)]) (by decide +kernel) (by simp [lg_sl, fw_cat, fw_ci, fw_clo]) (by simp [lv_args, fw_cat, fw_ci, fw_clo]) ?_
  show fw_V g K_X5_mayName f bc bs 0 [(0, Value.int i0), (1, Value.int i1)] [] μ (fw_Qi Q) fw_nX
  refine fw_iload_n dX5_mayName_0 rfl rfl ?_
  refine fw_if_ne (tgt := 18) dX5_mayName_1 (by decide) (fun c1 => ?_) (fun c1 => ?_)
  · have h := fw_if h c1
    refine fw_iload_n dX5_mayName_18 rfl rfl ?_
    refine fw_iconst (v := 1) dX5_mayName_19 (by decide) ?_
    refine fw_icmp_ne (tgt := 36) dX5_mayName_20 (by decide) (fun c2 => ?_) (fun c2 => ?_)
    · have h := fw_if h c2
      refine fw_iload_n dX5_mayName_36 rfl rfl ?_
      refine fw_bipush (v := 6) dX5_mayName_37 (by decide) ?_
      refine fw_icmp_le (tgt := 46) dX5_mayName_39 (by decide) (fun c3 => ?_) (fun c3 => ?_)
      · have h := fw_it h c3
        refine fw_iconst (v := 0) dX5_mayName_46 (by decide) ?_
        exact fw_ireturn dX5_mayName_47 rfl (by decide +kernel) ⟨_, rfl, h⟩
      · have h := fw_if h c3
        refine fw_iconst (v := 1) dX5_mayName_42 (by decide) ?_
        refine fw_goto (tgt := 47) dX5_mayName_43 (by decide) ?_
        exact fw_ireturn dX5_mayName_47 rfl (by decide +kernel) ⟨_, rfl, h⟩
    · have h := fw_it h c2
      refine fw_iload_n dX5_mayName_23 rfl rfl ?_
      refine fw_iconst (v := 4) dX5_mayName_24 (by decide) ?_
      refine fw_icmp_ge (tgt := 32) dX5_mayName_25 (by decide) (fun c4 => ?_) (fun c4 => ?_)
      · have h := fw_it h c4
        refine fw_iconst (v := 0) dX5_mayName_32 (by decide) ?_
        refine fw_goto (tgt := 47) dX5_mayName_33 (by decide) ?_
        exact fw_ireturn dX5_mayName_47 rfl (by decide +kernel) ⟨_, rfl, h⟩
      · have h := fw_if h c4
        refine fw_iconst (v := 1) dX5_mayName_28 (by decide) ?_
        refine fw_goto (tgt := 47) dX5_mayName_29 (by decide) ?_
        exact fw_ireturn dX5_mayName_47 rfl (by decide +kernel) ⟨_, rfl, h⟩
  · have h := fw_it h c1
    refine fw_iload_n dX5_mayName_4 rfl rfl ?_
    refine fw_bipush (v := 8) dX5_mayName_5 (by decide) ?_
    refine fw_icmp_ge (tgt := 14) dX5_mayName_7 (by decide) (fun c5 => ?_) (fun c5 => ?_)
    · have h := fw_it h c5
      refine fw_iconst (v := 0) dX5_mayName_14 (by decide) ?_
      refine fw_goto (tgt := 47) dX5_mayName_15 (by decide) ?_
      exact fw_ireturn dX5_mayName_47 rfl (by decide +kernel) ⟨_, rfl, h⟩
    · have h := fw_if h c5
      refine fw_iconst (v := 1) dX5_mayName_10 (by decide) ?_
      refine fw_goto (tgt := 47) dX5_mayName_11 (by decide) ?_
      exact fw_ireturn dX5_mayName_47 rfl (by decide +kernel) ⟨_, rfl, h⟩
abbrev K_X5_oneIsOver : fw_Kt := (RX5, "oneIsOver", cX5_oneIsOver, 1, none, [])
def p_X5_oneIsOver_L0b (r0 : Nat) (k0 : fw_M → Prop) (μ : fw_M) (Q : fw_M → Prop) : Prop :=
  (p_X5_top r0 μ (fun v1 μ2 =>
  (if v1 = (7 : Int32) then
  ((∀ μ7, μ7 = m_uI μ2 r0 21 ((m_I μ2 r0 21) - (1 : Int32)) →
   (∀ μ8, μ8 = m_uI μ7 r0 20 ((m_I μ7 r0 20) - (1 : Int32)) →
   (p_X5_emits r0 (402 : Int32) (0 : Int32) μ8 (fun μ10 =>
   k0 μ10)))))
  else
  ((∀ μ6, μ6 = m_uI μ2 r0 27 (2 : Int32) →
   Q μ6)))))
def p_X5_oneIsOver_L0 (r0 : Nat) (μ : fw_M) (Q : fw_M → Prop) : Prop := fw_lp (fun (k : fw_M → Prop) (a : fw_M) => p_X5_oneIsOver_L0b r0 (fun μ => k μ) a Q) μ
theorem r_X5_oneIsOver_L0 {r0 : Nat} {Q : fw_M → Prop} (I : fw_M → Prop) (v : fw_M → Nat) (hs : ∀ (k : fw_M → Prop) (μ : fw_M), I μ → (∀ (ν : fw_M), I ν → v ν < v μ → k ν) → p_X5_oneIsOver_L0b r0 k μ Q) (μ : fw_M) (h : I μ) : p_X5_oneIsOver_L0 r0 μ Q :=
  fw_lp_in (A := fw_M) (fun a => I a) (fun a => v a) (fun k a ha hk => hs (fun μ => k μ) a ha (fun ν hb hlt => hk ν hb hlt)) μ h
set_option maxHeartbeats 4000000 in
theorem w_X5_oneIsOver_L0b {g : fw_G} {f bc bs : Nat} {r0 : Nat} {k0 : fw_M → Prop} {μ : fw_M} {Q : fw_M → Prop} (hf : 2 ≤ f) (hk0 : ∀ {μ : fw_M}, m_K μ r0 = 6 → k0 μ → fw_V g K_X5_oneIsOver f bc bs 0 [(0, fw_rv g r0)] [] μ (fw_Qv Q) fw_nX) (hx : m_K μ r0 = 6) (h : p_X5_oneIsOver_L0b r0 k0 μ Q) : fw_V g K_X5_oneIsOver f bc bs 0 [(0, fw_rv g r0)] [] μ (fw_Qv Q) fw_nX := by
  unfold p_X5_oneIsOver_L0b at h
  refine fw_aload_n dX5_oneIsOver_0 rfl rfl ?_
  refine fw_callV0z (f1 := f - 1) cl_X5_258 rfl hx (by decide) (by omega) (fw_s4 (Nat.le_of_ble_eq_true rfl)) dX5_oneIsOver_1 (w_X5_top (f := f - 1) (by omega) hx h) (fun _ _ h9 _ _ => h9.elim) (fun v9 μ2 q9 hs3 => ?_)
  obtain ⟨v1, rfl, h⟩ := q9
  refine fw_ti ?_
  have hg4 := hs3.K hx (by decide)
  refine fw_bipush (v := 7) dX5_oneIsOver_4 (by decide) ?_
  refine fw_icmp_ne (tgt := 40) dX5_oneIsOver_6 (by decide) (fun c5 => ?_) (fun c5 => ?_)
  · have h := fw_if h c5
    refine fw_aload_n dX5_oneIsOver_40 rfl rfl ?_
    refine fw_iconst (v := 2) dX5_oneIsOver_41 (by decide) ?_
    refine fw_putfI fl_X5_242 (fun q hq => Or.inl (by cases hq; rfl)) rfl hg4 dX5_oneIsOver_42 ?_
    have h := h _ rfl
    exact fw_return dX5_oneIsOver_45 rfl ⟨rfl, h⟩
  · have h := fw_it h c5
    refine fw_aload_n dX5_oneIsOver_9 rfl rfl ?_
    refine fw_dup dX5_oneIsOver_10 (fw_cat _) ?_
    refine fw_getfI fl_X5_207 rfl hg4 dX5_oneIsOver_11 ?_
    refine fw_iconst (v := 1) dX5_oneIsOver_14 (by decide) ?_
    refine fw_isub dX5_oneIsOver_15 ?_
    refine fw_putfI fl_X5_207 (fun q hq => Or.inl (by cases hq; rfl)) rfl hg4 dX5_oneIsOver_16 ?_
    have h := h _ rfl
    refine fw_aload_n dX5_oneIsOver_19 rfl rfl ?_
    refine fw_dup dX5_oneIsOver_20 (fw_cat _) ?_
    refine fw_getfI fl_X5_210 rfl hg4 dX5_oneIsOver_21 ?_
    refine fw_iconst (v := 1) dX5_oneIsOver_24 (by decide) ?_
    refine fw_isub dX5_oneIsOver_25 ?_
    refine fw_putfI fl_X5_210 (fun q hq => Or.inl (by cases hq; rfl)) rfl hg4 dX5_oneIsOver_26 ?_
    have h := h _ rfl
    refine fw_aload_n dX5_oneIsOver_29 rfl rfl ?_
    refine fw_sipush (v := 402) dX5_oneIsOver_30 (by decide) ?_
    refine fw_iconst (v := 0) dX5_oneIsOver_33 (by decide) ?_
    refine fw_callV2z (f1 := f - 1) cl_X5_229 rfl hg4 (by decide) (by omega) (fw_s4 (Nat.le_of_ble_eq_true rfl)) dX5_oneIsOver_34 (w_X5_emits (f := f - 1) (by omega) hg4 h) (fun _ _ h9 _ _ => h9.elim) (fun v9 μ10 q9 hs11 => ?_)
    obtain ⟨rfl, h⟩ := q9
    refine fw_tv ?_
    have hg12 := hs11.K hg4 (by decide)
    refine fw_goto (tgt := 0) dX5_oneIsOver_37 (by decide) ?_
    exact hk0 hg12 h
theorem w_X5_oneIsOver_L0 {g : fw_G} {f bc bs : Nat} {r0 : Nat} {μ : fw_M} {Q : fw_M → Prop} (hf : 2 ≤ f) (hx : m_K μ r0 = 6) (h : p_X5_oneIsOver_L0 r0 μ Q) : fw_V g K_X5_oneIsOver f bc bs 0 [(0, fw_rv g r0)] [] μ (fw_Qv Q) fw_nX := by
  have key := fw_lp_out (R := fun (a : fw_M) => m_K a r0 = 6 → fw_V g K_X5_oneIsOver f bc bs 0 [(0, fw_rv g r0)] [] a (fw_Qv Q) fw_nX) (fun k hk9 a ha hx2 => w_X5_oneIsOver_L0b hf (fun {μ} hx3 h3 => hk9 μ h3 hx3) hx2 ha) h
  exact key hx
def p_X5_oneIsOver (r0 : Nat) (μ : fw_M) (Q : fw_M → Prop) : Prop :=
  p_X5_oneIsOver_L0 r0 μ Q
set_option maxHeartbeats 4000000 in
theorem w_X5_oneIsOver {g : fw_G} {f bc bs : Nat} {r0 : Nat} {μ : fw_M} {Q : fw_M → Prop} (hf : 2 ≤ f) (hx : m_K μ r0 = 6) (h : p_X5_oneIsOver r0 μ Q) : fw_C g f bc bs yX5_oneIsOver (ws_ yX5_oneIsOver cX5_oneIsOver 1 (none)) [fw_rv g r0] μ (fw_Qv Q) fw_nX := by
  unfold p_X5_oneIsOver at h
  refine fw_intro' (Ls := [(0, fw_rv g r0)]) (by decide +kernel) (by simp [lg_sl, fw_cat, fw_ci, fw_clo]) (by simp [lv_args, fw_cat, fw_ci, fw_clo]) ?_
  show fw_V g K_X5_oneIsOver f bc bs 0 [(0, fw_rv g r0)] [] μ (fw_Qv Q) fw_nX
  exact w_X5_oneIsOver_L0 hf hx h
abbrev K_X5_begins : fw_Kt := (RX5, "begins", cX5_begins, 2, none, [])
def p_X5_begins_L109 (r0 : Nat) (μ : fw_M) (Q : fw_M → Prop) : Prop :=
  (p_X5_isSign r0 (40 : Int32) μ (fun v1 μ2 =>
  (if v1 = 0 then
  ((p_X5_isSign r0 (45 : Int32) μ2 (fun v6 μ7 =>
   (if v6 = 0 then
   ((p_X5_errs r0 (1 : Int32) μ7 (fun μ12 =>
    Q μ12)))
   else
   ((p_X5_opensSign r0 (7 : Int32) μ7 (fun v15 μ16 =>
    Q μ16)))))))
  else
  ((p_X5_opensSign r0 (6 : Int32) μ2 (fun v19 μ20 =>
   Q μ20))))))
set_option maxHeartbeats 4000000 in
theorem w_X5_begins_L109 {g : fw_G} {f bc bs : Nat} {r0 : Nat} {μ : fw_M} {Q : fw_M → Prop} (hf : 5 ≤ f) (hx : m_K μ r0 = 6) (h : p_X5_begins_L109 r0 μ Q) : fw_V g K_X5_begins f bc bs 109 [(0, fw_rv g r0)] [] μ (fw_Qv Q) fw_nX := by
  unfold p_X5_begins_L109 at h
  refine fw_aload_n dX5_begins_109 rfl rfl ?_
  refine fw_bipush (v := 40) dX5_begins_110 (by decide) ?_
  refine fw_callV1z (f1 := f - 1) cl_X5_255 rfl hx (by decide) (by omega) (fw_s4 (Nat.le_of_ble_eq_true rfl)) dX5_begins_112 (w_X5_isSign (f := f - 1) (by omega) hx h) (fun _ _ h9 _ _ => h9.elim) (fun v9 μ2 q9 hs3 => ?_)
  obtain ⟨v1, rfl, h⟩ := q9
  refine fw_ti ?_
  have hg4 := hs3.K hx (by decide)
  refine fw_if_eq (tgt := 128) dX5_begins_115 (by decide) (fun c5 => ?_) (fun c5 => ?_)
  · have h := fw_it h c5
    refine fw_aload_n dX5_begins_128 rfl rfl ?_
    refine fw_bipush (v := 45) dX5_begins_129 (by decide) ?_
    refine fw_callV1z (f1 := f - 1) cl_X5_255 rfl hg4 (by decide) (by omega) (fw_s4 (Nat.le_of_ble_eq_true rfl)) dX5_begins_131 (w_X5_isSign (f := f - 1) (by omega) hg4 h) (fun _ _ h9 _ _ => h9.elim) (fun v9 μ7 q9 hs8 => ?_)
    obtain ⟨v6, rfl, h⟩ := q9
    refine fw_ti ?_
    have hg9 := hs8.K hg4 (by decide)
    refine fw_if_eq (tgt := 147) dX5_begins_134 (by decide) (fun c10 => ?_) (fun c10 => ?_)
    · have h := fw_it h c10
      refine fw_aload_n dX5_begins_147 rfl rfl ?_
      refine fw_iconst (v := 1) dX5_begins_148 (by decide) ?_
      refine fw_callV1z (f1 := f - 1) cl_X5_213 rfl hg9 (by decide) (by omega) (fw_s4 (Nat.le_of_ble_eq_true rfl)) dX5_begins_149 (w_X5_errs (f := f - 1) (by omega) hg9 h) (fun _ _ h9 _ _ => h9.elim) (fun v9 μ12 q9 hs13 => ?_)
      obtain ⟨rfl, h⟩ := q9
      refine fw_tv ?_
      have hg14 := hs13.K hg9 (by decide)
      exact fw_return dX5_begins_152 rfl ⟨rfl, h⟩
    · have h := fw_if h c10
      refine fw_aload_n dX5_begins_137 rfl rfl ?_
      refine fw_bipush (v := 7) dX5_begins_138 (by decide) ?_
      refine fw_callV1z (f1 := f - 1) cl_X5_239 rfl hg9 (by decide) (by omega) (fw_s4 (Nat.le_of_ble_eq_true rfl)) dX5_begins_140 (w_X5_opensSign (f := f - 1) (by omega) hg9 h) (fun _ _ h9 _ _ => h9.elim) (fun v9 μ16 q9 hs17 => ?_)
      obtain ⟨v15, rfl, h⟩ := q9
      refine fw_ti ?_
      have hg18 := hs17.K hg9 (by decide)
      refine fw_istore_nN (Ls' := [(1, Value.int v15), (0, fw_rv g r0)]) [] dX5_begins_143 rfl (by decide) rfl rfl rfl (fw_cat _) rfl ?_
      refine fw_goto (tgt := 152) dX5_begins_144 (by decide) ?_
      exact fw_return dX5_begins_152 rfl ⟨rfl, h⟩
  · have h := fw_if h c5
    refine fw_aload_n dX5_begins_118 rfl rfl ?_
    refine fw_bipush (v := 6) dX5_begins_119 (by decide) ?_
    refine fw_callV1z (f1 := f - 1) cl_X5_239 rfl hg4 (by decide) (by omega) (fw_s4 (Nat.le_of_ble_eq_true rfl)) dX5_begins_121 (w_X5_opensSign (f := f - 1) (by omega) hg4 h) (fun _ _ h9 _ _ => h9.elim) (fun v9 μ20 q9 hs21 => ?_)
    obtain ⟨v19, rfl, h⟩ := q9
    refine fw_ti ?_
    have hg22 := hs21.K hg4 (by decide)
    refine fw_istore_nN (Ls' := [(1, Value.int v19), (0, fw_rv g r0)]) [] dX5_begins_124 rfl (by decide) rfl rfl rfl (fw_cat _) rfl ?_
    refine fw_goto (tgt := 152) dX5_begins_125 (by decide) ?_
    exact fw_return dX5_begins_152 rfl ⟨rfl, h⟩
def p_X5_begins (r0 : Nat) (μ : fw_M) (Q : fw_M → Prop) : Prop :=
  (if (m_I μ r0 16) = (2 : Int32) then
  ((if (m_I μ r0 17) ≤ (9999 : Int32) then
   ((p_X5_emits r0 (400 : Int32) (m_I μ r0 17) μ (fun μ29 =>
    (p_X5_nextToken r0 μ29 (fun μ33 =>
    (p_X5_oneIsOver r0 μ33 (fun μ37 =>
    Q μ37)))))))
   else
   ((p_X5_errs r0 (2 : Int32) μ (fun μ41 =>
    Q μ41)))))
  else
  ((if (m_I μ r0 16) = (1 : Int32) then
   ((if (m_I μ r0 17) ≤ (11 : Int32) then
    (p_X5_begins_L109 r0 μ Q)
    else
    ((∀ i1_4 : Int32, i1_4 = (((m_I μ r0 17) - (11 : Int32)) - (1 : Int32)) →
     (p_X5_mayName i1_4 (m_I μ r0 29) μ (fun v6 μ7 =>
     (if v6 = 0 then
     ((p_X5_errs r0 (5 : Int32) μ7 (fun μ24 =>
      Q μ24)))
     else
     ((p_X5_emits r0 (401 : Int32) i1_4 μ7 (fun μ12 =>
      (p_X5_nextToken r0 μ12 (fun μ16 =>
      (p_X5_oneIsOver r0 μ16 (fun μ20 =>
      Q μ20))))))))))))))
   else
   (p_X5_begins_L109 r0 μ Q))))
set_option maxHeartbeats 4000000 in
theorem w_X5_begins {g : fw_G} {f bc bs : Nat} {r0 : Nat} {μ : fw_M} {Q : fw_M → Prop} (hf : 5 ≤ f) (hx : m_K μ r0 = 6) (h : p_X5_begins r0 μ Q) : fw_C g f bc bs yX5_begins (ws_ yX5_begins cX5_begins 2 (none)) [fw_rv g r0] μ (fw_Qv Q) fw_nX := by
  unfold p_X5_begins at h
  refine fw_intro' (Ls := [(0, fw_rv g r0)]) (by decide +kernel) (by simp [lg_sl, fw_cat, fw_ci, fw_clo]) (by simp [lv_args, fw_cat, fw_ci, fw_clo]) ?_
  show fw_V g K_X5_begins f bc bs 0 [(0, fw_rv g r0)] [] μ (fw_Qv Q) fw_nX
  refine fw_aload_n dX5_begins_0 rfl rfl ?_
  refine fw_getfI fl_X5_182 rfl hx dX5_begins_1 ?_
  refine fw_iconst (v := 2) dX5_begins_4 (by decide) ?_
  refine fw_icmp_ne (tgt := 46) dX5_begins_5 (by decide) (fun c1 => ?_) (fun c1 => ?_)
  · have h := fw_if h c1
    refine fw_aload_n dX5_begins_46 rfl rfl ?_
    refine fw_getfI fl_X5_182 rfl hx dX5_begins_47 ?_
    refine fw_iconst (v := 1) dX5_begins_50 (by decide) ?_
    refine fw_icmp_ne (tgt := 109) dX5_begins_51 (by decide) (fun c2 => ?_) (fun c2 => ?_)
    · have h := fw_if h c2
      exact w_X5_begins_L109 hf hx h
    · have h := fw_it h c2
      refine fw_aload_n dX5_begins_54 rfl rfl ?_
      refine fw_getfI fl_X5_194 rfl hx dX5_begins_55 ?_
      refine fw_bipush (v := 11) dX5_begins_58 (by decide) ?_
      refine fw_icmp_le (tgt := 109) dX5_begins_60 (by decide) (fun c3 => ?_) (fun c3 => ?_)
      · have h := fw_it h c3
        exact w_X5_begins_L109 hf hx h
      · have h := fw_if h c3
        refine fw_aload_n dX5_begins_63 rfl rfl ?_
        refine fw_getfI fl_X5_194 rfl hx dX5_begins_64 ?_
        refine fw_bipush (v := 11) dX5_begins_67 (by decide) ?_
        refine fw_isub dX5_begins_69 ?_
        refine fw_iconst (v := 1) dX5_begins_70 (by decide) ?_
        refine fw_isub dX5_begins_71 ?_
        refine fw_topi (fun i1_4 e5 => ?_)
        have h := h i1_4 e5
        refine fw_istore_nN (Ls' := [(1, Value.int i1_4), (0, fw_rv g r0)]) [] dX5_begins_72 rfl (by decide) rfl rfl rfl (fw_cat _) rfl ?_
        refine fw_iload_n dX5_begins_73 rfl rfl ?_
        refine fw_aload_n dX5_begins_74 rfl rfl ?_
        refine fw_getfI fl_X5_248 rfl hx dX5_begins_75 ?_
        refine fw_callS2z (f1 := f - 1) cl_X5_251 (by decide) (by omega) (fw_s4 (Nat.le_of_ble_eq_true rfl)) dX5_begins_78 (w_X5_mayName (f := f - 1) (by omega) h) (fun _ _ h9 _ _ => h9.elim) (fun v9 μ7 q9 hs8 => ?_)
        obtain ⟨v6, rfl, h⟩ := q9
        refine fw_ti ?_
        have hg9 := hs8.K hx (by decide)
        refine fw_if_ne (tgt := 90) dX5_begins_81 (by decide) (fun c10 => ?_) (fun c10 => ?_)
        · have h := fw_if h c10
          refine fw_aload_n dX5_begins_90 rfl rfl ?_
          refine fw_sipush (v := 401) dX5_begins_91 (by decide) ?_
          refine fw_iload_n dX5_begins_94 rfl rfl ?_
          refine fw_callV2z (f1 := f - 1) cl_X5_229 rfl hg9 (by decide) (by omega) (fw_s4 (Nat.le_of_ble_eq_true rfl)) dX5_begins_95 (w_X5_emits (f := f - 1) (by omega) hg9 h) (fun _ _ h9 _ _ => h9.elim) (fun v9 μ12 q9 hs13 => ?_)
          obtain ⟨rfl, h⟩ := q9
          refine fw_tv ?_
          have hg14 := hs13.K hg9 (by decide)
          refine fw_aload_n dX5_begins_98 rfl rfl ?_
          refine fw_callV0z (f1 := f - 1) cl_X5_219 rfl hg14 (by decide) (by omega) (fw_s4 (Nat.le_of_ble_eq_true rfl)) dX5_begins_99 (w_X5_nextToken (f := f - 1) (by omega) hg14 h) (fun _ _ h9 _ _ => h9.elim) (fun v9 μ16 q9 hs17 => ?_)
          obtain ⟨rfl, h⟩ := q9
          refine fw_tv ?_
          have hg18 := hs17.K hg14 (by decide)
          refine fw_aload_n dX5_begins_102 rfl rfl ?_
          refine fw_callV0z (f1 := f - 1) cl_X5_245 rfl hg18 (by decide) (by omega) (fw_s4 (Nat.le_of_ble_eq_true rfl)) dX5_begins_103 (w_X5_oneIsOver (f := f - 1) (by omega) hg18 h) (fun _ _ h9 _ _ => h9.elim) (fun v9 μ20 q9 hs21 => ?_)
          obtain ⟨rfl, h⟩ := q9
          refine fw_tv ?_
          have hg22 := hs21.K hg18 (by decide)
          refine fw_goto (tgt := 152) dX5_begins_106 (by decide) ?_
          exact fw_return dX5_begins_152 rfl ⟨rfl, h⟩
        · have h := fw_it h c10
          refine fw_aload_n dX5_begins_84 rfl rfl ?_
          refine fw_iconst (v := 5) dX5_begins_85 (by decide) ?_
          refine fw_callV1z (f1 := f - 1) cl_X5_213 rfl hg9 (by decide) (by omega) (fw_s4 (Nat.le_of_ble_eq_true rfl)) dX5_begins_86 (w_X5_errs (f := f - 1) (by omega) hg9 h) (fun _ _ h9 _ _ => h9.elim) (fun v9 μ24 q9 hs25 => ?_)
          obtain ⟨rfl, h⟩ := q9
          refine fw_tv ?_
          have hg26 := hs25.K hg9 (by decide)
          exact fw_return dX5_begins_89 rfl ⟨rfl, h⟩
  · have h := fw_it h c1
    refine fw_aload_n dX5_begins_8 rfl rfl ?_
    refine fw_getfI fl_X5_194 rfl hx dX5_begins_9 ?_
    refine fw_sipush (v := 9999) dX5_begins_12 (by decide) ?_
    refine fw_icmp_le (tgt := 24) dX5_begins_15 (by decide) (fun c27 => ?_) (fun c27 => ?_)
    · have h := fw_it h c27
      refine fw_aload_n dX5_begins_24 rfl rfl ?_
      refine fw_sipush (v := 400) dX5_begins_25 (by decide) ?_
      refine fw_aload_n dX5_begins_28 rfl rfl ?_
      refine fw_getfI fl_X5_194 rfl hx dX5_begins_29 ?_
      refine fw_callV2z (f1 := f - 1) cl_X5_229 rfl hx (by decide) (by omega) (fw_s4 (Nat.le_of_ble_eq_true rfl)) dX5_begins_32 (w_X5_emits (f := f - 1) (by omega) hx h) (fun _ _ h9 _ _ => h9.elim) (fun v9 μ29 q9 hs30 => ?_)
      obtain ⟨rfl, h⟩ := q9
      refine fw_tv ?_
      have hg31 := hs30.K hx (by decide)
      refine fw_aload_n dX5_begins_35 rfl rfl ?_
      refine fw_callV0z (f1 := f - 1) cl_X5_219 rfl hg31 (by decide) (by omega) (fw_s4 (Nat.le_of_ble_eq_true rfl)) dX5_begins_36 (w_X5_nextToken (f := f - 1) (by omega) hg31 h) (fun _ _ h9 _ _ => h9.elim) (fun v9 μ33 q9 hs34 => ?_)
      obtain ⟨rfl, h⟩ := q9
      refine fw_tv ?_
      have hg35 := hs34.K hg31 (by decide)
      refine fw_aload_n dX5_begins_39 rfl rfl ?_
      refine fw_callV0z (f1 := f - 1) cl_X5_245 rfl hg35 (by decide) (by omega) (fw_s4 (Nat.le_of_ble_eq_true rfl)) dX5_begins_40 (w_X5_oneIsOver (f := f - 1) (by omega) hg35 h) (fun _ _ h9 _ _ => h9.elim) (fun v9 μ37 q9 hs38 => ?_)
      obtain ⟨rfl, h⟩ := q9
      refine fw_tv ?_
      have hg39 := hs38.K hg35 (by decide)
      refine fw_goto (tgt := 152) dX5_begins_43 (by decide) ?_
      exact fw_return dX5_begins_152 rfl ⟨rfl, h⟩
    · have h := fw_if h c27
      refine fw_aload_n dX5_begins_18 rfl rfl ?_
      refine fw_iconst (v := 2) dX5_begins_19 (by decide) ?_
      refine fw_callV1z (f1 := f - 1) cl_X5_213 rfl hx (by decide) (by omega) (fw_s4 (Nat.le_of_ble_eq_true rfl)) dX5_begins_20 (w_X5_errs (f := f - 1) (by omega) hx h) (fun _ _ h9 _ _ => h9.elim) (fun v9 μ41 q9 hs42 => ?_)
      obtain ⟨rfl, h⟩ := q9
      refine fw_tv ?_
      have hg43 := hs42.K hx (by decide)
      exact fw_return dX5_begins_23 rfl ⟨rfl, h⟩
abbrev K_X5_number : fw_Kt := (RX5, "number", cX5_number, 4, some .int, [])
def p_X5_number_L15 (r0 : Nat) (i1 : Int32) (μ : fw_M) (Q : Int32 → fw_M → Prop) : Prop :=
  (p_X5_errs r0 (1 : Int32) μ (fun μ2 =>
  Q i1 μ2))
set_option maxHeartbeats 4000000 in
theorem w_X5_number_L15 {g : fw_G} {f bc bs : Nat} {r0 : Nat} {i1 : Int32} {μ : fw_M} {Q : Int32 → fw_M → Prop} (hf : 4 ≤ f) (hx : m_K μ r0 = 6) (h : p_X5_number_L15 r0 i1 μ Q) : fw_V g K_X5_number f bc bs 15 [(0, fw_rv g r0), (1, Value.int i1)] [] μ (fw_Qi Q) fw_nX := by
  unfold p_X5_number_L15 at h
  refine fw_aload_n dX5_number_15 rfl rfl ?_
  refine fw_iconst (v := 1) dX5_number_16 (by decide) ?_
  refine fw_callV1z (f1 := f - 1) cl_X5_213 rfl hx (by decide) (by omega) (fw_s4 (Nat.le_of_ble_eq_true rfl)) dX5_number_17 (w_X5_errs (f := f - 1) (by omega) hx h) (fun _ _ h9 _ _ => h9.elim) (fun v9 μ2 q9 hs3 => ?_)
  obtain ⟨rfl, h⟩ := q9
  refine fw_tv ?_
  have hg4 := hs3.K hx (by decide)
  refine fw_iload_n dX5_number_20 rfl rfl ?_
  exact fw_ireturn dX5_number_21 rfl rfl ⟨_, rfl, h⟩
def p_X5_number (r0 : Nat) (i1 : Int32) (i2 : Int32) (μ : fw_M) (Q : Int32 → fw_M → Prop) : Prop :=
  (if 0 < (m_I μ r0 18) then
  (p_X5_number_L15 r0 i1 μ Q)
  else
  ((if (m_I μ r0 16) = (2 : Int32) then
   ((p_X5_in (m_I μ r0 17) i1 i2 μ (fun v3 μ4 =>
    (if v3 = 0 then
    ((p_X5_errs r0 (2 : Int32) μ4 (fun μ15 =>
     Q i1 μ15)))
    else
    ((∀ i3_8 : Int32, i3_8 = (m_I μ4 r0 17) →
     (p_X5_nextToken r0 μ4 (fun μ11 =>
     Q i3_8 μ11))))))))
   else
   (p_X5_number_L15 r0 i1 μ Q))))
set_option maxHeartbeats 4000000 in
theorem w_X5_number {g : fw_G} {f bc bs : Nat} {r0 : Nat} {i1 : Int32} {i2 : Int32} {μ : fw_M} {Q : Int32 → fw_M → Prop} (hf : 4 ≤ f) (hx : m_K μ r0 = 6) (h : p_X5_number r0 i1 i2 μ Q) : fw_C g f bc bs yX5_number (ws_ yX5_number cX5_number 4 (some .int)) [fw_rv g r0, Value.int i1, Value.int i2] μ (fw_Qi Q) fw_nX := by
  unfold p_X5_number at h
  refine fw_intro' (Ls := [(0, fw_rv g r0), (1, Value.int i1), (2, Value.int i2)]) (by decide +kernel) (by simp [lg_sl, fw_cat, fw_ci, fw_clo]) (by simp [lv_args, fw_cat, fw_ci, fw_clo]) ?_
  show fw_V g K_X5_number f bc bs 0 [(0, fw_rv g r0), (1, Value.int i1), (2, Value.int i2)] [] μ (fw_Qi Q) fw_nX
  refine fw_aload_n dX5_number_0 rfl rfl ?_
  refine fw_getfI fl_X5_198 rfl hx dX5_number_1 ?_
  refine fw_if_gt (tgt := 15) dX5_number_4 (by decide) (fun c1 => ?_) (fun c1 => ?_)
  · have h := fw_it h c1
    refine fw_ls [0, 1] rfl ?_
    exact w_X5_number_L15 hf hx h
  · have h := fw_if h c1
    refine fw_aload_n dX5_number_7 rfl rfl ?_
    refine fw_getfI fl_X5_182 rfl hx dX5_number_8 ?_
    refine fw_iconst (v := 2) dX5_number_11 (by decide) ?_
    refine fw_icmp_eq (tgt := 22) dX5_number_12 (by decide) (fun c2 => ?_) (fun c2 => ?_)
    · have h := fw_it h c2
      refine fw_aload_n dX5_number_22 rfl rfl ?_
      refine fw_getfI fl_X5_194 rfl hx dX5_number_23 ?_
      refine fw_iload_n dX5_number_26 rfl rfl ?_
      refine fw_iload_n dX5_number_27 rfl rfl ?_
      refine fw_callS3z (f1 := f - 1) cl_X5_110 (by decide) (by omega) (fw_s4 (Nat.le_of_ble_eq_true rfl)) dX5_number_28 (w_X5_in (f := f - 1) (by omega) h) (fun _ _ h9 _ _ => h9.elim) (fun v9 μ4 q9 hs5 => ?_)
      obtain ⟨v3, rfl, h⟩ := q9
      refine fw_ti ?_
      have hg6 := hs5.K hx (by decide)
      refine fw_if_ne (tgt := 41) dX5_number_31 (by decide) (fun c7 => ?_) (fun c7 => ?_)
      · have h := fw_if h c7
        refine fw_aload_n dX5_number_41 rfl rfl ?_
        refine fw_getfI fl_X5_194 rfl hg6 dX5_number_42 ?_
        refine fw_topi (fun i3_8 e9 => ?_)
        have h := h i3_8 e9
        refine fw_istore_nN (Ls' := [(3, Value.int i3_8), (2, Value.int i2), (0, fw_rv g r0), (1, Value.int i1)]) [0, 1] dX5_number_45 rfl (by decide) rfl rfl rfl rfl rfl ?_
        refine fw_aload_n dX5_number_46 rfl rfl ?_
        refine fw_callV0z (f1 := f - 1) cl_X5_219 rfl hg6 (by decide) (by omega) (fw_s4 (Nat.le_of_ble_eq_true rfl)) dX5_number_47 (w_X5_nextToken (f := f - 1) (by omega) hg6 h) (fun _ _ h9 _ _ => h9.elim) (fun v9 μ11 q9 hs12 => ?_)
        obtain ⟨rfl, h⟩ := q9
        refine fw_tv ?_
        have hg13 := hs12.K hg6 (by decide)
        refine fw_iload_n dX5_number_50 rfl rfl ?_
        exact fw_ireturn dX5_number_51 rfl rfl ⟨_, rfl, h⟩
      · have h := fw_it h c7
        refine fw_aload_n dX5_number_34 rfl rfl ?_
        refine fw_iconst (v := 2) dX5_number_35 (by decide) ?_
        refine fw_callV1z (f1 := f - 1) cl_X5_213 rfl hg6 (by decide) (by omega) (fw_s4 (Nat.le_of_ble_eq_true rfl)) dX5_number_36 (w_X5_errs (f := f - 1) (by omega) hg6 h) (fun _ _ h9 _ _ => h9.elim) (fun v9 μ15 q9 hs16 => ?_)
        obtain ⟨rfl, h⟩ := q9
        refine fw_tv ?_
        have hg17 := hs16.K hg6 (by decide)
        refine fw_iload_n dX5_number_39 rfl rfl ?_
        exact fw_ireturn dX5_number_40 rfl rfl ⟨_, rfl, h⟩
    · have h := fw_if h c2
      refine fw_ls [0, 1] rfl ?_
      exact w_X5_number_L15 hf hx h
abbrev K_X5_wants : fw_Kt := (RX5, "wants", cX5_wants, 2, none, [])
def p_X5_wants_L20 (r0 : Nat) (μ : fw_M) (Q : fw_M → Prop) : Prop :=
  (if (m_I μ r0 18) = 0 then
  ((p_X5_nextToken r0 μ (fun μ3 =>
   Q μ3)))
  else
  (Q μ))
set_option maxHeartbeats 4000000 in
theorem w_X5_wants_L20 {g : fw_G} {f bc bs : Nat} {r0 : Nat} {μ : fw_M} {Q : fw_M → Prop} (hf : 4 ≤ f) (hx : m_K μ r0 = 6) (h : p_X5_wants_L20 r0 μ Q) : fw_V g K_X5_wants f bc bs 20 [(0, fw_rv g r0)] [] μ (fw_Qv Q) fw_nX := by
  unfold p_X5_wants_L20 at h
  refine fw_aload_n dX5_wants_20 rfl rfl ?_
  refine fw_getfI fl_X5_198 rfl hx dX5_wants_21 ?_
  refine fw_if_ne (tgt := 31) dX5_wants_24 (by decide) (fun c1 => ?_) (fun c1 => ?_)
  · have h := fw_if h c1
    exact fw_return dX5_wants_31 rfl ⟨rfl, h⟩
  · have h := fw_it h c1
    refine fw_aload_n dX5_wants_27 rfl rfl ?_
    refine fw_callV0z (f1 := f - 1) cl_X5_219 rfl hx (by decide) (by omega) (fw_s4 (Nat.le_of_ble_eq_true rfl)) dX5_wants_28 (w_X5_nextToken (f := f - 1) (by omega) hx h) (fun _ _ h9 _ _ => h9.elim) (fun v9 μ3 q9 hs4 => ?_)
    obtain ⟨rfl, h⟩ := q9
    refine fw_tv ?_
    have hg5 := hs4.K hx (by decide)
    exact fw_return dX5_wants_31 rfl ⟨rfl, h⟩
def p_X5_wants (r0 : Nat) (i1 : Int32) (μ : fw_M) (Q : fw_M → Prop) : Prop :=
  (if (m_I μ r0 18) = 0 then
  ((p_X5_isWord r0 i1 μ (fun v2 μ3 =>
   (if v2 = 0 then
   ((p_X5_errs r0 (1 : Int32) μ3 (fun μ8 =>
    p_X5_wants_L20 r0 μ8 Q)))
   else
   (p_X5_wants_L20 r0 μ3 Q)))))
  else
  (p_X5_wants_L20 r0 μ Q))
set_option maxHeartbeats 4000000 in
theorem w_X5_wants {g : fw_G} {f bc bs : Nat} {r0 : Nat} {i1 : Int32} {μ : fw_M} {Q : fw_M → Prop} (hf : 4 ≤ f) (hx : m_K μ r0 = 6) (h : p_X5_wants r0 i1 μ Q) : fw_C g f bc bs yX5_wants (ws_ yX5_wants cX5_wants 2 (none)) [fw_rv g r0, Value.int i1] μ (fw_Qv Q) fw_nX := by
  unfold p_X5_wants at h
  refine fw_intro' (Ls := [(0, fw_rv g r0), (1, Value.int i1)]) (by decide +kernel) (by simp [lg_sl, fw_cat, fw_ci, fw_clo]) (by simp [lv_args, fw_cat, fw_ci, fw_clo]) ?_
  show fw_V g K_X5_wants f bc bs 0 [(0, fw_rv g r0), (1, Value.int i1)] [] μ (fw_Qv Q) fw_nX
  refine fw_aload_n dX5_wants_0 rfl rfl ?_
  refine fw_getfI fl_X5_198 rfl hx dX5_wants_1 ?_
  refine fw_if_ne (tgt := 20) dX5_wants_4 (by decide) (fun c1 => ?_) (fun c1 => ?_)
  · have h := fw_if h c1
    refine fw_ls [0] rfl ?_
    exact w_X5_wants_L20 hf hx h
  · have h := fw_it h c1
    refine fw_aload_n dX5_wants_7 rfl rfl ?_
    refine fw_iload_n dX5_wants_8 rfl rfl ?_
    refine fw_callV1z (f1 := f - 1) cl_X5_236 rfl hx (by decide) (by omega) (fw_s4 (Nat.le_of_ble_eq_true rfl)) dX5_wants_9 (w_X5_isWord (f := f - 1) (by omega) hx h) (fun _ _ h9 _ _ => h9.elim) (fun v9 μ3 q9 hs4 => ?_)
    obtain ⟨v2, rfl, h⟩ := q9
    refine fw_ti ?_
    have hg5 := hs4.K hx (by decide)
    refine fw_if_ne (tgt := 20) dX5_wants_12 (by decide) (fun c6 => ?_) (fun c6 => ?_)
    · have h := fw_if h c6
      refine fw_ls [0] rfl ?_
      exact w_X5_wants_L20 hf hg5 h
    · have h := fw_it h c6
      refine fw_aload_n dX5_wants_15 rfl rfl ?_
      refine fw_iconst (v := 1) dX5_wants_16 (by decide) ?_
      refine fw_callV1z (f1 := f - 1) cl_X5_213 rfl hg5 (by decide) (by omega) (fw_s4 (Nat.le_of_ble_eq_true rfl)) dX5_wants_17 (w_X5_errs (f := f - 1) (by omega) hg5 h) (fun _ _ h9 _ _ => h9.elim) (fun v9 μ8 q9 hs9 => ?_)
      obtain ⟨rfl, h⟩ := q9
      refine fw_tv ?_
      have hg10 := hs9.K hg5 (by decide)
      refine fw_ls [0] rfl ?_
      exact w_X5_wants_L20 hf hg10 h
abbrev K_X5_wasTold : fw_Kt := (RX5, "wasTold", cX5_wasTold, 4, some .boolean, [])
def p_X5_wasTold_L26 (k4 : Int32 → Int32 → fw_M → Prop) (r0 : Nat) (i1 : Int32) (i3 : Int32) (μ : fw_M) (Q : Int32 → fw_M → Prop) : Prop :=
  (∀ i3_1 : Int32, i3_1 = i3 + (1 : Int32) →
  k4 (1 : Int32) i3_1 μ)
set_option maxHeartbeats 4000000 in
theorem w_X5_wasTold_L26 {g : fw_G} {f bc bs : Nat} {k4 : Int32 → Int32 → fw_M → Prop} {r0 : Nat} {i1 : Int32} {i3 : Int32} {μ : fw_M} {Q : Int32 → fw_M → Prop} (hf : 1 ≤ f) (hk4 : ∀ {i2 : Int32} {i3 : Int32} {μ : fw_M}, m_K μ r0 = 6 → k4 i2 i3 μ → fw_V g K_X5_wasTold f bc bs 4 [(0, fw_rv g r0), (1, Value.int i1), (2, Value.int i2), (3, Value.int i3)] [] μ (fw_Qi Q) fw_nX) (hx : m_K μ r0 = 6) (h : p_X5_wasTold_L26 k4 r0 i1 i3 μ Q) : fw_V g K_X5_wasTold f bc bs 26 [(0, fw_rv g r0), (1, Value.int i1), (3, Value.int i3)] [] μ (fw_Qi Q) fw_nX := by
  unfold p_X5_wasTold_L26 at h
  refine fw_iconst (v := 1) dX5_wasTold_26 (by decide) ?_
  refine fw_goto (tgt := 31) dX5_wasTold_27 (by decide) ?_
  refine fw_istore_nN (Ls' := [(2, Value.int (1 : Int32)), (1, Value.int i1), (0, fw_rv g r0), (3, Value.int i3)]) [0, 2] dX5_wasTold_31 rfl (by decide) rfl rfl rfl rfl rfl ?_
  obtain ⟨i3_1, e2⟩ : ∃ y : Int32, y = i3 + (1 : Int32) := ⟨_, rfl⟩
  have h := h i3_1 e2
  refine fw_iincN (k := 3) (v := i3_1) (Ls' := [(3, Value.int i3_1), (2, Value.int (1 : Int32)), (1, Value.int i1), (0, fw_rv g r0)]) [1, 2] dX5_wasTold_32 rfl (by rw [e2]; rfl) (by decide) rfl rfl rfl rfl rfl ?_
  refine fw_goto (tgt := 4) dX5_wasTold_35 (by decide) ?_
  refine fw_ls [3, 2, 1, 0] rfl ?_
  exact hk4 hx h
def p_X5_wasTold_L4b (r0 : Nat) (i1 : Int32) (k4 : Int32 → Int32 → fw_M → Prop) (i2 : Int32) (i3 : Int32) (μ : fw_M) (Q : Int32 → fw_M → Prop) : Prop :=
  (if (m_I μ r0 28) ≤ i3 then
  (((i2 = 0 ∨ i2 = 1) ∧ Q i2 μ))
  else
  ((if i2 = 0 then
   ((m_K μ (m_P μ r0 30) = 100 ∧ (vp_in i3 (m_N μ (m_P μ r0 30)) ∧ (if (m_I μ (m_P μ r0 30) i3.toNatClampNeg) = i1 then
    (p_X5_wasTold_L26 k4 r0 i1 i3 μ Q)
    else
    ((∀ i3_7 : Int32, i3_7 = i3 + (1 : Int32) →
     k4 (0 : Int32) i3_7 μ))))))
   else
   (p_X5_wasTold_L26 k4 r0 i1 i3 μ Q))))
def p_X5_wasTold_L4 (r0 : Nat) (i1 : Int32) (i2 : Int32) (i3 : Int32) (μ : fw_M) (Q : Int32 → fw_M → Prop) : Prop := fw_lp (fun (k : Int32 × Int32 × fw_M → Prop) (a : Int32 × Int32 × fw_M) => p_X5_wasTold_L4b r0 i1 (fun i2 i3 μ => k (i2, i3, μ)) a.1 a.2.1 a.2.2 Q) (i2, i3, μ)
theorem r_X5_wasTold_L4 {r0 : Nat} {i1 : Int32} {Q : Int32 → fw_M → Prop} (I : Int32 → Int32 → fw_M → Prop) (v : Int32 → Int32 → fw_M → Nat) (hs : ∀ (k : Int32 → Int32 → fw_M → Prop) (i2 : Int32) (i3 : Int32) (μ : fw_M), I i2 i3 μ → (∀ (i2' : Int32) (i3' : Int32) (ν : fw_M), I i2' i3' ν → v i2' i3' ν < v i2 i3 μ → k i2' i3' ν) → p_X5_wasTold_L4b r0 i1 k i2 i3 μ Q) (i2 : Int32) (i3 : Int32) (μ : fw_M) (h : I i2 i3 μ) : p_X5_wasTold_L4 r0 i1 i2 i3 μ Q :=
  fw_lp_in (A := Int32 × Int32 × fw_M) (fun a => I a.1 a.2.1 a.2.2) (fun a => v a.1 a.2.1 a.2.2) (fun k a ha hk => hs (fun i2 i3 μ => k (i2, i3, μ)) a.1 a.2.1 a.2.2 ha (fun i2' i3' ν hb hlt => hk (i2', i3', ν) hb hlt)) (i2, i3, μ) h
set_option maxHeartbeats 4000000 in
theorem w_X5_wasTold_L4b {g : fw_G} {f bc bs : Nat} {r0 : Nat} {i1 : Int32} {k4 : Int32 → Int32 → fw_M → Prop} {i2 : Int32} {i3 : Int32} {μ : fw_M} {Q : Int32 → fw_M → Prop} (hf : 1 ≤ f) (hk4 : ∀ {i2 : Int32} {i3 : Int32} {μ : fw_M}, m_K μ r0 = 6 → k4 i2 i3 μ → fw_V g K_X5_wasTold f bc bs 4 [(0, fw_rv g r0), (1, Value.int i1), (2, Value.int i2), (3, Value.int i3)] [] μ (fw_Qi Q) fw_nX) (hx : m_K μ r0 = 6) (h : p_X5_wasTold_L4b r0 i1 k4 i2 i3 μ Q) : fw_V g K_X5_wasTold f bc bs 4 [(0, fw_rv g r0), (1, Value.int i1), (2, Value.int i2), (3, Value.int i3)] [] μ (fw_Qi Q) fw_nX := by
  unfold p_X5_wasTold_L4b at h
  refine fw_iload_n dX5_wasTold_4 rfl rfl ?_
  refine fw_aload_n dX5_wasTold_5 rfl rfl ?_
  refine fw_getfI fl_X5_274 rfl hx dX5_wasTold_6 ?_
  refine fw_icmp_ge (tgt := 38) dX5_wasTold_9 (by decide) (fun c1 => ?_) (fun c1 => ?_)
  · have h := fw_it h c1
    refine fw_iload_n dX5_wasTold_38 rfl rfl ?_
    obtain ⟨hc2, h⟩ := h
    exact fw_ireturn dX5_wasTold_39 rfl (by rcases hc2 with e9 | e9 <;> rw [e9] <;> decide +kernel) ⟨_, rfl, h⟩
  · have h := fw_if h c1
    refine fw_iload_n dX5_wasTold_12 rfl rfl ?_
    refine fw_if_ne (tgt := 26) dX5_wasTold_13 (by decide) (fun c3 => ?_) (fun c3 => ?_)
    · have h := fw_if h c3
      refine fw_ls [0, 1, 3] rfl ?_
      exact w_X5_wasTold_L26 hf hk4 hx h
    · have h := fw_it h c3
      refine fw_aload_n dX5_wasTold_16 rfl rfl ?_
      refine fw_getfP fl_X5_60 rfl hx dX5_wasTold_17 ?_
      refine fw_iload_n dX5_wasTold_20 rfl rfl ?_
      obtain ⟨hg4, h⟩ := h
      obtain ⟨hc5, h⟩ := h
      refine fw_iald hg4 hc5 dX5_wasTold_21 ?_
      refine fw_iload_n dX5_wasTold_22 rfl rfl ?_
      refine fw_icmp_ne (tgt := 30) dX5_wasTold_23 (by decide) (fun c6 => ?_) (fun c6 => ?_)
      · have h := fw_if h c6
        refine fw_iconst (v := 0) dX5_wasTold_30 (by decide) ?_
        refine fw_istore_nN (Ls' := [(2, Value.int (0 : Int32)), (1, Value.int i1), (0, fw_rv g r0), (3, Value.int i3)]) [0, 3] dX5_wasTold_31 rfl (by decide) rfl rfl rfl rfl rfl ?_
        obtain ⟨i3_7, e8⟩ : ∃ y : Int32, y = i3 + (1 : Int32) := ⟨_, rfl⟩
        have h := h i3_7 e8
        refine fw_iincN (k := 3) (v := i3_7) (Ls' := [(3, Value.int i3_7), (2, Value.int (0 : Int32)), (1, Value.int i1), (0, fw_rv g r0)]) [1, 2] dX5_wasTold_32 rfl (by rw [e8]; rfl) (by decide) rfl rfl rfl rfl rfl ?_
        refine fw_goto (tgt := 4) dX5_wasTold_35 (by decide) ?_
        refine fw_ls [3, 2, 1, 0] rfl ?_
        exact hk4 hx h
      · have h := fw_it h c6
        refine fw_ls [0, 1, 3] rfl ?_
        exact w_X5_wasTold_L26 hf hk4 hx h
theorem w_X5_wasTold_L4 {g : fw_G} {f bc bs : Nat} {r0 : Nat} {i1 : Int32} {i2 : Int32} {i3 : Int32} {μ : fw_M} {Q : Int32 → fw_M → Prop} (hf : 1 ≤ f) (hx : m_K μ r0 = 6) (h : p_X5_wasTold_L4 r0 i1 i2 i3 μ Q) : fw_V g K_X5_wasTold f bc bs 4 [(0, fw_rv g r0), (1, Value.int i1), (2, Value.int i2), (3, Value.int i3)] [] μ (fw_Qi Q) fw_nX := by
  have key := fw_lp_out (R := fun (a : Int32 × Int32 × fw_M) => m_K a.2.2 r0 = 6 → fw_V g K_X5_wasTold f bc bs 4 [(0, fw_rv g r0), (1, Value.int i1), (2, Value.int a.1), (3, Value.int a.2.1)] [] a.2.2 (fw_Qi Q) fw_nX) (fun k hk9 a ha hx2 => w_X5_wasTold_L4b hf (fun {i2 i3} {μ} hx3 h3 => hk9 (i2, i3, μ) h3 hx3) hx2 ha) h
  exact key hx
def p_X5_wasTold (r0 : Nat) (i1 : Int32) (μ : fw_M) (Q : Int32 → fw_M → Prop) : Prop :=
  p_X5_wasTold_L4 r0 i1 (0 : Int32) (0 : Int32) μ Q
set_option maxHeartbeats 4000000 in
theorem w_X5_wasTold {g : fw_G} {f bc bs : Nat} {r0 : Nat} {i1 : Int32} {μ : fw_M} {Q : Int32 → fw_M → Prop} (hf : 1 ≤ f) (hx : m_K μ r0 = 6) (h : p_X5_wasTold r0 i1 μ Q) : fw_C g f bc bs yX5_wasTold (ws_ yX5_wasTold cX5_wasTold 4 (some .boolean)) [fw_rv g r0, Value.int i1] μ (fw_Qi Q) fw_nX := by
  unfold p_X5_wasTold at h
  refine fw_intro' (Ls := [(0, fw_rv g r0), (1, Value.int i1)]) (by decide +kernel) (by simp [lg_sl, fw_cat, fw_ci, fw_clo]) (by simp [lv_args, fw_cat, fw_ci, fw_clo]) ?_
  show fw_V g K_X5_wasTold f bc bs 0 [(0, fw_rv g r0), (1, Value.int i1)] [] μ (fw_Qi Q) fw_nX
  refine fw_iconst (v := 0) dX5_wasTold_0 (by decide) ?_
  refine fw_istore_nN (Ls' := [(2, Value.int (0 : Int32)), (1, Value.int i1), (0, fw_rv g r0)]) [0] dX5_wasTold_1 rfl (by decide) rfl rfl rfl rfl rfl ?_
  refine fw_iconst (v := 0) dX5_wasTold_2 (by decide) ?_
  refine fw_istore_nN (Ls' := [(3, Value.int (0 : Int32)), (2, Value.int (0 : Int32)), (1, Value.int i1), (0, fw_rv g r0)]) [1, 2] dX5_wasTold_3 rfl (by decide) rfl rfl rfl rfl rfl ?_
  refine fw_ls [3, 2, 1, 0] rfl ?_
  exact w_X5_wasTold_L4 hf hx h
abbrev K_X5_clause : fw_Kt := (RX5, "clause", cX5_clause, 1, none, [])
def p_X5_clause_L17 (r0 : Nat) (μ : fw_M) (Q : fw_M → Prop) : Prop :=
  (p_X5_errs r0 (1 : Int32) μ (fun μ2 =>
  Q μ2))
set_option maxHeartbeats 4000000 in
theorem w_X5_clause_L17 {g : fw_G} {f bc bs : Nat} {r0 : Nat} {μ : fw_M} {Q : fw_M → Prop} (hf : 5 ≤ f) (hx : m_K μ r0 = 6) (h : p_X5_clause_L17 r0 μ Q) : fw_V g K_X5_clause f bc bs 17 [(0, fw_rv g r0)] [] μ (fw_Qv Q) fw_nX := by
  unfold p_X5_clause_L17 at h
  refine fw_aload_n dX5_clause_17 rfl rfl ?_
  refine fw_iconst (v := 1) dX5_clause_18 (by decide) ?_
  refine fw_callV1z (f1 := f - 1) cl_X5_213 rfl hx (by decide) (by omega) (fw_s4 (Nat.le_of_ble_eq_true rfl)) dX5_clause_19 (w_X5_errs (f := f - 1) (by omega) hx h) (fun _ _ h9 _ _ => h9.elim) (fun v9 μ2 q9 hs3 => ?_)
  obtain ⟨rfl, h⟩ := q9
  refine fw_tv ?_
  have hg4 := hs3.K hx (by decide)
  exact fw_return dX5_clause_22 rfl ⟨rfl, h⟩
def p_X5_clause_L153 (r0 : Nat) (rs0 : Nat) (is1 : Int32) (μ : fw_M) (Q : fw_M → Prop) : Prop :=
  (m_K μ rs0 = 6 ∧ (p_X5_opensFrame rs0 is1 μ (fun μ3 =>
  (if (m_I μ3 r0 29) = (2 : Int32) then
  ((∀ μ9, μ9 = m_uI μ3 r0 27 (0 : Int32) →
   Q μ9))
  else
  ((∀ μ8, μ8 = m_uI μ3 r0 27 (1 : Int32) →
   Q μ8))))))
set_option maxHeartbeats 4000000 in
theorem w_X5_clause_L153 {g : fw_G} {f bc bs : Nat} {r0 : Nat} {rs0 : Nat} {is1 : Int32} {μ : fw_M} {Q : fw_M → Prop} (hf : 5 ≤ f) (hx : m_K μ r0 = 6) (h : p_X5_clause_L153 r0 rs0 is1 μ Q) : fw_V g K_X5_clause f bc bs 153 [(0, fw_rv g r0)] [Value.int is1, fw_rv g rs0] μ (fw_Qv Q) fw_nX := by
  unfold p_X5_clause_L153 at h
  obtain ⟨hg1, h⟩ := h
  refine fw_callV1z (f1 := f - 1) cl_X5_216 rfl hg1 (by decide) (by omega) (fw_s4 (Nat.le_of_ble_eq_true rfl)) dX5_clause_153 (w_X5_opensFrame (f := f - 1) (by omega) hg1 h) (fun _ _ h9 _ _ => h9.elim) (fun v9 μ3 q9 hs4 => ?_)
  obtain ⟨rfl, h⟩ := q9
  refine fw_tv ?_
  have hg5 := hs4.K hx (by decide)
  have hg6 := hs4.K hg1 (by decide)
  refine fw_aload_n dX5_clause_156 rfl rfl ?_
  refine fw_aload_n dX5_clause_157 rfl rfl ?_
  refine fw_getfI fl_X5_248 rfl hg5 dX5_clause_158 ?_
  refine fw_iconst (v := 2) dX5_clause_161 (by decide) ?_
  refine fw_icmp_ne (tgt := 169) dX5_clause_162 (by decide) (fun c7 => ?_) (fun c7 => ?_)
  · have h := fw_if h c7
    refine fw_iconst (v := 1) dX5_clause_169 (by decide) ?_
    refine fw_putfI fl_X5_242 (fun q hq => Or.inl (by cases hq; rfl)) rfl hg5 dX5_clause_170 ?_
    have h := h _ rfl
    exact fw_return dX5_clause_173 rfl ⟨rfl, h⟩
  · have h := fw_it h c7
    refine fw_iconst (v := 0) dX5_clause_165 (by decide) ?_
    refine fw_goto (tgt := 170) dX5_clause_166 (by decide) ?_
    refine fw_putfI fl_X5_242 (fun q hq => Or.inl (by cases hq; rfl)) rfl hg5 dX5_clause_170 ?_
    have h := h _ rfl
    exact fw_return dX5_clause_173 rfl ⟨rfl, h⟩
def p_X5_clause_L304 (r0 : Nat) (μ : fw_M) (Q : fw_M → Prop) : Prop :=
  (if (m_I μ r0 18) = 0 then
  ((p_X5_clauseIsOver r0 μ (fun μ3 =>
   Q μ3)))
  else
  (Q μ))
set_option maxHeartbeats 4000000 in
theorem w_X5_clause_L304 {g : fw_G} {f bc bs : Nat} {r0 : Nat} {μ : fw_M} {Q : fw_M → Prop} (hf : 5 ≤ f) (hx : m_K μ r0 = 6) (h : p_X5_clause_L304 r0 μ Q) : fw_V g K_X5_clause f bc bs 304 [(0, fw_rv g r0)] [] μ (fw_Qv Q) fw_nX := by
  unfold p_X5_clause_L304 at h
  refine fw_aload_n dX5_clause_304 rfl rfl ?_
  refine fw_getfI fl_X5_198 rfl hx dX5_clause_305 ?_
  refine fw_if_ne (tgt := 315) dX5_clause_308 (by decide) (fun c1 => ?_) (fun c1 => ?_)
  · have h := fw_if h c1
    exact fw_return dX5_clause_315 rfl ⟨rfl, h⟩
  · have h := fw_it h c1
    refine fw_aload_n dX5_clause_311 rfl rfl ?_
    refine fw_callV0z (f1 := f - 1) cl_X5_271 rfl hx (by decide) (by omega) (fw_s4 (Nat.le_of_ble_eq_true rfl)) dX5_clause_312 (w_X5_clauseIsOver (f := f - 1) (by omega) hx h) (fun _ _ h9 _ _ => h9.elim) (fun v9 μ3 q9 hs4 => ?_)
    obtain ⟨rfl, h⟩ := q9
    refine fw_tv ?_
    have hg5 := hs4.K hx (by decide)
    exact fw_return dX5_clause_315 rfl ⟨rfl, h⟩
def p_X5_clause_L283 (r0 : Nat) (μ : fw_M) (Q : fw_M → Prop) : Prop :=
  (if (m_I μ r0 18) = 0 then
  ((p_X5_isSign r0 (59 : Int32) μ (fun v2 μ3 =>
   (if v2 = 0 then
   ((p_X5_errs r0 (1 : Int32) μ3 (fun μ8 =>
    p_X5_clause_L304 r0 μ8 Q)))
   else
   (p_X5_clause_L304 r0 μ3 Q)))))
  else
  (p_X5_clause_L304 r0 μ Q))
set_option maxHeartbeats 4000000 in
theorem w_X5_clause_L283 {g : fw_G} {f bc bs : Nat} {r0 : Nat} {μ : fw_M} {Q : fw_M → Prop} (hf : 5 ≤ f) (hx : m_K μ r0 = 6) (h : p_X5_clause_L283 r0 μ Q) : fw_V g K_X5_clause f bc bs 283 [(0, fw_rv g r0)] [] μ (fw_Qv Q) fw_nX := by
  unfold p_X5_clause_L283 at h
  refine fw_aload_n dX5_clause_283 rfl rfl ?_
  refine fw_getfI fl_X5_198 rfl hx dX5_clause_284 ?_
  refine fw_if_ne (tgt := 304) dX5_clause_287 (by decide) (fun c1 => ?_) (fun c1 => ?_)
  · have h := fw_if h c1
    exact w_X5_clause_L304 hf hx h
  · have h := fw_it h c1
    refine fw_aload_n dX5_clause_290 rfl rfl ?_
    refine fw_bipush (v := 59) dX5_clause_291 (by decide) ?_
    refine fw_callV1z (f1 := f - 1) cl_X5_255 rfl hx (by decide) (by omega) (fw_s4 (Nat.le_of_ble_eq_true rfl)) dX5_clause_293 (w_X5_isSign (f := f - 1) (by omega) hx h) (fun _ _ h9 _ _ => h9.elim) (fun v9 μ3 q9 hs4 => ?_)
    obtain ⟨v2, rfl, h⟩ := q9
    refine fw_ti ?_
    have hg5 := hs4.K hx (by decide)
    refine fw_if_ne (tgt := 304) dX5_clause_296 (by decide) (fun c6 => ?_) (fun c6 => ?_)
    · have h := fw_if h c6
      exact w_X5_clause_L304 hf hg5 h
    · have h := fw_it h c6
      refine fw_aload_n dX5_clause_299 rfl rfl ?_
      refine fw_iconst (v := 1) dX5_clause_300 (by decide) ?_
      refine fw_callV1z (f1 := f - 1) cl_X5_213 rfl hg5 (by decide) (by omega) (fw_s4 (Nat.le_of_ble_eq_true rfl)) dX5_clause_301 (w_X5_errs (f := f - 1) (by omega) hg5 h) (fun _ _ h9 _ _ => h9.elim) (fun v9 μ8 q9 hs9 => ?_)
      obtain ⟨rfl, h⟩ := q9
      refine fw_tv ?_
      have hg10 := hs9.K hg5 (by decide)
      exact w_X5_clause_L304 hf hg10 h
def p_X5_clause_L279 (r0 : Nat) (rs0 : Nat) (is1 : Int32) (rs2 : Nat) (is3 : Int32) (is4 : Int32) (μ : fw_M) (Q : fw_M → Prop) : Prop :=
  (m_K μ rs2 = 6 ∧ (p_X5_number rs2 is3 is4 μ (fun v2 μ3 =>
  (m_K μ3 rs0 = 100 ∧ (vp_in is1 (m_N μ3 rs0) ∧ (∀ μ9, μ9 = m_uI μ3 rs0 is1.toNatClampNeg v2 →
  p_X5_clause_L283 r0 μ9 Q))))))
set_option maxHeartbeats 4000000 in
theorem w_X5_clause_L279 {g : fw_G} {f bc bs : Nat} {r0 : Nat} {rs0 : Nat} {is1 : Int32} {rs2 : Nat} {is3 : Int32} {is4 : Int32} {μ : fw_M} {Q : fw_M → Prop} (hf : 5 ≤ f) (hx : m_K μ r0 = 6) (h : p_X5_clause_L279 r0 rs0 is1 rs2 is3 is4 μ Q) : fw_V g K_X5_clause f bc bs 279 [(0, fw_rv g r0)] [Value.int is4, Value.int is3, fw_rv g rs2, Value.int is1, fw_rv g rs0] μ (fw_Qv Q) fw_nX := by
  unfold p_X5_clause_L279 at h
  obtain ⟨hg1, h⟩ := h
  refine fw_callV2z (f1 := f - 1) cl_X5_280 rfl hg1 (by decide) (by omega) (fw_s4 (Nat.le_of_ble_eq_true rfl)) dX5_clause_279 (w_X5_number (f := f - 1) (by omega) hg1 h) (fun _ _ h9 _ _ => h9.elim) (fun v9 μ3 q9 hs4 => ?_)
  obtain ⟨v2, rfl, h⟩ := q9
  refine fw_ti ?_
  have hg5 := hs4.K hx (by decide)
  have hg6 := hs4.K hg1 (by decide)
  obtain ⟨hg7, h⟩ := h
  obtain ⟨hc8, h⟩ := h
  refine fw_iast hg7 hc8 dX5_clause_282 ?_
  have h := h _ rfl
  exact w_X5_clause_L283 hf hg5 h
def p_X5_clause_L253 (r0 : Nat) (rs0 : Nat) (is1 : Int32) (μ : fw_M) (Q : fw_M → Prop) : Prop :=
  (m_K μ rs0 = 6 ∧ (p_X5_wants rs0 is1 μ (fun μ3 =>
  (if (m_I μ3 r0 29) = (3 : Int32) then
  (p_X5_clause_L279 r0 (m_P μ3 r0 33) (m_I μ3 r0 28) r0 (0 : Int32) (2 : Int32) μ3 Q)
  else
  (p_X5_clause_L279 r0 (m_P μ3 r0 33) (m_I μ3 r0 28) r0 (0 : Int32) (1 : Int32) μ3 Q)))))
set_option maxHeartbeats 4000000 in
theorem w_X5_clause_L253 {g : fw_G} {f bc bs : Nat} {r0 : Nat} {rs0 : Nat} {is1 : Int32} {μ : fw_M} {Q : fw_M → Prop} (hf : 5 ≤ f) (hx : m_K μ r0 = 6) (h : p_X5_clause_L253 r0 rs0 is1 μ Q) : fw_V g K_X5_clause f bc bs 253 [(0, fw_rv g r0)] [Value.int is1, fw_rv g rs0] μ (fw_Qv Q) fw_nX := by
  unfold p_X5_clause_L253 at h
  obtain ⟨hg1, h⟩ := h
  refine fw_callV1z (f1 := f - 1) cl_X5_284 rfl hg1 (by decide) (by omega) (fw_s4 (Nat.le_of_ble_eq_true rfl)) dX5_clause_253 (w_X5_wants (f := f - 1) (by omega) hg1 h) (fun _ _ h9 _ _ => h9.elim) (fun v9 μ3 q9 hs4 => ?_)
  obtain ⟨rfl, h⟩ := q9
  refine fw_tv ?_
  have hg5 := hs4.K hx (by decide)
  have hg6 := hs4.K hg1 (by decide)
  refine fw_aload_n dX5_clause_256 rfl rfl ?_
  refine fw_getfP fl_X5_69 rfl hg5 dX5_clause_257 ?_
  refine fw_aload_n dX5_clause_260 rfl rfl ?_
  refine fw_getfI fl_X5_274 rfl hg5 dX5_clause_261 ?_
  refine fw_aload_n dX5_clause_264 rfl rfl ?_
  refine fw_iconst (v := 0) dX5_clause_265 (by decide) ?_
  refine fw_aload_n dX5_clause_266 rfl rfl ?_
  refine fw_getfI fl_X5_248 rfl hg5 dX5_clause_267 ?_
  refine fw_iconst (v := 3) dX5_clause_270 (by decide) ?_
  refine fw_icmp_ne (tgt := 278) dX5_clause_271 (by decide) (fun c7 => ?_) (fun c7 => ?_)
  · have h := fw_if h c7
    refine fw_iconst (v := 1) dX5_clause_278 (by decide) ?_
    exact w_X5_clause_L279 hf hg5 h
  · have h := fw_it h c7
    refine fw_iconst (v := 2) dX5_clause_274 (by decide) ?_
    refine fw_goto (tgt := 279) dX5_clause_275 (by decide) ?_
    exact w_X5_clause_L279 hf hg5 h
def p_X5_clause_L237 (r0 : Nat) (μ : fw_M) (Q : fw_M → Prop) : Prop :=
  (if (m_I μ r0 29) = (3 : Int32) then
  (p_X5_clause_L253 r0 r0 (7 : Int32) μ Q)
  else
  (p_X5_clause_L253 r0 r0 (8 : Int32) μ Q))
set_option maxHeartbeats 4000000 in
theorem w_X5_clause_L237 {g : fw_G} {f bc bs : Nat} {r0 : Nat} {μ : fw_M} {Q : fw_M → Prop} (hf : 5 ≤ f) (hx : m_K μ r0 = 6) (h : p_X5_clause_L237 r0 μ Q) : fw_V g K_X5_clause f bc bs 237 [(0, fw_rv g r0)] [] μ (fw_Qv Q) fw_nX := by
  unfold p_X5_clause_L237 at h
  refine fw_aload_n dX5_clause_237 rfl rfl ?_
  refine fw_aload_n dX5_clause_238 rfl rfl ?_
  refine fw_getfI fl_X5_248 rfl hx dX5_clause_239 ?_
  refine fw_iconst (v := 3) dX5_clause_242 (by decide) ?_
  refine fw_icmp_ne (tgt := 251) dX5_clause_243 (by decide) (fun c1 => ?_) (fun c1 => ?_)
  · have h := fw_if h c1
    refine fw_bipush (v := 8) dX5_clause_251 (by decide) ?_
    exact w_X5_clause_L253 hf hx h
  · have h := fw_it h c1
    refine fw_bipush (v := 7) dX5_clause_246 (by decide) ?_
    refine fw_goto (tgt := 253) dX5_clause_248 (by decide) ?_
    exact w_X5_clause_L253 hf hx h
def p_X5_clause_L220 (r0 : Nat) (rs0 : Nat) (is1 : Int32) (is2 : Int32) (μ : fw_M) (Q : fw_M → Prop) : Prop :=
  (m_K μ rs0 = 100 ∧ (vp_in is1 (m_N μ rs0) ∧ (∀ μ3, μ3 = m_uI μ rs0 is1.toNatClampNeg is2 →
  (if (m_I μ3 r0 29) = (3 : Int32) then
  (p_X5_clause_L237 r0 μ3 Q)
  else
  ((if (m_I μ3 r0 29) = (4 : Int32) then
   (p_X5_clause_L237 r0 μ3 Q)
   else
   (p_X5_clause_L283 r0 μ3 Q)))))))
set_option maxHeartbeats 4000000 in
theorem w_X5_clause_L220 {g : fw_G} {f bc bs : Nat} {r0 : Nat} {rs0 : Nat} {is1 : Int32} {is2 : Int32} {μ : fw_M} {Q : fw_M → Prop} (hf : 5 ≤ f) (hx : m_K μ r0 = 6) (h : p_X5_clause_L220 r0 rs0 is1 is2 μ Q) : fw_V g K_X5_clause f bc bs 220 [(0, fw_rv g r0)] [Value.int is2, Value.int is1, fw_rv g rs0] μ (fw_Qv Q) fw_nX := by
  unfold p_X5_clause_L220 at h
  obtain ⟨hg1, h⟩ := h
  obtain ⟨hc2, h⟩ := h
  refine fw_iast hg1 hc2 dX5_clause_220 ?_
  have h := h _ rfl
  refine fw_aload_n dX5_clause_221 rfl rfl ?_
  refine fw_getfI fl_X5_248 rfl hx dX5_clause_222 ?_
  refine fw_iconst (v := 3) dX5_clause_225 (by decide) ?_
  refine fw_icmp_eq (tgt := 237) dX5_clause_226 (by decide) (fun c4 => ?_) (fun c4 => ?_)
  · have h := fw_it h c4
    exact w_X5_clause_L237 hf hx h
  · have h := fw_if h c4
    refine fw_aload_n dX5_clause_229 rfl rfl ?_
    refine fw_getfI fl_X5_248 rfl hx dX5_clause_230 ?_
    refine fw_iconst (v := 4) dX5_clause_233 (by decide) ?_
    refine fw_icmp_ne (tgt := 283) dX5_clause_234 (by decide) (fun c5 => ?_) (fun c5 => ?_)
    · have h := fw_if h c5
      exact w_X5_clause_L283 hf hx h
    · have h := fw_it h c5
      exact w_X5_clause_L237 hf hx h
def p_X5_clause_L217 (r0 : Nat) (rs0 : Nat) (is1 : Int32) (rs2 : Nat) (is3 : Int32) (is4 : Int32) (μ : fw_M) (Q : fw_M → Prop) : Prop :=
  (m_K μ rs2 = 6 ∧ (p_X5_number rs2 is3 is4 μ (fun v2 μ3 =>
  p_X5_clause_L220 r0 rs0 is1 v2 μ3 Q)))
set_option maxHeartbeats 4000000 in
theorem w_X5_clause_L217 {g : fw_G} {f bc bs : Nat} {r0 : Nat} {rs0 : Nat} {is1 : Int32} {rs2 : Nat} {is3 : Int32} {is4 : Int32} {μ : fw_M} {Q : fw_M → Prop} (hf : 5 ≤ f) (hx : m_K μ r0 = 6) (h : p_X5_clause_L217 r0 rs0 is1 rs2 is3 is4 μ Q) : fw_V g K_X5_clause f bc bs 217 [(0, fw_rv g r0)] [Value.int is4, Value.int is3, fw_rv g rs2, Value.int is1, fw_rv g rs0] μ (fw_Qv Q) fw_nX := by
  unfold p_X5_clause_L217 at h
  obtain ⟨hg1, h⟩ := h
  refine fw_callV2z (f1 := f - 1) cl_X5_280 rfl hg1 (by decide) (by omega) (fw_s4 (Nat.le_of_ble_eq_true rfl)) dX5_clause_217 (w_X5_number (f := f - 1) (by omega) hg1 h) (fun _ _ h9 _ _ => h9.elim) (fun v9 μ3 q9 hs4 => ?_)
  obtain ⟨v2, rfl, h⟩ := q9
  refine fw_ti ?_
  have hg5 := hs4.K hx (by decide)
  have hg6 := hs4.K hg1 (by decide)
  exact w_X5_clause_L220 hf hg5 h
def p_X5_clause_L73 (r0 : Nat) (μ : fw_M) (Q : fw_M → Prop) : Prop :=
  (if (m_I μ r0 18) ≤ 0 then
  ((m_K μ (m_P μ r0 30) = 100 ∧ (vp_in (m_I μ r0 28) (m_N μ (m_P μ r0 30)) ∧ (∀ μ4, μ4 = m_uI μ (m_P μ r0 30) (m_I μ r0 28).toNatClampNeg (m_I μ r0 29) →
   (m_K μ4 (m_P μ4 r0 31) = 100 ∧ (vp_in (m_I μ4 r0 28) (m_N μ4 (m_P μ4 r0 31)) ∧ (∀ μ7, μ7 = m_uI μ4 (m_P μ4 r0 31) (m_I μ4 r0 28).toNatClampNeg (m_I μ4 r0 34) →
   (m_K μ7 (m_P μ7 r0 32) = 100 ∧ (vp_in (m_I μ7 r0 28) (m_N μ7 (m_P μ7 r0 32)) ∧ (∀ μ10, μ10 = m_uI μ7 (m_P μ7 r0 32) (m_I μ7 r0 28).toNatClampNeg (-1 : Int32) →
   (m_K μ10 (m_P μ10 r0 33) = 100 ∧ (vp_in (m_I μ10 r0 28) (m_N μ10 (m_P μ10 r0 33)) ∧ (∀ μ13, μ13 = m_uI μ10 (m_P μ10 r0 33) (m_I μ10 r0 28).toNatClampNeg (-1 : Int32) →
   (p_X5_nextToken r0 μ13 (fun μ15 =>
   (if (2 : Int32) < (m_I μ15 r0 29) then
   ((if (m_I μ15 r0 29) = (6 : Int32) then
    ((p_X5_number r0 (1 : Int32) (40 : Int32) μ15 (fun v21 μ22 =>
     p_X5_clause_L220 r0 (m_P μ15 r0 32) (m_I μ15 r0 28) v21 μ22 Q)))
    else
    ((if (m_I μ15 r0 29) = (5 : Int32) then
     (p_X5_clause_L217 r0 (m_P μ15 r0 32) (m_I μ15 r0 28) r0 (0 : Int32) (1 : Int32) μ15 Q)
     else
     (p_X5_clause_L217 r0 (m_P μ15 r0 32) (m_I μ15 r0 28) r0 (0 : Int32) (8 : Int32) μ15 Q)))))
   else
   ((if (m_I μ15 r0 29) = (2 : Int32) then
    (p_X5_clause_L153 r0 r0 (2 : Int32) μ15 Q)
    else
    (p_X5_clause_L153 r0 r0 (1 : Int32) μ15 Q)))))))))))))))))))
  else
  (Q μ))
set_option maxHeartbeats 4000000 in
theorem w_X5_clause_L73 {g : fw_G} {f bc bs : Nat} {r0 : Nat} {μ : fw_M} {Q : fw_M → Prop} (hf : 5 ≤ f) (hx : m_K μ r0 = 6) (h : p_X5_clause_L73 r0 μ Q) : fw_V g K_X5_clause f bc bs 73 [(0, fw_rv g r0)] [] μ (fw_Qv Q) fw_nX := by
  unfold p_X5_clause_L73 at h
  refine fw_aload_n dX5_clause_73 rfl rfl ?_
  refine fw_getfI fl_X5_198 rfl hx dX5_clause_74 ?_
  refine fw_if_le (tgt := 81) dX5_clause_77 (by decide) (fun c1 => ?_) (fun c1 => ?_)
  · have h := fw_it h c1
    refine fw_aload_n dX5_clause_81 rfl rfl ?_
    refine fw_getfP fl_X5_60 rfl hx dX5_clause_82 ?_
    refine fw_aload_n dX5_clause_85 rfl rfl ?_
    refine fw_getfI fl_X5_274 rfl hx dX5_clause_86 ?_
    refine fw_aload_n dX5_clause_89 rfl rfl ?_
    refine fw_getfI fl_X5_248 rfl hx dX5_clause_90 ?_
    obtain ⟨hg2, h⟩ := h
    obtain ⟨hc3, h⟩ := h
    refine fw_iast hg2 hc3 dX5_clause_93 ?_
    have h := h _ rfl
    refine fw_aload_n dX5_clause_94 rfl rfl ?_
    refine fw_getfP fl_X5_63 rfl hx dX5_clause_95 ?_
    refine fw_aload_n dX5_clause_98 rfl rfl ?_
    refine fw_getfI fl_X5_274 rfl hx dX5_clause_99 ?_
    refine fw_aload_n dX5_clause_102 rfl rfl ?_
    refine fw_getfI fl_X5_204 rfl hx dX5_clause_103 ?_
    obtain ⟨hg5, h⟩ := h
    obtain ⟨hc6, h⟩ := h
    refine fw_iast hg5 hc6 dX5_clause_106 ?_
    have h := h _ rfl
    refine fw_aload_n dX5_clause_107 rfl rfl ?_
    refine fw_getfP fl_X5_66 rfl hx dX5_clause_108 ?_
    refine fw_aload_n dX5_clause_111 rfl rfl ?_
    refine fw_getfI fl_X5_274 rfl hx dX5_clause_112 ?_
    refine fw_iconst (v := -1) dX5_clause_115 (by decide) ?_
    obtain ⟨hg8, h⟩ := h
    obtain ⟨hc9, h⟩ := h
    refine fw_iast hg8 hc9 dX5_clause_116 ?_
    have h := h _ rfl
    refine fw_aload_n dX5_clause_117 rfl rfl ?_
    refine fw_getfP fl_X5_69 rfl hx dX5_clause_118 ?_
    refine fw_aload_n dX5_clause_121 rfl rfl ?_
    refine fw_getfI fl_X5_274 rfl hx dX5_clause_122 ?_
    refine fw_iconst (v := -1) dX5_clause_125 (by decide) ?_
    obtain ⟨hg11, h⟩ := h
    obtain ⟨hc12, h⟩ := h
    refine fw_iast hg11 hc12 dX5_clause_126 ?_
    have h := h _ rfl
    refine fw_aload_n dX5_clause_127 rfl rfl ?_
    refine fw_callV0z (f1 := f - 1) cl_X5_219 rfl hx (by decide) (by omega) (fw_s4 (Nat.le_of_ble_eq_true rfl)) dX5_clause_128 (w_X5_nextToken (f := f - 1) (by omega) hx h) (fun _ _ h9 _ _ => h9.elim) (fun v9 μ15 q9 hs16 => ?_)
    obtain ⟨rfl, h⟩ := q9
    refine fw_tv ?_
    have hg17 := hs16.K hx (by decide)
    refine fw_aload_n dX5_clause_131 rfl rfl ?_
    refine fw_getfI fl_X5_248 rfl hg17 dX5_clause_132 ?_
    refine fw_iconst (v := 2) dX5_clause_135 (by decide) ?_
    refine fw_icmp_gt (tgt := 174) dX5_clause_136 (by decide) (fun c18 => ?_) (fun c18 => ?_)
    · have h := fw_it h c18
      refine fw_aload_n dX5_clause_174 rfl rfl ?_
      refine fw_getfP fl_X5_66 rfl hg17 dX5_clause_175 ?_
      refine fw_aload_n dX5_clause_178 rfl rfl ?_
      refine fw_getfI fl_X5_274 rfl hg17 dX5_clause_179 ?_
      refine fw_aload_n dX5_clause_182 rfl rfl ?_
      refine fw_getfI fl_X5_248 rfl hg17 dX5_clause_183 ?_
      refine fw_bipush (v := 6) dX5_clause_186 (by decide) ?_
      refine fw_icmp_ne (tgt := 201) dX5_clause_188 (by decide) (fun c19 => ?_) (fun c19 => ?_)
      · have h := fw_if h c19
        refine fw_aload_n dX5_clause_201 rfl rfl ?_
        refine fw_iconst (v := 0) dX5_clause_202 (by decide) ?_
        refine fw_aload_n dX5_clause_203 rfl rfl ?_
        refine fw_getfI fl_X5_248 rfl hg17 dX5_clause_204 ?_
        refine fw_iconst (v := 5) dX5_clause_207 (by decide) ?_
        refine fw_icmp_ne (tgt := 215) dX5_clause_208 (by decide) (fun c20 => ?_) (fun c20 => ?_)
        · have h := fw_if h c20
          refine fw_bipush (v := 8) dX5_clause_215 (by decide) ?_
          exact w_X5_clause_L217 hf hg17 h
        · have h := fw_it h c20
          refine fw_iconst (v := 1) dX5_clause_211 (by decide) ?_
          refine fw_goto (tgt := 217) dX5_clause_212 (by decide) ?_
          exact w_X5_clause_L217 hf hg17 h
      · have h := fw_it h c19
        refine fw_aload_n dX5_clause_191 rfl rfl ?_
        refine fw_iconst (v := 1) dX5_clause_192 (by decide) ?_
        refine fw_bipush (v := 40) dX5_clause_193 (by decide) ?_
        refine fw_callV2z (f1 := f - 1) cl_X5_280 rfl hg17 (by decide) (by omega) (fw_s4 (Nat.le_of_ble_eq_true rfl)) dX5_clause_195 (w_X5_number (f := f - 1) (by omega) hg17 h) (fun _ _ h9 _ _ => h9.elim) (fun v9 μ22 q9 hs23 => ?_)
        obtain ⟨v21, rfl, h⟩ := q9
        refine fw_ti ?_
        have hg24 := hs23.K hg17 (by decide)
        refine fw_goto (tgt := 220) dX5_clause_198 (by decide) ?_
        exact w_X5_clause_L220 hf hg24 h
    · have h := fw_if h c18
      refine fw_aload_n dX5_clause_139 rfl rfl ?_
      refine fw_aload_n dX5_clause_140 rfl rfl ?_
      refine fw_getfI fl_X5_248 rfl hg17 dX5_clause_141 ?_
      refine fw_iconst (v := 2) dX5_clause_144 (by decide) ?_
      refine fw_icmp_ne (tgt := 152) dX5_clause_145 (by decide) (fun c25 => ?_) (fun c25 => ?_)
      · have h := fw_if h c25
        refine fw_iconst (v := 1) dX5_clause_152 (by decide) ?_
        exact w_X5_clause_L153 hf hg17 h
      · have h := fw_it h c25
        refine fw_iconst (v := 2) dX5_clause_148 (by decide) ?_
        refine fw_goto (tgt := 153) dX5_clause_149 (by decide) ?_
        exact w_X5_clause_L153 hf hg17 h
  · have h := fw_if h c1
    exact fw_return dX5_clause_80 rfl ⟨rfl, h⟩
def p_X5_clause_L58 (r0 : Nat) (μ : fw_M) (Q : fw_M → Prop) : Prop :=
  (if (m_I μ r0 28) = (24 : Int32) then
  ((p_X5_errs r0 (6 : Int32) μ (fun μ3 =>
   p_X5_clause_L73 r0 μ3 Q)))
  else
  (p_X5_clause_L73 r0 μ Q))
set_option maxHeartbeats 4000000 in
theorem w_X5_clause_L58 {g : fw_G} {f bc bs : Nat} {r0 : Nat} {μ : fw_M} {Q : fw_M → Prop} (hf : 5 ≤ f) (hx : m_K μ r0 = 6) (h : p_X5_clause_L58 r0 μ Q) : fw_V g K_X5_clause f bc bs 58 [(0, fw_rv g r0)] [] μ (fw_Qv Q) fw_nX := by
  unfold p_X5_clause_L58 at h
  refine fw_aload_n dX5_clause_58 rfl rfl ?_
  refine fw_getfI fl_X5_274 rfl hx dX5_clause_59 ?_
  refine fw_bipush (v := 24) dX5_clause_62 (by decide) ?_
  refine fw_icmp_ne (tgt := 73) dX5_clause_64 (by decide) (fun c1 => ?_) (fun c1 => ?_)
  · have h := fw_if h c1
    exact w_X5_clause_L73 hf hx h
  · have h := fw_it h c1
    refine fw_aload_n dX5_clause_67 rfl rfl ?_
    refine fw_bipush (v := 6) dX5_clause_68 (by decide) ?_
    refine fw_callV1z (f1 := f - 1) cl_X5_213 rfl hx (by decide) (by omega) (fw_s4 (Nat.le_of_ble_eq_true rfl)) dX5_clause_70 (w_X5_errs (f := f - 1) (by omega) hx h) (fun _ _ h9 _ _ => h9.elim) (fun v9 μ3 q9 hs4 => ?_)
    obtain ⟨rfl, h⟩ := q9
    refine fw_tv ?_
    have hg5 := hs4.K hx (by decide)
    exact w_X5_clause_L73 hf hg5 h
def p_X5_clause (r0 : Nat) (μ : fw_M) (Q : fw_M → Prop) : Prop :=
  (if (m_I μ r0 16) = (1 : Int32) then
  ((if (m_I μ r0 17) ≤ (6 : Int32) then
   ((∀ μ3, μ3 = m_uI μ r0 29 (m_I μ r0 17) →
    (if (2 : Int32) < (m_I μ3 r0 29) then
    (p_X5_clause_L58 r0 μ3 Q)
    else
    ((p_X5_wasTold r0 (m_I μ3 r0 29) μ3 (fun v5 μ6 =>
     (if v5 = 0 then
     (p_X5_clause_L58 r0 μ6 Q)
     else
     ((p_X5_errs r0 (4 : Int32) μ6 (fun μ11 =>
      p_X5_clause_L73 r0 μ11 Q))))))))))
   else
   (p_X5_clause_L17 r0 μ Q)))
  else
  (p_X5_clause_L17 r0 μ Q))
set_option maxHeartbeats 4000000 in
theorem w_X5_clause {g : fw_G} {f bc bs : Nat} {r0 : Nat} {μ : fw_M} {Q : fw_M → Prop} (hf : 5 ≤ f) (hx : m_K μ r0 = 6) (h : p_X5_clause r0 μ Q) : fw_C g f bc bs yX5_clause (ws_ yX5_clause cX5_clause 1 (none)) [fw_rv g r0] μ (fw_Qv Q) fw_nX := by
  unfold p_X5_clause at h
  refine fw_intro' (Ls := [(0, fw_rv g r0)]) (by decide +kernel) (by simp [lg_sl, fw_cat, fw_ci, fw_clo]) (by simp [lv_args, fw_cat, fw_ci, fw_clo]) ?_
  show fw_V g K_X5_clause f bc bs 0 [(0, fw_rv g r0)] [] μ (fw_Qv Q) fw_nX
  refine fw_aload_n dX5_clause_0 rfl rfl ?_
  refine fw_getfI fl_X5_182 rfl hx dX5_clause_1 ?_
  refine fw_iconst (v := 1) dX5_clause_4 (by decide) ?_
  refine fw_icmp_ne (tgt := 17) dX5_clause_5 (by decide) (fun c1 => ?_) (fun c1 => ?_)
  · have h := fw_if h c1
    exact w_X5_clause_L17 hf hx h
  · have h := fw_it h c1
    refine fw_aload_n dX5_clause_8 rfl rfl ?_
    refine fw_getfI fl_X5_194 rfl hx dX5_clause_9 ?_
    refine fw_bipush (v := 6) dX5_clause_12 (by decide) ?_
    refine fw_icmp_le (tgt := 23) dX5_clause_14 (by decide) (fun c2 => ?_) (fun c2 => ?_)
    · have h := fw_it h c2
      refine fw_aload_n dX5_clause_23 rfl rfl ?_
      refine fw_aload_n dX5_clause_24 rfl rfl ?_
      refine fw_getfI fl_X5_194 rfl hx dX5_clause_25 ?_
      refine fw_putfI fl_X5_248 (fun q hq => Or.inl (by cases hq; rfl)) rfl hx dX5_clause_28 ?_
      have h := h _ rfl
      refine fw_aload_n dX5_clause_31 rfl rfl ?_
      refine fw_getfI fl_X5_248 rfl hx dX5_clause_32 ?_
      refine fw_iconst (v := 2) dX5_clause_35 (by decide) ?_
      refine fw_icmp_gt (tgt := 58) dX5_clause_36 (by decide) (fun c4 => ?_) (fun c4 => ?_)
      · have h := fw_it h c4
        exact w_X5_clause_L58 hf hx h
      · have h := fw_if h c4
        refine fw_aload_n dX5_clause_39 rfl rfl ?_
        refine fw_aload_n dX5_clause_40 rfl rfl ?_
        refine fw_getfI fl_X5_248 rfl hx dX5_clause_41 ?_
        refine fw_callV1z (f1 := f - 1) cl_X5_277 rfl hx (by decide) (by omega) (fw_s4 (Nat.le_of_ble_eq_true rfl)) dX5_clause_44 (w_X5_wasTold (f := f - 1) (by omega) hx h) (fun _ _ h9 _ _ => h9.elim) (fun v9 μ6 q9 hs7 => ?_)
        obtain ⟨v5, rfl, h⟩ := q9
        refine fw_ti ?_
        have hg8 := hs7.K hx (by decide)
        refine fw_if_eq (tgt := 58) dX5_clause_47 (by decide) (fun c9 => ?_) (fun c9 => ?_)
        · have h := fw_it h c9
          exact w_X5_clause_L58 hf hg8 h
        · have h := fw_if h c9
          refine fw_aload_n dX5_clause_50 rfl rfl ?_
          refine fw_iconst (v := 4) dX5_clause_51 (by decide) ?_
          refine fw_callV1z (f1 := f - 1) cl_X5_213 rfl hg8 (by decide) (by omega) (fw_s4 (Nat.le_of_ble_eq_true rfl)) dX5_clause_52 (w_X5_errs (f := f - 1) (by omega) hg8 h) (fun _ _ h9 _ _ => h9.elim) (fun v9 μ11 q9 hs12 => ?_)
          obtain ⟨rfl, h⟩ := q9
          refine fw_tv ?_
          have hg13 := hs12.K hg8 (by decide)
          refine fw_goto (tgt := 73) dX5_clause_55 (by decide) ?_
          exact w_X5_clause_L73 hf hg13 h
    · have h := fw_if h c2
      exact w_X5_clause_L17 hf hx h
abbrev K_X5_askIsOver : fw_Kt := (RX5, "askIsOver", cX5_askIsOver, 1, none, [])
def p_X5_askIsOver_L0b (r0 : Nat) (k0 : fw_M → Prop) (μ : fw_M) (Q : fw_M → Prop) : Prop :=
  (p_X5_top r0 μ (fun v1 μ2 =>
  (if v1 = (3 : Int32) then
  ((∀ μ7, μ7 = m_uI μ2 r0 21 ((m_I μ2 r0 21) - (1 : Int32)) →
   (∀ μ8, μ8 = m_uI μ7 r0 20 ((m_I μ7 r0 20) - (1 : Int32)) →
   (p_X5_emits r0 (405 : Int32) (0 : Int32) μ8 (fun μ10 =>
   k0 μ10)))))
  else
  ((∀ μ6, μ6 = m_uI μ2 r0 27 (3 : Int32) →
   Q μ6)))))
def p_X5_askIsOver_L0 (r0 : Nat) (μ : fw_M) (Q : fw_M → Prop) : Prop := fw_lp (fun (k : fw_M → Prop) (a : fw_M) => p_X5_askIsOver_L0b r0 (fun μ => k μ) a Q) μ
theorem r_X5_askIsOver_L0 {r0 : Nat} {Q : fw_M → Prop} (I : fw_M → Prop) (v : fw_M → Nat) (hs : ∀ (k : fw_M → Prop) (μ : fw_M), I μ → (∀ (ν : fw_M), I ν → v ν < v μ → k ν) → p_X5_askIsOver_L0b r0 k μ Q) (μ : fw_M) (h : I μ) : p_X5_askIsOver_L0 r0 μ Q :=
  fw_lp_in (A := fw_M) (fun a => I a) (fun a => v a) (fun k a ha hk => hs (fun μ => k μ) a ha (fun ν hb hlt => hk ν hb hlt)) μ h
set_option maxHeartbeats 4000000 in
theorem w_X5_askIsOver_L0b {g : fw_G} {f bc bs : Nat} {r0 : Nat} {k0 : fw_M → Prop} {μ : fw_M} {Q : fw_M → Prop} (hf : 2 ≤ f) (hk0 : ∀ {μ : fw_M}, m_K μ r0 = 6 → k0 μ → fw_V g K_X5_askIsOver f bc bs 0 [(0, fw_rv g r0)] [] μ (fw_Qv Q) fw_nX) (hx : m_K μ r0 = 6) (h : p_X5_askIsOver_L0b r0 k0 μ Q) : fw_V g K_X5_askIsOver f bc bs 0 [(0, fw_rv g r0)] [] μ (fw_Qv Q) fw_nX := by
  unfold p_X5_askIsOver_L0b at h
  refine fw_aload_n dX5_askIsOver_0 rfl rfl ?_
  refine fw_callV0z (f1 := f - 1) cl_X5_258 rfl hx (by decide) (by omega) (fw_s4 (Nat.le_of_ble_eq_true rfl)) dX5_askIsOver_1 (w_X5_top (f := f - 1) (by omega) hx h) (fun _ _ h9 _ _ => h9.elim) (fun v9 μ2 q9 hs3 => ?_)
  obtain ⟨v1, rfl, h⟩ := q9
  refine fw_ti ?_
  have hg4 := hs3.K hx (by decide)
  refine fw_iconst (v := 3) dX5_askIsOver_4 (by decide) ?_
  refine fw_icmp_ne (tgt := 39) dX5_askIsOver_5 (by decide) (fun c5 => ?_) (fun c5 => ?_)
  · have h := fw_if h c5
    refine fw_aload_n dX5_askIsOver_39 rfl rfl ?_
    refine fw_iconst (v := 3) dX5_askIsOver_40 (by decide) ?_
    refine fw_putfI fl_X5_242 (fun q hq => Or.inl (by cases hq; rfl)) rfl hg4 dX5_askIsOver_41 ?_
    have h := h _ rfl
    exact fw_return dX5_askIsOver_44 rfl ⟨rfl, h⟩
  · have h := fw_it h c5
    refine fw_aload_n dX5_askIsOver_8 rfl rfl ?_
    refine fw_dup dX5_askIsOver_9 (fw_cat _) ?_
    refine fw_getfI fl_X5_207 rfl hg4 dX5_askIsOver_10 ?_
    refine fw_iconst (v := 1) dX5_askIsOver_13 (by decide) ?_
    refine fw_isub dX5_askIsOver_14 ?_
    refine fw_putfI fl_X5_207 (fun q hq => Or.inl (by cases hq; rfl)) rfl hg4 dX5_askIsOver_15 ?_
    have h := h _ rfl
    refine fw_aload_n dX5_askIsOver_18 rfl rfl ?_
    refine fw_dup dX5_askIsOver_19 (fw_cat _) ?_
    refine fw_getfI fl_X5_210 rfl hg4 dX5_askIsOver_20 ?_
    refine fw_iconst (v := 1) dX5_askIsOver_23 (by decide) ?_
    refine fw_isub dX5_askIsOver_24 ?_
    refine fw_putfI fl_X5_210 (fun q hq => Or.inl (by cases hq; rfl)) rfl hg4 dX5_askIsOver_25 ?_
    have h := h _ rfl
    refine fw_aload_n dX5_askIsOver_28 rfl rfl ?_
    refine fw_sipush (v := 405) dX5_askIsOver_29 (by decide) ?_
    refine fw_iconst (v := 0) dX5_askIsOver_32 (by decide) ?_
    refine fw_callV2z (f1 := f - 1) cl_X5_229 rfl hg4 (by decide) (by omega) (fw_s4 (Nat.le_of_ble_eq_true rfl)) dX5_askIsOver_33 (w_X5_emits (f := f - 1) (by omega) hg4 h) (fun _ _ h9 _ _ => h9.elim) (fun v9 μ10 q9 hs11 => ?_)
    obtain ⟨rfl, h⟩ := q9
    refine fw_tv ?_
    have hg12 := hs11.K hg4 (by decide)
    refine fw_goto (tgt := 0) dX5_askIsOver_36 (by decide) ?_
    exact hk0 hg12 h
theorem w_X5_askIsOver_L0 {g : fw_G} {f bc bs : Nat} {r0 : Nat} {μ : fw_M} {Q : fw_M → Prop} (hf : 2 ≤ f) (hx : m_K μ r0 = 6) (h : p_X5_askIsOver_L0 r0 μ Q) : fw_V g K_X5_askIsOver f bc bs 0 [(0, fw_rv g r0)] [] μ (fw_Qv Q) fw_nX := by
  have key := fw_lp_out (R := fun (a : fw_M) => m_K a r0 = 6 → fw_V g K_X5_askIsOver f bc bs 0 [(0, fw_rv g r0)] [] a (fw_Qv Q) fw_nX) (fun k hk9 a ha hx2 => w_X5_askIsOver_L0b hf (fun {μ} hx3 h3 => hk9 μ h3 hx3) hx2 ha) h
  exact key hx
def p_X5_askIsOver (r0 : Nat) (μ : fw_M) (Q : fw_M → Prop) : Prop :=
  p_X5_askIsOver_L0 r0 μ Q
set_option maxHeartbeats 4000000 in
theorem w_X5_askIsOver {g : fw_G} {f bc bs : Nat} {r0 : Nat} {μ : fw_M} {Q : fw_M → Prop} (hf : 2 ≤ f) (hx : m_K μ r0 = 6) (h : p_X5_askIsOver r0 μ Q) : fw_C g f bc bs yX5_askIsOver (ws_ yX5_askIsOver cX5_askIsOver 1 (none)) [fw_rv g r0] μ (fw_Qv Q) fw_nX := by
  unfold p_X5_askIsOver at h
  refine fw_intro' (Ls := [(0, fw_rv g r0)]) (by decide +kernel) (by simp [lg_sl, fw_cat, fw_ci, fw_clo]) (by simp [lv_args, fw_cat, fw_ci, fw_clo]) ?_
  show fw_V g K_X5_askIsOver f bc bs 0 [(0, fw_rv g r0)] [] μ (fw_Qv Q) fw_nX
  exact w_X5_askIsOver_L0 hf hx h
abbrev K_X5_isAsking : fw_Kt := (RX5, "isAsking", cX5_isAsking, 1, some .boolean, [])
def p_X5_isAsking_L38 (μ : fw_M) (Q : Int32 → fw_M → Prop) : Prop :=
  Q (1 : Int32) μ
set_option maxHeartbeats 4000000 in
theorem w_X5_isAsking_L38 {g : fw_G} {f bc bs : Nat} {μ : fw_M} {Q : Int32 → fw_M → Prop} (hf : 1 ≤ f) (h : p_X5_isAsking_L38 μ Q) : fw_V g K_X5_isAsking f bc bs 38 [] [] μ (fw_Qi Q) fw_nX := by
  unfold p_X5_isAsking_L38 at h
  refine fw_iconst (v := 1) dX5_isAsking_38 (by decide) ?_
  refine fw_goto (tgt := 43) dX5_isAsking_39 (by decide) ?_
  exact fw_ireturn dX5_isAsking_43 rfl (by decide +kernel) ⟨_, rfl, h⟩
def p_X5_isAsking (i0 : Int32) (μ : fw_M) (Q : Int32 → fw_M → Prop) : Prop :=
  (if i0 = (60 : Int32) then
  (p_X5_isAsking_L38 μ Q)
  else
  ((if i0 = (62 : Int32) then
   (p_X5_isAsking_L38 μ Q)
   else
   ((if i0 = (61 : Int32) then
    (p_X5_isAsking_L38 μ Q)
    else
    ((if i0 = (35 : Int32) then
     (p_X5_isAsking_L38 μ Q)
     else
     ((if i0 = (300 : Int32) then
      (p_X5_isAsking_L38 μ Q)
      else
      ((if i0 = (301 : Int32) then
       (p_X5_isAsking_L38 μ Q)
       else
       (Q (0 : Int32) μ))))))))))))
set_option maxHeartbeats 4000000 in
theorem w_X5_isAsking {g : fw_G} {f bc bs : Nat} {i0 : Int32} {μ : fw_M} {Q : Int32 → fw_M → Prop} (hf : 1 ≤ f) (h : p_X5_isAsking i0 μ Q) : fw_C g f bc bs yX5_isAsking (ws_ yX5_isAsking cX5_isAsking 1 (some .boolean)) [Value.int i0] μ (fw_Qi Q) fw_nX := by
  unfold p_X5_isAsking at h
  refine fw_intro' (Ls := [(0, Value.int i0)]) (by decide +kernel) (by simp [lg_sl, fw_cat, fw_ci, fw_clo]) (by simp [lv_args, fw_cat, fw_ci, fw_clo]) ?_
  show fw_V g K_X5_isAsking f bc bs 0 [(0, Value.int i0)] [] μ (fw_Qi Q) fw_nX
  refine fw_iload_n dX5_isAsking_0 rfl rfl ?_
  refine fw_bipush (v := 60) dX5_isAsking_1 (by decide) ?_
  refine fw_icmp_eq (tgt := 38) dX5_isAsking_3 (by decide) (fun c1 => ?_) (fun c1 => ?_)
  · have h := fw_it h c1
    refine fw_ls [] rfl ?_
    exact w_X5_isAsking_L38 hf h
  · have h := fw_if h c1
    refine fw_iload_n dX5_isAsking_6 rfl rfl ?_
    refine fw_bipush (v := 62) dX5_isAsking_7 (by decide) ?_
    refine fw_icmp_eq (tgt := 38) dX5_isAsking_9 (by decide) (fun c2 => ?_) (fun c2 => ?_)
    · have h := fw_it h c2
      refine fw_ls [] rfl ?_
      exact w_X5_isAsking_L38 hf h
    · have h := fw_if h c2
      refine fw_iload_n dX5_isAsking_12 rfl rfl ?_
      refine fw_bipush (v := 61) dX5_isAsking_13 (by decide) ?_
      refine fw_icmp_eq (tgt := 38) dX5_isAsking_15 (by decide) (fun c3 => ?_) (fun c3 => ?_)
      · have h := fw_it h c3
        refine fw_ls [] rfl ?_
        exact w_X5_isAsking_L38 hf h
      · have h := fw_if h c3
        refine fw_iload_n dX5_isAsking_18 rfl rfl ?_
        refine fw_bipush (v := 35) dX5_isAsking_19 (by decide) ?_
        refine fw_icmp_eq (tgt := 38) dX5_isAsking_21 (by decide) (fun c4 => ?_) (fun c4 => ?_)
        · have h := fw_it h c4
          refine fw_ls [] rfl ?_
          exact w_X5_isAsking_L38 hf h
        · have h := fw_if h c4
          refine fw_iload_n dX5_isAsking_24 rfl rfl ?_
          refine fw_sipush (v := 300) dX5_isAsking_25 (by decide) ?_
          refine fw_icmp_eq (tgt := 38) dX5_isAsking_28 (by decide) (fun c5 => ?_) (fun c5 => ?_)
          · have h := fw_it h c5
            refine fw_ls [] rfl ?_
            exact w_X5_isAsking_L38 hf h
          · have h := fw_if h c5
            refine fw_iload_n dX5_isAsking_31 rfl rfl ?_
            refine fw_sipush (v := 301) dX5_isAsking_32 (by decide) ?_
            refine fw_icmp_ne (tgt := 42) dX5_isAsking_35 (by decide) (fun c6 => ?_) (fun c6 => ?_)
            · have h := fw_if h c6
              refine fw_iconst (v := 0) dX5_isAsking_42 (by decide) ?_
              exact fw_ireturn dX5_isAsking_43 rfl (by decide +kernel) ⟨_, rfl, h⟩
            · have h := fw_it h c6
              refine fw_ls [] rfl ?_
              exact w_X5_isAsking_L38 hf h
abbrev K_X5_goesOn : fw_Kt := (RX5, "goesOn", cX5_goesOn, 3, none, [])
def p_X5_goesOn_L245 (r0 : Nat) (μ : fw_M) (Q : fw_M → Prop) : Prop :=
  (p_X5_errs r0 (1 : Int32) μ (fun μ2 =>
  Q μ2))
set_option maxHeartbeats 4000000 in
theorem w_X5_goesOn_L245 {g : fw_G} {f bc bs : Nat} {r0 : Nat} {μ : fw_M} {Q : fw_M → Prop} (hf : 5 ≤ f) (hx : m_K μ r0 = 6) (h : p_X5_goesOn_L245 r0 μ Q) : fw_V g K_X5_goesOn f bc bs 245 [(0, fw_rv g r0)] [] μ (fw_Qv Q) fw_nX := by
  unfold p_X5_goesOn_L245 at h
  refine fw_aload_n dX5_goesOn_245 rfl rfl ?_
  refine fw_iconst (v := 1) dX5_goesOn_246 (by decide) ?_
  refine fw_callV1z (f1 := f - 1) cl_X5_213 rfl hx (by decide) (by omega) (fw_s4 (Nat.le_of_ble_eq_true rfl)) dX5_goesOn_247 (w_X5_errs (f := f - 1) (by omega) hx h) (fun _ _ h9 _ _ => h9.elim) (fun v9 μ2 q9 hs3 => ?_)
  obtain ⟨rfl, h⟩ := q9
  refine fw_tv ?_
  have hg4 := hs3.K hx (by decide)
  exact fw_return dX5_goesOn_250 rfl ⟨rfl, h⟩
def p_X5_goesOn_L181 (r0 : Nat) (i1 : Int32) (μ : fw_M) (Q : fw_M → Prop) : Prop :=
  (if i1 = (5 : Int32) then
  ((p_X5_works r0 (3 : Int32) μ (fun μ13 =>
   (m_K μ13 (m_P μ13 r0 23) = 100 ∧ (vp_in (m_I μ13 r0 21) (m_N μ13 (m_P μ13 r0 23)) ∧ (∀ i2_18 : Int32, i2_18 = (m_I μ13 (m_P μ13 r0 23) (m_I μ13 r0 21).toNatClampNeg) →
   (∀ μ20, μ20 = m_uI μ13 r0 21 ((m_I μ13 r0 21) - (1 : Int32)) →
   (p_X5_emits r0 i2_18 (0 : Int32) μ20 (fun μ22 =>
   (p_X5_askIsOver r0 μ22 (fun μ26 =>
   Q μ26)))))))))))
  else
  ((if i1 = (1 : Int32) then
   ((p_X5_isSign r0 (59 : Int32) μ (fun v3 μ4 =>
    (if v3 = 0 then
    (p_X5_goesOn_L245 r0 μ4 Q)
    else
    ((p_X5_clauseIsOver r0 μ4 (fun μ9 =>
     Q μ9)))))))
   else
   (p_X5_goesOn_L245 r0 μ Q))))
set_option maxHeartbeats 4000000 in
theorem w_X5_goesOn_L181 {g : fw_G} {f bc bs : Nat} {r0 : Nat} {i1 : Int32} {μ : fw_M} {Q : fw_M → Prop} (hf : 5 ≤ f) (hx : m_K μ r0 = 6) (h : p_X5_goesOn_L181 r0 i1 μ Q) : fw_V g K_X5_goesOn f bc bs 181 [(0, fw_rv g r0), (1, Value.int i1)] [] μ (fw_Qv Q) fw_nX := by
  unfold p_X5_goesOn_L181 at h
  refine fw_iload_n dX5_goesOn_181 rfl rfl ?_
  refine fw_iconst (v := 5) dX5_goesOn_182 (by decide) ?_
  refine fw_icmp_ne (tgt := 224) dX5_goesOn_183 (by decide) (fun c1 => ?_) (fun c1 => ?_)
  · have h := fw_if h c1
    refine fw_iload_n dX5_goesOn_224 rfl rfl ?_
    refine fw_iconst (v := 1) dX5_goesOn_225 (by decide) ?_
    refine fw_icmp_ne (tgt := 245) dX5_goesOn_226 (by decide) (fun c2 => ?_) (fun c2 => ?_)
    · have h := fw_if h c2
      refine fw_ls [0] rfl ?_
      exact w_X5_goesOn_L245 hf hx h
    · have h := fw_it h c2
      refine fw_aload_n dX5_goesOn_229 rfl rfl ?_
      refine fw_bipush (v := 59) dX5_goesOn_230 (by decide) ?_
      refine fw_callV1z (f1 := f - 1) cl_X5_255 rfl hx (by decide) (by omega) (fw_s4 (Nat.le_of_ble_eq_true rfl)) dX5_goesOn_232 (w_X5_isSign (f := f - 1) (by omega) hx h) (fun _ _ h9 _ _ => h9.elim) (fun v9 μ4 q9 hs5 => ?_)
      obtain ⟨v3, rfl, h⟩ := q9
      refine fw_ti ?_
      have hg6 := hs5.K hx (by decide)
      refine fw_if_eq (tgt := 245) dX5_goesOn_235 (by decide) (fun c7 => ?_) (fun c7 => ?_)
      · have h := fw_it h c7
        refine fw_ls [0] rfl ?_
        exact w_X5_goesOn_L245 hf hg6 h
      · have h := fw_if h c7
        refine fw_aload_n dX5_goesOn_238 rfl rfl ?_
        refine fw_callV0z (f1 := f - 1) cl_X5_271 rfl hg6 (by decide) (by omega) (fw_s4 (Nat.le_of_ble_eq_true rfl)) dX5_goesOn_239 (w_X5_clauseIsOver (f := f - 1) (by omega) hg6 h) (fun _ _ h9 _ _ => h9.elim) (fun v9 μ9 q9 hs10 => ?_)
        obtain ⟨rfl, h⟩ := q9
        refine fw_tv ?_
        have hg11 := hs10.K hg6 (by decide)
        refine fw_goto (tgt := 250) dX5_goesOn_242 (by decide) ?_
        exact fw_return dX5_goesOn_250 rfl ⟨rfl, h⟩
  · have h := fw_it h c1
    refine fw_aload_n dX5_goesOn_186 rfl rfl ?_
    refine fw_iconst (v := 3) dX5_goesOn_187 (by decide) ?_
    refine fw_callV1z (f1 := f - 1) cl_X5_233 rfl hx (by decide) (by omega) (fw_s4 (Nat.le_of_ble_eq_true rfl)) dX5_goesOn_188 (w_X5_works (f := f - 1) (by omega) hx h) (fun _ _ h9 _ _ => h9.elim) (fun v9 μ13 q9 hs14 => ?_)
    obtain ⟨rfl, h⟩ := q9
    refine fw_tv ?_
    have hg15 := hs14.K hx (by decide)
    refine fw_aload_n dX5_goesOn_191 rfl rfl ?_
    refine fw_getfP fl_X5_51 rfl hg15 dX5_goesOn_192 ?_
    refine fw_aload_n dX5_goesOn_195 rfl rfl ?_
    refine fw_getfI fl_X5_207 rfl hg15 dX5_goesOn_196 ?_
    obtain ⟨hg16, h⟩ := h
    obtain ⟨hc17, h⟩ := h
    refine fw_iald hg16 hc17 dX5_goesOn_199 ?_
    refine fw_topi (fun i2_18 e19 => ?_)
    have h := h i2_18 e19
    refine fw_istore_nN (Ls' := [(2, Value.int i2_18), (1, Value.int i1), (0, fw_rv g r0)]) [0] dX5_goesOn_200 rfl (by decide) rfl rfl rfl rfl rfl ?_
    refine fw_aload_n dX5_goesOn_201 rfl rfl ?_
    refine fw_dup dX5_goesOn_202 (fw_cat _) ?_
    refine fw_getfI fl_X5_207 rfl hg15 dX5_goesOn_203 ?_
    refine fw_iconst (v := 1) dX5_goesOn_206 (by decide) ?_
    refine fw_isub dX5_goesOn_207 ?_
    refine fw_putfI fl_X5_207 (fun q hq => Or.inl (by cases hq; rfl)) rfl hg15 dX5_goesOn_208 ?_
    have h := h _ rfl
    refine fw_aload_n dX5_goesOn_211 rfl rfl ?_
    refine fw_iload_n dX5_goesOn_212 rfl rfl ?_
    refine fw_iconst (v := 0) dX5_goesOn_213 (by decide) ?_
    refine fw_callV2z (f1 := f - 1) cl_X5_229 rfl hg15 (by decide) (by omega) (fw_s4 (Nat.le_of_ble_eq_true rfl)) dX5_goesOn_214 (w_X5_emits (f := f - 1) (by omega) hg15 h) (fun _ _ h9 _ _ => h9.elim) (fun v9 μ22 q9 hs23 => ?_)
    obtain ⟨rfl, h⟩ := q9
    refine fw_tv ?_
    have hg24 := hs23.K hg15 (by decide)
    refine fw_aload_n dX5_goesOn_217 rfl rfl ?_
    refine fw_callV0z (f1 := f - 1) cl_X5_268 rfl hg24 (by decide) (by omega) (fw_s4 (Nat.le_of_ble_eq_true rfl)) dX5_goesOn_218 (w_X5_askIsOver (f := f - 1) (by omega) hg24 h) (fun _ _ h9 _ _ => h9.elim) (fun v9 μ26 q9 hs27 => ?_)
    obtain ⟨rfl, h⟩ := q9
    refine fw_tv ?_
    have hg28 := hs27.K hg24 (by decide)
    refine fw_goto (tgt := 250) dX5_goesOn_221 (by decide) ?_
    exact fw_return dX5_goesOn_250 rfl ⟨rfl, h⟩
def p_X5_goesOn_L116 (r0 : Nat) (i1 : Int32) (μ : fw_M) (Q : fw_M → Prop) : Prop :=
  (if i1 = (4 : Int32) then
  ((if (m_I μ r0 16) = (3 : Int32) then
   ((p_X5_isAsking (m_I μ r0 17) μ (fun v3 μ4 =>
    (if v3 = 0 then
    (p_X5_goesOn_L181 r0 i1 μ4 Q)
    else
    ((p_X5_works r0 (3 : Int32) μ4 (fun μ9 =>
     (m_K μ9 (m_P μ9 r0 23) = 100 ∧ (vp_in (m_I μ9 r0 21) (m_N μ9 (m_P μ9 r0 23)) ∧ (∀ μ14, μ14 = m_uI μ9 (m_P μ9 r0 23) (m_I μ9 r0 21).toNatClampNeg (m_I μ9 r0 17) →
     (m_K μ14 (m_P μ14 r0 22) = 100 ∧ (vp_in ((m_I μ14 r0 21) - (1 : Int32)) (m_N μ14 (m_P μ14 r0 22)) ∧ (∀ μ17, μ17 = m_uI μ14 (m_P μ14 r0 22) ((m_I μ14 r0 21) - (1 : Int32)).toNatClampNeg (5 : Int32) →
     (p_X5_nextToken r0 μ17 (fun μ19 =>
     (∀ μ22, μ22 = m_uI μ19 r0 27 (1 : Int32) →
     Q μ22))))))))))))))))
   else
   (p_X5_goesOn_L181 r0 i1 μ Q)))
  else
  (p_X5_goesOn_L181 r0 i1 μ Q))
set_option maxHeartbeats 4000000 in
theorem w_X5_goesOn_L116 {g : fw_G} {f bc bs : Nat} {r0 : Nat} {i1 : Int32} {μ : fw_M} {Q : fw_M → Prop} (hf : 5 ≤ f) (hx : m_K μ r0 = 6) (h : p_X5_goesOn_L116 r0 i1 μ Q) : fw_V g K_X5_goesOn f bc bs 116 [(0, fw_rv g r0), (1, Value.int i1)] [] μ (fw_Qv Q) fw_nX := by
  unfold p_X5_goesOn_L116 at h
  refine fw_iload_n dX5_goesOn_116 rfl rfl ?_
  refine fw_iconst (v := 4) dX5_goesOn_117 (by decide) ?_
  refine fw_icmp_ne (tgt := 181) dX5_goesOn_118 (by decide) (fun c1 => ?_) (fun c1 => ?_)
  · have h := fw_if h c1
    exact w_X5_goesOn_L181 hf hx h
  · have h := fw_it h c1
    refine fw_aload_n dX5_goesOn_121 rfl rfl ?_
    refine fw_getfI fl_X5_182 rfl hx dX5_goesOn_122 ?_
    refine fw_iconst (v := 3) dX5_goesOn_125 (by decide) ?_
    refine fw_icmp_ne (tgt := 181) dX5_goesOn_126 (by decide) (fun c2 => ?_) (fun c2 => ?_)
    · have h := fw_if h c2
      exact w_X5_goesOn_L181 hf hx h
    · have h := fw_it h c2
      refine fw_aload_n dX5_goesOn_129 rfl rfl ?_
      refine fw_getfI fl_X5_194 rfl hx dX5_goesOn_130 ?_
      refine fw_callS1z (f1 := f - 1) cl_X5_265 (by decide) (by omega) (fw_s4 (Nat.le_of_ble_eq_true rfl)) dX5_goesOn_133 (w_X5_isAsking (f := f - 1) (by omega) h) (fun _ _ h9 _ _ => h9.elim) (fun v9 μ4 q9 hs5 => ?_)
      obtain ⟨v3, rfl, h⟩ := q9
      refine fw_ti ?_
      have hg6 := hs5.K hx (by decide)
      refine fw_if_eq (tgt := 181) dX5_goesOn_136 (by decide) (fun c7 => ?_) (fun c7 => ?_)
      · have h := fw_it h c7
        exact w_X5_goesOn_L181 hf hg6 h
      · have h := fw_if h c7
        refine fw_aload_n dX5_goesOn_139 rfl rfl ?_
        refine fw_iconst (v := 3) dX5_goesOn_140 (by decide) ?_
        refine fw_callV1z (f1 := f - 1) cl_X5_233 rfl hg6 (by decide) (by omega) (fw_s4 (Nat.le_of_ble_eq_true rfl)) dX5_goesOn_141 (w_X5_works (f := f - 1) (by omega) hg6 h) (fun _ _ h9 _ _ => h9.elim) (fun v9 μ9 q9 hs10 => ?_)
        obtain ⟨rfl, h⟩ := q9
        refine fw_tv ?_
        have hg11 := hs10.K hg6 (by decide)
        refine fw_aload_n dX5_goesOn_144 rfl rfl ?_
        refine fw_getfP fl_X5_51 rfl hg11 dX5_goesOn_145 ?_
        refine fw_aload_n dX5_goesOn_148 rfl rfl ?_
        refine fw_getfI fl_X5_207 rfl hg11 dX5_goesOn_149 ?_
        refine fw_aload_n dX5_goesOn_152 rfl rfl ?_
        refine fw_getfI fl_X5_194 rfl hg11 dX5_goesOn_153 ?_
        obtain ⟨hg12, h⟩ := h
        obtain ⟨hc13, h⟩ := h
        refine fw_iast hg12 hc13 dX5_goesOn_156 ?_
        have h := h _ rfl
        refine fw_aload_n dX5_goesOn_157 rfl rfl ?_
        refine fw_getfP fl_X5_48 rfl hg11 dX5_goesOn_158 ?_
        refine fw_aload_n dX5_goesOn_161 rfl rfl ?_
        refine fw_getfI fl_X5_207 rfl hg11 dX5_goesOn_162 ?_
        refine fw_iconst (v := 1) dX5_goesOn_165 (by decide) ?_
        refine fw_isub dX5_goesOn_166 ?_
        refine fw_iconst (v := 5) dX5_goesOn_167 (by decide) ?_
        obtain ⟨hg15, h⟩ := h
        obtain ⟨hc16, h⟩ := h
        refine fw_iast hg15 hc16 dX5_goesOn_168 ?_
        have h := h _ rfl
        refine fw_aload_n dX5_goesOn_169 rfl rfl ?_
        refine fw_callV0z (f1 := f - 1) cl_X5_219 rfl hg11 (by decide) (by omega) (fw_s4 (Nat.le_of_ble_eq_true rfl)) dX5_goesOn_170 (w_X5_nextToken (f := f - 1) (by omega) hg11 h) (fun _ _ h9 _ _ => h9.elim) (fun v9 μ19 q9 hs20 => ?_)
        obtain ⟨rfl, h⟩ := q9
        refine fw_tv ?_
        have hg21 := hs20.K hg11 (by decide)
        refine fw_aload_n dX5_goesOn_173 rfl rfl ?_
        refine fw_iconst (v := 1) dX5_goesOn_174 (by decide) ?_
        refine fw_putfI fl_X5_242 (fun q hq => Or.inl (by cases hq; rfl)) rfl hg21 dX5_goesOn_175 ?_
        have h := h _ rfl
        refine fw_goto (tgt := 250) dX5_goesOn_178 (by decide) ?_
        exact fw_return dX5_goesOn_250 rfl ⟨rfl, h⟩
def p_X5_goesOn_L65 (r0 : Nat) (i1 : Int32) (μ : fw_M) (Q : fw_M → Prop) : Prop :=
  (if i1 = (6 : Int32) then
  ((p_X5_isSign r0 (41 : Int32) μ (fun v2 μ3 =>
   (if v2 = 0 then
   (p_X5_goesOn_L116 r0 i1 μ3 Q)
   else
   ((p_X5_works r0 (3 : Int32) μ3 (fun μ8 =>
    (∀ μ11, μ11 = m_uI μ8 r0 21 ((m_I μ8 r0 21) - (1 : Int32)) →
    (∀ μ12, μ12 = m_uI μ11 r0 20 ((m_I μ11 r0 20) - (1 : Int32)) →
    (p_X5_nextToken r0 μ12 (fun μ14 =>
    (p_X5_oneIsOver r0 μ14 (fun μ18 =>
    Q μ18)))))))))))))
  else
  (p_X5_goesOn_L116 r0 i1 μ Q))
set_option maxHeartbeats 4000000 in
theorem w_X5_goesOn_L65 {g : fw_G} {f bc bs : Nat} {r0 : Nat} {i1 : Int32} {μ : fw_M} {Q : fw_M → Prop} (hf : 5 ≤ f) (hx : m_K μ r0 = 6) (h : p_X5_goesOn_L65 r0 i1 μ Q) : fw_V g K_X5_goesOn f bc bs 65 [(0, fw_rv g r0), (1, Value.int i1)] [] μ (fw_Qv Q) fw_nX := by
  unfold p_X5_goesOn_L65 at h
  refine fw_iload_n dX5_goesOn_65 rfl rfl ?_
  refine fw_bipush (v := 6) dX5_goesOn_66 (by decide) ?_
  refine fw_icmp_ne (tgt := 116) dX5_goesOn_68 (by decide) (fun c1 => ?_) (fun c1 => ?_)
  · have h := fw_if h c1
    exact w_X5_goesOn_L116 hf hx h
  · have h := fw_it h c1
    refine fw_aload_n dX5_goesOn_71 rfl rfl ?_
    refine fw_bipush (v := 41) dX5_goesOn_72 (by decide) ?_
    refine fw_callV1z (f1 := f - 1) cl_X5_255 rfl hx (by decide) (by omega) (fw_s4 (Nat.le_of_ble_eq_true rfl)) dX5_goesOn_74 (w_X5_isSign (f := f - 1) (by omega) hx h) (fun _ _ h9 _ _ => h9.elim) (fun v9 μ3 q9 hs4 => ?_)
    obtain ⟨v2, rfl, h⟩ := q9
    refine fw_ti ?_
    have hg5 := hs4.K hx (by decide)
    refine fw_if_eq (tgt := 116) dX5_goesOn_77 (by decide) (fun c6 => ?_) (fun c6 => ?_)
    · have h := fw_it h c6
      exact w_X5_goesOn_L116 hf hg5 h
    · have h := fw_if h c6
      refine fw_aload_n dX5_goesOn_80 rfl rfl ?_
      refine fw_iconst (v := 3) dX5_goesOn_81 (by decide) ?_
      refine fw_callV1z (f1 := f - 1) cl_X5_233 rfl hg5 (by decide) (by omega) (fw_s4 (Nat.le_of_ble_eq_true rfl)) dX5_goesOn_82 (w_X5_works (f := f - 1) (by omega) hg5 h) (fun _ _ h9 _ _ => h9.elim) (fun v9 μ8 q9 hs9 => ?_)
      obtain ⟨rfl, h⟩ := q9
      refine fw_tv ?_
      have hg10 := hs9.K hg5 (by decide)
      refine fw_aload_n dX5_goesOn_85 rfl rfl ?_
      refine fw_dup dX5_goesOn_86 (fw_cat _) ?_
      refine fw_getfI fl_X5_207 rfl hg10 dX5_goesOn_87 ?_
      refine fw_iconst (v := 1) dX5_goesOn_90 (by decide) ?_
      refine fw_isub dX5_goesOn_91 ?_
      refine fw_putfI fl_X5_207 (fun q hq => Or.inl (by cases hq; rfl)) rfl hg10 dX5_goesOn_92 ?_
      have h := h _ rfl
      refine fw_aload_n dX5_goesOn_95 rfl rfl ?_
      refine fw_dup dX5_goesOn_96 (fw_cat _) ?_
      refine fw_getfI fl_X5_210 rfl hg10 dX5_goesOn_97 ?_
      refine fw_iconst (v := 1) dX5_goesOn_100 (by decide) ?_
      refine fw_isub dX5_goesOn_101 ?_
      refine fw_putfI fl_X5_210 (fun q hq => Or.inl (by cases hq; rfl)) rfl hg10 dX5_goesOn_102 ?_
      have h := h _ rfl
      refine fw_aload_n dX5_goesOn_105 rfl rfl ?_
      refine fw_callV0z (f1 := f - 1) cl_X5_219 rfl hg10 (by decide) (by omega) (fw_s4 (Nat.le_of_ble_eq_true rfl)) dX5_goesOn_106 (w_X5_nextToken (f := f - 1) (by omega) hg10 h) (fun _ _ h9 _ _ => h9.elim) (fun v9 μ14 q9 hs15 => ?_)
      obtain ⟨rfl, h⟩ := q9
      refine fw_tv ?_
      have hg16 := hs15.K hg10 (by decide)
      refine fw_aload_n dX5_goesOn_109 rfl rfl ?_
      refine fw_callV0z (f1 := f - 1) cl_X5_245 rfl hg16 (by decide) (by omega) (fw_s4 (Nat.le_of_ble_eq_true rfl)) dX5_goesOn_110 (w_X5_oneIsOver (f := f - 1) (by omega) hg16 h) (fun _ _ h9 _ _ => h9.elim) (fun v9 μ18 q9 hs19 => ?_)
      obtain ⟨rfl, h⟩ := q9
      refine fw_tv ?_
      have hg20 := hs19.K hg16 (by decide)
      refine fw_goto (tgt := 250) dX5_goesOn_113 (by decide) ?_
      exact fw_return dX5_goesOn_250 rfl ⟨rfl, h⟩
def p_X5_goesOn_L49 (r0 : Nat) (μ : fw_M) (Q : fw_M → Prop) : Prop :=
  (p_X5_waitsFor r0 (m_I μ r0 17) μ (fun μ2 =>
  (∀ μ5, μ5 = m_uI μ2 r0 27 (1 : Int32) →
  Q μ5)))
set_option maxHeartbeats 4000000 in
theorem w_X5_goesOn_L49 {g : fw_G} {f bc bs : Nat} {r0 : Nat} {μ : fw_M} {Q : fw_M → Prop} (hf : 5 ≤ f) (hx : m_K μ r0 = 6) (h : p_X5_goesOn_L49 r0 μ Q) : fw_V g K_X5_goesOn f bc bs 49 [(0, fw_rv g r0)] [] μ (fw_Qv Q) fw_nX := by
  unfold p_X5_goesOn_L49 at h
  refine fw_aload_n dX5_goesOn_49 rfl rfl ?_
  refine fw_aload_n dX5_goesOn_50 rfl rfl ?_
  refine fw_getfI fl_X5_194 rfl hx dX5_goesOn_51 ?_
  refine fw_callV1z (f1 := f - 1) cl_X5_262 rfl hx (by decide) (by omega) (fw_s4 (Nat.le_of_ble_eq_true rfl)) dX5_goesOn_54 (w_X5_waitsFor (f := f - 1) (by omega) hx h) (fun _ _ h9 _ _ => h9.elim) (fun v9 μ2 q9 hs3 => ?_)
  obtain ⟨rfl, h⟩ := q9
  refine fw_tv ?_
  have hg4 := hs3.K hx (by decide)
  refine fw_aload_n dX5_goesOn_57 rfl rfl ?_
  refine fw_iconst (v := 1) dX5_goesOn_58 (by decide) ?_
  refine fw_putfI fl_X5_242 (fun q hq => Or.inl (by cases hq; rfl)) rfl hg4 dX5_goesOn_59 ?_
  have h := h _ rfl
  refine fw_goto (tgt := 250) dX5_goesOn_62 (by decide) ?_
  exact fw_return dX5_goesOn_250 rfl ⟨rfl, h⟩
def p_X5_goesOn (r0 : Nat) (μ : fw_M) (Q : fw_M → Prop) : Prop :=
  (p_X5_top r0 μ (fun v1 μ2 =>
  (if (m_I μ2 r0 16) = (3 : Int32) then
  ((if (m_I μ2 r0 17) = (43 : Int32) then
   (p_X5_goesOn_L49 r0 μ2 Q)
   else
   ((if (m_I μ2 r0 17) = (45 : Int32) then
    (p_X5_goesOn_L49 r0 μ2 Q)
    else
    ((if (m_I μ2 r0 17) = (42 : Int32) then
     (p_X5_goesOn_L49 r0 μ2 Q)
     else
     ((if (m_I μ2 r0 17) = (47 : Int32) then
      (p_X5_goesOn_L49 r0 μ2 Q)
      else
      (p_X5_goesOn_L65 r0 v1 μ2 Q)))))))))
  else
  (p_X5_goesOn_L65 r0 v1 μ2 Q))))
set_option maxHeartbeats 4000000 in
theorem w_X5_goesOn {g : fw_G} {f bc bs : Nat} {r0 : Nat} {μ : fw_M} {Q : fw_M → Prop} (hf : 5 ≤ f) (hx : m_K μ r0 = 6) (h : p_X5_goesOn r0 μ Q) : fw_C g f bc bs yX5_goesOn (ws_ yX5_goesOn cX5_goesOn 3 (none)) [fw_rv g r0] μ (fw_Qv Q) fw_nX := by
  unfold p_X5_goesOn at h
  refine fw_intro' (Ls := [(0, fw_rv g r0)]) (by decide +kernel) (by simp [lg_sl, fw_cat, fw_ci, fw_clo]) (by simp [lv_args, fw_cat, fw_ci, fw_clo]) ?_
  show fw_V g K_X5_goesOn f bc bs 0 [(0, fw_rv g r0)] [] μ (fw_Qv Q) fw_nX
  refine fw_aload_n dX5_goesOn_0 rfl rfl ?_
  refine fw_callV0z (f1 := f - 1) cl_X5_258 rfl hx (by decide) (by omega) (fw_s4 (Nat.le_of_ble_eq_true rfl)) dX5_goesOn_1 (w_X5_top (f := f - 1) (by omega) hx h) (fun _ _ h9 _ _ => h9.elim) (fun v9 μ2 q9 hs3 => ?_)
  obtain ⟨v1, rfl, h⟩ := q9
  refine fw_ti ?_
  have hg4 := hs3.K hx (by decide)
  refine fw_istore_nN (Ls' := [(1, Value.int v1), (0, fw_rv g r0)]) [] dX5_goesOn_4 rfl (by decide) rfl rfl rfl (fw_cat _) rfl ?_
  refine fw_aload_n dX5_goesOn_5 rfl rfl ?_
  refine fw_getfI fl_X5_182 rfl hg4 dX5_goesOn_6 ?_
  refine fw_iconst (v := 3) dX5_goesOn_9 (by decide) ?_
  refine fw_icmp_ne (tgt := 65) dX5_goesOn_10 (by decide) (fun c5 => ?_) (fun c5 => ?_)
  · have h := fw_if h c5
    refine fw_ls [1, 0] rfl ?_
    exact w_X5_goesOn_L65 hf hg4 h
  · have h := fw_it h c5
    refine fw_aload_n dX5_goesOn_13 rfl rfl ?_
    refine fw_getfI fl_X5_194 rfl hg4 dX5_goesOn_14 ?_
    refine fw_bipush (v := 43) dX5_goesOn_17 (by decide) ?_
    refine fw_icmp_eq (tgt := 49) dX5_goesOn_19 (by decide) (fun c6 => ?_) (fun c6 => ?_)
    · have h := fw_it h c6
      refine fw_ls [1] rfl ?_
      exact w_X5_goesOn_L49 hf hg4 h
    · have h := fw_if h c6
      refine fw_aload_n dX5_goesOn_22 rfl rfl ?_
      refine fw_getfI fl_X5_194 rfl hg4 dX5_goesOn_23 ?_
      refine fw_bipush (v := 45) dX5_goesOn_26 (by decide) ?_
      refine fw_icmp_eq (tgt := 49) dX5_goesOn_28 (by decide) (fun c7 => ?_) (fun c7 => ?_)
      · have h := fw_it h c7
        refine fw_ls [1] rfl ?_
        exact w_X5_goesOn_L49 hf hg4 h
      · have h := fw_if h c7
        refine fw_aload_n dX5_goesOn_31 rfl rfl ?_
        refine fw_getfI fl_X5_194 rfl hg4 dX5_goesOn_32 ?_
        refine fw_bipush (v := 42) dX5_goesOn_35 (by decide) ?_
        refine fw_icmp_eq (tgt := 49) dX5_goesOn_37 (by decide) (fun c8 => ?_) (fun c8 => ?_)
        · have h := fw_it h c8
          refine fw_ls [1] rfl ?_
          exact w_X5_goesOn_L49 hf hg4 h
        · have h := fw_if h c8
          refine fw_aload_n dX5_goesOn_40 rfl rfl ?_
          refine fw_getfI fl_X5_194 rfl hg4 dX5_goesOn_41 ?_
          refine fw_bipush (v := 47) dX5_goesOn_44 (by decide) ?_
          refine fw_icmp_ne (tgt := 65) dX5_goesOn_46 (by decide) (fun c9 => ?_) (fun c9 => ?_)
          · have h := fw_if h c9
            refine fw_ls [1, 0] rfl ?_
            exact w_X5_goesOn_L65 hf hg4 h
          · have h := fw_it h c9
            refine fw_ls [1] rfl ?_
            exact w_X5_goesOn_L49 hf hg4 h
abbrev K_X5_text : fw_Kt := (RX5, "text", cX5_text, 3, some .int, [])
def p_X5_text_L96 (k74 : fw_M → Prop) (r0 : Nat) (μ : fw_M) (Q : Int32 → fw_M → Prop) : Prop :=
  (if (m_I μ r0 27) = 0 then
  ((p_X5_asks r0 μ (fun μ3 =>
   k74 μ3)))
  else (if (m_I μ r0 27) = 1 then
  ((p_X5_begins r0 μ (fun μ8 =>
   k74 μ8)))
  else (if (m_I μ r0 27) = 2 then
  ((p_X5_goesOn r0 μ (fun μ13 =>
   k74 μ13)))
  else (if (m_I μ r0 27) = 3 then
  ((p_X5_asksOn r0 μ (fun μ18 =>
   k74 μ18)))
  else (p_X5_clause r0 μ (fun μ22 =>
   k74 μ22))))))
set_option maxHeartbeats 4000000 in
theorem w_X5_text_L96 {g : fw_G} {f bc bs : Nat} {k74 : fw_M → Prop} {r0 : Nat} {μ : fw_M} {Q : Int32 → fw_M → Prop} (hf : 6 ≤ f) (hk74 : ∀ {μ : fw_M}, m_K μ r0 = 6 → k74 μ → fw_V g K_X5_text f bc bs 74 [(0, fw_rv g r0)] [] μ (fw_Qi Q) fw_nX) (hx : m_K μ r0 = 6) (h : p_X5_text_L96 k74 r0 μ Q) : fw_V g K_X5_text f bc bs 96 [(0, fw_rv g r0)] [] μ (fw_Qi Q) fw_nX := by
  unfold p_X5_text_L96 at h
  refine fw_aload_n dX5_text_96 rfl rfl ?_
  refine fw_getfI fl_X5_242 rfl hx dX5_text_97 ?_
  refine fw_sw (k := 0) h (fun c1 h => ?_) (fun c1 h => ?_)
  · refine fw_tableIn (tgt := 132) dX5_text_100 (by rw [c1]; decide) (by rw [c1]; decide) (by rw [c1]; rfl) (by decide) ?_
    refine fw_aload_n dX5_text_132 rfl rfl ?_
    refine fw_callV0z (f1 := f - 1) cl_X5_287 rfl hx (by decide) (by omega) (fw_s4 (Nat.le_of_ble_eq_true rfl)) dX5_text_133 (w_X5_asks (f := f - 1) (by omega) hx h) (fun _ _ h9 _ _ => h9.elim) (fun v9 μ3 q9 hs4 => ?_)
    obtain ⟨rfl, h⟩ := q9
    refine fw_tv ?_
    have hg5 := hs4.K hx (by decide)
    refine fw_goto (tgt := 74) dX5_text_136 (by decide) ?_
    exact hk74 hg5 h
  · refine fw_sw (k := 1) h (fun c6 h => ?_) (fun c6 h => ?_)
    · refine fw_tableIn (tgt := 139) dX5_text_100 (by rw [c6]; decide) (by rw [c6]; decide) (by rw [c6]; rfl) (by decide) ?_
      refine fw_aload_n dX5_text_139 rfl rfl ?_
      refine fw_callV0z (f1 := f - 1) cl_X5_290 rfl hx (by decide) (by omega) (fw_s4 (Nat.le_of_ble_eq_true rfl)) dX5_text_140 (w_X5_begins (f := f - 1) (by omega) hx h) (fun _ _ h9 _ _ => h9.elim) (fun v9 μ8 q9 hs9 => ?_)
      obtain ⟨rfl, h⟩ := q9
      refine fw_tv ?_
      have hg10 := hs9.K hx (by decide)
      refine fw_goto (tgt := 74) dX5_text_143 (by decide) ?_
      exact hk74 hg10 h
    · refine fw_sw (k := 2) h (fun c11 h => ?_) (fun c11 h => ?_)
      · refine fw_tableIn (tgt := 146) dX5_text_100 (by rw [c11]; decide) (by rw [c11]; decide) (by rw [c11]; rfl) (by decide) ?_
        refine fw_aload_n dX5_text_146 rfl rfl ?_
        refine fw_callV0z (f1 := f - 1) cl_X5_293 rfl hx (by decide) (by omega) (fw_s4 (Nat.le_of_ble_eq_true rfl)) dX5_text_147 (w_X5_goesOn (f := f - 1) (by omega) hx h) (fun _ _ h9 _ _ => h9.elim) (fun v9 μ13 q9 hs14 => ?_)
        obtain ⟨rfl, h⟩ := q9
        refine fw_tv ?_
        have hg15 := hs14.K hx (by decide)
        refine fw_goto (tgt := 74) dX5_text_150 (by decide) ?_
        exact hk74 hg15 h
      · refine fw_sw (k := 3) h (fun c16 h => ?_) (fun c16 h => ?_)
        · refine fw_tableIn (tgt := 153) dX5_text_100 (by rw [c16]; decide) (by rw [c16]; decide) (by rw [c16]; rfl) (by decide) ?_
          refine fw_aload_n dX5_text_153 rfl rfl ?_
          refine fw_callV0z (f1 := f - 1) cl_X5_296 rfl hx (by decide) (by omega) (fw_s4 (Nat.le_of_ble_eq_true rfl)) dX5_text_154 (w_X5_asksOn (f := f - 1) (by omega) hx h) (fun _ _ h9 _ _ => h9.elim) (fun v9 μ18 q9 hs19 => ?_)
          obtain ⟨rfl, h⟩ := q9
          refine fw_tv ?_
          have hg20 := hs19.K hx (by decide)
          refine fw_goto (tgt := 74) dX5_text_157 (by decide) ?_
          exact hk74 hg20 h
        · have nc1 := lv_neT c1 (k := 0) (a := 0) (by decide)
          have nc6 := lv_neT c6 (k := 1) (a := 1) (by decide)
          have nc11 := lv_neT c11 (k := 2) (a := 2) (by decide)
          have nc16 := lv_neT c16 (k := 3) (a := 3) (by decide)
          refine fw_tableOut (tgt := 160) dX5_text_100 (by omega) (by decide) ?_
          refine fw_aload_n dX5_text_160 rfl rfl ?_
          refine fw_callV0z (f1 := f - 1) cl_X5_299 rfl hx (by decide) (by omega) (fw_s4 (Nat.le_of_ble_eq_true rfl)) dX5_text_161 (w_X5_clause (f := f - 1) (by omega) hx h) (fun _ _ h9 _ _ => h9.elim) (fun v9 μ22 q9 hs23 => ?_)
          obtain ⟨rfl, h⟩ := q9
          refine fw_tv ?_
          have hg24 := hs23.K hx (by decide)
          refine fw_goto (tgt := 74) dX5_text_164 (by decide) ?_
          exact hk74 hg24 h
def p_X5_text_L301b (r0 : Nat) (i1 : Int32) (k301 : Int32 → fw_M → Prop) (i2 : Int32) (μ : fw_M) (Q : Int32 → fw_M → Prop) : Prop :=
  (if (m_I μ r0 34) ≤ i2 then
  ((m_K μ (m_P μ r0 0) = 100 ∧ (vp_in (1 : Int32) (m_N μ (m_P μ r0 0)) ∧ (vp_in (1 : Int32) (m_N μ (m_P μ r0 0)) ∧ (∀ μ5, μ5 = m_uI μ (m_P μ r0 0) (1 : Int32).toNatClampNeg ((m_I μ (m_P μ r0 0) (1 : Int32).toNatClampNeg) + (1 : Int32)) →
   Q i1 μ5)))))
  else
  ((m_K μ (m_P μ r0 35) = 100 ∧ (vp_in i2 (m_N μ (m_P μ r0 35)) ∧ (m_K μ (m_P μ r0 11) = 100 ∧ (vp_in (((400 : Int32) * i1) + i2) (m_N μ (m_P μ r0 11)) ∧ (∀ μ10, μ10 = m_uI μ (m_P μ r0 11) (((400 : Int32) * i1) + i2).toNatClampNeg (m_I μ (m_P μ r0 35) i2.toNatClampNeg) →
   (m_K μ10 (m_P μ10 r0 36) = 100 ∧ (vp_in i2 (m_N μ10 (m_P μ10 r0 36)) ∧ (m_K μ10 (m_P μ10 r0 12) = 100 ∧ (vp_in (((400 : Int32) * i1) + i2) (m_N μ10 (m_P μ10 r0 12)) ∧ (∀ μ15, μ15 = m_uI μ10 (m_P μ10 r0 12) (((400 : Int32) * i1) + i2).toNatClampNeg (m_I μ10 (m_P μ10 r0 36) i2.toNatClampNeg) →
   (∀ i2_16 : Int32, i2_16 = i2 + (1 : Int32) →
   k301 i2_16 μ15)))))))))))))
def p_X5_text_L301 (r0 : Nat) (i1 : Int32) (i2 : Int32) (μ : fw_M) (Q : Int32 → fw_M → Prop) : Prop := fw_lp (fun (k : Int32 × fw_M → Prop) (a : Int32 × fw_M) => p_X5_text_L301b r0 i1 (fun i2 μ => k (i2, μ)) a.1 a.2 Q) (i2, μ)
theorem r_X5_text_L301 {r0 : Nat} {i1 : Int32} {Q : Int32 → fw_M → Prop} (I : Int32 → fw_M → Prop) (v : Int32 → fw_M → Nat) (hs : ∀ (k : Int32 → fw_M → Prop) (i2 : Int32) (μ : fw_M), I i2 μ → (∀ (i2' : Int32) (ν : fw_M), I i2' ν → v i2' ν < v i2 μ → k i2' ν) → p_X5_text_L301b r0 i1 k i2 μ Q) (i2 : Int32) (μ : fw_M) (h : I i2 μ) : p_X5_text_L301 r0 i1 i2 μ Q :=
  fw_lp_in (A := Int32 × fw_M) (fun a => I a.1 a.2) (fun a => v a.1 a.2) (fun k a ha hk => hs (fun i2 μ => k (i2, μ)) a.1 a.2 ha (fun i2' ν hb hlt => hk (i2', ν) hb hlt)) (i2, μ) h
set_option maxHeartbeats 4000000 in
theorem w_X5_text_L301b {g : fw_G} {f bc bs : Nat} {r0 : Nat} {i1 : Int32} {k301 : Int32 → fw_M → Prop} {i2 : Int32} {μ : fw_M} {Q : Int32 → fw_M → Prop} (hf : 6 ≤ f) (hk301 : ∀ {i2 : Int32} {μ : fw_M}, m_K μ r0 = 6 → k301 i2 μ → fw_V g K_X5_text f bc bs 301 [(0, fw_rv g r0), (1, Value.int i1), (2, Value.int i2)] [] μ (fw_Qi Q) fw_nX) (hx : m_K μ r0 = 6) (h : p_X5_text_L301b r0 i1 k301 i2 μ Q) : fw_V g K_X5_text f bc bs 301 [(0, fw_rv g r0), (1, Value.int i1), (2, Value.int i2)] [] μ (fw_Qi Q) fw_nX := by
  unfold p_X5_text_L301b at h
  refine fw_iload_n dX5_text_301 rfl rfl ?_
  refine fw_aload_n dX5_text_302 rfl rfl ?_
  refine fw_getfI fl_X5_204 rfl hx dX5_text_303 ?_
  refine fw_icmp_ge (tgt := 351) dX5_text_306 (by decide) (fun c1 => ?_) (fun c1 => ?_)
  · have h := fw_it h c1
    refine fw_aload_n dX5_text_351 rfl rfl ?_
    refine fw_getfP fl_X5_7 rfl hx dX5_text_352 ?_
    refine fw_iconst (v := 1) dX5_text_355 (by decide) ?_
    refine fw_dup2 dX5_text_356 rfl (fw_cat _) ?_
    obtain ⟨hg2, h⟩ := h
    obtain ⟨hc3, h⟩ := h
    refine fw_iald hg2 hc3 dX5_text_357 ?_
    refine fw_iconst (v := 1) dX5_text_358 (by decide) ?_
    refine fw_iadd dX5_text_359 ?_
    obtain ⟨hc4, h⟩ := h
    refine fw_iast hg2 hc4 dX5_text_360 ?_
    have h := h _ rfl
    refine fw_iload_n dX5_text_361 rfl rfl ?_
    exact fw_ireturn dX5_text_362 rfl rfl ⟨_, rfl, h⟩
  · have h := fw_if h c1
    refine fw_aload_n dX5_text_309 rfl rfl ?_
    refine fw_getfP fl_X5_42 rfl hx dX5_text_310 ?_
    refine fw_sipush (v := 400) dX5_text_313 (by decide) ?_
    refine fw_iload_n dX5_text_316 rfl rfl ?_
    refine fw_imul dX5_text_317 ?_
    refine fw_iload_n dX5_text_318 rfl rfl ?_
    refine fw_iadd dX5_text_319 ?_
    refine fw_aload_n dX5_text_320 rfl rfl ?_
    refine fw_getfP fl_X5_72 rfl hx dX5_text_321 ?_
    refine fw_iload_n dX5_text_324 rfl rfl ?_
    obtain ⟨hg6, h⟩ := h
    obtain ⟨hc7, h⟩ := h
    refine fw_iald hg6 hc7 dX5_text_325 ?_
    obtain ⟨hg8, h⟩ := h
    obtain ⟨hc9, h⟩ := h
    refine fw_iast hg8 hc9 dX5_text_326 ?_
    have h := h _ rfl
    refine fw_aload_n dX5_text_327 rfl rfl ?_
    refine fw_getfP fl_X5_45 rfl hx dX5_text_328 ?_
    refine fw_sipush (v := 400) dX5_text_331 (by decide) ?_
    refine fw_iload_n dX5_text_334 rfl rfl ?_
    refine fw_imul dX5_text_335 ?_
    refine fw_iload_n dX5_text_336 rfl rfl ?_
    refine fw_iadd dX5_text_337 ?_
    refine fw_aload_n dX5_text_338 rfl rfl ?_
    refine fw_getfP fl_X5_75 rfl hx dX5_text_339 ?_
    refine fw_iload_n dX5_text_342 rfl rfl ?_
    obtain ⟨hg11, h⟩ := h
    obtain ⟨hc12, h⟩ := h
    refine fw_iald hg11 hc12 dX5_text_343 ?_
    obtain ⟨hg13, h⟩ := h
    obtain ⟨hc14, h⟩ := h
    refine fw_iast hg13 hc14 dX5_text_344 ?_
    have h := h _ rfl
    obtain ⟨i2_16, e17⟩ : ∃ y : Int32, y = i2 + (1 : Int32) := ⟨_, rfl⟩
    have h := h i2_16 e17
    refine fw_iincN (k := 2) (v := i2_16) (Ls' := [(2, Value.int i2_16), (1, Value.int i1), (0, fw_rv g r0)]) [0] dX5_text_345 rfl (by rw [e17]; rfl) (by decide) rfl rfl rfl rfl rfl ?_
    refine fw_goto (tgt := 301) dX5_text_348 (by decide) ?_
    refine fw_ls [2, 1, 0] rfl ?_
    exact hk301 hx h
theorem w_X5_text_L301 {g : fw_G} {f bc bs : Nat} {r0 : Nat} {i1 : Int32} {i2 : Int32} {μ : fw_M} {Q : Int32 → fw_M → Prop} (hf : 6 ≤ f) (hx : m_K μ r0 = 6) (h : p_X5_text_L301 r0 i1 i2 μ Q) : fw_V g K_X5_text f bc bs 301 [(0, fw_rv g r0), (1, Value.int i1), (2, Value.int i2)] [] μ (fw_Qi Q) fw_nX := by
  have key := fw_lp_out (R := fun (a : Int32 × fw_M) => m_K a.2 r0 = 6 → fw_V g K_X5_text f bc bs 301 [(0, fw_rv g r0), (1, Value.int i1), (2, Value.int a.1)] [] a.2 (fw_Qi Q) fw_nX) (fun k hk9 a ha hx2 => w_X5_text_L301b hf (fun {i2} {μ} hx3 h3 => hk9 (i2, μ) h3 hx3) hx2 ha) h
  exact key hx
def p_X5_text_L211b (r0 : Nat) (i1 : Int32) (k211 : Int32 → fw_M → Prop) (i2 : Int32) (μ : fw_M) (Q : Int32 → fw_M → Prop) : Prop :=
  (if (m_I μ r0 28) ≤ i2 then
  (p_X5_text_L301 r0 i1 (0 : Int32) μ Q)
  else
  ((m_K μ (m_P μ r0 30) = 100 ∧ (vp_in i2 (m_N μ (m_P μ r0 30)) ∧ (m_K μ (m_P μ r0 7) = 100 ∧ (vp_in (((24 : Int32) * i1) + i2) (m_N μ (m_P μ r0 7)) ∧ (∀ μ6, μ6 = m_uI μ (m_P μ r0 7) (((24 : Int32) * i1) + i2).toNatClampNeg (m_I μ (m_P μ r0 30) i2.toNatClampNeg) →
   (m_K μ6 (m_P μ6 r0 31) = 100 ∧ (vp_in i2 (m_N μ6 (m_P μ6 r0 31)) ∧ (m_K μ6 (m_P μ6 r0 8) = 100 ∧ (vp_in (((24 : Int32) * i1) + i2) (m_N μ6 (m_P μ6 r0 8)) ∧ (∀ μ11, μ11 = m_uI μ6 (m_P μ6 r0 8) (((24 : Int32) * i1) + i2).toNatClampNeg (((400 : Int32) * i1) + (m_I μ6 (m_P μ6 r0 31) i2.toNatClampNeg)) →
   (m_K μ11 (m_P μ11 r0 32) = 100 ∧ (vp_in i2 (m_N μ11 (m_P μ11 r0 32)) ∧ (m_K μ11 (m_P μ11 r0 9) = 100 ∧ (vp_in (((24 : Int32) * i1) + i2) (m_N μ11 (m_P μ11 r0 9)) ∧ (∀ μ16, μ16 = m_uI μ11 (m_P μ11 r0 9) (((24 : Int32) * i1) + i2).toNatClampNeg (m_I μ11 (m_P μ11 r0 32) i2.toNatClampNeg) →
   (m_K μ16 (m_P μ16 r0 33) = 100 ∧ (vp_in i2 (m_N μ16 (m_P μ16 r0 33)) ∧ (m_K μ16 (m_P μ16 r0 10) = 100 ∧ (vp_in (((24 : Int32) * i1) + i2) (m_N μ16 (m_P μ16 r0 10)) ∧ (∀ μ21, μ21 = m_uI μ16 (m_P μ16 r0 10) (((24 : Int32) * i1) + i2).toNatClampNeg (m_I μ16 (m_P μ16 r0 33) i2.toNatClampNeg) →
   (∀ i2_22 : Int32, i2_22 = i2 + (1 : Int32) →
   k211 i2_22 μ21)))))))))))))))))))))))
def p_X5_text_L211 (r0 : Nat) (i1 : Int32) (i2 : Int32) (μ : fw_M) (Q : Int32 → fw_M → Prop) : Prop := fw_lp (fun (k : Int32 × fw_M → Prop) (a : Int32 × fw_M) => p_X5_text_L211b r0 i1 (fun i2 μ => k (i2, μ)) a.1 a.2 Q) (i2, μ)
theorem r_X5_text_L211 {r0 : Nat} {i1 : Int32} {Q : Int32 → fw_M → Prop} (I : Int32 → fw_M → Prop) (v : Int32 → fw_M → Nat) (hs : ∀ (k : Int32 → fw_M → Prop) (i2 : Int32) (μ : fw_M), I i2 μ → (∀ (i2' : Int32) (ν : fw_M), I i2' ν → v i2' ν < v i2 μ → k i2' ν) → p_X5_text_L211b r0 i1 k i2 μ Q) (i2 : Int32) (μ : fw_M) (h : I i2 μ) : p_X5_text_L211 r0 i1 i2 μ Q :=
  fw_lp_in (A := Int32 × fw_M) (fun a => I a.1 a.2) (fun a => v a.1 a.2) (fun k a ha hk => hs (fun i2 μ => k (i2, μ)) a.1 a.2 ha (fun i2' ν hb hlt => hk (i2', ν) hb hlt)) (i2, μ) h
set_option maxHeartbeats 4000000 in
theorem w_X5_text_L211b {g : fw_G} {f bc bs : Nat} {r0 : Nat} {i1 : Int32} {k211 : Int32 → fw_M → Prop} {i2 : Int32} {μ : fw_M} {Q : Int32 → fw_M → Prop} (hf : 6 ≤ f) (hk211 : ∀ {i2 : Int32} {μ : fw_M}, m_K μ r0 = 6 → k211 i2 μ → fw_V g K_X5_text f bc bs 211 [(0, fw_rv g r0), (1, Value.int i1), (2, Value.int i2)] [] μ (fw_Qi Q) fw_nX) (hx : m_K μ r0 = 6) (h : p_X5_text_L211b r0 i1 k211 i2 μ Q) : fw_V g K_X5_text f bc bs 211 [(0, fw_rv g r0), (1, Value.int i1), (2, Value.int i2)] [] μ (fw_Qi Q) fw_nX := by
  unfold p_X5_text_L211b at h
  refine fw_iload_n dX5_text_211 rfl rfl ?_
  refine fw_aload_n dX5_text_212 rfl rfl ?_
  refine fw_getfI fl_X5_274 rfl hx dX5_text_213 ?_
  refine fw_icmp_ge (tgt := 299) dX5_text_216 (by decide) (fun c1 => ?_) (fun c1 => ?_)
  · have h := fw_it h c1
    refine fw_iconst (v := 0) dX5_text_299 (by decide) ?_
    refine fw_istore_nN (Ls' := [(2, Value.int (0 : Int32)), (1, Value.int i1), (0, fw_rv g r0)]) [0] dX5_text_300 rfl (by decide) rfl rfl rfl rfl rfl ?_
    refine fw_ls [2, 1, 0] rfl ?_
    exact w_X5_text_L301 hf hx h
  · have h := fw_if h c1
    refine fw_aload_n dX5_text_219 rfl rfl ?_
    refine fw_getfP fl_X5_30 rfl hx dX5_text_220 ?_
    refine fw_bipush (v := 24) dX5_text_223 (by decide) ?_
    refine fw_iload_n dX5_text_225 rfl rfl ?_
    refine fw_imul dX5_text_226 ?_
    refine fw_iload_n dX5_text_227 rfl rfl ?_
    refine fw_iadd dX5_text_228 ?_
    refine fw_aload_n dX5_text_229 rfl rfl ?_
    refine fw_getfP fl_X5_60 rfl hx dX5_text_230 ?_
    refine fw_iload_n dX5_text_233 rfl rfl ?_
    obtain ⟨hg2, h⟩ := h
    obtain ⟨hc3, h⟩ := h
    refine fw_iald hg2 hc3 dX5_text_234 ?_
    obtain ⟨hg4, h⟩ := h
    obtain ⟨hc5, h⟩ := h
    refine fw_iast hg4 hc5 dX5_text_235 ?_
    have h := h _ rfl
    refine fw_aload_n dX5_text_236 rfl rfl ?_
    refine fw_getfP fl_X5_33 rfl hx dX5_text_237 ?_
    refine fw_bipush (v := 24) dX5_text_240 (by decide) ?_
    refine fw_iload_n dX5_text_242 rfl rfl ?_
    refine fw_imul dX5_text_243 ?_
    refine fw_iload_n dX5_text_244 rfl rfl ?_
    refine fw_iadd dX5_text_245 ?_
    refine fw_sipush (v := 400) dX5_text_246 (by decide) ?_
    refine fw_iload_n dX5_text_249 rfl rfl ?_
    refine fw_imul dX5_text_250 ?_
    refine fw_aload_n dX5_text_251 rfl rfl ?_
    refine fw_getfP fl_X5_63 rfl hx dX5_text_252 ?_
    refine fw_iload_n dX5_text_255 rfl rfl ?_
    obtain ⟨hg7, h⟩ := h
    obtain ⟨hc8, h⟩ := h
    refine fw_iald hg7 hc8 dX5_text_256 ?_
    refine fw_iadd dX5_text_257 ?_
    obtain ⟨hg9, h⟩ := h
    obtain ⟨hc10, h⟩ := h
    refine fw_iast hg9 hc10 dX5_text_258 ?_
    have h := h _ rfl
    refine fw_aload_n dX5_text_259 rfl rfl ?_
    refine fw_getfP fl_X5_36 rfl hx dX5_text_260 ?_
    refine fw_bipush (v := 24) dX5_text_263 (by decide) ?_
    refine fw_iload_n dX5_text_265 rfl rfl ?_
    refine fw_imul dX5_text_266 ?_
    refine fw_iload_n dX5_text_267 rfl rfl ?_
    refine fw_iadd dX5_text_268 ?_
    refine fw_aload_n dX5_text_269 rfl rfl ?_
    refine fw_getfP fl_X5_66 rfl hx dX5_text_270 ?_
    refine fw_iload_n dX5_text_273 rfl rfl ?_
    obtain ⟨hg12, h⟩ := h
    obtain ⟨hc13, h⟩ := h
    refine fw_iald hg12 hc13 dX5_text_274 ?_
    obtain ⟨hg14, h⟩ := h
    obtain ⟨hc15, h⟩ := h
    refine fw_iast hg14 hc15 dX5_text_275 ?_
    have h := h _ rfl
    refine fw_aload_n dX5_text_276 rfl rfl ?_
    refine fw_getfP fl_X5_39 rfl hx dX5_text_277 ?_
    refine fw_bipush (v := 24) dX5_text_280 (by decide) ?_
    refine fw_iload_n dX5_text_282 rfl rfl ?_
    refine fw_imul dX5_text_283 ?_
    refine fw_iload_n dX5_text_284 rfl rfl ?_
    refine fw_iadd dX5_text_285 ?_
    refine fw_aload_n dX5_text_286 rfl rfl ?_
    refine fw_getfP fl_X5_69 rfl hx dX5_text_287 ?_
    refine fw_iload_n dX5_text_290 rfl rfl ?_
    obtain ⟨hg17, h⟩ := h
    obtain ⟨hc18, h⟩ := h
    refine fw_iald hg17 hc18 dX5_text_291 ?_
    obtain ⟨hg19, h⟩ := h
    obtain ⟨hc20, h⟩ := h
    refine fw_iast hg19 hc20 dX5_text_292 ?_
    have h := h _ rfl
    obtain ⟨i2_22, e23⟩ : ∃ y : Int32, y = i2 + (1 : Int32) := ⟨_, rfl⟩
    have h := h i2_22 e23
    refine fw_iincN (k := 2) (v := i2_22) (Ls' := [(2, Value.int i2_22), (1, Value.int i1), (0, fw_rv g r0)]) [0] dX5_text_293 rfl (by rw [e23]; rfl) (by decide) rfl rfl rfl rfl rfl ?_
    refine fw_goto (tgt := 211) dX5_text_296 (by decide) ?_
    refine fw_ls [2, 1, 0] rfl ?_
    exact hk211 hx h
theorem w_X5_text_L211 {g : fw_G} {f bc bs : Nat} {r0 : Nat} {i1 : Int32} {i2 : Int32} {μ : fw_M} {Q : Int32 → fw_M → Prop} (hf : 6 ≤ f) (hx : m_K μ r0 = 6) (h : p_X5_text_L211 r0 i1 i2 μ Q) : fw_V g K_X5_text f bc bs 211 [(0, fw_rv g r0), (1, Value.int i1), (2, Value.int i2)] [] μ (fw_Qi Q) fw_nX := by
  have key := fw_lp_out (R := fun (a : Int32 × fw_M) => m_K a.2 r0 = 6 → fw_V g K_X5_text f bc bs 211 [(0, fw_rv g r0), (1, Value.int i1), (2, Value.int a.1)] [] a.2 (fw_Qi Q) fw_nX) (fun k hk9 a ha hx2 => w_X5_text_L211b hf (fun {i2} {μ} hx3 h3 => hk9 (i2, μ) h3 hx3) hx2 ha) h
  exact key hx
def p_X5_text_L167 (r0 : Nat) (μ : fw_M) (Q : Int32 → fw_M → Prop) : Prop :=
  (∀ μ1, μ1 = m_uI μ r0 4 (m_I μ r0 18) →
  (∀ μ2, μ2 = m_uI μ1 r0 5 (m_I μ1 r0 19) →
  (if (m_I μ2 r0 18) ≤ 0 then
  ((m_K μ2 (m_P μ2 r0 0) = 100 ∧ (vp_in (1 : Int32) (m_N μ2 (m_P μ2 r0 0)) ∧ (∀ i1_6 : Int32, i1_6 = (m_I μ2 (m_P μ2 r0 0) (1 : Int32).toNatClampNeg) →
   (m_K μ2 (m_P μ2 r0 6) = 100 ∧ (vp_in i1_6 (m_N μ2 (m_P μ2 r0 6)) ∧ (∀ μ10, μ10 = m_uI μ2 (m_P μ2 r0 6) i1_6.toNatClampNeg (m_I μ2 r0 28) →
   p_X5_text_L211 r0 i1_6 (0 : Int32) μ10 Q)))))))
  else
  (Q (-1 : Int32) μ2))))
set_option maxHeartbeats 4000000 in
theorem w_X5_text_L167 {g : fw_G} {f bc bs : Nat} {r0 : Nat} {μ : fw_M} {Q : Int32 → fw_M → Prop} (hf : 6 ≤ f) (hx : m_K μ r0 = 6) (h : p_X5_text_L167 r0 μ Q) : fw_V g K_X5_text f bc bs 167 [(0, fw_rv g r0)] [] μ (fw_Qi Q) fw_nX := by
  unfold p_X5_text_L167 at h
  refine fw_aload_n dX5_text_167 rfl rfl ?_
  refine fw_aload_n dX5_text_168 rfl rfl ?_
  refine fw_getfI fl_X5_198 rfl hx dX5_text_169 ?_
  refine fw_putfI fl_X5_20 (fun q hq => Or.inl (by cases hq; rfl)) rfl hx dX5_text_172 ?_
  have h := h _ rfl
  refine fw_aload_n dX5_text_175 rfl rfl ?_
  refine fw_aload_n dX5_text_176 rfl rfl ?_
  refine fw_getfI fl_X5_201 rfl hx dX5_text_177 ?_
  refine fw_putfI fl_X5_24 (fun q hq => Or.inl (by cases hq; rfl)) rfl hx dX5_text_180 ?_
  have h := h _ rfl
  refine fw_aload_n dX5_text_183 rfl rfl ?_
  refine fw_getfI fl_X5_198 rfl hx dX5_text_184 ?_
  refine fw_if_le (tgt := 192) dX5_text_187 (by decide) (fun c3 => ?_) (fun c3 => ?_)
  · have h := fw_it h c3
    refine fw_aload_n dX5_text_192 rfl rfl ?_
    refine fw_getfP fl_X5_7 rfl hx dX5_text_193 ?_
    refine fw_iconst (v := 1) dX5_text_196 (by decide) ?_
    obtain ⟨hg4, h⟩ := h
    obtain ⟨hc5, h⟩ := h
    refine fw_iald hg4 hc5 dX5_text_197 ?_
    refine fw_topi (fun i1_6 e7 => ?_)
    have h := h i1_6 e7
    refine fw_istore_nN (Ls' := [(1, Value.int i1_6), (0, fw_rv g r0)]) [] dX5_text_198 rfl (by decide) rfl rfl rfl (fw_cat _) rfl ?_
    refine fw_aload_n dX5_text_199 rfl rfl ?_
    refine fw_getfP fl_X5_27 rfl hx dX5_text_200 ?_
    refine fw_iload_n dX5_text_203 rfl rfl ?_
    refine fw_aload_n dX5_text_204 rfl rfl ?_
    refine fw_getfI fl_X5_274 rfl hx dX5_text_205 ?_
    obtain ⟨hg8, h⟩ := h
    obtain ⟨hc9, h⟩ := h
    refine fw_iast hg8 hc9 dX5_text_208 ?_
    have h := h _ rfl
    refine fw_iconst (v := 0) dX5_text_209 (by decide) ?_
    refine fw_istore_nN (Ls' := [(2, Value.int (0 : Int32)), (1, Value.int i1_6), (0, fw_rv g r0)]) [1] dX5_text_210 rfl (by decide) rfl rfl rfl rfl rfl ?_
    refine fw_ls [2, 1, 0] rfl ?_
    exact w_X5_text_L211 hf hx h
  · have h := fw_if h c3
    refine fw_iconst (v := -1) dX5_text_190 (by decide) ?_
    exact fw_ireturn dX5_text_191 rfl rfl ⟨_, rfl, h⟩
def p_X5_text_L74b (r0 : Nat) (k74 : fw_M → Prop) (μ : fw_M) (Q : Int32 → fw_M → Prop) : Prop :=
  (if (m_I μ r0 18) = 0 then
  ((if (m_I μ r0 27) = (4 : Int32) then
   ((if (m_I μ r0 16) = 0 then
    (p_X5_text_L167 r0 μ Q)
    else
    (p_X5_text_L96 k74 r0 μ Q)))
   else
   (p_X5_text_L96 k74 r0 μ Q)))
  else
  (p_X5_text_L167 r0 μ Q))
def p_X5_text_L74 (r0 : Nat) (μ : fw_M) (Q : Int32 → fw_M → Prop) : Prop := fw_lp (fun (k : fw_M → Prop) (a : fw_M) => p_X5_text_L74b r0 (fun μ => k μ) a Q) μ
theorem r_X5_text_L74 {r0 : Nat} {Q : Int32 → fw_M → Prop} (I : fw_M → Prop) (v : fw_M → Nat) (hs : ∀ (k : fw_M → Prop) (μ : fw_M), I μ → (∀ (ν : fw_M), I ν → v ν < v μ → k ν) → p_X5_text_L74b r0 k μ Q) (μ : fw_M) (h : I μ) : p_X5_text_L74 r0 μ Q :=
  fw_lp_in (A := fw_M) (fun a => I a) (fun a => v a) (fun k a ha hk => hs (fun μ => k μ) a ha (fun ν hb hlt => hk ν hb hlt)) μ h
set_option maxHeartbeats 4000000 in
theorem w_X5_text_L74b {g : fw_G} {f bc bs : Nat} {r0 : Nat} {k74 : fw_M → Prop} {μ : fw_M} {Q : Int32 → fw_M → Prop} (hf : 6 ≤ f) (hk74 : ∀ {μ : fw_M}, m_K μ r0 = 6 → k74 μ → fw_V g K_X5_text f bc bs 74 [(0, fw_rv g r0)] [] μ (fw_Qi Q) fw_nX) (hx : m_K μ r0 = 6) (h : p_X5_text_L74b r0 k74 μ Q) : fw_V g K_X5_text f bc bs 74 [(0, fw_rv g r0)] [] μ (fw_Qi Q) fw_nX := by
  unfold p_X5_text_L74b at h
  refine fw_aload_n dX5_text_74 rfl rfl ?_
  refine fw_getfI fl_X5_198 rfl hx dX5_text_75 ?_
  refine fw_if_ne (tgt := 167) dX5_text_78 (by decide) (fun c1 => ?_) (fun c1 => ?_)
  · have h := fw_if h c1
    exact w_X5_text_L167 hf hx h
  · have h := fw_it h c1
    refine fw_aload_n dX5_text_81 rfl rfl ?_
    refine fw_getfI fl_X5_242 rfl hx dX5_text_82 ?_
    refine fw_iconst (v := 4) dX5_text_85 (by decide) ?_
    refine fw_icmp_ne (tgt := 96) dX5_text_86 (by decide) (fun c2 => ?_) (fun c2 => ?_)
    · have h := fw_if h c2
      exact w_X5_text_L96 hf hk74 hx h
    · have h := fw_it h c2
      refine fw_aload_n dX5_text_89 rfl rfl ?_
      refine fw_getfI fl_X5_182 rfl hx dX5_text_90 ?_
      refine fw_if_eq (tgt := 167) dX5_text_93 (by decide) (fun c3 => ?_) (fun c3 => ?_)
      · have h := fw_it h c3
        exact w_X5_text_L167 hf hx h
      · have h := fw_if h c3
        exact w_X5_text_L96 hf hk74 hx h
theorem w_X5_text_L74 {g : fw_G} {f bc bs : Nat} {r0 : Nat} {μ : fw_M} {Q : Int32 → fw_M → Prop} (hf : 6 ≤ f) (hx : m_K μ r0 = 6) (h : p_X5_text_L74 r0 μ Q) : fw_V g K_X5_text f bc bs 74 [(0, fw_rv g r0)] [] μ (fw_Qi Q) fw_nX := by
  have key := fw_lp_out (R := fun (a : fw_M) => m_K a r0 = 6 → fw_V g K_X5_text f bc bs 74 [(0, fw_rv g r0)] [] a (fw_Qi Q) fw_nX) (fun k hk9 a ha hx2 => w_X5_text_L74b hf (fun {μ} hx3 h3 => hk9 μ h3 hx3) hx2 ha) h
  exact key hx
def p_X5_text (r0 : Nat) (μ : fw_M) (Q : Int32 → fw_M → Prop) : Prop :=
  (m_K μ (m_P μ r0 0) = 100 ∧ (vp_in (1 : Int32) (m_N μ (m_P μ r0 0)) ∧ (if (m_I μ (m_P μ r0 0) (1 : Int32).toNatClampNeg) = (4 : Int32) then
  (Q (-1 : Int32) μ)
  else
  ((∀ μ4, μ4 = m_uI μ r0 13 (m_I μ r0 3) →
   (∀ μ5, μ5 = m_uI μ4 r0 3 (0 : Int32) →
   (∀ μ6, μ6 = m_uI μ5 r0 14 (0 : Int32) →
   (∀ μ7, μ7 = m_uI μ6 r0 18 (0 : Int32) →
   (∀ μ8, μ8 = m_uI μ7 r0 19 (-1 : Int32) →
   (∀ μ9, μ9 = m_uI μ8 r0 20 (0 : Int32) →
   (∀ μ10, μ10 = m_uI μ9 r0 21 (0 : Int32) →
   (∀ μ11, μ11 = m_uI μ10 r0 24 (0 : Int32) →
   (∀ μ12, μ12 = m_uI μ11 r0 27 (4 : Int32) →
   (∀ μ13, μ13 = m_uI μ12 r0 28 (0 : Int32) →
   (∀ μ14, μ14 = m_uI μ13 r0 34 (0 : Int32) →
   (p_X5_nextToken r0 μ14 (fun μ16 =>
   p_X5_text_L74 r0 μ16 Q)))))))))))))))))
set_option maxHeartbeats 4000000 in
theorem w_X5_text {g : fw_G} {f bc bs : Nat} {r0 : Nat} {μ : fw_M} {Q : Int32 → fw_M → Prop} (hf : 6 ≤ f) (hx : m_K μ r0 = 6) (h : p_X5_text r0 μ Q) : fw_C g f bc bs yX5_text (ws_ yX5_text cX5_text 3 (some .int)) [fw_rv g r0] μ (fw_Qi Q) fw_nX := by
  unfold p_X5_text at h
  refine fw_intro' (Ls := [(0, fw_rv g r0)]) (by decide +kernel) (by simp [lg_sl, fw_cat, fw_ci, fw_clo]) (by simp [lv_args, fw_cat, fw_ci, fw_clo]) ?_
  show fw_V g K_X5_text f bc bs 0 [(0, fw_rv g r0)] [] μ (fw_Qi Q) fw_nX
  refine fw_aload_n dX5_text_0 rfl rfl ?_
  refine fw_getfP fl_X5_7 rfl hx dX5_text_1 ?_
  refine fw_iconst (v := 1) dX5_text_4 (by decide) ?_
  obtain ⟨hg1, h⟩ := h
  obtain ⟨hc2, h⟩ := h
  refine fw_iald hg1 hc2 dX5_text_5 ?_
  refine fw_iconst (v := 4) dX5_text_6 (by decide) ?_
  refine fw_icmp_ne (tgt := 12) dX5_text_7 (by decide) (fun c3 => ?_) (fun c3 => ?_)
  · have h := fw_if h c3
    refine fw_aload_n dX5_text_12 rfl rfl ?_
    refine fw_aload_n dX5_text_13 rfl rfl ?_
    refine fw_getfI fl_X5_118 rfl hx dX5_text_14 ?_
    refine fw_putfI fl_X5_176 (fun q hq => Or.inl (by cases hq; rfl)) rfl hx dX5_text_17 ?_
    have h := h _ rfl
    refine fw_aload_n dX5_text_20 rfl rfl ?_
    refine fw_iconst (v := 0) dX5_text_21 (by decide) ?_
    refine fw_putfI fl_X5_118 (fun q hq => Or.inl (by cases hq; rfl)) rfl hx dX5_text_22 ?_
    have h := h _ rfl
    refine fw_aload_n dX5_text_25 rfl rfl ?_
    refine fw_iconst (v := 0) dX5_text_26 (by decide) ?_
    refine fw_putfI fl_X5_173 (fun q hq => Or.inl (by cases hq; rfl)) rfl hx dX5_text_27 ?_
    have h := h _ rfl
    refine fw_aload_n dX5_text_30 rfl rfl ?_
    refine fw_iconst (v := 0) dX5_text_31 (by decide) ?_
    refine fw_putfI fl_X5_198 (fun q hq => Or.inl (by cases hq; rfl)) rfl hx dX5_text_32 ?_
    have h := h _ rfl
    refine fw_aload_n dX5_text_35 rfl rfl ?_
    refine fw_iconst (v := -1) dX5_text_36 (by decide) ?_
    refine fw_putfI fl_X5_201 (fun q hq => Or.inl (by cases hq; rfl)) rfl hx dX5_text_37 ?_
    have h := h _ rfl
    refine fw_aload_n dX5_text_40 rfl rfl ?_
    refine fw_iconst (v := 0) dX5_text_41 (by decide) ?_
    refine fw_putfI fl_X5_210 (fun q hq => Or.inl (by cases hq; rfl)) rfl hx dX5_text_42 ?_
    have h := h _ rfl
    refine fw_aload_n dX5_text_45 rfl rfl ?_
    refine fw_iconst (v := 0) dX5_text_46 (by decide) ?_
    refine fw_putfI fl_X5_207 (fun q hq => Or.inl (by cases hq; rfl)) rfl hx dX5_text_47 ?_
    have h := h _ rfl
    refine fw_aload_n dX5_text_50 rfl rfl ?_
    refine fw_iconst (v := 0) dX5_text_51 (by decide) ?_
    refine fw_putfI fl_X5_222 (fun q hq => Or.inl (by cases hq; rfl)) rfl hx dX5_text_52 ?_
    have h := h _ rfl
    refine fw_aload_n dX5_text_55 rfl rfl ?_
    refine fw_iconst (v := 4) dX5_text_56 (by decide) ?_
    refine fw_putfI fl_X5_242 (fun q hq => Or.inl (by cases hq; rfl)) rfl hx dX5_text_57 ?_
    have h := h _ rfl
    refine fw_aload_n dX5_text_60 rfl rfl ?_
    refine fw_iconst (v := 0) dX5_text_61 (by decide) ?_
    refine fw_putfI fl_X5_274 (fun q hq => Or.inl (by cases hq; rfl)) rfl hx dX5_text_62 ?_
    have h := h _ rfl
    refine fw_aload_n dX5_text_65 rfl rfl ?_
    refine fw_iconst (v := 0) dX5_text_66 (by decide) ?_
    refine fw_putfI fl_X5_204 (fun q hq => Or.inl (by cases hq; rfl)) rfl hx dX5_text_67 ?_
    have h := h _ rfl
    refine fw_aload_n dX5_text_70 rfl rfl ?_
    refine fw_callV0z (f1 := f - 1) cl_X5_219 rfl hx (by decide) (by omega) (fw_s4 (Nat.le_of_ble_eq_true rfl)) dX5_text_71 (w_X5_nextToken (f := f - 1) (by omega) hx h) (fun _ _ h9 _ _ => h9.elim) (fun v9 μ16 q9 hs17 => ?_)
    obtain ⟨rfl, h⟩ := q9
    refine fw_tv ?_
    have hg18 := hs17.K hx (by decide)
    exact w_X5_text_L74 hf hg18 h
  · have h := fw_it h c3
    refine fw_iconst (v := -1) dX5_text_10 (by decide) ?_
    exact fw_ireturn dX5_text_11 rfl rfl ⟨_, rfl, h⟩
abbrev K_X5_fault : fw_Kt := (RX5, "fault", cX5_fault, 2, some .int, [])
def p_X5_fault (r0 : Nat) (i1 : Int32) (μ : fw_M) (Q : Int32 → fw_M → Prop) : Prop :=
  (if i1 = 0 then
  (Q (m_I μ r0 4) μ)
  else
  ((if i1 = (1 : Int32) then
   (Q (m_I μ r0 5) μ)
   else
   (Q (-1 : Int32) μ))))
set_option maxHeartbeats 4000000 in
theorem w_X5_fault {g : fw_G} {f bc bs : Nat} {r0 : Nat} {i1 : Int32} {μ : fw_M} {Q : Int32 → fw_M → Prop} (hf : 1 ≤ f) (hx : m_K μ r0 = 6) (h : p_X5_fault r0 i1 μ Q) : fw_C g f bc bs yX5_fault (ws_ yX5_fault cX5_fault 2 (some .int)) [fw_rv g r0, Value.int i1] μ (fw_Qi Q) fw_nX := by
  unfold p_X5_fault at h
  refine fw_intro' (Ls := [(0, fw_rv g r0), (1, Value.int i1)]) (by decide +kernel) (by simp [lg_sl, fw_cat, fw_ci, fw_clo]) (by simp [lv_args, fw_cat, fw_ci, fw_clo]) ?_
  show fw_V g K_X5_fault f bc bs 0 [(0, fw_rv g r0), (1, Value.int i1)] [] μ (fw_Qi Q) fw_nX
  refine fw_iload_n dX5_fault_0 rfl rfl ?_
  refine fw_if_ne (tgt := 11) dX5_fault_1 (by decide) (fun c1 => ?_) (fun c1 => ?_)
  · have h := fw_if h c1
    refine fw_iload_n dX5_fault_11 rfl rfl ?_
    refine fw_iconst (v := 1) dX5_fault_12 (by decide) ?_
    refine fw_icmp_ne (tgt := 23) dX5_fault_13 (by decide) (fun c2 => ?_) (fun c2 => ?_)
    · have h := fw_if h c2
      refine fw_iconst (v := -1) dX5_fault_23 (by decide) ?_
      exact fw_ireturn dX5_fault_24 rfl rfl ⟨_, rfl, h⟩
    · have h := fw_it h c2
      refine fw_aload_n dX5_fault_16 rfl rfl ?_
      refine fw_getfI fl_X5_24 rfl hx dX5_fault_17 ?_
      refine fw_goto (tgt := 24) dX5_fault_20 (by decide) ?_
      exact fw_ireturn dX5_fault_24 rfl rfl ⟨_, rfl, h⟩
  · have h := fw_it h c1
    refine fw_aload_n dX5_fault_4 rfl rfl ?_
    refine fw_getfI fl_X5_20 rfl hx dX5_fault_5 ?_
    refine fw_goto (tgt := 24) dX5_fault_8 (by decide) ?_
    exact fw_ireturn dX5_fault_24 rfl rfl ⟨_, rfl, h⟩
abbrev K_X5_by : fw_Kt := (RX5, "by", cX5_by, 2, some .boolean, [])
def p_X5_by_L23 (r0 : Nat) (i1 : Int32) (μ : fw_M) (Q : Int32 → fw_M → Prop) : Prop :=
  (m_K μ (m_P μ r0 0) = 100 ∧ (vp_in (2 : Int32) (m_N μ (m_P μ r0 0)) ∧ (∀ μ3, μ3 = m_uI μ (m_P μ r0 0) (2 : Int32).toNatClampNeg i1 →
  Q (1 : Int32) μ3)))
set_option maxHeartbeats 4000000 in
theorem w_X5_by_L23 {g : fw_G} {f bc bs : Nat} {r0 : Nat} {i1 : Int32} {μ : fw_M} {Q : Int32 → fw_M → Prop} (hf : 2 ≤ f) (hx : m_K μ r0 = 6) (h : p_X5_by_L23 r0 i1 μ Q) : fw_V g K_X5_by f bc bs 23 [(0, fw_rv g r0), (1, Value.int i1)] [] μ (fw_Qi Q) fw_nX := by
  unfold p_X5_by_L23 at h
  refine fw_aload_n dX5_by_23 rfl rfl ?_
  refine fw_getfP fl_X5_7 rfl hx dX5_by_24 ?_
  refine fw_iconst (v := 2) dX5_by_27 (by decide) ?_
  refine fw_iload_n dX5_by_28 rfl rfl ?_
  obtain ⟨hg1, h⟩ := h
  obtain ⟨hc2, h⟩ := h
  refine fw_iast hg1 hc2 dX5_by_29 ?_
  have h := h _ rfl
  refine fw_iconst (v := 1) dX5_by_30 (by decide) ?_
  exact fw_ireturn dX5_by_31 rfl (by decide +kernel) ⟨_, rfl, h⟩
def p_X5_by (r0 : Nat) (i1 : Int32) (μ : fw_M) (Q : Int32 → fw_M → Prop) : Prop :=
  (if i1 = (-1 : Int32) then
  (p_X5_by_L23 r0 i1 μ Q)
  else
  ((m_K μ (m_P μ r0 0) = 100 ∧ (vp_in (1 : Int32) (m_N μ (m_P μ r0 0)) ∧ (p_X5_in i1 (0 : Int32) ((m_I μ (m_P μ r0 0) (1 : Int32).toNatClampNeg) - (1 : Int32)) μ (fun v4 μ5 =>
   (if v4 = 0 then
   (Q (0 : Int32) μ5)
   else
   (p_X5_by_L23 r0 i1 μ5 Q))))))))
set_option maxHeartbeats 4000000 in
theorem w_X5_by {g : fw_G} {f bc bs : Nat} {r0 : Nat} {i1 : Int32} {μ : fw_M} {Q : Int32 → fw_M → Prop} (hf : 2 ≤ f) (hx : m_K μ r0 = 6) (h : p_X5_by r0 i1 μ Q) : fw_C g f bc bs yX5_by (ws_ yX5_by cX5_by 2 (some .boolean)) [fw_rv g r0, Value.int i1] μ (fw_Qi Q) fw_nX := by
  unfold p_X5_by at h
  refine fw_intro' (Ls := [(0, fw_rv g r0), (1, Value.int i1)]) (by decide +kernel) (by simp [lg_sl, fw_cat, fw_ci, fw_clo]) (by simp [lv_args, fw_cat, fw_ci, fw_clo]) ?_
  show fw_V g K_X5_by f bc bs 0 [(0, fw_rv g r0), (1, Value.int i1)] [] μ (fw_Qi Q) fw_nX
  refine fw_iload_n dX5_by_0 rfl rfl ?_
  refine fw_iconst (v := -1) dX5_by_1 (by decide) ?_
  refine fw_icmp_eq (tgt := 23) dX5_by_2 (by decide) (fun c1 => ?_) (fun c1 => ?_)
  · have h := fw_it h c1
    exact w_X5_by_L23 hf hx h
  · have h := fw_if h c1
    refine fw_iload_n dX5_by_5 rfl rfl ?_
    refine fw_iconst (v := 0) dX5_by_6 (by decide) ?_
    refine fw_aload_n dX5_by_7 rfl rfl ?_
    refine fw_getfP fl_X5_7 rfl hx dX5_by_8 ?_
    refine fw_iconst (v := 1) dX5_by_11 (by decide) ?_
    obtain ⟨hg2, h⟩ := h
    obtain ⟨hc3, h⟩ := h
    refine fw_iald hg2 hc3 dX5_by_12 ?_
    refine fw_iconst (v := 1) dX5_by_13 (by decide) ?_
    refine fw_isub dX5_by_14 ?_
    refine fw_callS3z (f1 := f - 1) cl_X5_110 (by decide) (by omega) (fw_s4 (Nat.le_of_ble_eq_true rfl)) dX5_by_15 (w_X5_in (f := f - 1) (by omega) h) (fun _ _ h9 _ _ => h9.elim) (fun v9 μ5 q9 hs6 => ?_)
    obtain ⟨v4, rfl, h⟩ := q9
    refine fw_ti ?_
    have hg7 := hs6.K hx (by decide)
    refine fw_if_ne (tgt := 23) dX5_by_18 (by decide) (fun c8 => ?_) (fun c8 => ?_)
    · have h := fw_if h c8
      exact w_X5_by_L23 hf hg7 h
    · have h := fw_it h c8
      refine fw_iconst (v := 0) dX5_by_21 (by decide) ?_
      exact fw_ireturn dX5_by_22 rfl (by decide +kernel) ⟨_, rfl, h⟩
abbrev K_X5_isEater : fw_Kt := (RX5, "isEater", cX5_isEater, 2, some .boolean, [])
def p_X5_isEater (r0 : Nat) (i1 : Int32) (μ : fw_M) (Q : Int32 → fw_M → Prop) : Prop :=
  (m_K μ (m_P μ r0 0) = 100 ∧ (vp_in (0 : Int32) (m_N μ (m_P μ r0 0)) ∧ (p_X5_in i1 (0 : Int32) ((m_I μ (m_P μ r0 0) (0 : Int32).toNatClampNeg) - (1 : Int32)) μ (fun v3 μ4 =>
  ((v3 = 0 ∨ v3 = 1) ∧ Q v3 μ4)))))
set_option maxHeartbeats 4000000 in
theorem w_X5_isEater {g : fw_G} {f bc bs : Nat} {r0 : Nat} {i1 : Int32} {μ : fw_M} {Q : Int32 → fw_M → Prop} (hf : 2 ≤ f) (hx : m_K μ r0 = 6) (h : p_X5_isEater r0 i1 μ Q) : fw_C g f bc bs yX5_isEater (ws_ yX5_isEater cX5_isEater 2 (some .boolean)) [fw_rv g r0, Value.int i1] μ (fw_Qi Q) fw_nX := by
  unfold p_X5_isEater at h
  refine fw_intro' (Ls := [(0, fw_rv g r0), (1, Value.int i1)]) (by decide +kernel) (by simp [lg_sl, fw_cat, fw_ci, fw_clo]) (by simp [lv_args, fw_cat, fw_ci, fw_clo]) ?_
  show fw_V g K_X5_isEater f bc bs 0 [(0, fw_rv g r0), (1, Value.int i1)] [] μ (fw_Qi Q) fw_nX
  refine fw_iload_n dX5_isEater_0 rfl rfl ?_
  refine fw_iconst (v := 0) dX5_isEater_1 (by decide) ?_
  refine fw_aload_n dX5_isEater_2 rfl rfl ?_
  refine fw_getfP fl_X5_7 rfl hx dX5_isEater_3 ?_
  refine fw_iconst (v := 0) dX5_isEater_6 (by decide) ?_
  obtain ⟨hg1, h⟩ := h
  obtain ⟨hc2, h⟩ := h
  refine fw_iald hg1 hc2 dX5_isEater_7 ?_
  refine fw_iconst (v := 1) dX5_isEater_8 (by decide) ?_
  refine fw_isub dX5_isEater_9 ?_
  refine fw_callS3z (f1 := f - 1) cl_X5_110 (by decide) (by omega) (fw_s4 (Nat.le_of_ble_eq_true rfl)) dX5_isEater_10 (w_X5_in (f := f - 1) (by omega) h) (fun _ _ h9 _ _ => h9.elim) (fun v9 μ4 q9 hs5 => ?_)
  obtain ⟨v3, rfl, h⟩ := q9
  refine fw_ti ?_
  have hg6 := hs5.K hx (by decide)
  obtain ⟨hc7, h⟩ := h
  exact fw_ireturn dX5_isEater_13 rfl (by rcases hc7 with e9 | e9 <;> rw [e9] <;> decide +kernel) ⟨_, rfl, h⟩
abbrev K_X5_keepsStep : fw_Kt := (RX5, "keepsStep", cX5_keepsStep, 2, none, [])
def p_X5_keepsStep_L54b (r0 : Nat) (k54 : Int32 → fw_M → Prop) (i1 : Int32) (μ : fw_M) (Q : fw_M → Prop) : Prop :=
  (if (355 : Int32) ≤ i1 then
  ((m_K μ (m_P μ r0 0) = 100 ∧ (vp_in (3 : Int32) (m_N μ (m_P μ r0 0)) ∧ (vp_in (3 : Int32) (m_N μ (m_P μ r0 0)) ∧ (∀ μ5, μ5 = m_uI μ (m_P μ r0 0) (3 : Int32).toNatClampNeg ((m_I μ (m_P μ r0 0) (3 : Int32).toNatClampNeg) + (1 : Int32)) →
   Q μ5)))))
  else
  ((m_K μ (m_P μ r0 0) = 100 ∧ (vp_in (3 : Int32) (m_N μ (m_P μ r0 0)) ∧ (vp_in ((110 : Int32) + i1) (m_N μ (m_P μ r0 0)) ∧ (vp_in (((470 : Int32) + ((355 : Int32) * (m_I μ (m_P μ r0 0) (3 : Int32).toNatClampNeg))) + i1) (m_N μ (m_P μ r0 0)) ∧ (∀ μ10, μ10 = m_uI μ (m_P μ r0 0) (((470 : Int32) + ((355 : Int32) * (m_I μ (m_P μ r0 0) (3 : Int32).toNatClampNeg))) + i1).toNatClampNeg (m_I μ (m_P μ r0 0) ((110 : Int32) + i1).toNatClampNeg) →
   (∀ i1_11 : Int32, i1_11 = i1 + (1 : Int32) →
   k54 i1_11 μ10))))))))
def p_X5_keepsStep_L54 (r0 : Nat) (i1 : Int32) (μ : fw_M) (Q : fw_M → Prop) : Prop := fw_lp (fun (k : Int32 × fw_M → Prop) (a : Int32 × fw_M) => p_X5_keepsStep_L54b r0 (fun i1 μ => k (i1, μ)) a.1 a.2 Q) (i1, μ)
theorem r_X5_keepsStep_L54 {r0 : Nat} {Q : fw_M → Prop} (I : Int32 → fw_M → Prop) (v : Int32 → fw_M → Nat) (hs : ∀ (k : Int32 → fw_M → Prop) (i1 : Int32) (μ : fw_M), I i1 μ → (∀ (i1' : Int32) (ν : fw_M), I i1' ν → v i1' ν < v i1 μ → k i1' ν) → p_X5_keepsStep_L54b r0 k i1 μ Q) (i1 : Int32) (μ : fw_M) (h : I i1 μ) : p_X5_keepsStep_L54 r0 i1 μ Q :=
  fw_lp_in (A := Int32 × fw_M) (fun a => I a.1 a.2) (fun a => v a.1 a.2) (fun k a ha hk => hs (fun i1 μ => k (i1, μ)) a.1 a.2 ha (fun i1' ν hb hlt => hk (i1', ν) hb hlt)) (i1, μ) h
set_option maxHeartbeats 4000000 in
theorem w_X5_keepsStep_L54b {g : fw_G} {f bc bs : Nat} {r0 : Nat} {k54 : Int32 → fw_M → Prop} {i1 : Int32} {μ : fw_M} {Q : fw_M → Prop} (hf : 1 ≤ f) (hk54 : ∀ {i1 : Int32} {μ : fw_M}, m_K μ r0 = 6 → k54 i1 μ → fw_V g K_X5_keepsStep f bc bs 54 [(0, fw_rv g r0), (1, Value.int i1)] [] μ (fw_Qv Q) fw_nX) (hx : m_K μ r0 = 6) (h : p_X5_keepsStep_L54b r0 k54 i1 μ Q) : fw_V g K_X5_keepsStep f bc bs 54 [(0, fw_rv g r0), (1, Value.int i1)] [] μ (fw_Qv Q) fw_nX := by
  unfold p_X5_keepsStep_L54b at h
  refine fw_iload_n dX5_keepsStep_54 rfl rfl ?_
  refine fw_sipush (v := 355) dX5_keepsStep_55 (by decide) ?_
  refine fw_icmp_ge (tgt := 97) dX5_keepsStep_58 (by decide) (fun c1 => ?_) (fun c1 => ?_)
  · have h := fw_it h c1
    refine fw_aload_n dX5_keepsStep_97 rfl rfl ?_
    refine fw_getfP fl_X5_7 rfl hx dX5_keepsStep_98 ?_
    refine fw_iconst (v := 3) dX5_keepsStep_101 (by decide) ?_
    refine fw_dup2 dX5_keepsStep_102 rfl (fw_cat _) ?_
    obtain ⟨hg2, h⟩ := h
    obtain ⟨hc3, h⟩ := h
    refine fw_iald hg2 hc3 dX5_keepsStep_103 ?_
    refine fw_iconst (v := 1) dX5_keepsStep_104 (by decide) ?_
    refine fw_iadd dX5_keepsStep_105 ?_
    obtain ⟨hc4, h⟩ := h
    refine fw_iast hg2 hc4 dX5_keepsStep_106 ?_
    have h := h _ rfl
    exact fw_return dX5_keepsStep_107 rfl ⟨rfl, h⟩
  · have h := fw_if h c1
    refine fw_aload_n dX5_keepsStep_61 rfl rfl ?_
    refine fw_getfP fl_X5_7 rfl hx dX5_keepsStep_62 ?_
    refine fw_sipush (v := 470) dX5_keepsStep_65 (by decide) ?_
    refine fw_sipush (v := 355) dX5_keepsStep_68 (by decide) ?_
    refine fw_aload_n dX5_keepsStep_71 rfl rfl ?_
    refine fw_getfP fl_X5_7 rfl hx dX5_keepsStep_72 ?_
    refine fw_iconst (v := 3) dX5_keepsStep_75 (by decide) ?_
    obtain ⟨hg6, h⟩ := h
    obtain ⟨hc7, h⟩ := h
    refine fw_iald hg6 hc7 dX5_keepsStep_76 ?_
    refine fw_imul dX5_keepsStep_77 ?_
    refine fw_iadd dX5_keepsStep_78 ?_
    refine fw_iload_n dX5_keepsStep_79 rfl rfl ?_
    refine fw_iadd dX5_keepsStep_80 ?_
    refine fw_aload_n dX5_keepsStep_81 rfl rfl ?_
    refine fw_getfP fl_X5_7 rfl hx dX5_keepsStep_82 ?_
    refine fw_bipush (v := 110) dX5_keepsStep_85 (by decide) ?_
    refine fw_iload_n dX5_keepsStep_87 rfl rfl ?_
    refine fw_iadd dX5_keepsStep_88 ?_
    obtain ⟨hc8, h⟩ := h
    refine fw_iald hg6 hc8 dX5_keepsStep_89 ?_
    obtain ⟨hc9, h⟩ := h
    refine fw_iast hg6 hc9 dX5_keepsStep_90 ?_
    have h := h _ rfl
    obtain ⟨i1_11, e12⟩ : ∃ y : Int32, y = i1 + (1 : Int32) := ⟨_, rfl⟩
    have h := h i1_11 e12
    refine fw_iincN (k := 1) (v := i1_11) (Ls' := [(1, Value.int i1_11), (0, fw_rv g r0)]) [] dX5_keepsStep_91 rfl (by rw [e12]; rfl) (by decide) rfl rfl rfl (fw_cat _) rfl ?_
    refine fw_goto (tgt := 54) dX5_keepsStep_94 (by decide) ?_
    refine fw_ls [1, 0] rfl ?_
    exact hk54 hx h
theorem w_X5_keepsStep_L54 {g : fw_G} {f bc bs : Nat} {r0 : Nat} {i1 : Int32} {μ : fw_M} {Q : fw_M → Prop} (hf : 1 ≤ f) (hx : m_K μ r0 = 6) (h : p_X5_keepsStep_L54 r0 i1 μ Q) : fw_V g K_X5_keepsStep f bc bs 54 [(0, fw_rv g r0), (1, Value.int i1)] [] μ (fw_Qv Q) fw_nX := by
  have key := fw_lp_out (R := fun (a : Int32 × fw_M) => m_K a.2 r0 = 6 → fw_V g K_X5_keepsStep f bc bs 54 [(0, fw_rv g r0), (1, Value.int a.1)] [] a.2 (fw_Qv Q) fw_nX) (fun k hk9 a ha hx2 => w_X5_keepsStep_L54b hf (fun {i1} {μ} hx3 h3 => hk9 (i1, μ) h3 hx3) hx2 ha) h
  exact key hx
def p_X5_keepsStep_L15b (r0 : Nat) (k15 : Int32 → fw_M → Prop) (i1 : Int32) (μ : fw_M) (Q : fw_M → Prop) : Prop :=
  (if (10765 : Int32) ≤ i1 then
  ((m_K μ (m_P μ r0 0) = 100 ∧ (vp_in (3 : Int32) (m_N μ (m_P μ r0 0)) ∧ (∀ μ4, μ4 = m_uI μ (m_P μ r0 0) (3 : Int32).toNatClampNeg (29 : Int32) →
   p_X5_keepsStep_L54 r0 (0 : Int32) μ4 Q))))
  else
  ((m_K μ (m_P μ r0 0) = 100 ∧ (vp_in (i1 + (355 : Int32)) (m_N μ (m_P μ r0 0)) ∧ (vp_in i1 (m_N μ (m_P μ r0 0)) ∧ (∀ μ8, μ8 = m_uI μ (m_P μ r0 0) i1.toNatClampNeg (m_I μ (m_P μ r0 0) (i1 + (355 : Int32)).toNatClampNeg) →
   (∀ i1_9 : Int32, i1_9 = i1 + (1 : Int32) →
   k15 i1_9 μ8)))))))
def p_X5_keepsStep_L15 (r0 : Nat) (i1 : Int32) (μ : fw_M) (Q : fw_M → Prop) : Prop := fw_lp (fun (k : Int32 × fw_M → Prop) (a : Int32 × fw_M) => p_X5_keepsStep_L15b r0 (fun i1 μ => k (i1, μ)) a.1 a.2 Q) (i1, μ)
theorem r_X5_keepsStep_L15 {r0 : Nat} {Q : fw_M → Prop} (I : Int32 → fw_M → Prop) (v : Int32 → fw_M → Nat) (hs : ∀ (k : Int32 → fw_M → Prop) (i1 : Int32) (μ : fw_M), I i1 μ → (∀ (i1' : Int32) (ν : fw_M), I i1' ν → v i1' ν < v i1 μ → k i1' ν) → p_X5_keepsStep_L15b r0 k i1 μ Q) (i1 : Int32) (μ : fw_M) (h : I i1 μ) : p_X5_keepsStep_L15 r0 i1 μ Q :=
  fw_lp_in (A := Int32 × fw_M) (fun a => I a.1 a.2) (fun a => v a.1 a.2) (fun k a ha hk => hs (fun i1 μ => k (i1, μ)) a.1 a.2 ha (fun i1' ν hb hlt => hk (i1', ν) hb hlt)) (i1, μ) h
set_option maxHeartbeats 4000000 in
theorem w_X5_keepsStep_L15b {g : fw_G} {f bc bs : Nat} {r0 : Nat} {k15 : Int32 → fw_M → Prop} {i1 : Int32} {μ : fw_M} {Q : fw_M → Prop} (hf : 1 ≤ f) (hk15 : ∀ {i1 : Int32} {μ : fw_M}, m_K μ r0 = 6 → k15 i1 μ → fw_V g K_X5_keepsStep f bc bs 15 [(0, fw_rv g r0), (1, Value.int i1)] [] μ (fw_Qv Q) fw_nX) (hx : m_K μ r0 = 6) (h : p_X5_keepsStep_L15b r0 k15 i1 μ Q) : fw_V g K_X5_keepsStep f bc bs 15 [(0, fw_rv g r0), (1, Value.int i1)] [] μ (fw_Qv Q) fw_nX := by
  unfold p_X5_keepsStep_L15b at h
  refine fw_iload_n dX5_keepsStep_15 rfl rfl ?_
  refine fw_sipush (v := 10765) dX5_keepsStep_16 (by decide) ?_
  refine fw_icmp_ge (tgt := 44) dX5_keepsStep_19 (by decide) (fun c1 => ?_) (fun c1 => ?_)
  · have h := fw_it h c1
    refine fw_aload_n dX5_keepsStep_44 rfl rfl ?_
    refine fw_getfP fl_X5_7 rfl hx dX5_keepsStep_45 ?_
    refine fw_iconst (v := 3) dX5_keepsStep_48 (by decide) ?_
    refine fw_bipush (v := 29) dX5_keepsStep_49 (by decide) ?_
    obtain ⟨hg2, h⟩ := h
    obtain ⟨hc3, h⟩ := h
    refine fw_iast hg2 hc3 dX5_keepsStep_51 ?_
    have h := h _ rfl
    refine fw_iconst (v := 0) dX5_keepsStep_52 (by decide) ?_
    refine fw_istore_nN (Ls' := [(1, Value.int (0 : Int32)), (0, fw_rv g r0)]) [] dX5_keepsStep_53 rfl (by decide) rfl rfl rfl (fw_cat _) rfl ?_
    refine fw_ls [1, 0] rfl ?_
    exact w_X5_keepsStep_L54 hf hx h
  · have h := fw_if h c1
    refine fw_aload_n dX5_keepsStep_22 rfl rfl ?_
    refine fw_getfP fl_X5_7 rfl hx dX5_keepsStep_23 ?_
    refine fw_iload_n dX5_keepsStep_26 rfl rfl ?_
    refine fw_aload_n dX5_keepsStep_27 rfl rfl ?_
    refine fw_getfP fl_X5_7 rfl hx dX5_keepsStep_28 ?_
    refine fw_iload_n dX5_keepsStep_31 rfl rfl ?_
    refine fw_sipush (v := 355) dX5_keepsStep_32 (by decide) ?_
    refine fw_iadd dX5_keepsStep_35 ?_
    obtain ⟨hg5, h⟩ := h
    obtain ⟨hc6, h⟩ := h
    refine fw_iald hg5 hc6 dX5_keepsStep_36 ?_
    obtain ⟨hc7, h⟩ := h
    refine fw_iast hg5 hc7 dX5_keepsStep_37 ?_
    have h := h _ rfl
    obtain ⟨i1_9, e10⟩ : ∃ y : Int32, y = i1 + (1 : Int32) := ⟨_, rfl⟩
    have h := h i1_9 e10
    refine fw_iincN (k := 1) (v := i1_9) (Ls' := [(1, Value.int i1_9), (0, fw_rv g r0)]) [] dX5_keepsStep_38 rfl (by rw [e10]; rfl) (by decide) rfl rfl rfl (fw_cat _) rfl ?_
    refine fw_goto (tgt := 15) dX5_keepsStep_41 (by decide) ?_
    refine fw_ls [1, 0] rfl ?_
    exact hk15 hx h
theorem w_X5_keepsStep_L15 {g : fw_G} {f bc bs : Nat} {r0 : Nat} {i1 : Int32} {μ : fw_M} {Q : fw_M → Prop} (hf : 1 ≤ f) (hx : m_K μ r0 = 6) (h : p_X5_keepsStep_L15 r0 i1 μ Q) : fw_V g K_X5_keepsStep f bc bs 15 [(0, fw_rv g r0), (1, Value.int i1)] [] μ (fw_Qv Q) fw_nX := by
  have key := fw_lp_out (R := fun (a : Int32 × fw_M) => m_K a.2 r0 = 6 → fw_V g K_X5_keepsStep f bc bs 15 [(0, fw_rv g r0), (1, Value.int a.1)] [] a.2 (fw_Qv Q) fw_nX) (fun k hk9 a ha hx2 => w_X5_keepsStep_L15b hf (fun {i1} {μ} hx3 h3 => hk9 (i1, μ) h3 hx3) hx2 ha) h
  exact key hx
def p_X5_keepsStep (r0 : Nat) (μ : fw_M) (Q : fw_M → Prop) : Prop :=
  (m_K μ (m_P μ r0 0) = 100 ∧ (vp_in (3 : Int32) (m_N μ (m_P μ r0 0)) ∧ (if (m_I μ (m_P μ r0 0) (3 : Int32).toNatClampNeg) = (30 : Int32) then
  (p_X5_keepsStep_L15 r0 (470 : Int32) μ Q)
  else
  (p_X5_keepsStep_L54 r0 (0 : Int32) μ Q))))
set_option maxHeartbeats 4000000 in
theorem w_X5_keepsStep {g : fw_G} {f bc bs : Nat} {r0 : Nat} {μ : fw_M} {Q : fw_M → Prop} (hf : 1 ≤ f) (hx : m_K μ r0 = 6) (h : p_X5_keepsStep r0 μ Q) : fw_C g f bc bs yX5_keepsStep (ws_ yX5_keepsStep cX5_keepsStep 2 (none)) [fw_rv g r0] μ (fw_Qv Q) fw_nX := by
  unfold p_X5_keepsStep at h
  refine fw_intro' (Ls := [(0, fw_rv g r0)]) (by decide +kernel) (by simp [lg_sl, fw_cat, fw_ci, fw_clo]) (by simp [lv_args, fw_cat, fw_ci, fw_clo]) ?_
  show fw_V g K_X5_keepsStep f bc bs 0 [(0, fw_rv g r0)] [] μ (fw_Qv Q) fw_nX
  refine fw_aload_n dX5_keepsStep_0 rfl rfl ?_
  refine fw_getfP fl_X5_7 rfl hx dX5_keepsStep_1 ?_
  refine fw_iconst (v := 3) dX5_keepsStep_4 (by decide) ?_
  obtain ⟨hg1, h⟩ := h
  obtain ⟨hc2, h⟩ := h
  refine fw_iald hg1 hc2 dX5_keepsStep_5 ?_
  refine fw_bipush (v := 30) dX5_keepsStep_6 (by decide) ?_
  refine fw_icmp_ne (tgt := 52) dX5_keepsStep_8 (by decide) (fun c3 => ?_) (fun c3 => ?_)
  · have h := fw_if h c3
    refine fw_iconst (v := 0) dX5_keepsStep_52 (by decide) ?_
    refine fw_istore_nN (Ls' := [(1, Value.int (0 : Int32)), (0, fw_rv g r0)]) [] dX5_keepsStep_53 rfl (by decide) rfl rfl rfl (fw_cat _) rfl ?_
    refine fw_ls [1, 0] rfl ?_
    exact w_X5_keepsStep_L54 hf hx h
  · have h := fw_it h c3
    refine fw_sipush (v := 470) dX5_keepsStep_11 (by decide) ?_
    refine fw_istore_nN (Ls' := [(1, Value.int (470 : Int32)), (0, fw_rv g r0)]) [] dX5_keepsStep_14 rfl (by decide) rfl rfl rfl (fw_cat _) rfl ?_
    refine fw_ls [1, 0] rfl ?_
    exact w_X5_keepsStep_L15 hf hx h
abbrev K_X5_sit : fw_Kt := (RX5, "sit", cX5_sit, 3, some .boolean, [])
def p_X5_sit (r0 : Nat) (i1 : Int32) (i2 : Int32) (μ : fw_M) (Q : Int32 → fw_M → Prop) : Prop :=
  (p_X5_isEater r0 i1 μ (fun v1 μ2 =>
  (if v1 = 0 then
  (Q (0 : Int32) μ2)
  else
  ((p_X5_in i2 (0 : Int32) (2 : Int32) μ2 (fun v6 μ7 =>
   (if v6 = 0 then
   (Q (0 : Int32) μ7)
   else
   ((m_K μ7 (m_P μ7 r0 0) = 100 ∧ (vp_in ((114 : Int32) + i1) (m_N μ7 (m_P μ7 r0 0)) ∧ (if (m_I μ7 (m_P μ7 r0 0) ((114 : Int32) + i1).toNatClampNeg) = i2 then
    (Q (0 : Int32) μ7)
    else
    ((p_X5_keepsStep r0 μ7 (fun μ15 =>
     (m_K μ15 (m_P μ15 r0 0) = 100 ∧ (vp_in ((114 : Int32) + i1) (m_N μ15 (m_P μ15 r0 0)) ∧ (∀ μ20, μ20 = m_uI μ15 (m_P μ15 r0 0) ((114 : Int32) + i1).toNatClampNeg i2 →
     Q (1 : Int32) μ20)))))))))))))))))
set_option maxHeartbeats 4000000 in
theorem w_X5_sit {g : fw_G} {f bc bs : Nat} {r0 : Nat} {i1 : Int32} {i2 : Int32} {μ : fw_M} {Q : Int32 → fw_M → Prop} (hf : 3 ≤ f) (hx : m_K μ r0 = 6) (h : p_X5_sit r0 i1 i2 μ Q) : fw_C g f bc bs yX5_sit (ws_ yX5_sit cX5_sit 3 (some .boolean)) [fw_rv g r0, Value.int i1, Value.int i2] μ (fw_Qi Q) fw_nX := by
  unfold p_X5_sit at h
  refine fw_intro' (Ls := [(0, fw_rv g r0), (1, Value.int i1), (2, Value.int i2)]) (by decide +kernel) (by simp [lg_sl, fw_cat, fw_ci, fw_clo]) (by simp [lv_args, fw_cat, fw_ci, fw_clo]) ?_
  show fw_V g K_X5_sit f bc bs 0 [(0, fw_rv g r0), (1, Value.int i1), (2, Value.int i2)] [] μ (fw_Qi Q) fw_nX
  refine fw_aload_n dX5_sit_0 rfl rfl ?_
  refine fw_iload_n dX5_sit_1 rfl rfl ?_
  refine fw_callV1z (f1 := f - 1) cl_X5_343 rfl hx (by decide) (by omega) (fw_s4 (Nat.le_of_ble_eq_true rfl)) dX5_sit_2 (w_X5_isEater (f := f - 1) (by omega) hx h) (fun _ _ h9 _ _ => h9.elim) (fun v9 μ2 q9 hs3 => ?_)
  obtain ⟨v1, rfl, h⟩ := q9
  refine fw_ti ?_
  have hg4 := hs3.K hx (by decide)
  refine fw_if_eq (tgt := 30) dX5_sit_5 (by decide) (fun c5 => ?_) (fun c5 => ?_)
  · have h := fw_it h c5
    refine fw_iconst (v := 0) dX5_sit_30 (by decide) ?_
    exact fw_ireturn dX5_sit_31 rfl (by decide +kernel) ⟨_, rfl, h⟩
  · have h := fw_if h c5
    refine fw_iload_n dX5_sit_8 rfl rfl ?_
    refine fw_iconst (v := 0) dX5_sit_9 (by decide) ?_
    refine fw_iconst (v := 2) dX5_sit_10 (by decide) ?_
    refine fw_callS3z (f1 := f - 1) cl_X5_110 (by decide) (by omega) (fw_s4 (Nat.le_of_ble_eq_true rfl)) dX5_sit_11 (w_X5_in (f := f - 1) (by omega) h) (fun _ _ h9 _ _ => h9.elim) (fun v9 μ7 q9 hs8 => ?_)
    obtain ⟨v6, rfl, h⟩ := q9
    refine fw_ti ?_
    have hg9 := hs8.K hg4 (by decide)
    refine fw_if_eq (tgt := 30) dX5_sit_14 (by decide) (fun c10 => ?_) (fun c10 => ?_)
    · have h := fw_it h c10
      refine fw_iconst (v := 0) dX5_sit_30 (by decide) ?_
      exact fw_ireturn dX5_sit_31 rfl (by decide +kernel) ⟨_, rfl, h⟩
    · have h := fw_if h c10
      refine fw_aload_n dX5_sit_17 rfl rfl ?_
      refine fw_getfP fl_X5_7 rfl hg9 dX5_sit_18 ?_
      refine fw_bipush (v := 114) dX5_sit_21 (by decide) ?_
      refine fw_iload_n dX5_sit_23 rfl rfl ?_
      refine fw_iadd dX5_sit_24 ?_
      obtain ⟨hg11, h⟩ := h
      obtain ⟨hc12, h⟩ := h
      refine fw_iald hg11 hc12 dX5_sit_25 ?_
      refine fw_iload_n dX5_sit_26 rfl rfl ?_
      refine fw_icmp_ne (tgt := 32) dX5_sit_27 (by decide) (fun c13 => ?_) (fun c13 => ?_)
      · have h := fw_if h c13
        refine fw_aload_n dX5_sit_32 rfl rfl ?_
        refine fw_callV0z (f1 := f - 1) cl_X5_346 rfl hg9 (by decide) (by omega) (fw_s4 (Nat.le_of_ble_eq_true rfl)) dX5_sit_33 (w_X5_keepsStep (f := f - 1) (by omega) hg9 h) (fun _ _ h9 _ _ => h9.elim) (fun v9 μ15 q9 hs16 => ?_)
        obtain ⟨rfl, h⟩ := q9
        refine fw_tv ?_
        have hg17 := hs16.K hg9 (by decide)
        refine fw_aload_n dX5_sit_36 rfl rfl ?_
        refine fw_getfP fl_X5_7 rfl hg17 dX5_sit_37 ?_
        refine fw_bipush (v := 114) dX5_sit_40 (by decide) ?_
        refine fw_iload_n dX5_sit_42 rfl rfl ?_
        refine fw_iadd dX5_sit_43 ?_
        refine fw_iload_n dX5_sit_44 rfl rfl ?_
        obtain ⟨hg18, h⟩ := h
        obtain ⟨hc19, h⟩ := h
        refine fw_iast hg18 hc19 dX5_sit_45 ?_
        have h := h _ rfl
        refine fw_iconst (v := 1) dX5_sit_46 (by decide) ?_
        exact fw_ireturn dX5_sit_47 rfl (by decide +kernel) ⟨_, rfl, h⟩
      · have h := fw_it h c13
        refine fw_iconst (v := 0) dX5_sit_30 (by decide) ?_
        exact fw_ireturn dX5_sit_31 rfl (by decide +kernel) ⟨_, rfl, h⟩
abbrev K_X5_laysWorld : fw_Kt := (RX5, "laysWorld", cX5_laysWorld, 2, none, [])
def p_X5_laysWorld_L30b (r0 : Nat) (k30 : Int32 → fw_M → Prop) (i1 : Int32) (μ : fw_M) (Q : fw_M → Prop) : Prop :=
  (if (9 : Int32) ≤ i1 then
  ((m_K μ (m_P μ r0 0) = 100 ∧ (vp_in (132 : Int32) (m_N μ (m_P μ r0 0)) ∧ (∀ μ4, μ4 = m_uI μ r0 41 (m_I μ (m_P μ r0 0) (132 : Int32).toNatClampNeg) →
   Q μ4))))
  else
  ((m_K μ (m_P μ r0 0) = 100 ∧ (vp_in ((123 : Int32) + i1) (m_N μ (m_P μ r0 0)) ∧ (m_K μ (m_P μ r0 40) = 100 ∧ (vp_in i1 (m_N μ (m_P μ r0 40)) ∧ (∀ μ9, μ9 = m_uI μ (m_P μ r0 40) i1.toNatClampNeg (m_I μ (m_P μ r0 0) ((123 : Int32) + i1).toNatClampNeg) →
   (∀ i1_10 : Int32, i1_10 = i1 + (1 : Int32) →
   k30 i1_10 μ9))))))))
def p_X5_laysWorld_L30 (r0 : Nat) (i1 : Int32) (μ : fw_M) (Q : fw_M → Prop) : Prop := fw_lp (fun (k : Int32 × fw_M → Prop) (a : Int32 × fw_M) => p_X5_laysWorld_L30b r0 (fun i1 μ => k (i1, μ)) a.1 a.2 Q) (i1, μ)
theorem r_X5_laysWorld_L30 {r0 : Nat} {Q : fw_M → Prop} (I : Int32 → fw_M → Prop) (v : Int32 → fw_M → Nat) (hs : ∀ (k : Int32 → fw_M → Prop) (i1 : Int32) (μ : fw_M), I i1 μ → (∀ (i1' : Int32) (ν : fw_M), I i1' ν → v i1' ν < v i1 μ → k i1' ν) → p_X5_laysWorld_L30b r0 k i1 μ Q) (i1 : Int32) (μ : fw_M) (h : I i1 μ) : p_X5_laysWorld_L30 r0 i1 μ Q :=
  fw_lp_in (A := Int32 × fw_M) (fun a => I a.1 a.2) (fun a => v a.1 a.2) (fun k a ha hk => hs (fun i1 μ => k (i1, μ)) a.1 a.2 ha (fun i1' ν hb hlt => hk (i1', ν) hb hlt)) (i1, μ) h
set_option maxHeartbeats 4000000 in
theorem w_X5_laysWorld_L30b {g : fw_G} {f bc bs : Nat} {r0 : Nat} {k30 : Int32 → fw_M → Prop} {i1 : Int32} {μ : fw_M} {Q : fw_M → Prop} (hf : 1 ≤ f) (hk30 : ∀ {i1 : Int32} {μ : fw_M}, m_K μ r0 = 6 → k30 i1 μ → fw_V g K_X5_laysWorld f bc bs 30 [(0, fw_rv g r0), (1, Value.int i1)] [] μ (fw_Qv Q) fw_nX) (hx : m_K μ r0 = 6) (h : p_X5_laysWorld_L30b r0 k30 i1 μ Q) : fw_V g K_X5_laysWorld f bc bs 30 [(0, fw_rv g r0), (1, Value.int i1)] [] μ (fw_Qv Q) fw_nX := by
  unfold p_X5_laysWorld_L30b at h
  refine fw_iload_n dX5_laysWorld_30 rfl rfl ?_
  refine fw_bipush (v := 9) dX5_laysWorld_31 (by decide) ?_
  refine fw_icmp_ge (tgt := 57) dX5_laysWorld_33 (by decide) (fun c1 => ?_) (fun c1 => ?_)
  · have h := fw_it h c1
    refine fw_aload_n dX5_laysWorld_57 rfl rfl ?_
    refine fw_aload_n dX5_laysWorld_58 rfl rfl ?_
    refine fw_getfP fl_X5_7 rfl hx dX5_laysWorld_59 ?_
    refine fw_sipush (v := 132) dX5_laysWorld_62 (by decide) ?_
    obtain ⟨hg2, h⟩ := h
    obtain ⟨hc3, h⟩ := h
    refine fw_iald hg2 hc3 dX5_laysWorld_65 ?_
    refine fw_putfI fl_X5_314 (fun q hq => Or.inl (by cases hq; rfl)) rfl hx dX5_laysWorld_66 ?_
    have h := h _ rfl
    exact fw_return dX5_laysWorld_69 rfl ⟨rfl, h⟩
  · have h := fw_if h c1
    refine fw_aload_n dX5_laysWorld_36 rfl rfl ?_
    refine fw_getfP fl_X5_88 rfl hx dX5_laysWorld_37 ?_
    refine fw_iload_n dX5_laysWorld_40 rfl rfl ?_
    refine fw_aload_n dX5_laysWorld_41 rfl rfl ?_
    refine fw_getfP fl_X5_7 rfl hx dX5_laysWorld_42 ?_
    refine fw_bipush (v := 123) dX5_laysWorld_45 (by decide) ?_
    refine fw_iload_n dX5_laysWorld_47 rfl rfl ?_
    refine fw_iadd dX5_laysWorld_48 ?_
    obtain ⟨hg5, h⟩ := h
    obtain ⟨hc6, h⟩ := h
    refine fw_iald hg5 hc6 dX5_laysWorld_49 ?_
    obtain ⟨hg7, h⟩ := h
    obtain ⟨hc8, h⟩ := h
    refine fw_iast hg7 hc8 dX5_laysWorld_50 ?_
    have h := h _ rfl
    obtain ⟨i1_10, e11⟩ : ∃ y : Int32, y = i1 + (1 : Int32) := ⟨_, rfl⟩
    have h := h i1_10 e11
    refine fw_iincN (k := 1) (v := i1_10) (Ls' := [(1, Value.int i1_10), (0, fw_rv g r0)]) [] dX5_laysWorld_51 rfl (by rw [e11]; rfl) (by decide) rfl rfl rfl (fw_cat _) rfl ?_
    refine fw_goto (tgt := 30) dX5_laysWorld_54 (by decide) ?_
    refine fw_ls [1, 0] rfl ?_
    exact hk30 hx h
theorem w_X5_laysWorld_L30 {g : fw_G} {f bc bs : Nat} {r0 : Nat} {i1 : Int32} {μ : fw_M} {Q : fw_M → Prop} (hf : 1 ≤ f) (hx : m_K μ r0 = 6) (h : p_X5_laysWorld_L30 r0 i1 μ Q) : fw_V g K_X5_laysWorld f bc bs 30 [(0, fw_rv g r0), (1, Value.int i1)] [] μ (fw_Qv Q) fw_nX := by
  have key := fw_lp_out (R := fun (a : Int32 × fw_M) => m_K a.2 r0 = 6 → fw_V g K_X5_laysWorld f bc bs 30 [(0, fw_rv g r0), (1, Value.int a.1)] [] a.2 (fw_Qv Q) fw_nX) (fun k hk9 a ha hx2 => w_X5_laysWorld_L30b hf (fun {i1} {μ} hx3 h3 => hk9 (i1, μ) h3 hx3) hx2 ha) h
  exact key hx
def p_X5_laysWorld_L2b (r0 : Nat) (k2 : Int32 → fw_M → Prop) (i1 : Int32) (μ : fw_M) (Q : fw_M → Prop) : Prop :=
  (if (4 : Int32) ≤ i1 then
  (p_X5_laysWorld_L30 r0 (0 : Int32) μ Q)
  else
  ((m_K μ (m_P μ r0 0) = 100 ∧ (vp_in ((110 : Int32) + i1) (m_N μ (m_P μ r0 0)) ∧ (m_K μ (m_P μ r0 39) = 100 ∧ (vp_in i1 (m_N μ (m_P μ r0 39)) ∧ (∀ μ6, μ6 = m_uI μ (m_P μ r0 39) i1.toNatClampNeg (m_I μ (m_P μ r0 0) ((110 : Int32) + i1).toNatClampNeg) →
   (∀ i1_7 : Int32, i1_7 = i1 + (1 : Int32) →
   k2 i1_7 μ6))))))))
def p_X5_laysWorld_L2 (r0 : Nat) (i1 : Int32) (μ : fw_M) (Q : fw_M → Prop) : Prop := fw_lp (fun (k : Int32 × fw_M → Prop) (a : Int32 × fw_M) => p_X5_laysWorld_L2b r0 (fun i1 μ => k (i1, μ)) a.1 a.2 Q) (i1, μ)
theorem r_X5_laysWorld_L2 {r0 : Nat} {Q : fw_M → Prop} (I : Int32 → fw_M → Prop) (v : Int32 → fw_M → Nat) (hs : ∀ (k : Int32 → fw_M → Prop) (i1 : Int32) (μ : fw_M), I i1 μ → (∀ (i1' : Int32) (ν : fw_M), I i1' ν → v i1' ν < v i1 μ → k i1' ν) → p_X5_laysWorld_L2b r0 k i1 μ Q) (i1 : Int32) (μ : fw_M) (h : I i1 μ) : p_X5_laysWorld_L2 r0 i1 μ Q :=
  fw_lp_in (A := Int32 × fw_M) (fun a => I a.1 a.2) (fun a => v a.1 a.2) (fun k a ha hk => hs (fun i1 μ => k (i1, μ)) a.1 a.2 ha (fun i1' ν hb hlt => hk (i1', ν) hb hlt)) (i1, μ) h
set_option maxHeartbeats 4000000 in
theorem w_X5_laysWorld_L2b {g : fw_G} {f bc bs : Nat} {r0 : Nat} {k2 : Int32 → fw_M → Prop} {i1 : Int32} {μ : fw_M} {Q : fw_M → Prop} (hf : 1 ≤ f) (hk2 : ∀ {i1 : Int32} {μ : fw_M}, m_K μ r0 = 6 → k2 i1 μ → fw_V g K_X5_laysWorld f bc bs 2 [(0, fw_rv g r0), (1, Value.int i1)] [] μ (fw_Qv Q) fw_nX) (hx : m_K μ r0 = 6) (h : p_X5_laysWorld_L2b r0 k2 i1 μ Q) : fw_V g K_X5_laysWorld f bc bs 2 [(0, fw_rv g r0), (1, Value.int i1)] [] μ (fw_Qv Q) fw_nX := by
  unfold p_X5_laysWorld_L2b at h
  refine fw_iload_n dX5_laysWorld_2 rfl rfl ?_
  refine fw_iconst (v := 4) dX5_laysWorld_3 (by decide) ?_
  refine fw_icmp_ge (tgt := 28) dX5_laysWorld_4 (by decide) (fun c1 => ?_) (fun c1 => ?_)
  · have h := fw_it h c1
    refine fw_iconst (v := 0) dX5_laysWorld_28 (by decide) ?_
    refine fw_istore_nN (Ls' := [(1, Value.int (0 : Int32)), (0, fw_rv g r0)]) [] dX5_laysWorld_29 rfl (by decide) rfl rfl rfl (fw_cat _) rfl ?_
    refine fw_ls [1, 0] rfl ?_
    exact w_X5_laysWorld_L30 hf hx h
  · have h := fw_if h c1
    refine fw_aload_n dX5_laysWorld_7 rfl rfl ?_
    refine fw_getfP fl_X5_85 rfl hx dX5_laysWorld_8 ?_
    refine fw_iload_n dX5_laysWorld_11 rfl rfl ?_
    refine fw_aload_n dX5_laysWorld_12 rfl rfl ?_
    refine fw_getfP fl_X5_7 rfl hx dX5_laysWorld_13 ?_
    refine fw_bipush (v := 110) dX5_laysWorld_16 (by decide) ?_
    refine fw_iload_n dX5_laysWorld_18 rfl rfl ?_
    refine fw_iadd dX5_laysWorld_19 ?_
    obtain ⟨hg2, h⟩ := h
    obtain ⟨hc3, h⟩ := h
    refine fw_iald hg2 hc3 dX5_laysWorld_20 ?_
    obtain ⟨hg4, h⟩ := h
    obtain ⟨hc5, h⟩ := h
    refine fw_iast hg4 hc5 dX5_laysWorld_21 ?_
    have h := h _ rfl
    obtain ⟨i1_7, e8⟩ : ∃ y : Int32, y = i1 + (1 : Int32) := ⟨_, rfl⟩
    have h := h i1_7 e8
    refine fw_iincN (k := 1) (v := i1_7) (Ls' := [(1, Value.int i1_7), (0, fw_rv g r0)]) [] dX5_laysWorld_22 rfl (by rw [e8]; rfl) (by decide) rfl rfl rfl (fw_cat _) rfl ?_
    refine fw_goto (tgt := 2) dX5_laysWorld_25 (by decide) ?_
    refine fw_ls [1, 0] rfl ?_
    exact hk2 hx h
theorem w_X5_laysWorld_L2 {g : fw_G} {f bc bs : Nat} {r0 : Nat} {i1 : Int32} {μ : fw_M} {Q : fw_M → Prop} (hf : 1 ≤ f) (hx : m_K μ r0 = 6) (h : p_X5_laysWorld_L2 r0 i1 μ Q) : fw_V g K_X5_laysWorld f bc bs 2 [(0, fw_rv g r0), (1, Value.int i1)] [] μ (fw_Qv Q) fw_nX := by
  have key := fw_lp_out (R := fun (a : Int32 × fw_M) => m_K a.2 r0 = 6 → fw_V g K_X5_laysWorld f bc bs 2 [(0, fw_rv g r0), (1, Value.int a.1)] [] a.2 (fw_Qv Q) fw_nX) (fun k hk9 a ha hx2 => w_X5_laysWorld_L2b hf (fun {i1} {μ} hx3 h3 => hk9 (i1, μ) h3 hx3) hx2 ha) h
  exact key hx
def p_X5_laysWorld (r0 : Nat) (μ : fw_M) (Q : fw_M → Prop) : Prop :=
  p_X5_laysWorld_L2 r0 (0 : Int32) μ Q
set_option maxHeartbeats 4000000 in
theorem w_X5_laysWorld {g : fw_G} {f bc bs : Nat} {r0 : Nat} {μ : fw_M} {Q : fw_M → Prop} (hf : 1 ≤ f) (hx : m_K μ r0 = 6) (h : p_X5_laysWorld r0 μ Q) : fw_C g f bc bs yX5_laysWorld (ws_ yX5_laysWorld cX5_laysWorld 2 (none)) [fw_rv g r0] μ (fw_Qv Q) fw_nX := by
  unfold p_X5_laysWorld at h
  refine fw_intro' (Ls := [(0, fw_rv g r0)]) (by decide +kernel) (by simp [lg_sl, fw_cat, fw_ci, fw_clo]) (by simp [lv_args, fw_cat, fw_ci, fw_clo]) ?_
  show fw_V g K_X5_laysWorld f bc bs 0 [(0, fw_rv g r0)] [] μ (fw_Qv Q) fw_nX
  refine fw_iconst (v := 0) dX5_laysWorld_0 (by decide) ?_
  refine fw_istore_nN (Ls' := [(1, Value.int (0 : Int32)), (0, fw_rv g r0)]) [] dX5_laysWorld_1 rfl (by decide) rfl rfl rfl (fw_cat _) rfl ?_
  refine fw_ls [1, 0] rfl ?_
  exact w_X5_laysWorld_L2 hf hx h
