set_option maxRecDepth 100000
abbrev K_X6_next : fw_Kt := (RX6, "next", cX6_next, 2, none, [])
def p_X6_next_L18 (k0 : fw_M → Prop) (r0 : Nat) (μ : fw_M) (Q : fw_M → Prop) : Prop :=
  (∀ μ1, μ1 = m_uI μ r0 2 ((m_I μ r0 2) + (1 : Int32)) →
  k0 μ1)
set_option maxHeartbeats 4000000 in
theorem w_X6_next_L18 {g : fw_G} {f bc bs : Nat} {k0 : fw_M → Prop} {r0 : Nat} {μ : fw_M} {Q : fw_M → Prop} (hf : 7 ≤ f) (hk0 : ∀ {μ : fw_M}, m_K μ r0 = 7 → k0 μ → fw_V g K_X6_next f bc bs 0 [(0, fw_rv g r0)] [] μ (fw_Qv Q) fw_nX) (hx : m_K μ r0 = 7) (h : p_X6_next_L18 k0 r0 μ Q) : fw_V g K_X6_next f bc bs 18 [(0, fw_rv g r0)] [] μ (fw_Qv Q) fw_nX := by
  unfold p_X6_next_L18 at h
  refine fw_aload_n dX6_next_18 rfl rfl ?_
  refine fw_dup dX6_next_19 (fw_cat _) ?_
  refine fw_getfI fl_X6_19 rfl hx dX6_next_20 ?_
  refine fw_iconst (v := 1) dX6_next_23 (by decide) ?_
  refine fw_iadd dX6_next_24 ?_
  refine fw_putfI fl_X6_19 (fun q hq => Or.inl (by cases hq; rfl)) rfl hx dX6_next_25 ?_
  have h := h _ rfl
  refine fw_goto (tgt := 0) dX6_next_28 (by decide) ?_
  exact hk0 hx h
def p_X6_next_L96b (r0 : Nat) (k96 : fw_M → Prop) (μ : fw_M) (Q : fw_M → Prop) : Prop :=
  (p_X6_isDigit r0 μ (fun v1 μ2 =>
  (if v1 = 0 then
  (Q μ2)
  else
  ((p_X6_see r0 μ2 (fun v6 μ7 =>
   (p_J0_min_2 (100000 : Int32) ((((10 : Int32) * (m_I μ2 r0 5)) + v6) - (48 : Int32)) μ7 (fun v10 μ11 =>
   (∀ μ14, μ14 = m_uI μ11 r0 5 v10 →
   (∀ μ15, μ15 = m_uI μ14 r0 2 ((m_I μ14 r0 2) + (1 : Int32)) →
   k96 μ15))))))))))
def p_X6_next_L96 (r0 : Nat) (μ : fw_M) (Q : fw_M → Prop) : Prop := fw_lp (fun (k : fw_M → Prop) (a : fw_M) => p_X6_next_L96b r0 (fun μ => k μ) a Q) μ
theorem r_X6_next_L96 {r0 : Nat} {Q : fw_M → Prop} (I : fw_M → Prop) (v : fw_M → Nat) (hs : ∀ (k : fw_M → Prop) (μ : fw_M), I μ → (∀ (ν : fw_M), I ν → v ν < v μ → k ν) → p_X6_next_L96b r0 k μ Q) (μ : fw_M) (h : I μ) : p_X6_next_L96 r0 μ Q :=
  fw_lp_in (A := fw_M) (fun a => I a) (fun a => v a) (fun k a ha hk => hs (fun μ => k μ) a ha (fun ν hb hlt => hk ν hb hlt)) μ h
set_option maxHeartbeats 4000000 in
theorem w_X6_next_L96b {g : fw_G} {f bc bs : Nat} {r0 : Nat} {k96 : fw_M → Prop} {μ : fw_M} {Q : fw_M → Prop} (hf : 7 ≤ f) (hk96 : ∀ {μ : fw_M}, m_K μ r0 = 7 → k96 μ → fw_V g K_X6_next f bc bs 96 [(0, fw_rv g r0)] [] μ (fw_Qv Q) fw_nX) (hx : m_K μ r0 = 7) (h : p_X6_next_L96b r0 k96 μ Q) : fw_V g K_X6_next f bc bs 96 [(0, fw_rv g r0)] [] μ (fw_Qv Q) fw_nX := by
  unfold p_X6_next_L96b at h
  refine fw_aload_n dX6_next_96 rfl rfl ?_
  refine fw_callV0z (f1 := f - 1) cl_X6_66 rfl hx (by decide) (by omega) (fw_s4 (Nat.le_of_ble_eq_true rfl)) dX6_next_97 (w_X6_isDigit (f := f - 1) (by omega) hx h) (fun _ _ h9 _ _ => h9.elim) (fun v9 μ2 q9 hs3 => ?_)
  obtain ⟨v1, rfl, h⟩ := q9
  refine fw_ti ?_
  have hg4 := hs3.K hx (by decide)
  refine fw_if_eq (tgt := 218) dX6_next_100 (by decide) (fun c5 => ?_) (fun c5 => ?_)
  · have h := fw_it h c5
    exact fw_return dX6_next_218 rfl ⟨rfl, h⟩
  · have h := fw_if h c5
    refine fw_aload_n dX6_next_103 rfl rfl ?_
    refine fw_ldc q593 dX6_next_104 ?_
    refine fw_bipush (v := 10) dX6_next_106 (by decide) ?_
    refine fw_aload_n dX6_next_108 rfl rfl ?_
    refine fw_getfI fl_X6_69 rfl hg4 dX6_next_109 ?_
    refine fw_imul dX6_next_112 ?_
    refine fw_aload_n dX6_next_113 rfl rfl ?_
    refine fw_callV0z (f1 := f - 1) cl_X6_22 rfl hg4 (by decide) (by omega) (fw_s4 (Nat.le_of_ble_eq_true rfl)) dX6_next_114 (w_X6_see (f := f - 1) (by omega) hg4 h) (fun _ _ h9 _ _ => h9.elim) (fun v9 μ7 q9 hs8 => ?_)
    obtain ⟨v6, rfl, h⟩ := q9
    refine fw_ti ?_
    have hg9 := hs8.K hg4 (by decide)
    refine fw_iadd dX6_next_117 ?_
    refine fw_bipush (v := 48) dX6_next_118 (by decide) ?_
    refine fw_isub dX6_next_120 ?_
    refine fw_callS2z (f1 := f - 1) cl_X6_73 (by decide) (by omega) (fw_s4 (Nat.le_of_ble_eq_true rfl)) dX6_next_121 (w_J0_min_2 (f := f - 1) (by omega) h) (fun _ _ h9 _ _ => h9.elim) (fun v9 μ11 q9 hs12 => ?_)
    obtain ⟨v10, rfl, h⟩ := q9
    refine fw_ti ?_
    have hg13 := hs12.K hg9 (by decide)
    refine fw_putfI fl_X6_69 (fun q hq => Or.inl (by cases hq; rfl)) rfl hg13 dX6_next_124 ?_
    have h := h _ rfl
    refine fw_aload_n dX6_next_127 rfl rfl ?_
    refine fw_dup dX6_next_128 (fw_cat _) ?_
    refine fw_getfI fl_X6_19 rfl hg13 dX6_next_129 ?_
    refine fw_iconst (v := 1) dX6_next_132 (by decide) ?_
    refine fw_iadd dX6_next_133 ?_
    refine fw_putfI fl_X6_19 (fun q hq => Or.inl (by cases hq; rfl)) rfl hg13 dX6_next_134 ?_
    have h := h _ rfl
    refine fw_goto (tgt := 96) dX6_next_137 (by decide) ?_
    exact hk96 hg13 h
theorem w_X6_next_L96 {g : fw_G} {f bc bs : Nat} {r0 : Nat} {μ : fw_M} {Q : fw_M → Prop} (hf : 7 ≤ f) (hx : m_K μ r0 = 7) (h : p_X6_next_L96 r0 μ Q) : fw_V g K_X6_next f bc bs 96 [(0, fw_rv g r0)] [] μ (fw_Qv Q) fw_nX := by
  have key := fw_lp_out (R := fun (a : fw_M) => m_K a r0 = 7 → fw_V g K_X6_next f bc bs 96 [(0, fw_rv g r0)] [] a (fw_Qv Q) fw_nX) (fun k hk9 a ha hx2 => w_X6_next_L96b hf (fun {μ} hx3 h3 => hk9 μ h3 hx3) hx2 ha) h
  exact key hx
def p_X6_next_L180 (r0 : Nat) (i1 : Int32) (μ : fw_M) (Q : fw_M → Prop) : Prop :=
  (p_X6_see r0 μ (fun v1 μ2 =>
  (if v1 = (61 : Int32) then
  ((∀ μ6, μ6 = m_uI μ2 r0 2 ((m_I μ2 r0 2) + (1 : Int32)) →
   (if i1 = (60 : Int32) then
   ((∀ μ9, μ9 = m_uI μ6 r0 4 (304 : Int32) →
    Q μ9))
   else
   ((∀ μ8, μ8 = m_uI μ6 r0 4 (305 : Int32) →
    Q μ8)))))
  else
  (Q μ2))))
set_option maxHeartbeats 4000000 in
theorem w_X6_next_L180 {g : fw_G} {f bc bs : Nat} {r0 : Nat} {i1 : Int32} {μ : fw_M} {Q : fw_M → Prop} (hf : 7 ≤ f) (hx : m_K μ r0 = 7) (h : p_X6_next_L180 r0 i1 μ Q) : fw_V g K_X6_next f bc bs 180 [(0, fw_rv g r0), (1, Value.int i1)] [] μ (fw_Qv Q) fw_nX := by
  unfold p_X6_next_L180 at h
  refine fw_aload_n dX6_next_180 rfl rfl ?_
  refine fw_callV0z (f1 := f - 1) cl_X6_22 rfl hx (by decide) (by omega) (fw_s4 (Nat.le_of_ble_eq_true rfl)) dX6_next_181 (w_X6_see (f := f - 1) (by omega) hx h) (fun _ _ h9 _ _ => h9.elim) (fun v9 μ2 q9 hs3 => ?_)
  obtain ⟨v1, rfl, h⟩ := q9
  refine fw_ti ?_
  have hg4 := hs3.K hx (by decide)
  refine fw_bipush (v := 61) dX6_next_184 (by decide) ?_
  refine fw_icmp_ne (tgt := 218) dX6_next_186 (by decide) (fun c5 => ?_) (fun c5 => ?_)
  · have h := fw_if h c5
    exact fw_return dX6_next_218 rfl ⟨rfl, h⟩
  · have h := fw_it h c5
    refine fw_aload_n dX6_next_189 rfl rfl ?_
    refine fw_dup dX6_next_190 (fw_cat _) ?_
    refine fw_getfI fl_X6_19 rfl hg4 dX6_next_191 ?_
    refine fw_iconst (v := 1) dX6_next_194 (by decide) ?_
    refine fw_iadd dX6_next_195 ?_
    refine fw_putfI fl_X6_19 (fun q hq => Or.inl (by cases hq; rfl)) rfl hg4 dX6_next_196 ?_
    have h := h _ rfl
    refine fw_aload_n dX6_next_199 rfl rfl ?_
    refine fw_iload_n dX6_next_200 rfl rfl ?_
    refine fw_bipush (v := 60) dX6_next_201 (by decide) ?_
    refine fw_icmp_ne (tgt := 212) dX6_next_203 (by decide) (fun c7 => ?_) (fun c7 => ?_)
    · have h := fw_if h c7
      refine fw_sipush (v := 305) dX6_next_212 (by decide) ?_
      refine fw_putfI fl_X6_60 (fun q hq => Or.inl (by cases hq; rfl)) rfl hg4 dX6_next_215 ?_
      have h := h _ rfl
      exact fw_return dX6_next_218 rfl ⟨rfl, h⟩
    · have h := fw_it h c7
      refine fw_sipush (v := 304) dX6_next_206 (by decide) ?_
      refine fw_goto (tgt := 215) dX6_next_209 (by decide) ?_
      refine fw_putfI fl_X6_60 (fun q hq => Or.inl (by cases hq; rfl)) rfl hg4 dX6_next_215 ?_
      have h := h _ rfl
      exact fw_return dX6_next_218 rfl ⟨rfl, h⟩
def p_X6_next_L165 (r0 : Nat) (i1 : Int32) (rs0 : Nat) (is1 : Int32) (μ : fw_M) (Q : fw_M → Prop) : Prop :=
  (m_K μ rs0 = 7 ∧ (∀ μ2, μ2 = m_uI μ rs0 4 is1 →
  (if i1 = (60 : Int32) then
  (p_X6_next_L180 r0 i1 μ2 Q)
  else
  ((if i1 = (62 : Int32) then
   (p_X6_next_L180 r0 i1 μ2 Q)
   else
   (Q μ2))))))
set_option maxHeartbeats 4000000 in
theorem w_X6_next_L165 {g : fw_G} {f bc bs : Nat} {r0 : Nat} {i1 : Int32} {rs0 : Nat} {is1 : Int32} {μ : fw_M} {Q : fw_M → Prop} (hf : 7 ≤ f) (hx : m_K μ r0 = 7) (h : p_X6_next_L165 r0 i1 rs0 is1 μ Q) : fw_V g K_X6_next f bc bs 165 [(0, fw_rv g r0), (1, Value.int i1)] [Value.int is1, fw_rv g rs0] μ (fw_Qv Q) fw_nX := by
  unfold p_X6_next_L165 at h
  obtain ⟨hg1, h⟩ := h
  refine fw_putfI fl_X6_60 (fun q hq => Or.inl (by cases hq; rfl)) rfl hg1 dX6_next_165 ?_
  have h := h _ rfl
  refine fw_iload_n dX6_next_168 rfl rfl ?_
  refine fw_bipush (v := 60) dX6_next_169 (by decide) ?_
  refine fw_icmp_eq (tgt := 180) dX6_next_171 (by decide) (fun c3 => ?_) (fun c3 => ?_)
  · have h := fw_it h c3
    exact w_X6_next_L180 hf hx h
  · have h := fw_if h c3
    refine fw_iload_n dX6_next_174 rfl rfl ?_
    refine fw_bipush (v := 62) dX6_next_175 (by decide) ?_
    refine fw_icmp_ne (tgt := 218) dX6_next_177 (by decide) (fun c4 => ?_) (fun c4 => ?_)
    · have h := fw_if h c4
      exact fw_return dX6_next_218 rfl ⟨rfl, h⟩
    · have h := fw_it h c4
      exact w_X6_next_L180 hf hx h
def p_X6_next_L0b (r0 : Nat) (k0 : fw_M → Prop) (μ : fw_M) (Q : fw_M → Prop) : Prop :=
  (p_X6_see r0 μ (fun v1 μ2 =>
  (if v1 = (32 : Int32) then
  (p_X6_next_L18 k0 r0 μ2 Q)
  else
  ((p_X6_see r0 μ2 (fun v6 μ7 =>
   (if v6 = (10 : Int32) then
   (p_X6_next_L18 k0 r0 μ7 Q)
   else
   ((∀ μ11, μ11 = m_uI μ7 r0 3 (m_I μ7 r0 2) →
    (∀ μ12, μ12 = m_uI μ11 r0 6 (-1 : Int32) →
    (p_X6_see r0 μ12 (fun v13 μ14 =>
    (if 0 ≤ v13 then
    ((p_X6_isLetter r0 μ14 (fun v18 μ19 =>
     (if v18 = 0 then
     ((p_X6_isDigit r0 μ19 (fun v23 μ24 =>
      (if v23 = 0 then
      ((∀ μ28, μ28 = m_uI μ24 r0 2 ((m_I μ24 r0 2) + (1 : Int32)) →
       (p_X6_isSign v13 μ28 (fun v29 μ30 =>
       (if v29 = 0 then
       (p_X6_next_L165 r0 v13 r0 (303 : Int32) μ30 Q)
       else
       (p_X6_next_L165 r0 v13 r0 v13 μ30 Q))))))
      else
      ((∀ μ34, μ34 = m_uI μ24 r0 4 (301 : Int32) →
       (∀ μ35, μ35 = m_uI μ34 r0 5 (0 : Int32) →
       p_X6_next_L96 r0 μ35 Q)))))))
     else
     ((p_X6_word r0 μ19 (fun μ37 =>
      Q μ37)))))))
    else
    ((∀ μ40, μ40 = m_uI μ14 r0 4 (300 : Int32) →
     Q μ40)))))))))))))))
def p_X6_next_L0 (r0 : Nat) (μ : fw_M) (Q : fw_M → Prop) : Prop := fw_lp (fun (k : fw_M → Prop) (a : fw_M) => p_X6_next_L0b r0 (fun μ => k μ) a Q) μ
theorem r_X6_next_L0 {r0 : Nat} {Q : fw_M → Prop} (I : fw_M → Prop) (v : fw_M → Nat) (hs : ∀ (k : fw_M → Prop) (μ : fw_M), I μ → (∀ (ν : fw_M), I ν → v ν < v μ → k ν) → p_X6_next_L0b r0 k μ Q) (μ : fw_M) (h : I μ) : p_X6_next_L0 r0 μ Q :=
  fw_lp_in (A := fw_M) (fun a => I a) (fun a => v a) (fun k a ha hk => hs (fun μ => k μ) a ha (fun ν hb hlt => hk ν hb hlt)) μ h
set_option maxHeartbeats 4000000 in
theorem w_X6_next_L0b {g : fw_G} {f bc bs : Nat} {r0 : Nat} {k0 : fw_M → Prop} {μ : fw_M} {Q : fw_M → Prop} (hf : 7 ≤ f) (hk0 : ∀ {μ : fw_M}, m_K μ r0 = 7 → k0 μ → fw_V g K_X6_next f bc bs 0 [(0, fw_rv g r0)] [] μ (fw_Qv Q) fw_nX) (hx : m_K μ r0 = 7) (h : p_X6_next_L0b r0 k0 μ Q) : fw_V g K_X6_next f bc bs 0 [(0, fw_rv g r0)] [] μ (fw_Qv Q) fw_nX := by
  unfold p_X6_next_L0b at h
  refine fw_aload_n dX6_next_0 rfl rfl ?_
  refine fw_callV0z (f1 := f - 1) cl_X6_22 rfl hx (by decide) (by omega) (fw_s4 (Nat.le_of_ble_eq_true rfl)) dX6_next_1 (w_X6_see (f := f - 1) (by omega) hx h) (fun _ _ h9 _ _ => h9.elim) (fun v9 μ2 q9 hs3 => ?_)
  obtain ⟨v1, rfl, h⟩ := q9
  refine fw_ti ?_
  have hg4 := hs3.K hx (by decide)
  refine fw_bipush (v := 32) dX6_next_4 (by decide) ?_
  refine fw_icmp_eq (tgt := 18) dX6_next_6 (by decide) (fun c5 => ?_) (fun c5 => ?_)
  · have h := fw_it h c5
    exact w_X6_next_L18 hf hk0 hg4 h
  · have h := fw_if h c5
    refine fw_aload_n dX6_next_9 rfl rfl ?_
    refine fw_callV0z (f1 := f - 1) cl_X6_22 rfl hg4 (by decide) (by omega) (fw_s4 (Nat.le_of_ble_eq_true rfl)) dX6_next_10 (w_X6_see (f := f - 1) (by omega) hg4 h) (fun _ _ h9 _ _ => h9.elim) (fun v9 μ7 q9 hs8 => ?_)
    obtain ⟨v6, rfl, h⟩ := q9
    refine fw_ti ?_
    have hg9 := hs8.K hg4 (by decide)
    refine fw_bipush (v := 10) dX6_next_13 (by decide) ?_
    refine fw_icmp_ne (tgt := 31) dX6_next_15 (by decide) (fun c10 => ?_) (fun c10 => ?_)
    · have h := fw_if h c10
      refine fw_aload_n dX6_next_31 rfl rfl ?_
      refine fw_aload_n dX6_next_32 rfl rfl ?_
      refine fw_getfI fl_X6_19 rfl hg9 dX6_next_33 ?_
      refine fw_putfI fl_X6_35 (fun q hq => Or.inl (by cases hq; rfl)) rfl hg9 dX6_next_36 ?_
      have h := h _ rfl
      refine fw_aload_n dX6_next_39 rfl rfl ?_
      refine fw_iconst (v := -1) dX6_next_40 (by decide) ?_
      refine fw_putfI fl_X6_57 (fun q hq => Or.inl (by cases hq; rfl)) rfl hg9 dX6_next_41 ?_
      have h := h _ rfl
      refine fw_aload_n dX6_next_44 rfl rfl ?_
      refine fw_callV0z (f1 := f - 1) cl_X6_22 rfl hg9 (by decide) (by omega) (fw_s4 (Nat.le_of_ble_eq_true rfl)) dX6_next_45 (w_X6_see (f := f - 1) (by omega) hg9 h) (fun _ _ h9 _ _ => h9.elim) (fun v9 μ14 q9 hs15 => ?_)
      obtain ⟨v13, rfl, h⟩ := q9
      refine fw_ti ?_
      have hg16 := hs15.K hg9 (by decide)
      refine fw_istore_nN (Ls' := [(1, Value.int v13), (0, fw_rv g r0)]) [] dX6_next_48 rfl (by decide) rfl rfl rfl (fw_cat _) rfl ?_
      refine fw_iload_n dX6_next_49 rfl rfl ?_
      refine fw_if_ge (tgt := 63) dX6_next_50 (by decide) (fun c17 => ?_) (fun c17 => ?_)
      · have h := fw_it h c17
        refine fw_aload_n dX6_next_63 rfl rfl ?_
        refine fw_callV0z (f1 := f - 1) cl_X6_42 rfl hg16 (by decide) (by omega) (fw_s4 (Nat.le_of_ble_eq_true rfl)) dX6_next_64 (w_X6_isLetter (f := f - 1) (by omega) hg16 h) (fun _ _ h9 _ _ => h9.elim) (fun v9 μ19 q9 hs20 => ?_)
        obtain ⟨v18, rfl, h⟩ := q9
        refine fw_ti ?_
        have hg21 := hs20.K hg16 (by decide)
        refine fw_if_eq (tgt := 77) dX6_next_67 (by decide) (fun c22 => ?_) (fun c22 => ?_)
        · have h := fw_it h c22
          refine fw_aload_n dX6_next_77 rfl rfl ?_
          refine fw_callV0z (f1 := f - 1) cl_X6_66 rfl hg21 (by decide) (by omega) (fw_s4 (Nat.le_of_ble_eq_true rfl)) dX6_next_78 (w_X6_isDigit (f := f - 1) (by omega) hg21 h) (fun _ _ h9 _ _ => h9.elim) (fun v9 μ24 q9 hs25 => ?_)
          obtain ⟨v23, rfl, h⟩ := q9
          refine fw_ti ?_
          have hg26 := hs25.K hg21 (by decide)
          refine fw_if_eq (tgt := 140) dX6_next_81 (by decide) (fun c27 => ?_) (fun c27 => ?_)
          · have h := fw_it h c27
            refine fw_aload_n dX6_next_140 rfl rfl ?_
            refine fw_dup dX6_next_141 (fw_cat _) ?_
            refine fw_getfI fl_X6_19 rfl hg26 dX6_next_142 ?_
            refine fw_iconst (v := 1) dX6_next_145 (by decide) ?_
            refine fw_iadd dX6_next_146 ?_
            refine fw_putfI fl_X6_19 (fun q hq => Or.inl (by cases hq; rfl)) rfl hg26 dX6_next_147 ?_
            have h := h _ rfl
            refine fw_aload_n dX6_next_150 rfl rfl ?_
            refine fw_iload_n dX6_next_151 rfl rfl ?_
            refine fw_callS1z (f1 := f - 1) cl_X6_79 (by decide) (by omega) (fw_s4 (Nat.le_of_ble_eq_true rfl)) dX6_next_152 (w_X6_isSign (f := f - 1) (by omega) h) (fun _ _ h9 _ _ => h9.elim) (fun v9 μ30 q9 hs31 => ?_)
            obtain ⟨v29, rfl, h⟩ := q9
            refine fw_ti ?_
            have hg32 := hs31.K hg26 (by decide)
            refine fw_if_eq (tgt := 162) dX6_next_155 (by decide) (fun c33 => ?_) (fun c33 => ?_)
            · have h := fw_it h c33
              refine fw_sipush (v := 303) dX6_next_162 (by decide) ?_
              refine fw_ls [1, 0] rfl ?_
              exact w_X6_next_L165 hf hg32 h
            · have h := fw_if h c33
              refine fw_iload_n dX6_next_158 rfl rfl ?_
              refine fw_goto (tgt := 165) dX6_next_159 (by decide) ?_
              refine fw_ls [1, 0] rfl ?_
              exact w_X6_next_L165 hf hg32 h
          · have h := fw_if h c27
            refine fw_aload_n dX6_next_84 rfl rfl ?_
            refine fw_sipush (v := 301) dX6_next_85 (by decide) ?_
            refine fw_putfI fl_X6_60 (fun q hq => Or.inl (by cases hq; rfl)) rfl hg26 dX6_next_88 ?_
            have h := h _ rfl
            refine fw_aload_n dX6_next_91 rfl rfl ?_
            refine fw_iconst (v := 0) dX6_next_92 (by decide) ?_
            refine fw_putfI fl_X6_69 (fun q hq => Or.inl (by cases hq; rfl)) rfl hg26 dX6_next_93 ?_
            have h := h _ rfl
            refine fw_ls [1] rfl ?_
            exact w_X6_next_L96 hf hg26 h
        · have h := fw_if h c22
          refine fw_aload_n dX6_next_70 rfl rfl ?_
          refine fw_callV0z (f1 := f - 1) cl_X6_63 rfl hg21 (by decide) (by omega) (fw_s4 (Nat.le_of_ble_eq_true rfl)) dX6_next_71 (w_X6_word (f := f - 1) (by omega) hg21 h) (fun _ _ h9 _ _ => h9.elim) (fun v9 μ37 q9 hs38 => ?_)
          obtain ⟨rfl, h⟩ := q9
          refine fw_tv ?_
          have hg39 := hs38.K hg21 (by decide)
          refine fw_goto (tgt := 218) dX6_next_74 (by decide) ?_
          exact fw_return dX6_next_218 rfl ⟨rfl, h⟩
      · have h := fw_if h c17
        refine fw_aload_n dX6_next_53 rfl rfl ?_
        refine fw_sipush (v := 300) dX6_next_54 (by decide) ?_
        refine fw_putfI fl_X6_60 (fun q hq => Or.inl (by cases hq; rfl)) rfl hg16 dX6_next_57 ?_
        have h := h _ rfl
        refine fw_goto (tgt := 218) dX6_next_60 (by decide) ?_
        exact fw_return dX6_next_218 rfl ⟨rfl, h⟩
    · have h := fw_it h c10
      exact w_X6_next_L18 hf hk0 hg9 h
theorem w_X6_next_L0 {g : fw_G} {f bc bs : Nat} {r0 : Nat} {μ : fw_M} {Q : fw_M → Prop} (hf : 7 ≤ f) (hx : m_K μ r0 = 7) (h : p_X6_next_L0 r0 μ Q) : fw_V g K_X6_next f bc bs 0 [(0, fw_rv g r0)] [] μ (fw_Qv Q) fw_nX := by
  have key := fw_lp_out (R := fun (a : fw_M) => m_K a r0 = 7 → fw_V g K_X6_next f bc bs 0 [(0, fw_rv g r0)] [] a (fw_Qv Q) fw_nX) (fun k hk9 a ha hx2 => w_X6_next_L0b hf (fun {μ} hx3 h3 => hk9 μ h3 hx3) hx2 ha) h
  exact key hx
def p_X6_next (r0 : Nat) (μ : fw_M) (Q : fw_M → Prop) : Prop :=
  p_X6_next_L0 r0 μ Q
set_option maxHeartbeats 4000000 in
theorem w_X6_next {g : fw_G} {f bc bs : Nat} {r0 : Nat} {μ : fw_M} {Q : fw_M → Prop} (hf : 7 ≤ f) (hx : m_K μ r0 = 7) (h : p_X6_next r0 μ Q) : fw_C g f bc bs yX6_next (ws_ yX6_next cX6_next 2 (none)) [fw_rv g r0] μ (fw_Qv Q) fw_nX := by
  unfold p_X6_next at h
  refine fw_intro' (Ls := [(0, fw_rv g r0)]) (by decide +kernel) (by simp [lg_sl, fw_cat, fw_ci, fw_clo]) (by simp [lv_args, fw_cat, fw_ci, fw_clo]) ?_
  show fw_V g K_X6_next f bc bs 0 [(0, fw_rv g r0)] [] μ (fw_Qv Q) fw_nX
  exact w_X6_next_L0 hf hx h
abbrev K_X10_init : fw_Kt := (RX10, "<init>", cX10_init, 2, none, [])
def p_X10_init (r0 : Nat) (r1 : Nat) (μ : fw_M) (Q : fw_M → Prop) : Prop :=
  (∀ μ1, μ1 = m_uP μ r0 0 r1 →
  Q μ1)
set_option maxHeartbeats 4000000 in
theorem w_X10_init {g : fw_G} {f bc bs : Nat} {r0 : Nat} {r1 : Nat} {μ : fw_M} {Q : fw_M → Prop} (hf : 1 ≤ f) (hx : m_K μ r0 = 11) (h : p_X10_init r0 r1 μ Q) : fw_C g f bc bs yX10_init (ws_ yX10_init cX10_init 2 (none)) [fw_rv g r0, fw_rv g r1] μ (fw_Qv Q) fw_nX := by
  unfold p_X10_init at h
  refine fw_intro' (Ls := [(0, fw_rv g r0), (1, fw_rv g r1)]) (by decide +kernel) (by simp [lg_sl, fw_cat, fw_ci, fw_clo]) (by simp [lv_args, fw_cat, fw_ci, fw_clo]) ?_
  show fw_V g K_X10_init f bc bs 0 [(0, fw_rv g r0), (1, fw_rv g r1)] [] μ (fw_Qv Q) fw_nX
  refine fw_aload_n dX10_init_0 rfl rfl ?_
  refine fw_objInit (k := 11) rfl hx q727 q110 q111 (by omega) (fw_s4 (Nat.le_of_ble_eq_true rfl)) dX10_init_1 ?_
  refine fw_aload_n dX10_init_4 rfl rfl ?_
  refine fw_aload_n dX10_init_5 rfl rfl ?_
  refine fw_putfP fl_X10_7 (fun q hq => Or.inr ⟨rfl, by cases hq; rfl⟩) rfl hx dX10_init_6 ?_
  have h := h _ rfl
  exact fw_return dX10_init_9 rfl ⟨rfl, h⟩
abbrev K_X6_isOf : fw_Kt := (RX6, "isOf", cX6_isOf, 2, some .boolean, [])
def p_X6_isOf (r0 : Nat) (i1 : Int32) (μ : fw_M) (Q : Int32 → fw_M → Prop) : Prop :=
  (if (4 : Int32) ≤ i1 then
  ((if (7 : Int32) ≤ i1 then
   ((if i1 = (7 : Int32) then
    ((if (m_I μ r0 9) = (311 : Int32) then
     (Q (0 : Int32) μ)
     else
     (Q (1 : Int32) μ)))
    else
    ((if (m_I μ r0 9) = (312 : Int32) then
     (Q (1 : Int32) μ)
     else
     (Q (0 : Int32) μ)))))
   else
   ((if (m_I μ r0 9) = (310 : Int32) then
    (Q (1 : Int32) μ)
    else
    (Q (0 : Int32) μ)))))
  else
  ((if (m_I μ r0 9) = (312 : Int32) then
   (Q (0 : Int32) μ)
   else
   (Q (1 : Int32) μ))))
set_option maxHeartbeats 4000000 in
theorem w_X6_isOf {g : fw_G} {f bc bs : Nat} {r0 : Nat} {i1 : Int32} {μ : fw_M} {Q : Int32 → fw_M → Prop} (hf : 1 ≤ f) (hx : m_K μ r0 = 7) (h : p_X6_isOf r0 i1 μ Q) : fw_C g f bc bs yX6_isOf (ws_ yX6_isOf cX6_isOf 2 (some .boolean)) [fw_rv g r0, Value.int i1] μ (fw_Qi Q) fw_nX := by
  unfold p_X6_isOf at h
  refine fw_intro' (Ls := [(0, fw_rv g r0), (1, Value.int i1)]) (by decide +kernel) (by simp [lg_sl, fw_cat, fw_ci, fw_clo]) (by simp [lv_args, fw_cat, fw_ci, fw_clo]) ?_
  show fw_V g K_X6_isOf f bc bs 0 [(0, fw_rv g r0), (1, Value.int i1)] [] μ (fw_Qi Q) fw_nX
  refine fw_iload_n dX6_isOf_0 rfl rfl ?_
  refine fw_iconst (v := 4) dX6_isOf_1 (by decide) ?_
  refine fw_icmp_ge (tgt := 21) dX6_isOf_2 (by decide) (fun c1 => ?_) (fun c1 => ?_)
  · have h := fw_it h c1
    refine fw_iload_n dX6_isOf_21 rfl rfl ?_
    refine fw_bipush (v := 7) dX6_isOf_22 (by decide) ?_
    refine fw_icmp_ge (tgt := 45) dX6_isOf_24 (by decide) (fun c2 => ?_) (fun c2 => ?_)
    · have h := fw_it h c2
      refine fw_iload_n dX6_isOf_45 rfl rfl ?_
      refine fw_bipush (v := 7) dX6_isOf_46 (by decide) ?_
      refine fw_icmp_ne (tgt := 69) dX6_isOf_48 (by decide) (fun c3 => ?_) (fun c3 => ?_)
      · have h := fw_if h c3
        refine fw_aload_n dX6_isOf_69 rfl rfl ?_
        refine fw_getfI fl_X6_101 rfl hx dX6_isOf_70 ?_
        refine fw_sipush (v := 312) dX6_isOf_73 (by decide) ?_
        refine fw_icmp_ne (tgt := 83) dX6_isOf_76 (by decide) (fun c4 => ?_) (fun c4 => ?_)
        · have h := fw_if h c4
          refine fw_iconst (v := 0) dX6_isOf_83 (by decide) ?_
          exact fw_ireturn dX6_isOf_84 rfl (by decide +kernel) ⟨_, rfl, h⟩
        · have h := fw_it h c4
          refine fw_iconst (v := 1) dX6_isOf_79 (by decide) ?_
          refine fw_goto (tgt := 84) dX6_isOf_80 (by decide) ?_
          exact fw_ireturn dX6_isOf_84 rfl (by decide +kernel) ⟨_, rfl, h⟩
      · have h := fw_it h c3
        refine fw_aload_n dX6_isOf_51 rfl rfl ?_
        refine fw_getfI fl_X6_101 rfl hx dX6_isOf_52 ?_
        refine fw_sipush (v := 311) dX6_isOf_55 (by decide) ?_
        refine fw_icmp_eq (tgt := 65) dX6_isOf_58 (by decide) (fun c5 => ?_) (fun c5 => ?_)
        · have h := fw_it h c5
          refine fw_iconst (v := 0) dX6_isOf_65 (by decide) ?_
          refine fw_goto (tgt := 84) dX6_isOf_66 (by decide) ?_
          exact fw_ireturn dX6_isOf_84 rfl (by decide +kernel) ⟨_, rfl, h⟩
        · have h := fw_if h c5
          refine fw_iconst (v := 1) dX6_isOf_61 (by decide) ?_
          refine fw_goto (tgt := 84) dX6_isOf_62 (by decide) ?_
          exact fw_ireturn dX6_isOf_84 rfl (by decide +kernel) ⟨_, rfl, h⟩
    · have h := fw_if h c2
      refine fw_aload_n dX6_isOf_27 rfl rfl ?_
      refine fw_getfI fl_X6_101 rfl hx dX6_isOf_28 ?_
      refine fw_sipush (v := 310) dX6_isOf_31 (by decide) ?_
      refine fw_icmp_ne (tgt := 41) dX6_isOf_34 (by decide) (fun c6 => ?_) (fun c6 => ?_)
      · have h := fw_if h c6
        refine fw_iconst (v := 0) dX6_isOf_41 (by decide) ?_
        refine fw_goto (tgt := 84) dX6_isOf_42 (by decide) ?_
        exact fw_ireturn dX6_isOf_84 rfl (by decide +kernel) ⟨_, rfl, h⟩
      · have h := fw_it h c6
        refine fw_iconst (v := 1) dX6_isOf_37 (by decide) ?_
        refine fw_goto (tgt := 84) dX6_isOf_38 (by decide) ?_
        exact fw_ireturn dX6_isOf_84 rfl (by decide +kernel) ⟨_, rfl, h⟩
  · have h := fw_if h c1
    refine fw_aload_n dX6_isOf_5 rfl rfl ?_
    refine fw_getfI fl_X6_101 rfl hx dX6_isOf_6 ?_
    refine fw_sipush (v := 312) dX6_isOf_9 (by decide) ?_
    refine fw_icmp_eq (tgt := 19) dX6_isOf_12 (by decide) (fun c7 => ?_) (fun c7 => ?_)
    · have h := fw_it h c7
      refine fw_iconst (v := 0) dX6_isOf_19 (by decide) ?_
      exact fw_ireturn dX6_isOf_20 rfl (by decide +kernel) ⟨_, rfl, h⟩
    · have h := fw_if h c7
      refine fw_iconst (v := 1) dX6_isOf_15 (by decide) ?_
      refine fw_goto (tgt := 20) dX6_isOf_16 (by decide) ?_
      exact fw_ireturn dX6_isOf_20 rfl (by decide +kernel) ⟨_, rfl, h⟩
abbrev K_J5_init_2 : fw_Kt := (RJ5, "<init>", cJ5_init_2, 5, none, [])
def p_J5_init_2_L41 (r0 : Nat) (r1 : Nat) (r2 : Nat) (i3 : Int32) (μ : fw_M) (Q : fw_M → Prop) : Prop :=
  (∀ μ1, μ1 = m_uP μ r0 3 r1 →
  (∀ μ2, μ2 = m_uP μ1 r0 0 r2 →
  (if i3 = 0 then
  ((∀ μ4, μ4 = m_uP μ2 r0 2 0 →
   Q μ4))
  else
  (Q μ2))))
set_option maxHeartbeats 4000000 in
theorem w_J5_init_2_L41 {g : fw_G} {f bc bs : Nat} {r0 : Nat} {r1 : Nat} {r2 : Nat} {i3 : Int32} {μ : fw_M} {Q : fw_M → Prop} (hf : 1 ≤ f) (hx : m_K μ r0 = 8) (h : p_J5_init_2_L41 r0 r1 r2 i3 μ Q) : fw_V g K_J5_init_2 f bc bs 41 [(0, fw_rv g r0), (1, fw_rv g r1), (2, fw_rv g r2), (3, Value.int i3)] [] μ (fw_Qv Q) fw_nX := by
  unfold p_J5_init_2_L41 at h
  refine fw_aload_n dJ5_init_2_41 rfl rfl ?_
  refine fw_aload_n dJ5_init_2_42 rfl rfl ?_
  refine fw_putfP fl_J5_31 (fun q hq => Or.inl (by cases hq; rfl)) rfl hx dJ5_init_2_43 ?_
  have h := h _ rfl
  refine fw_aload_n dJ5_init_2_46 rfl rfl ?_
  refine fw_aload_n dJ5_init_2_47 rfl rfl ?_
  refine fw_putfP fl_J5_7 (fun q hq => Or.inl (by cases hq; rfl)) rfl hx dJ5_init_2_48 ?_
  have h := h _ rfl
  refine fw_iload_n dJ5_init_2_51 rfl rfl ?_
  refine fw_if_ne (tgt := 60) dJ5_init_2_52 (by decide) (fun c3 => ?_) (fun c3 => ?_)
  · have h := fw_if h c3
    exact fw_return dJ5_init_2_60 rfl ⟨rfl, h⟩
  · have h := fw_it h c3
    refine fw_aload_n dJ5_init_2_55 rfl rfl ?_
    refine fw_null dJ5_init_2_56 ?_
    refine fw_putfP fl_J5_24 (fun q hq => Or.inl (by cases hq; rfl)) rfl hx dJ5_init_2_57 ?_
    have h := h _ rfl
    exact fw_return dJ5_init_2_60 rfl ⟨rfl, h⟩
def p_J5_init_2 (r0 : Nat) (r1 : Nat) (r2 : Nat) (i3 : Int32) (i4 : Int32) (μ : fw_M) (Q : fw_M → Prop) : Prop :=
  (∀ μ1, μ1 = m_uP μ r0 0 r0 →
  (∀ μ2, μ2 = m_uP μ1 r0 1 (m_P μ1 63 60) →
  (∀ μ3, μ3 = m_uP μ2 r0 2 (m_P μ2 63 61) →
  (if i4 = 0 then
  ((∀ μ5, μ5 = m_uP μ3 r0 1 0 →
   p_J5_init_2_L41 r0 r1 r2 i3 μ5 Q))
  else
  (False)))))
set_option maxHeartbeats 4000000 in
theorem w_J5_init_2 {g : fw_G} {f bc bs : Nat} {r0 : Nat} {r1 : Nat} {r2 : Nat} {i3 : Int32} {i4 : Int32} {μ : fw_M} {Q : fw_M → Prop} (hf : 1 ≤ f) (hx : m_K μ r0 = 8) (h : p_J5_init_2 r0 r1 r2 i3 i4 μ Q) : fw_C g f bc bs yJ5_init_2 (ws_ yJ5_init_2 cJ5_init_2 5 (none)) [fw_rv g r0, fw_rv g r1, fw_rv g r2, Value.int i3, Value.int i4] μ (fw_Qv Q) fw_nX := by
  unfold p_J5_init_2 at h
  refine fw_intro' (Ls := [(0, fw_rv g r0), (1, fw_rv g r1), (2, fw_rv g r2), (3, Value.int i3), (4, Value.int i4)]) (by decide +kernel) (by simp [lg_sl, fw_cat, fw_ci, fw_clo]) (by simp [lv_args, fw_cat, fw_ci, fw_clo]) ?_
  show fw_V g K_J5_init_2 f bc bs 0 [(0, fw_rv g r0), (1, fw_rv g r1), (2, fw_rv g r2), (3, Value.int i3), (4, Value.int i4)] [] μ (fw_Qv Q) fw_nX
  refine fw_aload_n dJ5_init_2_0 rfl rfl ?_
  refine fw_objInit (k := 8) rfl hx q627 q110 q111 (by omega) (fw_s4 (Nat.le_of_ble_eq_true rfl)) dJ5_init_2_1 ?_
  refine fw_aload_n dJ5_init_2_4 rfl rfl ?_
  refine fw_aload_n dJ5_init_2_5 rfl rfl ?_
  refine fw_putfP fl_J5_7 (fun q hq => Or.inl (by cases hq; rfl)) rfl hx dJ5_init_2_6 ?_
  have h := h _ rfl
  refine fw_aload_n dJ5_init_2_9 rfl rfl ?_
  refine fw_getz (t := ("java/lang/Throwable", "UNASSIGNED_STACK", "[Ljava/lang/StackTraceElement;", 60)) (by decide +kernel) q628 dJ5_init_2_10 ?_
  refine fw_putfP fl_J5_17 (fun q hq => Or.inl (by cases hq; rfl)) rfl hx dJ5_init_2_13 ?_
  have h := h _ rfl
  refine fw_aload_n dJ5_init_2_16 rfl rfl ?_
  refine fw_getz (t := ("java/lang/Throwable", "SUPPRESSED_SENTINEL", "Ljava/util/List;", 61)) (by decide +kernel) q630 dJ5_init_2_17 ?_
  refine fw_putfP fl_J5_24 (fun q hq => Or.inl (by cases hq; rfl)) rfl hx dJ5_init_2_20 ?_
  have h := h _ rfl
  refine fw_iload dJ5_init_2_23 rfl ?_
  refine fw_if_eq (tgt := 36) dJ5_init_2_25 (by decide) (fun c4 => ?_) (fun c4 => ?_)
  · have h := fw_it h c4
    refine fw_aload_n dJ5_init_2_36 rfl rfl ?_
    refine fw_null dJ5_init_2_37 ?_
    refine fw_putfP fl_J5_17 (fun q hq => Or.inl (by cases hq; rfl)) rfl hx dJ5_init_2_38 ?_
    have h := h _ rfl
    refine fw_ls [0, 1, 2, 3] rfl ?_
    exact w_J5_init_2_L41 hf hx h
  · have h := fw_if h c4
    refine fw_aload_n dJ5_init_2_28 rfl rfl ?_
    exact h.elim
abbrev K_J6_init : fw_Kt := (RJ6, "<init>", cJ6_init, 5, none, [])
def p_J6_init (r0 : Nat) (r1 : Nat) (r2 : Nat) (i3 : Int32) (i4 : Int32) (μ : fw_M) (Q : fw_M → Prop) : Prop :=
  (p_J5_init_2 r0 r1 r2 i3 i4 μ (fun μ2 =>
  Q μ2))
set_option maxHeartbeats 4000000 in
theorem w_J6_init {g : fw_G} {f bc bs : Nat} {r0 : Nat} {r1 : Nat} {r2 : Nat} {i3 : Int32} {i4 : Int32} {μ : fw_M} {Q : fw_M → Prop} (hf : 2 ≤ f) (hx : m_K μ r0 = 8) (h : p_J6_init r0 r1 r2 i3 i4 μ Q) : fw_C g f bc bs yJ6_init (ws_ yJ6_init cJ6_init 5 (none)) [fw_rv g r0, fw_rv g r1, fw_rv g r2, Value.int i3, Value.int i4] μ (fw_Qv Q) fw_nX := by
  unfold p_J6_init at h
  refine fw_intro' (Ls := [(0, fw_rv g r0), (1, fw_rv g r1), (2, fw_rv g r2), (3, Value.int i3), (4, Value.int i4)]) (by decide +kernel) (by simp [lg_sl, fw_cat, fw_ci, fw_clo]) (by simp [lv_args, fw_cat, fw_ci, fw_clo]) ?_
  show fw_V g K_J6_init f bc bs 0 [(0, fw_rv g r0), (1, fw_rv g r1), (2, fw_rv g r2), (3, Value.int i3), (4, Value.int i4)] [] μ (fw_Qv Q) fw_nX
  refine fw_aload_n dJ6_init_0 rfl rfl ?_
  refine fw_aload_n dJ6_init_1 rfl rfl ?_
  refine fw_aload_n dJ6_init_2 rfl rfl ?_
  refine fw_iload_n dJ6_init_3 rfl rfl ?_
  refine fw_iload dJ6_init_4 rfl ?_
  refine fw_callI4z (f1 := f - 1) cl_J6_16 (k := 8) rfl hx (by decide) (by omega) (fw_s4 (Nat.le_of_ble_eq_true rfl)) dJ6_init_6 (w_J5_init_2 (f := f - 1) (by omega) hx h) (fun _ _ h9 _ _ => h9.elim) (fun v9 μ2 q9 hs3 => ?_)
  obtain ⟨rfl, h⟩ := q9
  refine fw_tv ?_
  have hg4 := hs3.K hx (by decide)
  exact fw_return dJ6_init_9 rfl ⟨rfl, h⟩
abbrev K_J7_init : fw_Kt := (RJ7, "<init>", cJ7_init, 5, none, [])
def p_J7_init (r0 : Nat) (r1 : Nat) (r2 : Nat) (i3 : Int32) (i4 : Int32) (μ : fw_M) (Q : fw_M → Prop) : Prop :=
  (p_J6_init r0 r1 r2 i3 i4 μ (fun μ2 =>
  Q μ2))
set_option maxHeartbeats 4000000 in
theorem w_J7_init {g : fw_G} {f bc bs : Nat} {r0 : Nat} {r1 : Nat} {r2 : Nat} {i3 : Int32} {i4 : Int32} {μ : fw_M} {Q : fw_M → Prop} (hf : 3 ≤ f) (hx : m_K μ r0 = 8) (h : p_J7_init r0 r1 r2 i3 i4 μ Q) : fw_C g f bc bs yJ7_init (ws_ yJ7_init cJ7_init 5 (none)) [fw_rv g r0, fw_rv g r1, fw_rv g r2, Value.int i3, Value.int i4] μ (fw_Qv Q) fw_nX := by
  unfold p_J7_init at h
  refine fw_intro' (Ls := [(0, fw_rv g r0), (1, fw_rv g r1), (2, fw_rv g r2), (3, Value.int i3), (4, Value.int i4)]) (by decide +kernel) (by simp [lg_sl, fw_cat, fw_ci, fw_clo]) (by simp [lv_args, fw_cat, fw_ci, fw_clo]) ?_
  show fw_V g K_J7_init f bc bs 0 [(0, fw_rv g r0), (1, fw_rv g r1), (2, fw_rv g r2), (3, Value.int i3), (4, Value.int i4)] [] μ (fw_Qv Q) fw_nX
  refine fw_aload_n dJ7_init_0 rfl rfl ?_
  refine fw_aload_n dJ7_init_1 rfl rfl ?_
  refine fw_aload_n dJ7_init_2 rfl rfl ?_
  refine fw_iload_n dJ7_init_3 rfl rfl ?_
  refine fw_iload dJ7_init_4 rfl ?_
  refine fw_callI4z (f1 := f - 1) cl_J7_16 (k := 8) rfl hx (by decide) (by omega) (fw_s4 (Nat.le_of_ble_eq_true rfl)) dJ7_init_6 (w_J6_init (f := f - 1) (by omega) hx h) (fun _ _ h9 _ _ => h9.elim) (fun v9 μ2 q9 hs3 => ?_)
  obtain ⟨rfl, h⟩ := q9
  refine fw_tv ?_
  have hg4 := hs3.K hx (by decide)
  exact fw_return dJ7_init_9 rfl ⟨rfl, h⟩
abbrev K_X7_init : fw_Kt := (RX7, "<init>", cX7_init, 3, none, [])
def p_X7_init (r0 : Nat) (i1 : Int32) (i2 : Int32) (μ : fw_M) (Q : fw_M → Prop) : Prop :=
  (p_J7_init r0 0 0 (0 : Int32) (0 : Int32) μ (fun μ2 =>
  (∀ μ5, μ5 = m_uI μ2 r0 6 i1 →
  (∀ μ6, μ6 = m_uI μ5 r0 7 i2 →
  Q μ6))))
set_option maxHeartbeats 4000000 in
theorem w_X7_init {g : fw_G} {f bc bs : Nat} {r0 : Nat} {i1 : Int32} {i2 : Int32} {μ : fw_M} {Q : fw_M → Prop} (hf : 4 ≤ f) (hx : m_K μ r0 = 8) (h : p_X7_init r0 i1 i2 μ Q) : fw_C g f bc bs yX7_init (ws_ yX7_init cX7_init 3 (none)) [fw_rv g r0, Value.int i1, Value.int i2] μ (fw_Qv Q) fw_nX := by
  unfold p_X7_init at h
  refine fw_intro' (Ls := [(0, fw_rv g r0), (1, Value.int i1), (2, Value.int i2)]) (by decide +kernel) (by simp [lg_sl, fw_cat, fw_ci, fw_clo]) (by simp [lv_args, fw_cat, fw_ci, fw_clo]) ?_
  show fw_V g K_X7_init f bc bs 0 [(0, fw_rv g r0), (1, Value.int i1), (2, Value.int i2)] [] μ (fw_Qv Q) fw_nX
  refine fw_aload_n dX7_init_0 rfl rfl ?_
  refine fw_null dX7_init_1 ?_
  refine fw_null dX7_init_2 ?_
  refine fw_iconst (v := 0) dX7_init_3 (by decide) ?_
  refine fw_iconst (v := 0) dX7_init_4 (by decide) ?_
  refine fw_callI4z (f1 := f - 1) cl_X7_1 (k := 8) rfl hx (by decide) (by omega) (fw_s4 (Nat.le_of_ble_eq_true rfl)) dX7_init_5 (w_J7_init (f := f - 1) (by omega) hx h) (fun _ _ h9 _ _ => h9.elim) (fun v9 μ2 q9 hs3 => ?_)
  obtain ⟨rfl, h⟩ := q9
  refine fw_tv ?_
  have hg4 := hs3.K hx (by decide)
  refine fw_aload_n dX7_init_8 rfl rfl ?_
  refine fw_iload_n dX7_init_9 rfl rfl ?_
  refine fw_putfI fl_X7_7 (fun q hq => Or.inr ⟨rfl, by cases hq; rfl⟩) rfl hg4 dX7_init_10 ?_
  have h := h _ rfl
  refine fw_aload_n dX7_init_13 rfl rfl ?_
  refine fw_iload_n dX7_init_14 rfl rfl ?_
  refine fw_putfI fl_X7_13 (fun q hq => Or.inr ⟨rfl, by cases hq; rfl⟩) rfl hg4 dX7_init_15 ?_
  have h := h _ rfl
  exact fw_return dX7_init_18 rfl ⟨rfl, h⟩
abbrev K_X6_wrong : fw_Kt := (RX6, "wrong", cX6_wrong, 2, some (.object "SpoonScales$Wrong"), [])
def p_X6_wrong (bc : Nat) (bs : Nat) (r0 : Nat) (i1 : Int32) (μ : fw_M) (Q : Nat → fw_M → Prop) : Prop :=
  (1 ≤ bc ∧ (8 ≤ bs ∧ (∀ rn3 : Nat, rn3 = m_x μ →
  (∀ μ6, μ6 = m_al μ 8 8 →
  (p_X7_init rn3 i1 (m_I μ6 r0 3) μ6 (fun μ10 =>
  Q rn3 μ10))))))
set_option maxHeartbeats 4000000 in
theorem w_X6_wrong {g : fw_G} {f bc bs : Nat} {r0 : Nat} {i1 : Int32} {μ : fw_M} {Q : Nat → fw_M → Prop} (hf : 5 ≤ f) (hx : m_K μ r0 = 7) (h : p_X6_wrong bc bs r0 i1 μ Q) : fw_C g f bc bs yX6_wrong (ws_ yX6_wrong cX6_wrong 2 (some (.object "SpoonScales$Wrong"))) [fw_rv g r0, Value.int i1] μ (fw_Qr g Q) fw_nX := by
  unfold p_X6_wrong at h
  refine fw_intro' (Ls := [(0, fw_rv g r0), (1, Value.int i1)]) (by decide +kernel) (by simp [lg_sl, fw_cat, fw_ci, fw_clo]) (by simp [lv_args, fw_cat, fw_ci, fw_clo]) ?_
  show fw_V g K_X6_wrong f bc bs 0 [(0, fw_rv g r0), (1, Value.int i1)] [] μ (fw_Qr g Q) fw_nX
  refine fw_x (fun hX => ?_)
  obtain ⟨hc1, h⟩ := h
  obtain ⟨hc2, h⟩ := h
  refine fw_newo (k := 8) rfl q602 q603 q90 hc1 hc2 dX6_wrong_0 ?_
  refine fw_topr (fun rn3 e4 => ?_)
  have h := h rn3 e4
  refine fw_topm (fun μ6 e7 => ?_)
  have hg8 := fw_al_sE e7 hx (by decide) hX
  have hg5 := fw_al_KE e7 e4
  have h := h μ6 e7
  refine fw_dup dX6_wrong_3 (fw_cat _) ?_
  refine fw_iload_n dX6_wrong_4 rfl rfl ?_
  refine fw_aload_n dX6_wrong_5 rfl rfl ?_
  refine fw_getfI fl_X6_35 rfl hg8 dX6_wrong_6 ?_
  refine fw_callI2z (f1 := f - 1) cl_X6_85 (k := 8) rfl hg5 (by decide) (by omega) (fw_s4 (Nat.le_of_ble_eq_true rfl)) dX6_wrong_9 (w_X7_init (f := f - 1) (by omega) hg5 h) (fun _ _ h9 _ _ => h9.elim) (fun v9 μ10 q9 hs11 => ?_)
  obtain ⟨rfl, h⟩ := q9
  refine fw_tv ?_
  have hg12 := hs11.K hg8 (by decide)
  have hg13 := hs11.K hg5 (by decide)
  exact fw_areturn dX6_wrong_12 rfl (by first | exact Or.inl ⟨_, rfl⟩ | exact Or.inr ⟨_, rfl⟩) ⟨_, rfl, h⟩
abbrev K_X6_need : fw_Kt := (RX6, "need", cX6_need, 2, none, [])
def p_X6_need (bc : Nat) (bs : Nat) (r0 : Nat) (i1 : Int32) (μ : fw_M) (Q : fw_M → Prop) (X : Nat → fw_M → Prop) : Prop :=
  (if (m_I μ r0 4) = i1 then
  ((p_X6_next r0 μ (fun μ3 =>
   Q μ3)))
  else
  ((∃ b8 b9, b8 ≤ bc ∧ b9 ≤ bs ∧ (p_X6_wrong b8 b9 r0 (1 : Int32) μ (fun r6 μ7 =>
   (m_K μ7 r6 = 8 ∧ X r6 μ7))))))
set_option maxHeartbeats 4000000 in
theorem w_X6_need {g : fw_G} {f bc bs : Nat} {r0 : Nat} {i1 : Int32} {μ : fw_M} {Q : fw_M → Prop} {X : Nat → fw_M → Prop} (hf : 8 ≤ f) (hx : m_K μ r0 = 7) (h : p_X6_need bc bs r0 i1 μ Q X) : fw_C g f bc bs yX6_need (ws_ yX6_need cX6_need 2 (none)) [fw_rv g r0, Value.int i1] μ (fw_Qv Q) X := by
  unfold p_X6_need at h
  refine fw_intro' (Ls := [(0, fw_rv g r0), (1, Value.int i1)]) (by decide +kernel) (by simp [lg_sl, fw_cat, fw_ci, fw_clo]) (by simp [lv_args, fw_cat, fw_ci, fw_clo]) ?_
  show fw_V g K_X6_need f bc bs 0 [(0, fw_rv g r0), (1, Value.int i1)] [] μ (fw_Qv Q) X
  refine fw_aload_n dX6_need_0 rfl rfl ?_
  refine fw_getfI fl_X6_60 rfl hx dX6_need_1 ?_
  refine fw_iload_n dX6_need_4 rfl rfl ?_
  refine fw_icmp_eq (tgt := 14) dX6_need_5 (by decide) (fun c1 => ?_) (fun c1 => ?_)
  · have h := fw_it h c1
    refine fw_aload_n dX6_need_14 rfl rfl ?_
    refine fw_callV0z (f1 := f - 1) cl_X6_92 rfl hx (by decide) (by omega) (fw_s4 (Nat.le_of_ble_eq_true rfl)) dX6_need_15 (w_X6_next (f := f - 1) (by omega) hx h) (fun _ _ h9 _ _ => h9.elim) (fun v9 μ3 q9 hs4 => ?_)
    obtain ⟨rfl, h⟩ := q9
    refine fw_tv ?_
    have hg5 := hs4.K hx (by decide)
    exact fw_return dX6_need_18 rfl ⟨rfl, h⟩
  · have h := fw_if h c1
    refine fw_aload_n dX6_need_8 rfl rfl ?_
    refine fw_iconst (v := 1) dX6_need_9 (by decide) ?_
    obtain ⟨b8, b9, hb10, hb11, h⟩ := h
    refine fw_callV1 (f1 := f - 1) (b1 := b8) (b2 := b9) cl_X6_88 rfl hx (by decide) (by omega) hb10 hb11 (fw_s4 (Nat.le_of_ble_eq_true rfl)) dX6_need_10 (w_X6_wrong (f := f - 1) (by omega) hx h) (fun _ _ h9 _ _ => h9.elim) (fun v9 μ7 q9 hs12 => ?_)
    obtain ⟨r6, rfl, h⟩ := q9
    refine fw_tr ?_
    have hg13 := hs12.K hx (by decide)
    obtain ⟨hg14, h⟩ := h
    exact fw_athrow hg14 dX6_need_13 (fw_out rfl hg14 h)
abbrev K_X6_number : fw_Kt := (RX6, "number", cX6_number, 4, some .int, [])
def p_X6_number (bc : Nat) (bs : Nat) (r0 : Nat) (i1 : Int32) (i2 : Int32) (μ : fw_M) (Q : Int32 → fw_M → Prop) (X : Nat → fw_M → Prop) : Prop :=
  (if (m_I μ r0 4) = (301 : Int32) then
  ((p_X0_in (m_I μ r0 5) i1 i2 μ (fun v2 μ3 =>
   (if v2 = 0 then
   ((∃ b15 b16, b15 ≤ bc ∧ b16 ≤ bs ∧ (p_X6_wrong b15 b16 r0 (2 : Int32) μ3 (fun r13 μ14 =>
    (m_K μ14 r13 = 8 ∧ X r13 μ14)))))
   else
   ((∀ i3_7 : Int32, i3_7 = (m_I μ3 r0 5) →
    (p_X6_next r0 μ3 (fun μ10 =>
    Q i3_7 μ10))))))))
  else
  ((∃ b24 b25, b24 ≤ bc ∧ b25 ≤ bs ∧ (p_X6_wrong b24 b25 r0 (1 : Int32) μ (fun r22 μ23 =>
   (m_K μ23 r22 = 8 ∧ X r22 μ23))))))
set_option maxHeartbeats 4000000 in
theorem w_X6_number {g : fw_G} {f bc bs : Nat} {r0 : Nat} {i1 : Int32} {i2 : Int32} {μ : fw_M} {Q : Int32 → fw_M → Prop} {X : Nat → fw_M → Prop} (hf : 8 ≤ f) (hx : m_K μ r0 = 7) (h : p_X6_number bc bs r0 i1 i2 μ Q X) : fw_C g f bc bs yX6_number (ws_ yX6_number cX6_number 4 (some .int)) [fw_rv g r0, Value.int i1, Value.int i2] μ (fw_Qi Q) X := by
  unfold p_X6_number at h
  refine fw_intro' (Ls := [(0, fw_rv g r0), (1, Value.int i1), (2, Value.int i2)]) (by decide +kernel) (by simp [lg_sl, fw_cat, fw_ci, fw_clo]) (by simp [lv_args, fw_cat, fw_ci, fw_clo]) ?_
  show fw_V g K_X6_number f bc bs 0 [(0, fw_rv g r0), (1, Value.int i1), (2, Value.int i2)] [] μ (fw_Qi Q) X
  refine fw_aload_n dX6_number_0 rfl rfl ?_
  refine fw_getfI fl_X6_60 rfl hx dX6_number_1 ?_
  refine fw_sipush (v := 301) dX6_number_4 (by decide) ?_
  refine fw_icmp_eq (tgt := 16) dX6_number_7 (by decide) (fun c1 => ?_) (fun c1 => ?_)
  · have h := fw_it h c1
    refine fw_aload_n dX6_number_16 rfl rfl ?_
    refine fw_getfI fl_X6_69 rfl hx dX6_number_17 ?_
    refine fw_iload_n dX6_number_20 rfl rfl ?_
    refine fw_iload_n dX6_number_21 rfl rfl ?_
    refine fw_callSN3z (f1 := f - 1) cl_X6_26 (by decide) (by omega) (fw_s4 (Nat.le_of_ble_eq_true rfl)) dX6_number_22 (w_X0_in (f := f - 1) (by omega) h) (fun _ _ h9 _ _ => h9.elim) (fun v9 μ3 q9 hs4 => ?_)
    obtain ⟨v2, rfl, h⟩ := q9
    refine fw_ti ?_
    have hg5 := hs4.K hx (by decide)
    refine fw_if_ne (tgt := 34) dX6_number_25 (by decide) (fun c6 => ?_) (fun c6 => ?_)
    · have h := fw_if h c6
      refine fw_aload_n dX6_number_34 rfl rfl ?_
      refine fw_getfI fl_X6_69 rfl hg5 dX6_number_35 ?_
      refine fw_topi (fun i3_7 e8 => ?_)
      have h := h i3_7 e8
      refine fw_istore_nN (Ls' := [(3, Value.int i3_7), (2, Value.int i2), (0, fw_rv g r0), (1, Value.int i1)]) [0, 1] dX6_number_38 rfl (by decide) rfl rfl rfl rfl rfl ?_
      refine fw_aload_n dX6_number_39 rfl rfl ?_
      refine fw_callV0z (f1 := f - 1) cl_X6_92 rfl hg5 (by decide) (by omega) (fw_s4 (Nat.le_of_ble_eq_true rfl)) dX6_number_40 (w_X6_next (f := f - 1) (by omega) hg5 h) (fun _ _ h9 _ _ => h9.elim) (fun v9 μ10 q9 hs11 => ?_)
      obtain ⟨rfl, h⟩ := q9
      refine fw_tv ?_
      have hg12 := hs11.K hg5 (by decide)
      refine fw_iload_n dX6_number_43 rfl rfl ?_
      exact fw_ireturn dX6_number_44 rfl rfl ⟨_, rfl, h⟩
    · have h := fw_it h c6
      refine fw_aload_n dX6_number_28 rfl rfl ?_
      refine fw_iconst (v := 2) dX6_number_29 (by decide) ?_
      obtain ⟨b15, b16, hb17, hb18, h⟩ := h
      refine fw_callV1 (f1 := f - 1) (b1 := b15) (b2 := b16) cl_X6_88 rfl hg5 (by decide) (by omega) hb17 hb18 (fw_s4 (Nat.le_of_ble_eq_true rfl)) dX6_number_30 (w_X6_wrong (f := f - 1) (by omega) hg5 h) (fun _ _ h9 _ _ => h9.elim) (fun v9 μ14 q9 hs19 => ?_)
      obtain ⟨r13, rfl, h⟩ := q9
      refine fw_tr ?_
      have hg20 := hs19.K hg5 (by decide)
      obtain ⟨hg21, h⟩ := h
      exact fw_athrow hg21 dX6_number_33 (fw_out rfl hg21 h)
  · have h := fw_if h c1
    refine fw_aload_n dX6_number_10 rfl rfl ?_
    refine fw_iconst (v := 1) dX6_number_11 (by decide) ?_
    obtain ⟨b24, b25, hb26, hb27, h⟩ := h
    refine fw_callV1 (f1 := f - 1) (b1 := b24) (b2 := b25) cl_X6_88 rfl hx (by decide) (by omega) hb26 hb27 (fw_s4 (Nat.le_of_ble_eq_true rfl)) dX6_number_12 (w_X6_wrong (f := f - 1) (by omega) hx h) (fun _ _ h9 _ _ => h9.elim) (fun v9 μ23 q9 hs28 => ?_)
    obtain ⟨r22, rfl, h⟩ := q9
    refine fw_tr ?_
    have hg29 := hs28.K hx (by decide)
    obtain ⟨hg30, h⟩ := h
    exact fw_athrow hg30 dX6_number_15 (fw_out rfl hg30 h)
abbrev K_X6_opens : fw_Kt := (RX6, "opens", cX6_opens, 1, none, [])
def p_X6_opens (bc : Nat) (bs : Nat) (r0 : Nat) (μ : fw_M) (Q : fw_M → Prop) (X : Nat → fw_M → Prop) : Prop :=
  (if (m_I μ r0 7) = (8 : Int32) then
  ((∃ b9 b10, b9 ≤ bc ∧ b10 ≤ bs ∧ (p_X6_wrong b9 b10 r0 (3 : Int32) μ (fun r7 μ8 =>
   (m_K μ8 r7 = 8 ∧ X r7 μ8)))))
  else
  ((∀ μ2, μ2 = m_uI μ r0 7 ((m_I μ r0 7) + (1 : Int32)) →
   (p_X6_next r0 μ2 (fun μ4 =>
   Q μ4)))))
set_option maxHeartbeats 4000000 in
theorem w_X6_opens {g : fw_G} {f bc bs : Nat} {r0 : Nat} {μ : fw_M} {Q : fw_M → Prop} {X : Nat → fw_M → Prop} (hf : 8 ≤ f) (hx : m_K μ r0 = 7) (h : p_X6_opens bc bs r0 μ Q X) : fw_C g f bc bs yX6_opens (ws_ yX6_opens cX6_opens 1 (none)) [fw_rv g r0] μ (fw_Qv Q) X := by
  unfold p_X6_opens at h
  refine fw_intro' (Ls := [(0, fw_rv g r0)]) (by decide +kernel) (by simp [lg_sl, fw_cat, fw_ci, fw_clo]) (by simp [lv_args, fw_cat, fw_ci, fw_clo]) ?_
  show fw_V g K_X6_opens f bc bs 0 [(0, fw_rv g r0)] [] μ (fw_Qv Q) X
  refine fw_aload_n dX6_opens_0 rfl rfl ?_
  refine fw_getfI fl_X6_95 rfl hx dX6_opens_1 ?_
  refine fw_bipush (v := 8) dX6_opens_4 (by decide) ?_
  refine fw_icmp_ne (tgt := 15) dX6_opens_6 (by decide) (fun c1 => ?_) (fun c1 => ?_)
  · have h := fw_if h c1
    refine fw_aload_n dX6_opens_15 rfl rfl ?_
    refine fw_dup dX6_opens_16 (fw_cat _) ?_
    refine fw_getfI fl_X6_95 rfl hx dX6_opens_17 ?_
    refine fw_iconst (v := 1) dX6_opens_20 (by decide) ?_
    refine fw_iadd dX6_opens_21 ?_
    refine fw_putfI fl_X6_95 (fun q hq => Or.inl (by cases hq; rfl)) rfl hx dX6_opens_22 ?_
    have h := h _ rfl
    refine fw_aload_n dX6_opens_25 rfl rfl ?_
    refine fw_callV0z (f1 := f - 1) cl_X6_92 rfl hx (by decide) (by omega) (fw_s4 (Nat.le_of_ble_eq_true rfl)) dX6_opens_26 (w_X6_next (f := f - 1) (by omega) hx h) (fun _ _ h9 _ _ => h9.elim) (fun v9 μ4 q9 hs5 => ?_)
    obtain ⟨rfl, h⟩ := q9
    refine fw_tv ?_
    have hg6 := hs5.K hx (by decide)
    exact fw_return dX6_opens_29 rfl ⟨rfl, h⟩
  · have h := fw_it h c1
    refine fw_aload_n dX6_opens_9 rfl rfl ?_
    refine fw_iconst (v := 3) dX6_opens_10 (by decide) ?_
    obtain ⟨b9, b10, hb11, hb12, h⟩ := h
    refine fw_callV1 (f1 := f - 1) (b1 := b9) (b2 := b10) cl_X6_88 rfl hx (by decide) (by omega) hb11 hb12 (fw_s4 (Nat.le_of_ble_eq_true rfl)) dX6_opens_11 (w_X6_wrong (f := f - 1) (by omega) hx h) (fun _ _ h9 _ _ => h9.elim) (fun v9 μ8 q9 hs13 => ?_)
    obtain ⟨r7, rfl, h⟩ := q9
    refine fw_tr ?_
    have hg14 := hs13.K hx (by decide)
    obtain ⟨hg15, h⟩ := h
    exact fw_athrow hg15 dX6_opens_14 (fw_out rfl hg15 h)
abbrev K_X8_init : fw_Kt := (RX8, "<init>", cX8_init, 2, none, [])
def p_X8_init (r0 : Nat) (i1 : Int32) (μ : fw_M) (Q : fw_M → Prop) : Prop :=
  (∀ μ1, μ1 = m_uI μ r0 0 i1 →
  Q μ1)
set_option maxHeartbeats 4000000 in
theorem w_X8_init {g : fw_G} {f bc bs : Nat} {r0 : Nat} {i1 : Int32} {μ : fw_M} {Q : fw_M → Prop} (hf : 1 ≤ f) (hx : m_K μ r0 = 9) (h : p_X8_init r0 i1 μ Q) : fw_C g f bc bs yX8_init (ws_ yX8_init cX8_init 2 (none)) [fw_rv g r0, Value.int i1] μ (fw_Qv Q) fw_nX := by
  unfold p_X8_init at h
  refine fw_intro' (Ls := [(0, fw_rv g r0), (1, Value.int i1)]) (by decide +kernel) (by simp [lg_sl, fw_cat, fw_ci, fw_clo]) (by simp [lv_args, fw_cat, fw_ci, fw_clo]) ?_
  show fw_V g K_X8_init f bc bs 0 [(0, fw_rv g r0), (1, Value.int i1)] [] μ (fw_Qv Q) fw_nX
  refine fw_aload_n dX8_init_0 rfl rfl ?_
  refine fw_objInit (k := 9) rfl hx q695 q110 q111 (by omega) (fw_s4 (Nat.le_of_ble_eq_true rfl)) dX8_init_1 ?_
  refine fw_aload_n dX8_init_4 rfl rfl ?_
  refine fw_iload_n dX8_init_5 rfl rfl ?_
  refine fw_putfI fl_X8_7 (fun q hq => Or.inr ⟨rfl, by cases hq; rfl⟩) rfl hx dX8_init_6 ?_
  have h := h _ rfl
  exact fw_return dX8_init_9 rfl ⟨rfl, h⟩
abbrev K_X9_init : fw_Kt := (RX9, "<init>", cX9_init, 2, none, [])
def p_X9_init (r0 : Nat) (i1 : Int32) (μ : fw_M) (Q : fw_M → Prop) : Prop :=
  (∀ μ1, μ1 = m_uI μ r0 0 i1 →
  Q μ1)
set_option maxHeartbeats 4000000 in
theorem w_X9_init {g : fw_G} {f bc bs : Nat} {r0 : Nat} {i1 : Int32} {μ : fw_M} {Q : fw_M → Prop} (hf : 1 ≤ f) (hx : m_K μ r0 = 10) (h : p_X9_init r0 i1 μ Q) : fw_C g f bc bs yX9_init (ws_ yX9_init cX9_init 2 (none)) [fw_rv g r0, Value.int i1] μ (fw_Qv Q) fw_nX := by
  unfold p_X9_init at h
  refine fw_intro' (Ls := [(0, fw_rv g r0), (1, Value.int i1)]) (by decide +kernel) (by simp [lg_sl, fw_cat, fw_ci, fw_clo]) (by simp [lv_args, fw_cat, fw_ci, fw_clo]) ?_
  show fw_V g K_X9_init f bc bs 0 [(0, fw_rv g r0), (1, Value.int i1)] [] μ (fw_Qv Q) fw_nX
  refine fw_aload_n dX9_init_0 rfl rfl ?_
  refine fw_objInit (k := 10) rfl hx q709 q110 q111 (by omega) (fw_s4 (Nat.le_of_ble_eq_true rfl)) dX9_init_1 ?_
  refine fw_aload_n dX9_init_4 rfl rfl ?_
  refine fw_iload_n dX9_init_5 rfl rfl ?_
  refine fw_putfI fl_X9_7 (fun q hq => Or.inr ⟨rfl, by cases hq; rfl⟩) rfl hx dX9_init_6 ?_
  have h := h _ rfl
  exact fw_return dX9_init_9 rfl ⟨rfl, h⟩
abbrev K_X6_product : fw_Kt := (RX6, "product", cX6_product, 3, some (.object "SpoonScales$Sum"), [])
def p_X6_product_L23 (k_X6_one : Nat → Nat → Nat → fw_M → (Nat → fw_M → Prop) → (Nat → fw_M → Prop) → Prop) (k5 : Nat → Nat → Nat → fw_M → Prop) (r0 : Nat) (r1 : Nat) (bc : Nat) (bs : Nat) (μ : fw_M) (Q : Nat → fw_M → Prop) (X : Nat → fw_M → Prop) : Prop :=
  (∀ i2_1 : Int32, i2_1 = (m_I μ r0 4) →
  (p_X6_next r0 μ (fun μ4 =>
  (1 ≤ bc ∧ (3 ≤ bs ∧ (∀ rn9 : Nat, rn9 = m_x μ4 →
  (∀ μ12, μ12 = m_al μ4 12 3 →
  (∃ b17 b18, b17 ≤ (bc - 1) ∧ b18 ≤ (bs - 3) ∧ (k_X6_one b17 b18 r0 μ12 (fun r15 μ16 =>
  (p_X11_init rn9 i2_1 r1 r15 μ16 (fun μ25 =>
  k5 ((bc - 1) - b17) ((bs - 3) - b18) rn9 μ25))) X)))))))))
set_option maxHeartbeats 4000000 in
theorem w_X6_product_L23 {g : fw_G} {f : Nat} {k_X6_one : Nat → Nat → Nat → fw_M → (Nat → fw_M → Prop) → (Nat → fw_M → Prop) → Prop} {k5 : Nat → Nat → Nat → fw_M → Prop} {r0 : Nat} {r1 : Nat} {bc : Nat} {bs : Nat} {μ : fw_M} {Q : Nat → fw_M → Prop} {X : Nat → fw_M → Prop} (hf : 8 ≤ f) (hk_X6_one : ∀ {b1 b2 : Nat} {z0 : Nat} {μ9 : fw_M} {Q9 : Nat → fw_M → Prop} {X9 : Nat → fw_M → Prop}, m_K μ9 z0 = 7 → k_X6_one b1 b2 z0 μ9 Q9 X9 → fw_C g (f - 1) b1 b2 yX6_one (ws_ yX6_one cX6_one 2 (some (.object "SpoonScales$Sum"))) [fw_rv g z0] μ9 (fw_Qr g Q9) X9) (hk5 : ∀ {bc : Nat} {bs : Nat} {r1 : Nat} {μ : fw_M}, m_K μ r0 = 7 → k5 bc bs r1 μ → fw_V g K_X6_product f bc bs 5 [(0, fw_rv g r0), (1, fw_rv g r1)] [] μ (fw_Qr g Q) X) (hx : m_K μ r0 = 7) (h : p_X6_product_L23 k_X6_one k5 r0 r1 bc bs μ Q X) : fw_V g K_X6_product f bc bs 23 [(0, fw_rv g r0), (1, fw_rv g r1)] [] μ (fw_Qr g Q) X := by
  unfold p_X6_product_L23 at h
  refine fw_aload_n dX6_product_23 rfl rfl ?_
  refine fw_getfI fl_X6_60 rfl hx dX6_product_24 ?_
  refine fw_topi (fun i2_1 e2 => ?_)
  have h := h i2_1 e2
  refine fw_istore_nN (Ls' := [(2, Value.int i2_1), (1, fw_rv g r1), (0, fw_rv g r0)]) [0] dX6_product_27 rfl (by decide) rfl rfl rfl (fw_cat _) rfl ?_
  refine fw_aload_n dX6_product_28 rfl rfl ?_
  refine fw_callV0z (f1 := f - 1) cl_X6_92 rfl hx (by decide) (by omega) (fw_s4 (Nat.le_of_ble_eq_true rfl)) dX6_product_29 (w_X6_next (f := f - 1) (by omega) hx h) (fun _ _ h9 _ _ => h9.elim) (fun v9 μ4 q9 hs5 => ?_)
  obtain ⟨rfl, h⟩ := q9
  refine fw_tv ?_
  have hg6 := hs5.K hx (by decide)
  refine fw_x (fun hX => ?_)
  obtain ⟨hc7, h⟩ := h
  obtain ⟨hc8, h⟩ := h
  refine fw_newo (k := 12) rfl q732 q733 q94 hc7 hc8 dX6_product_32 ?_
  refine fw_topr (fun rn9 e10 => ?_)
  have h := h rn9 e10
  refine fw_topm (fun μ12 e13 => ?_)
  have hg14 := fw_al_sE e13 hg6 (by decide) hX
  have hg11 := fw_al_KE e13 e10
  have h := h μ12 e13
  refine fw_dup dX6_product_35 (fw_cat _) ?_
  refine fw_iload_n dX6_product_36 rfl rfl ?_
  refine fw_aload_n dX6_product_37 rfl rfl ?_
  refine fw_aload_n dX6_product_38 rfl rfl ?_
  obtain ⟨b17, b18, hb19, hb20, h⟩ := h
  refine fw_callV0 (f1 := f - 1) (b1 := b17) (b2 := b18) cl_X6_185 rfl hg14 (by decide) (by omega) hb19 hb20 (fw_s4 (Nat.le_of_ble_eq_true rfl)) dX6_product_39 (hk_X6_one hg14 h) (fun _ _ h9 k9 _ => fw_out rfl k9 h9) (fun v9 μ16 q9 hs21 => ?_)
  obtain ⟨r15, rfl, h⟩ := q9
  refine fw_tr ?_
  have hg22 := hs21.K hg14 (by decide)
  have hg23 := hs21.K hg11 (by decide)
  refine fw_callI3z (f1 := f - 1) cl_X6_184 (k := 12) rfl hg23 (by decide) (by omega) (fw_s4 (Nat.le_of_ble_eq_true rfl)) dX6_product_42 (w_X11_init (f := f - 1) (by omega) hg23 h) (fun _ _ h9 _ _ => h9.elim) (fun v9 μ25 q9 hs26 => ?_)
  obtain ⟨rfl, h⟩ := q9
  refine fw_tv ?_
  have hg27 := hs26.K hg22 (by decide)
  have hg28 := hs26.K hg23 (by decide)
  refine fw_astore_nN (Ls' := [(1, fw_rv g rn9), (0, fw_rv g r0), (2, Value.int i2_1)]) [0] dX6_product_45 rfl (by decide) rfl rfl rfl (fw_cat _) rfl ?_
  refine fw_goto (tgt := 5) dX6_product_46 (by decide) ?_
  refine fw_ls [1, 0] rfl ?_
  exact hk5 hg27 h
def p_X6_product_L5b (k_X6_one : Nat → Nat → Nat → fw_M → (Nat → fw_M → Prop) → (Nat → fw_M → Prop) → Prop) (r0 : Nat) (k5 : Nat → Nat → Nat → fw_M → Prop) (bc : Nat) (bs : Nat) (r1 : Nat) (μ : fw_M) (Q : Nat → fw_M → Prop) (X : Nat → fw_M → Prop) : Prop :=
  (if (m_I μ r0 4) = (42 : Int32) then
  (p_X6_product_L23 k_X6_one k5 r0 r1 bc bs μ Q X)
  else
  ((if (m_I μ r0 4) = (47 : Int32) then
   (p_X6_product_L23 k_X6_one k5 r0 r1 bc bs μ Q X)
   else
   (Q r1 μ))))
def p_X6_product_L5 (k_X6_one : Nat → Nat → Nat → fw_M → (Nat → fw_M → Prop) → (Nat → fw_M → Prop) → Prop) (r0 : Nat) (bc : Nat) (bs : Nat) (r1 : Nat) (μ : fw_M) (Q : Nat → fw_M → Prop) (X : Nat → fw_M → Prop) : Prop := fw_lp (fun (k : Nat × Nat × Nat × fw_M → Prop) (a : Nat × Nat × Nat × fw_M) => p_X6_product_L5b k_X6_one r0 (fun bc bs r1 μ => k (bc, bs, r1, μ)) a.1 a.2.1 a.2.2.1 a.2.2.2 Q X) (bc, bs, r1, μ)
theorem r_X6_product_L5 {k_X6_one : Nat → Nat → Nat → fw_M → (Nat → fw_M → Prop) → (Nat → fw_M → Prop) → Prop} {r0 : Nat} {Q : Nat → fw_M → Prop} {X : Nat → fw_M → Prop} (I : Nat → Nat → Nat → fw_M → Prop) (v : Nat → Nat → Nat → fw_M → Nat) (hs : ∀ (k : Nat → Nat → Nat → fw_M → Prop) (bc : Nat) (bs : Nat) (r1 : Nat) (μ : fw_M), I bc bs r1 μ → (∀ (bc' : Nat) (bs' : Nat) (r1' : Nat) (ν : fw_M), I bc' bs' r1' ν → v bc' bs' r1' ν < v bc bs r1 μ → k bc' bs' r1' ν) → p_X6_product_L5b k_X6_one r0 k bc bs r1 μ Q X) (bc : Nat) (bs : Nat) (r1 : Nat) (μ : fw_M) (h : I bc bs r1 μ) : p_X6_product_L5 k_X6_one r0 bc bs r1 μ Q X :=
  fw_lp_in (A := Nat × Nat × Nat × fw_M) (fun a => I a.1 a.2.1 a.2.2.1 a.2.2.2) (fun a => v a.1 a.2.1 a.2.2.1 a.2.2.2) (fun k a ha hk => hs (fun bc bs r1 μ => k (bc, bs, r1, μ)) a.1 a.2.1 a.2.2.1 a.2.2.2 ha (fun bc' bs' r1' ν hb hlt => hk (bc', bs', r1', ν) hb hlt)) (bc, bs, r1, μ) h
set_option maxHeartbeats 4000000 in
theorem w_X6_product_L5b {g : fw_G} {f : Nat} {k_X6_one : Nat → Nat → Nat → fw_M → (Nat → fw_M → Prop) → (Nat → fw_M → Prop) → Prop} {r0 : Nat} {k5 : Nat → Nat → Nat → fw_M → Prop} {bc : Nat} {bs : Nat} {r1 : Nat} {μ : fw_M} {Q : Nat → fw_M → Prop} {X : Nat → fw_M → Prop} (hf : 8 ≤ f) (hk_X6_one : ∀ {b1 b2 : Nat} {z0 : Nat} {μ9 : fw_M} {Q9 : Nat → fw_M → Prop} {X9 : Nat → fw_M → Prop}, m_K μ9 z0 = 7 → k_X6_one b1 b2 z0 μ9 Q9 X9 → fw_C g (f - 1) b1 b2 yX6_one (ws_ yX6_one cX6_one 2 (some (.object "SpoonScales$Sum"))) [fw_rv g z0] μ9 (fw_Qr g Q9) X9) (hk5 : ∀ {bc : Nat} {bs : Nat} {r1 : Nat} {μ : fw_M}, m_K μ r0 = 7 → k5 bc bs r1 μ → fw_V g K_X6_product f bc bs 5 [(0, fw_rv g r0), (1, fw_rv g r1)] [] μ (fw_Qr g Q) X) (hx : m_K μ r0 = 7) (h : p_X6_product_L5b k_X6_one r0 k5 bc bs r1 μ Q X) : fw_V g K_X6_product f bc bs 5 [(0, fw_rv g r0), (1, fw_rv g r1)] [] μ (fw_Qr g Q) X := by
  unfold p_X6_product_L5b at h
  refine fw_aload_n dX6_product_5 rfl rfl ?_
  refine fw_getfI fl_X6_60 rfl hx dX6_product_6 ?_
  refine fw_bipush (v := 42) dX6_product_9 (by decide) ?_
  refine fw_icmp_eq (tgt := 23) dX6_product_11 (by decide) (fun c1 => ?_) (fun c1 => ?_)
  · have h := fw_it h c1
    exact w_X6_product_L23 hf hk_X6_one hk5 hx h
  · have h := fw_if h c1
    refine fw_aload_n dX6_product_14 rfl rfl ?_
    refine fw_getfI fl_X6_60 rfl hx dX6_product_15 ?_
    refine fw_bipush (v := 47) dX6_product_18 (by decide) ?_
    refine fw_icmp_ne (tgt := 49) dX6_product_20 (by decide) (fun c2 => ?_) (fun c2 => ?_)
    · have h := fw_if h c2
      refine fw_aload_n dX6_product_49 rfl rfl ?_
      exact fw_areturn dX6_product_50 rfl (by first | exact Or.inl ⟨_, rfl⟩ | exact Or.inr ⟨_, rfl⟩) ⟨_, rfl, h⟩
    · have h := fw_it h c2
      exact w_X6_product_L23 hf hk_X6_one hk5 hx h
theorem w_X6_product_L5 {g : fw_G} {f : Nat} {k_X6_one : Nat → Nat → Nat → fw_M → (Nat → fw_M → Prop) → (Nat → fw_M → Prop) → Prop} {r0 : Nat} {bc : Nat} {bs : Nat} {r1 : Nat} {μ : fw_M} {Q : Nat → fw_M → Prop} {X : Nat → fw_M → Prop} (hf : 8 ≤ f) (hk_X6_one : ∀ {b1 b2 : Nat} {z0 : Nat} {μ9 : fw_M} {Q9 : Nat → fw_M → Prop} {X9 : Nat → fw_M → Prop}, m_K μ9 z0 = 7 → k_X6_one b1 b2 z0 μ9 Q9 X9 → fw_C g (f - 1) b1 b2 yX6_one (ws_ yX6_one cX6_one 2 (some (.object "SpoonScales$Sum"))) [fw_rv g z0] μ9 (fw_Qr g Q9) X9) (hx : m_K μ r0 = 7) (h : p_X6_product_L5 k_X6_one r0 bc bs r1 μ Q X) : fw_V g K_X6_product f bc bs 5 [(0, fw_rv g r0), (1, fw_rv g r1)] [] μ (fw_Qr g Q) X := by
  have key := fw_lp_out (R := fun (a : Nat × Nat × Nat × fw_M) => m_K a.2.2.2 r0 = 7 → fw_V g K_X6_product f a.1 a.2.1 5 [(0, fw_rv g r0), (1, fw_rv g a.2.2.1)] [] a.2.2.2 (fw_Qr g Q) X) (fun k hk9 a ha hx2 => w_X6_product_L5b hf hk_X6_one (fun {bc bs r1} {μ} hx3 h3 => hk9 (bc, bs, r1, μ) h3 hx3) hx2 ha) h
  exact key hx
def p_X6_product (k_X6_one : Nat → Nat → Nat → fw_M → (Nat → fw_M → Prop) → (Nat → fw_M → Prop) → Prop) (bc : Nat) (bs : Nat) (r0 : Nat) (μ : fw_M) (Q : Nat → fw_M → Prop) (X : Nat → fw_M → Prop) : Prop :=
  (∃ b3 b4, b3 ≤ bc ∧ b4 ≤ bs ∧ (k_X6_one b3 b4 r0 μ (fun r1 μ2 =>
  p_X6_product_L5 k_X6_one r0 (bc - b3) (bs - b4) r1 μ2 Q X) X))
set_option maxHeartbeats 4000000 in
theorem w_X6_product {g : fw_G} {f bc bs : Nat} {k_X6_one : Nat → Nat → Nat → fw_M → (Nat → fw_M → Prop) → (Nat → fw_M → Prop) → Prop} {r0 : Nat} {μ : fw_M} {Q : Nat → fw_M → Prop} {X : Nat → fw_M → Prop} (hf : 8 ≤ f) (hk_X6_one : ∀ {b1 b2 : Nat} {z0 : Nat} {μ9 : fw_M} {Q9 : Nat → fw_M → Prop} {X9 : Nat → fw_M → Prop}, m_K μ9 z0 = 7 → k_X6_one b1 b2 z0 μ9 Q9 X9 → fw_C g (f - 1) b1 b2 yX6_one (ws_ yX6_one cX6_one 2 (some (.object "SpoonScales$Sum"))) [fw_rv g z0] μ9 (fw_Qr g Q9) X9) (hx : m_K μ r0 = 7) (h : p_X6_product k_X6_one bc bs r0 μ Q X) : fw_C g f bc bs yX6_product (ws_ yX6_product cX6_product 3 (some (.object "SpoonScales$Sum"))) [fw_rv g r0] μ (fw_Qr g Q) X := by
  unfold p_X6_product at h
  refine fw_intro' (Ls := [(0, fw_rv g r0)]) (by decide +kernel) (by simp [lg_sl, fw_cat, fw_ci, fw_clo]) (by simp [lv_args, fw_cat, fw_ci, fw_clo]) ?_
  show fw_V g K_X6_product f bc bs 0 [(0, fw_rv g r0)] [] μ (fw_Qr g Q) X
  refine fw_aload_n dX6_product_0 rfl rfl ?_
  obtain ⟨b3, b4, hb5, hb6, h⟩ := h
  refine fw_callV0 (f1 := f - 1) (b1 := b3) (b2 := b4) cl_X6_185 rfl hx (by decide) (by omega) hb5 hb6 (fw_s4 (Nat.le_of_ble_eq_true rfl)) dX6_product_1 (hk_X6_one hx h) (fun _ _ h9 k9 _ => fw_out rfl k9 h9) (fun v9 μ2 q9 hs7 => ?_)
  obtain ⟨r1, rfl, h⟩ := q9
  refine fw_tr ?_
  have hg8 := hs7.K hx (by decide)
  refine fw_astore_nN (Ls' := [(1, fw_rv g r1), (0, fw_rv g r0)]) [] dX6_product_4 rfl (by decide) rfl rfl rfl (fw_cat _) rfl ?_
  refine fw_ls [1, 0] rfl ?_
  exact w_X6_product_L5 hf hk_X6_one hg8 h
abbrev K_X6_sum : fw_Kt := (RX6, "sum", cX6_sum, 3, some (.object "SpoonScales$Sum"), [])
def p_X6_sum_L23 (k_X6_product : Nat → Nat → Nat → fw_M → (Nat → fw_M → Prop) → (Nat → fw_M → Prop) → Prop) (k5 : Nat → Nat → Nat → fw_M → Prop) (r0 : Nat) (r1 : Nat) (bc : Nat) (bs : Nat) (μ : fw_M) (Q : Nat → fw_M → Prop) (X : Nat → fw_M → Prop) : Prop :=
  (∀ i2_1 : Int32, i2_1 = (m_I μ r0 4) →
  (p_X6_next r0 μ (fun μ4 =>
  (1 ≤ bc ∧ (3 ≤ bs ∧ (∀ rn9 : Nat, rn9 = m_x μ4 →
  (∀ μ12, μ12 = m_al μ4 12 3 →
  (∃ b17 b18, b17 ≤ (bc - 1) ∧ b18 ≤ (bs - 3) ∧ (k_X6_product b17 b18 r0 μ12 (fun r15 μ16 =>
  (p_X11_init rn9 i2_1 r1 r15 μ16 (fun μ25 =>
  k5 ((bc - 1) - b17) ((bs - 3) - b18) rn9 μ25))) X)))))))))
set_option maxHeartbeats 4000000 in
theorem w_X6_sum_L23 {g : fw_G} {f : Nat} {k_X6_product : Nat → Nat → Nat → fw_M → (Nat → fw_M → Prop) → (Nat → fw_M → Prop) → Prop} {k5 : Nat → Nat → Nat → fw_M → Prop} {r0 : Nat} {r1 : Nat} {bc : Nat} {bs : Nat} {μ : fw_M} {Q : Nat → fw_M → Prop} {X : Nat → fw_M → Prop} (hf : 8 ≤ f) (hk_X6_product : ∀ {b1 b2 : Nat} {z0 : Nat} {μ9 : fw_M} {Q9 : Nat → fw_M → Prop} {X9 : Nat → fw_M → Prop}, m_K μ9 z0 = 7 → k_X6_product b1 b2 z0 μ9 Q9 X9 → fw_C g (f - 1) b1 b2 yX6_product (ws_ yX6_product cX6_product 3 (some (.object "SpoonScales$Sum"))) [fw_rv g z0] μ9 (fw_Qr g Q9) X9) (hk5 : ∀ {bc : Nat} {bs : Nat} {r1 : Nat} {μ : fw_M}, m_K μ r0 = 7 → k5 bc bs r1 μ → fw_V g K_X6_sum f bc bs 5 [(0, fw_rv g r0), (1, fw_rv g r1)] [] μ (fw_Qr g Q) X) (hx : m_K μ r0 = 7) (h : p_X6_sum_L23 k_X6_product k5 r0 r1 bc bs μ Q X) : fw_V g K_X6_sum f bc bs 23 [(0, fw_rv g r0), (1, fw_rv g r1)] [] μ (fw_Qr g Q) X := by
  unfold p_X6_sum_L23 at h
  refine fw_aload_n dX6_sum_23 rfl rfl ?_
  refine fw_getfI fl_X6_60 rfl hx dX6_sum_24 ?_
  refine fw_topi (fun i2_1 e2 => ?_)
  have h := h i2_1 e2
  refine fw_istore_nN (Ls' := [(2, Value.int i2_1), (1, fw_rv g r1), (0, fw_rv g r0)]) [0] dX6_sum_27 rfl (by decide) rfl rfl rfl (fw_cat _) rfl ?_
  refine fw_aload_n dX6_sum_28 rfl rfl ?_
  refine fw_callV0z (f1 := f - 1) cl_X6_92 rfl hx (by decide) (by omega) (fw_s4 (Nat.le_of_ble_eq_true rfl)) dX6_sum_29 (w_X6_next (f := f - 1) (by omega) hx h) (fun _ _ h9 _ _ => h9.elim) (fun v9 μ4 q9 hs5 => ?_)
  obtain ⟨rfl, h⟩ := q9
  refine fw_tv ?_
  have hg6 := hs5.K hx (by decide)
  refine fw_x (fun hX => ?_)
  obtain ⟨hc7, h⟩ := h
  obtain ⟨hc8, h⟩ := h
  refine fw_newo (k := 12) rfl q732 q733 q94 hc7 hc8 dX6_sum_32 ?_
  refine fw_topr (fun rn9 e10 => ?_)
  have h := h rn9 e10
  refine fw_topm (fun μ12 e13 => ?_)
  have hg14 := fw_al_sE e13 hg6 (by decide) hX
  have hg11 := fw_al_KE e13 e10
  have h := h μ12 e13
  refine fw_dup dX6_sum_35 (fw_cat _) ?_
  refine fw_iload_n dX6_sum_36 rfl rfl ?_
  refine fw_aload_n dX6_sum_37 rfl rfl ?_
  refine fw_aload_n dX6_sum_38 rfl rfl ?_
  obtain ⟨b17, b18, hb19, hb20, h⟩ := h
  refine fw_callV0 (f1 := f - 1) (b1 := b17) (b2 := b18) cl_X6_179 rfl hg14 (by decide) (by omega) hb19 hb20 (fw_s4 (Nat.le_of_ble_eq_true rfl)) dX6_sum_39 (hk_X6_product hg14 h) (fun _ _ h9 k9 _ => fw_out rfl k9 h9) (fun v9 μ16 q9 hs21 => ?_)
  obtain ⟨r15, rfl, h⟩ := q9
  refine fw_tr ?_
  have hg22 := hs21.K hg14 (by decide)
  have hg23 := hs21.K hg11 (by decide)
  refine fw_callI3z (f1 := f - 1) cl_X6_184 (k := 12) rfl hg23 (by decide) (by omega) (fw_s4 (Nat.le_of_ble_eq_true rfl)) dX6_sum_42 (w_X11_init (f := f - 1) (by omega) hg23 h) (fun _ _ h9 _ _ => h9.elim) (fun v9 μ25 q9 hs26 => ?_)
  obtain ⟨rfl, h⟩ := q9
  refine fw_tv ?_
  have hg27 := hs26.K hg22 (by decide)
  have hg28 := hs26.K hg23 (by decide)
  refine fw_astore_nN (Ls' := [(1, fw_rv g rn9), (0, fw_rv g r0), (2, Value.int i2_1)]) [0] dX6_sum_45 rfl (by decide) rfl rfl rfl (fw_cat _) rfl ?_
  refine fw_goto (tgt := 5) dX6_sum_46 (by decide) ?_
  refine fw_ls [1, 0] rfl ?_
  exact hk5 hg27 h
def p_X6_sum_L5b (k_X6_product : Nat → Nat → Nat → fw_M → (Nat → fw_M → Prop) → (Nat → fw_M → Prop) → Prop) (r0 : Nat) (k5 : Nat → Nat → Nat → fw_M → Prop) (bc : Nat) (bs : Nat) (r1 : Nat) (μ : fw_M) (Q : Nat → fw_M → Prop) (X : Nat → fw_M → Prop) : Prop :=
  (if (m_I μ r0 4) = (43 : Int32) then
  (p_X6_sum_L23 k_X6_product k5 r0 r1 bc bs μ Q X)
  else
  ((if (m_I μ r0 4) = (45 : Int32) then
   (p_X6_sum_L23 k_X6_product k5 r0 r1 bc bs μ Q X)
   else
   (Q r1 μ))))
def p_X6_sum_L5 (k_X6_product : Nat → Nat → Nat → fw_M → (Nat → fw_M → Prop) → (Nat → fw_M → Prop) → Prop) (r0 : Nat) (bc : Nat) (bs : Nat) (r1 : Nat) (μ : fw_M) (Q : Nat → fw_M → Prop) (X : Nat → fw_M → Prop) : Prop := fw_lp (fun (k : Nat × Nat × Nat × fw_M → Prop) (a : Nat × Nat × Nat × fw_M) => p_X6_sum_L5b k_X6_product r0 (fun bc bs r1 μ => k (bc, bs, r1, μ)) a.1 a.2.1 a.2.2.1 a.2.2.2 Q X) (bc, bs, r1, μ)
theorem r_X6_sum_L5 {k_X6_product : Nat → Nat → Nat → fw_M → (Nat → fw_M → Prop) → (Nat → fw_M → Prop) → Prop} {r0 : Nat} {Q : Nat → fw_M → Prop} {X : Nat → fw_M → Prop} (I : Nat → Nat → Nat → fw_M → Prop) (v : Nat → Nat → Nat → fw_M → Nat) (hs : ∀ (k : Nat → Nat → Nat → fw_M → Prop) (bc : Nat) (bs : Nat) (r1 : Nat) (μ : fw_M), I bc bs r1 μ → (∀ (bc' : Nat) (bs' : Nat) (r1' : Nat) (ν : fw_M), I bc' bs' r1' ν → v bc' bs' r1' ν < v bc bs r1 μ → k bc' bs' r1' ν) → p_X6_sum_L5b k_X6_product r0 k bc bs r1 μ Q X) (bc : Nat) (bs : Nat) (r1 : Nat) (μ : fw_M) (h : I bc bs r1 μ) : p_X6_sum_L5 k_X6_product r0 bc bs r1 μ Q X :=
  fw_lp_in (A := Nat × Nat × Nat × fw_M) (fun a => I a.1 a.2.1 a.2.2.1 a.2.2.2) (fun a => v a.1 a.2.1 a.2.2.1 a.2.2.2) (fun k a ha hk => hs (fun bc bs r1 μ => k (bc, bs, r1, μ)) a.1 a.2.1 a.2.2.1 a.2.2.2 ha (fun bc' bs' r1' ν hb hlt => hk (bc', bs', r1', ν) hb hlt)) (bc, bs, r1, μ) h
set_option maxHeartbeats 4000000 in
theorem w_X6_sum_L5b {g : fw_G} {f : Nat} {k_X6_product : Nat → Nat → Nat → fw_M → (Nat → fw_M → Prop) → (Nat → fw_M → Prop) → Prop} {r0 : Nat} {k5 : Nat → Nat → Nat → fw_M → Prop} {bc : Nat} {bs : Nat} {r1 : Nat} {μ : fw_M} {Q : Nat → fw_M → Prop} {X : Nat → fw_M → Prop} (hf : 8 ≤ f) (hk_X6_product : ∀ {b1 b2 : Nat} {z0 : Nat} {μ9 : fw_M} {Q9 : Nat → fw_M → Prop} {X9 : Nat → fw_M → Prop}, m_K μ9 z0 = 7 → k_X6_product b1 b2 z0 μ9 Q9 X9 → fw_C g (f - 1) b1 b2 yX6_product (ws_ yX6_product cX6_product 3 (some (.object "SpoonScales$Sum"))) [fw_rv g z0] μ9 (fw_Qr g Q9) X9) (hk5 : ∀ {bc : Nat} {bs : Nat} {r1 : Nat} {μ : fw_M}, m_K μ r0 = 7 → k5 bc bs r1 μ → fw_V g K_X6_sum f bc bs 5 [(0, fw_rv g r0), (1, fw_rv g r1)] [] μ (fw_Qr g Q) X) (hx : m_K μ r0 = 7) (h : p_X6_sum_L5b k_X6_product r0 k5 bc bs r1 μ Q X) : fw_V g K_X6_sum f bc bs 5 [(0, fw_rv g r0), (1, fw_rv g r1)] [] μ (fw_Qr g Q) X := by
  unfold p_X6_sum_L5b at h
  refine fw_aload_n dX6_sum_5 rfl rfl ?_
  refine fw_getfI fl_X6_60 rfl hx dX6_sum_6 ?_
  refine fw_bipush (v := 43) dX6_sum_9 (by decide) ?_
  refine fw_icmp_eq (tgt := 23) dX6_sum_11 (by decide) (fun c1 => ?_) (fun c1 => ?_)
  · have h := fw_it h c1
    exact w_X6_sum_L23 hf hk_X6_product hk5 hx h
  · have h := fw_if h c1
    refine fw_aload_n dX6_sum_14 rfl rfl ?_
    refine fw_getfI fl_X6_60 rfl hx dX6_sum_15 ?_
    refine fw_bipush (v := 45) dX6_sum_18 (by decide) ?_
    refine fw_icmp_ne (tgt := 49) dX6_sum_20 (by decide) (fun c2 => ?_) (fun c2 => ?_)
    · have h := fw_if h c2
      refine fw_aload_n dX6_sum_49 rfl rfl ?_
      exact fw_areturn dX6_sum_50 rfl (by first | exact Or.inl ⟨_, rfl⟩ | exact Or.inr ⟨_, rfl⟩) ⟨_, rfl, h⟩
    · have h := fw_it h c2
      exact w_X6_sum_L23 hf hk_X6_product hk5 hx h
theorem w_X6_sum_L5 {g : fw_G} {f : Nat} {k_X6_product : Nat → Nat → Nat → fw_M → (Nat → fw_M → Prop) → (Nat → fw_M → Prop) → Prop} {r0 : Nat} {bc : Nat} {bs : Nat} {r1 : Nat} {μ : fw_M} {Q : Nat → fw_M → Prop} {X : Nat → fw_M → Prop} (hf : 8 ≤ f) (hk_X6_product : ∀ {b1 b2 : Nat} {z0 : Nat} {μ9 : fw_M} {Q9 : Nat → fw_M → Prop} {X9 : Nat → fw_M → Prop}, m_K μ9 z0 = 7 → k_X6_product b1 b2 z0 μ9 Q9 X9 → fw_C g (f - 1) b1 b2 yX6_product (ws_ yX6_product cX6_product 3 (some (.object "SpoonScales$Sum"))) [fw_rv g z0] μ9 (fw_Qr g Q9) X9) (hx : m_K μ r0 = 7) (h : p_X6_sum_L5 k_X6_product r0 bc bs r1 μ Q X) : fw_V g K_X6_sum f bc bs 5 [(0, fw_rv g r0), (1, fw_rv g r1)] [] μ (fw_Qr g Q) X := by
  have key := fw_lp_out (R := fun (a : Nat × Nat × Nat × fw_M) => m_K a.2.2.2 r0 = 7 → fw_V g K_X6_sum f a.1 a.2.1 5 [(0, fw_rv g r0), (1, fw_rv g a.2.2.1)] [] a.2.2.2 (fw_Qr g Q) X) (fun k hk9 a ha hx2 => w_X6_sum_L5b hf hk_X6_product (fun {bc bs r1} {μ} hx3 h3 => hk9 (bc, bs, r1, μ) h3 hx3) hx2 ha) h
  exact key hx
def p_X6_sum (k_X6_product : Nat → Nat → Nat → fw_M → (Nat → fw_M → Prop) → (Nat → fw_M → Prop) → Prop) (bc : Nat) (bs : Nat) (r0 : Nat) (μ : fw_M) (Q : Nat → fw_M → Prop) (X : Nat → fw_M → Prop) : Prop :=
  (∃ b3 b4, b3 ≤ bc ∧ b4 ≤ bs ∧ (k_X6_product b3 b4 r0 μ (fun r1 μ2 =>
  p_X6_sum_L5 k_X6_product r0 (bc - b3) (bs - b4) r1 μ2 Q X) X))
set_option maxHeartbeats 4000000 in
theorem w_X6_sum {g : fw_G} {f bc bs : Nat} {k_X6_product : Nat → Nat → Nat → fw_M → (Nat → fw_M → Prop) → (Nat → fw_M → Prop) → Prop} {r0 : Nat} {μ : fw_M} {Q : Nat → fw_M → Prop} {X : Nat → fw_M → Prop} (hf : 8 ≤ f) (hk_X6_product : ∀ {b1 b2 : Nat} {z0 : Nat} {μ9 : fw_M} {Q9 : Nat → fw_M → Prop} {X9 : Nat → fw_M → Prop}, m_K μ9 z0 = 7 → k_X6_product b1 b2 z0 μ9 Q9 X9 → fw_C g (f - 1) b1 b2 yX6_product (ws_ yX6_product cX6_product 3 (some (.object "SpoonScales$Sum"))) [fw_rv g z0] μ9 (fw_Qr g Q9) X9) (hx : m_K μ r0 = 7) (h : p_X6_sum k_X6_product bc bs r0 μ Q X) : fw_C g f bc bs yX6_sum (ws_ yX6_sum cX6_sum 3 (some (.object "SpoonScales$Sum"))) [fw_rv g r0] μ (fw_Qr g Q) X := by
  unfold p_X6_sum at h
  refine fw_intro' (Ls := [(0, fw_rv g r0)]) (by decide +kernel) (by simp [lg_sl, fw_cat, fw_ci, fw_clo]) (by simp [lv_args, fw_cat, fw_ci, fw_clo]) ?_
  show fw_V g K_X6_sum f bc bs 0 [(0, fw_rv g r0)] [] μ (fw_Qr g Q) X
  refine fw_aload_n dX6_sum_0 rfl rfl ?_
  obtain ⟨b3, b4, hb5, hb6, h⟩ := h
  refine fw_callV0 (f1 := f - 1) (b1 := b3) (b2 := b4) cl_X6_179 rfl hx (by decide) (by omega) hb5 hb6 (fw_s4 (Nat.le_of_ble_eq_true rfl)) dX6_sum_1 (hk_X6_product hx h) (fun _ _ h9 k9 _ => fw_out rfl k9 h9) (fun v9 μ2 q9 hs7 => ?_)
  obtain ⟨r1, rfl, h⟩ := q9
  refine fw_tr ?_
  have hg8 := hs7.K hx (by decide)
  refine fw_astore_nN (Ls' := [(1, fw_rv g r1), (0, fw_rv g r0)]) [] dX6_sum_4 rfl (by decide) rfl rfl rfl (fw_cat _) rfl ?_
  refine fw_ls [1, 0] rfl ?_
  exact w_X6_sum_L5 hf hk_X6_product hg8 h
abbrev K_X6_one : fw_Kt := (RX6, "one", cX6_one, 2, some (.object "SpoonScales$Sum"), [])
def p_X6_one (k_X6_one : Nat → Nat → Nat → fw_M → (Nat → fw_M → Prop) → (Nat → fw_M → Prop) → Prop) (k_X6_sum : Nat → Nat → Nat → fw_M → (Nat → fw_M → Prop) → (Nat → fw_M → Prop) → Prop) (bc : Nat) (bs : Nat) (r0 : Nat) (μ : fw_M) (Q : Nat → fw_M → Prop) (X : Nat → fw_M → Prop) : Prop :=
  (if (m_I μ r0 6) < 0 then
  ((if (m_I μ r0 4) = 40 then
   ((∃ b5 b6, b5 ≤ bc ∧ b6 ≤ bs ∧ (p_X6_opens b5 b6 r0 μ (fun μ4 =>
    (∃ b13 b14, b13 ≤ (bc - b5) ∧ b14 ≤ (bs - b6) ∧ (k_X6_sum b13 b14 r0 μ4 (fun r11 μ12 =>
    (∃ b21 b22, b21 ≤ ((bc - b5) - b13) ∧ b22 ≤ ((bs - b6) - b14) ∧ (p_X6_need b21 b22 r0 (41 : Int32) μ12 (fun μ20 =>
    (∀ μ27, μ27 = m_uI μ20 r0 7 ((m_I μ20 r0 7) - (1 : Int32)) →
    Q r11 μ27)) X))) X))) X)))
   else (if (m_I μ r0 4) = 45 then
   ((∃ b31 b32, b31 ≤ bc ∧ b32 ≤ bs ∧ (p_X6_opens b31 b32 r0 μ (fun μ30 =>
    (1 ≤ (bc - b31) ∧ (1 ≤ (bs - b32) ∧ (∀ rn39 : Nat, rn39 = m_x μ30 →
    (∀ μ42, μ42 = m_al μ30 11 1 →
    (∃ b47 b48, b47 ≤ ((bc - b31) - 1) ∧ b48 ≤ ((bs - b32) - 1) ∧ (k_X6_one b47 b48 r0 μ42 (fun r45 μ46 =>
    (p_X10_init rn39 r45 μ46 (fun μ55 =>
    (∀ μ59, μ59 = m_uI μ55 r0 7 ((m_I μ55 r0 7) - (1 : Int32)) →
    Q rn39 μ59)))) X))))))) X)))
   else (if (m_I μ r0 4) = 301 then
   ((1 ≤ bc ∧ (1 ≤ bs ∧ (∀ rn63 : Nat, rn63 = m_x μ →
    (∀ μ66, μ66 = m_al μ 10 1 →
    (∃ b71 b72, b71 ≤ (bc - 1) ∧ b72 ≤ (bs - 1) ∧ (p_X6_number b71 b72 r0 (0 : Int32) (9999 : Int32) μ66 (fun v69 μ70 =>
    (p_X9_init rn63 v69 μ70 (fun μ79 =>
    Q rn63 μ79))) X)))))))
   else (∃ b85 b86, b85 ≤ bc ∧ b86 ≤ bs ∧ (p_X6_wrong b85 b86 r0 (1 : Int32) μ (fun r83 μ84 =>
    (m_K μ84 r83 = 8 ∧ X r83 μ84))))))))
  else
  ((p_X6_isOf r0 (m_I μ r0 6) μ (fun v92 μ93 =>
   (if v92 = 0 then
   ((∃ b117 b118, b117 ≤ bc ∧ b118 ≤ bs ∧ (p_X6_wrong b117 b118 r0 (5 : Int32) μ93 (fun r115 μ116 =>
    (m_K μ116 r115 = 8 ∧ X r115 μ116)))))
   else
   ((1 ≤ bc ∧ (1 ≤ bs ∧ (∀ rn99 : Nat, rn99 = m_x μ93 →
    (∀ μ102, μ102 = m_al μ93 9 1 →
    (p_X8_init rn99 (m_I μ102 r0 6) μ102 (fun μ106 =>
    (p_X6_next r0 μ106 (fun μ111 =>
    Q rn99 μ111))))))))))))))
set_option maxHeartbeats 4000000 in
theorem w_X6_one {g : fw_G} {f bc bs : Nat} {k_X6_one : Nat → Nat → Nat → fw_M → (Nat → fw_M → Prop) → (Nat → fw_M → Prop) → Prop} {k_X6_sum : Nat → Nat → Nat → fw_M → (Nat → fw_M → Prop) → (Nat → fw_M → Prop) → Prop} {r0 : Nat} {μ : fw_M} {Q : Nat → fw_M → Prop} {X : Nat → fw_M → Prop} (hf : 9 ≤ f) (hk_X6_one : ∀ {b1 b2 : Nat} {z0 : Nat} {μ9 : fw_M} {Q9 : Nat → fw_M → Prop} {X9 : Nat → fw_M → Prop}, m_K μ9 z0 = 7 → k_X6_one b1 b2 z0 μ9 Q9 X9 → fw_C g (f - 1) b1 b2 yX6_one (ws_ yX6_one cX6_one 2 (some (.object "SpoonScales$Sum"))) [fw_rv g z0] μ9 (fw_Qr g Q9) X9) (hk_X6_sum : ∀ {b1 b2 : Nat} {z0 : Nat} {μ9 : fw_M} {Q9 : Nat → fw_M → Prop} {X9 : Nat → fw_M → Prop}, m_K μ9 z0 = 7 → k_X6_sum b1 b2 z0 μ9 Q9 X9 → fw_C g (f - 1) b1 b2 yX6_sum (ws_ yX6_sum cX6_sum 3 (some (.object "SpoonScales$Sum"))) [fw_rv g z0] μ9 (fw_Qr g Q9) X9) (hx : m_K μ r0 = 7) (h : p_X6_one k_X6_one k_X6_sum bc bs r0 μ Q X) : fw_C g f bc bs yX6_one (ws_ yX6_one cX6_one 2 (some (.object "SpoonScales$Sum"))) [fw_rv g r0] μ (fw_Qr g Q) X := by
  unfold p_X6_one at h
  refine fw_intro' (Ls := [(0, fw_rv g r0)]) (by decide +kernel) (by simp [lg_sl, fw_cat, fw_ci, fw_clo]) (by simp [lv_args, fw_cat, fw_ci, fw_clo]) ?_
  show fw_V g K_X6_one f bc bs 0 [(0, fw_rv g r0)] [] μ (fw_Qr g Q) X
  refine fw_aload_n dX6_one_0 rfl rfl ?_
  refine fw_getfI fl_X6_57 rfl hx dX6_one_1 ?_
  refine fw_if_lt (tgt := 42) dX6_one_4 (by decide) (fun c1 => ?_) (fun c1 => ?_)
  · have h := fw_it h c1
    refine fw_aload_n dX6_one_42 rfl rfl ?_
    refine fw_getfI fl_X6_60 rfl hx dX6_one_43 ?_
    refine fw_sw (k := 40) h (fun c2 h => ?_) (fun c2 h => ?_)
    · refine fw_lookup (tgt := 96) (off := 50) dX6_one_46 (by decide) (by rw [c2]; try rfl) (by decide) ?_
      refine fw_aload_n dX6_one_96 rfl rfl ?_
      obtain ⟨b5, b6, hb7, hb8, h⟩ := h
      refine fw_callV0 (f1 := f - 1) (b1 := b5) (b2 := b6) cl_X6_163 rfl hx (by decide) (by omega) hb7 hb8 (fw_s4 (Nat.le_of_ble_eq_true rfl)) dX6_one_97 (w_X6_opens (f := f - 1) (by omega) hx h) (fun _ _ h9 k9 _ => fw_out rfl k9 h9) (fun v9 μ4 q9 hs9 => ?_)
      obtain ⟨rfl, h⟩ := q9
      refine fw_tv ?_
      have hg10 := hs9.K hx (by decide)
      refine fw_aload_n dX6_one_100 rfl rfl ?_
      obtain ⟨b13, b14, hb15, hb16, h⟩ := h
      refine fw_callV0 (f1 := f - 1) (b1 := b13) (b2 := b14) cl_X6_115 rfl hg10 (by decide) (by omega) hb15 hb16 (fw_s4 (Nat.le_of_ble_eq_true rfl)) dX6_one_101 (hk_X6_sum hg10 h) (fun _ _ h9 k9 _ => fw_out rfl k9 h9) (fun v9 μ12 q9 hs17 => ?_)
      obtain ⟨r11, rfl, h⟩ := q9
      refine fw_tr ?_
      have hg18 := hs17.K hg10 (by decide)
      refine fw_astore_nN (Ls' := [(1, fw_rv g r11), (0, fw_rv g r0)]) [] dX6_one_104 rfl (by decide) rfl rfl rfl (fw_cat _) rfl ?_
      refine fw_aload_n dX6_one_105 rfl rfl ?_
      refine fw_bipush (v := 41) dX6_one_106 (by decide) ?_
      obtain ⟨b21, b22, hb23, hb24, h⟩ := h
      refine fw_callV1 (f1 := f - 1) (b1 := b21) (b2 := b22) cl_X6_131 rfl hg18 (by decide) (by omega) hb23 hb24 (fw_s4 (Nat.le_of_ble_eq_true rfl)) dX6_one_108 (w_X6_need (f := f - 1) (by omega) hg18 h) (fun _ _ h9 k9 _ => fw_out rfl k9 h9) (fun v9 μ20 q9 hs25 => ?_)
      obtain ⟨rfl, h⟩ := q9
      refine fw_tv ?_
      have hg26 := hs25.K hg18 (by decide)
      refine fw_aload_n dX6_one_111 rfl rfl ?_
      refine fw_dup dX6_one_112 (fw_cat _) ?_
      refine fw_getfI fl_X6_95 rfl hg26 dX6_one_113 ?_
      refine fw_iconst (v := 1) dX6_one_116 (by decide) ?_
      refine fw_isub dX6_one_117 ?_
      refine fw_putfI fl_X6_95 (fun q hq => Or.inl (by cases hq; rfl)) rfl hg26 dX6_one_118 ?_
      have h := h _ rfl
      refine fw_aload_n dX6_one_121 rfl rfl ?_
      exact fw_areturn dX6_one_122 rfl (by first | exact Or.inl ⟨_, rfl⟩ | exact Or.inr ⟨_, rfl⟩) ⟨_, rfl, h⟩
    · refine fw_sw (k := 45) h (fun c28 h => ?_) (fun c28 h => ?_)
      · refine fw_lookup (tgt := 123) (off := 77) dX6_one_46 (by decide) (by rw [c28]; try rfl) (by decide) ?_
        refine fw_aload_n dX6_one_123 rfl rfl ?_
        obtain ⟨b31, b32, hb33, hb34, h⟩ := h
        refine fw_callV0 (f1 := f - 1) (b1 := b31) (b2 := b32) cl_X6_163 rfl hx (by decide) (by omega) hb33 hb34 (fw_s4 (Nat.le_of_ble_eq_true rfl)) dX6_one_124 (w_X6_opens (f := f - 1) (by omega) hx h) (fun _ _ h9 k9 _ => fw_out rfl k9 h9) (fun v9 μ30 q9 hs35 => ?_)
        obtain ⟨rfl, h⟩ := q9
        refine fw_tv ?_
        have hg36 := hs35.K hx (by decide)
        refine fw_x (fun hX => ?_)
        obtain ⟨hc37, h⟩ := h
        obtain ⟨hc38, h⟩ := h
        refine fw_newo (k := 11) rfl q722 q723 q93 hc37 hc38 dX6_one_127 ?_
        refine fw_topr (fun rn39 e40 => ?_)
        have h := h rn39 e40
        refine fw_topm (fun μ42 e43 => ?_)
        have hg44 := fw_al_sE e43 hg36 (by decide) hX
        have hg41 := fw_al_KE e43 e40
        have h := h μ42 e43
        refine fw_dup dX6_one_130 (fw_cat _) ?_
        refine fw_aload_n dX6_one_131 rfl rfl ?_
        obtain ⟨b47, b48, hb49, hb50, h⟩ := h
        refine fw_callV0 (f1 := f - 1) (b1 := b47) (b2 := b48) cl_X6_185 rfl hg44 (by decide) (by omega) hb49 hb50 (fw_s4 (Nat.le_of_ble_eq_true rfl)) dX6_one_132 (hk_X6_one hg44 h) (fun _ _ h9 k9 _ => fw_out rfl k9 h9) (fun v9 μ46 q9 hs51 => ?_)
        obtain ⟨r45, rfl, h⟩ := q9
        refine fw_tr ?_
        have hg52 := hs51.K hg44 (by decide)
        have hg53 := hs51.K hg41 (by decide)
        refine fw_callI1z (f1 := f - 1) cl_X6_199 (k := 11) rfl hg53 (by decide) (by omega) (fw_s4 (Nat.le_of_ble_eq_true rfl)) dX6_one_135 (w_X10_init (f := f - 1) (by omega) hg53 h) (fun _ _ h9 _ _ => h9.elim) (fun v9 μ55 q9 hs56 => ?_)
        obtain ⟨rfl, h⟩ := q9
        refine fw_tv ?_
        have hg57 := hs56.K hg52 (by decide)
        have hg58 := hs56.K hg53 (by decide)
        refine fw_astore_nN (Ls' := [(1, fw_rv g rn39), (0, fw_rv g r0)]) [] dX6_one_138 rfl (by decide) rfl rfl rfl (fw_cat _) rfl ?_
        refine fw_aload_n dX6_one_139 rfl rfl ?_
        refine fw_dup dX6_one_140 (fw_cat _) ?_
        refine fw_getfI fl_X6_95 rfl hg57 dX6_one_141 ?_
        refine fw_iconst (v := 1) dX6_one_144 (by decide) ?_
        refine fw_isub dX6_one_145 ?_
        refine fw_putfI fl_X6_95 (fun q hq => Or.inl (by cases hq; rfl)) rfl hg57 dX6_one_146 ?_
        have h := h _ rfl
        refine fw_aload_n dX6_one_149 rfl rfl ?_
        exact fw_areturn dX6_one_150 rfl (by first | exact Or.inl ⟨_, rfl⟩ | exact Or.inr ⟨_, rfl⟩) ⟨_, rfl, h⟩
      · refine fw_sw (k := 301) h (fun c60 h => ?_) (fun c60 h => ?_)
        · refine fw_lookup (tgt := 80) (off := 34) dX6_one_46 (by decide) (by rw [c60]; try rfl) (by decide) ?_
          refine fw_x (fun hX => ?_)
          obtain ⟨hc61, h⟩ := h
          obtain ⟨hc62, h⟩ := h
          refine fw_newo (k := 10) rfl q700 q701 q92 hc61 hc62 dX6_one_80 ?_
          refine fw_topr (fun rn63 e64 => ?_)
          have h := h rn63 e64
          refine fw_topm (fun μ66 e67 => ?_)
          have hg68 := fw_al_sE e67 hx (by decide) hX
          have hg65 := fw_al_KE e67 e64
          have h := h μ66 e67
          refine fw_dup dX6_one_83 (fw_cat _) ?_
          refine fw_aload_n dX6_one_84 rfl rfl ?_
          refine fw_iconst (v := 0) dX6_one_85 (by decide) ?_
          refine fw_sipush (v := 9999) dX6_one_86 (by decide) ?_
          obtain ⟨b71, b72, hb73, hb74, h⟩ := h
          refine fw_callV2 (f1 := f - 1) (b1 := b71) (b2 := b72) cl_X6_138 rfl hg68 (by decide) (by omega) hb73 hb74 (fw_s4 (Nat.le_of_ble_eq_true rfl)) dX6_one_89 (w_X6_number (f := f - 1) (by omega) hg68 h) (fun _ _ h9 k9 _ => fw_out rfl k9 h9) (fun v9 μ70 q9 hs75 => ?_)
          obtain ⟨v69, rfl, h⟩ := q9
          refine fw_ti ?_
          have hg76 := hs75.K hg68 (by decide)
          have hg77 := hs75.K hg65 (by decide)
          refine fw_callI1z (f1 := f - 1) cl_X6_196 (k := 10) rfl hg77 (by decide) (by omega) (fw_s4 (Nat.le_of_ble_eq_true rfl)) dX6_one_92 (w_X9_init (f := f - 1) (by omega) hg77 h) (fun _ _ h9 _ _ => h9.elim) (fun v9 μ79 q9 hs80 => ?_)
          obtain ⟨rfl, h⟩ := q9
          refine fw_tv ?_
          have hg81 := hs80.K hg76 (by decide)
          have hg82 := hs80.K hg77 (by decide)
          exact fw_areturn dX6_one_95 rfl (by first | exact Or.inl ⟨_, rfl⟩ | exact Or.inr ⟨_, rfl⟩) ⟨_, rfl, h⟩
        · refine fw_lookup (tgt := 151) (off := 105) dX6_one_46 (by decide) (by rw [lv_osw c2 (by decide), lv_osw c28 (by decide), lv_osw c60 (by decide)]; try rfl) (by decide) ?_
          refine fw_aload_n dX6_one_151 rfl rfl ?_
          refine fw_iconst (v := 1) dX6_one_152 (by decide) ?_
          obtain ⟨b85, b86, hb87, hb88, h⟩ := h
          refine fw_callV1 (f1 := f - 1) (b1 := b85) (b2 := b86) cl_X6_88 rfl hx (by decide) (by omega) hb87 hb88 (fw_s4 (Nat.le_of_ble_eq_true rfl)) dX6_one_153 (w_X6_wrong (f := f - 1) (by omega) hx h) (fun _ _ h9 _ _ => h9.elim) (fun v9 μ84 q9 hs89 => ?_)
          obtain ⟨r83, rfl, h⟩ := q9
          refine fw_tr ?_
          have hg90 := hs89.K hx (by decide)
          obtain ⟨hg91, h⟩ := h
          exact fw_athrow hg91 dX6_one_156 (fw_out rfl hg91 h)
  · have h := fw_if h c1
    refine fw_aload_n dX6_one_7 rfl rfl ?_
    refine fw_aload_n dX6_one_8 rfl rfl ?_
    refine fw_getfI fl_X6_57 rfl hx dX6_one_9 ?_
    refine fw_callV1z (f1 := f - 1) cl_X6_188 rfl hx (by decide) (by omega) (fw_s4 (Nat.le_of_ble_eq_true rfl)) dX6_one_12 (w_X6_isOf (f := f - 1) (by omega) hx h) (fun _ _ h9 _ _ => h9.elim) (fun v9 μ93 q9 hs94 => ?_)
    obtain ⟨v92, rfl, h⟩ := q9
    refine fw_ti ?_
    have hg95 := hs94.K hx (by decide)
    refine fw_if_ne (tgt := 24) dX6_one_15 (by decide) (fun c96 => ?_) (fun c96 => ?_)
    · have h := fw_if h c96
      refine fw_x (fun hX => ?_)
      obtain ⟨hc97, h⟩ := h
      obtain ⟨hc98, h⟩ := h
      refine fw_newo (k := 9) rfl q690 q691 q91 hc97 hc98 dX6_one_24 ?_
      refine fw_topr (fun rn99 e100 => ?_)
      have h := h rn99 e100
      refine fw_topm (fun μ102 e103 => ?_)
      have hg104 := fw_al_sE e103 hg95 (by decide) hX
      have hg101 := fw_al_KE e103 e100
      have h := h μ102 e103
      refine fw_dup dX6_one_27 (fw_cat _) ?_
      refine fw_aload_n dX6_one_28 rfl rfl ?_
      refine fw_getfI fl_X6_57 rfl hg104 dX6_one_29 ?_
      refine fw_callI1z (f1 := f - 1) cl_X6_193 (k := 9) rfl hg101 (by decide) (by omega) (fw_s4 (Nat.le_of_ble_eq_true rfl)) dX6_one_32 (w_X8_init (f := f - 1) (by omega) hg101 h) (fun _ _ h9 _ _ => h9.elim) (fun v9 μ106 q9 hs107 => ?_)
      obtain ⟨rfl, h⟩ := q9
      refine fw_tv ?_
      have hg108 := hs107.K hg104 (by decide)
      have hg109 := hs107.K hg101 (by decide)
      refine fw_astore_nN (Ls' := [(1, fw_rv g rn99), (0, fw_rv g r0)]) [] dX6_one_35 rfl (by decide) rfl rfl rfl (fw_cat _) rfl ?_
      refine fw_aload_n dX6_one_36 rfl rfl ?_
      refine fw_callV0z (f1 := f - 1) cl_X6_92 rfl hg108 (by decide) (by omega) (fw_s4 (Nat.le_of_ble_eq_true rfl)) dX6_one_37 (w_X6_next (f := f - 1) (by omega) hg108 h) (fun _ _ h9 _ _ => h9.elim) (fun v9 μ111 q9 hs112 => ?_)
      obtain ⟨rfl, h⟩ := q9
      refine fw_tv ?_
      have hg113 := hs112.K hg108 (by decide)
      have hg114 := hs112.K hg109 (by decide)
      refine fw_aload_n dX6_one_40 rfl rfl ?_
      exact fw_areturn dX6_one_41 rfl (by first | exact Or.inl ⟨_, rfl⟩ | exact Or.inr ⟨_, rfl⟩) ⟨_, rfl, h⟩
    · have h := fw_it h c96
      refine fw_aload_n dX6_one_18 rfl rfl ?_
      refine fw_iconst (v := 5) dX6_one_19 (by decide) ?_
      obtain ⟨b117, b118, hb119, hb120, h⟩ := h
      refine fw_callV1 (f1 := f - 1) (b1 := b117) (b2 := b118) cl_X6_88 rfl hg95 (by decide) (by omega) hb119 hb120 (fw_s4 (Nat.le_of_ble_eq_true rfl)) dX6_one_20 (w_X6_wrong (f := f - 1) (by omega) hg95 h) (fun _ _ h9 _ _ => h9.elim) (fun v9 μ116 q9 hs121 => ?_)
      obtain ⟨r115, rfl, h⟩ := q9
      refine fw_tr ?_
      have hg122 := hs121.K hg95 (by decide)
      obtain ⟨hg123, h⟩ := h
      exact fw_athrow hg123 dX6_one_23 (fw_out rfl hg123 h)
def p_X6_one_d : Nat → Nat → Nat → Nat → fw_M → (Nat → fw_M → Prop) → (Nat → fw_M → Prop) → Prop
  | 0 => fun _ _ _ _ _ _ => False
  | d + 1 => p_X6_one (p_X6_one_d d) (p_X6_sum (p_X6_product (p_X6_one_d d)))
theorem w_X6_one_d {g : fw_G} : ∀ (d f : Nat) {bc bs r : Nat} {μ : fw_M} {Q X : Nat → fw_M → Prop}, 10 + 3 * d ≤ f → m_K μ r = 7 → p_X6_one_d d bc bs r μ Q X → fw_C g f bc bs yX6_one (ws_ yX6_one cX6_one 2 (some (.object "SpoonScales$Sum"))) [fw_rv g r] μ (fw_Qr g Q) X := by
  intro d
  induction d with
  | zero => intro f bc bs r μ Q X _ _ h; exact h.elim
  | succ d ih =>
    intro f bc bs r μ Q X hf hx h
    refine w_X6_one (k_X6_one := p_X6_one_d d) (k_X6_sum := p_X6_sum (p_X6_product (p_X6_one_d d))) (by omega) (fun hx9 h9 => ih (f - 1) (by omega) hx9 h9) (fun hx9 h9 => ?_) hx h
    refine w_X6_sum (by omega) (fun hx8 h8 => ?_) hx9 h9
    exact w_X6_product (by omega) (fun hx7 h7 => ih (f - 1 - 1 - 1) (by omega) hx7 h7) hx8 h8
def pc_X6_one (bc bs r : Nat) (μ : fw_M) (Q X : Nat → fw_M → Prop) : Prop := ∃ d, d ≤ 40 ∧ p_X6_one_d d bc bs r μ Q X
def pc_X6_sum (bc bs r : Nat) (μ : fw_M) (Q X : Nat → fw_M → Prop) : Prop := ∃ d, d ≤ 40 ∧ p_X6_sum (p_X6_product (p_X6_one_d d)) bc bs r μ Q X
theorem wc_X6_sum {g : fw_G} {f bc bs r : Nat} {μ : fw_M} {Q X : Nat → fw_M → Prop} (hf : 133 ≤ f) (hx : m_K μ r = 7) (h : pc_X6_sum bc bs r μ Q X) : fw_C g f bc bs yX6_sum (ws_ yX6_sum cX6_sum 3 (some (.object "SpoonScales$Sum"))) [fw_rv g r] μ (fw_Qr g Q) X := by
  obtain ⟨d, hd, h⟩ := h
  refine w_X6_sum (by omega) (fun hx8 h8 => ?_) hx h
  exact w_X6_product (by omega) (fun hx7 h7 => w_X6_one_d d (f - 1 - 1) (by omega) hx7 h7) hx8 h8
abbrev K_X12_init : fw_Kt := (RX12, "<init>", cX12_init, 2, none, [])
def p_X12_init (r0 : Nat) (r1 : Nat) (μ : fw_M) (Q : fw_M → Prop) : Prop :=
  (∀ μ1, μ1 = m_uP μ r0 0 r1 →
  Q μ1)
set_option maxHeartbeats 4000000 in
theorem w_X12_init {g : fw_G} {f bc bs : Nat} {r0 : Nat} {r1 : Nat} {μ : fw_M} {Q : fw_M → Prop} (hf : 1 ≤ f) (hx : m_K μ r0 = 13) (h : p_X12_init r0 r1 μ Q) : fw_C g f bc bs yX12_init (ws_ yX12_init cX12_init 2 (none)) [fw_rv g r0, fw_rv g r1] μ (fw_Qv Q) fw_nX := by
  unfold p_X12_init at h
  refine fw_intro' (Ls := [(0, fw_rv g r0), (1, fw_rv g r1)]) (by decide +kernel) (by simp [lg_sl, fw_cat, fw_ci, fw_clo]) (by simp [lv_args, fw_cat, fw_ci, fw_clo]) ?_
  show fw_V g K_X12_init f bc bs 0 [(0, fw_rv g r0), (1, fw_rv g r1)] [] μ (fw_Qv Q) fw_nX
  refine fw_aload_n dX12_init_0 rfl rfl ?_
  refine fw_objInit (k := 13) rfl hx q764 q110 q111 (by omega) (fw_s4 (Nat.le_of_ble_eq_true rfl)) dX12_init_1 ?_
  refine fw_aload_n dX12_init_4 rfl rfl ?_
  refine fw_aload_n dX12_init_5 rfl rfl ?_
  refine fw_putfP fl_X12_7 (fun q hq => Or.inr ⟨rfl, by cases hq; rfl⟩) rfl hx dX12_init_6 ?_
  have h := h _ rfl
  exact fw_return dX12_init_9 rfl ⟨rfl, h⟩
abbrev K_X13_init : fw_Kt := (RX13, "<init>", cX13_init, 4, none, [])
def p_X13_init (r0 : Nat) (i1 : Int32) (r2 : Nat) (r3 : Nat) (μ : fw_M) (Q : fw_M → Prop) : Prop :=
  (∀ μ1, μ1 = m_uI μ r0 0 i1 →
  (∀ μ2, μ2 = m_uP μ1 r0 1 r2 →
  (∀ μ3, μ3 = m_uP μ2 r0 2 r3 →
  Q μ3)))
set_option maxHeartbeats 4000000 in
theorem w_X13_init {g : fw_G} {f bc bs : Nat} {r0 : Nat} {i1 : Int32} {r2 : Nat} {r3 : Nat} {μ : fw_M} {Q : fw_M → Prop} (hf : 1 ≤ f) (hx : m_K μ r0 = 14) (h : p_X13_init r0 i1 r2 r3 μ Q) : fw_C g f bc bs yX13_init (ws_ yX13_init cX13_init 4 (none)) [fw_rv g r0, Value.int i1, fw_rv g r2, fw_rv g r3] μ (fw_Qv Q) fw_nX := by
  unfold p_X13_init at h
  refine fw_intro' (Ls := [(0, fw_rv g r0), (1, Value.int i1), (2, fw_rv g r2), (3, fw_rv g r3)]) (by decide +kernel) (by simp [lg_sl, fw_cat, fw_ci, fw_clo]) (by simp [lv_args, fw_cat, fw_ci, fw_clo]) ?_
  show fw_V g K_X13_init f bc bs 0 [(0, fw_rv g r0), (1, Value.int i1), (2, fw_rv g r2), (3, fw_rv g r3)] [] μ (fw_Qv Q) fw_nX
  refine fw_aload_n dX13_init_0 rfl rfl ?_
  refine fw_objInit (k := 14) rfl hx q778 q110 q111 (by omega) (fw_s4 (Nat.le_of_ble_eq_true rfl)) dX13_init_1 ?_
  refine fw_aload_n dX13_init_4 rfl rfl ?_
  refine fw_iload_n dX13_init_5 rfl rfl ?_
  refine fw_putfI fl_X13_7 (fun q hq => Or.inr ⟨rfl, by cases hq; rfl⟩) rfl hx dX13_init_6 ?_
  have h := h _ rfl
  refine fw_aload_n dX13_init_9 rfl rfl ?_
  refine fw_aload_n dX13_init_10 rfl rfl ?_
  refine fw_putfP fl_X13_13 (fun q hq => Or.inr ⟨rfl, by cases hq; rfl⟩) rfl hx dX13_init_11 ?_
  have h := h _ rfl
  refine fw_aload_n dX13_init_14 rfl rfl ?_
  refine fw_aload_n dX13_init_15 rfl rfl ?_
  refine fw_putfP fl_X13_17 (fun q hq => Or.inr ⟨rfl, by cases hq; rfl⟩) rfl hx dX13_init_16 ?_
  have h := h _ rfl
  exact fw_return dX13_init_19 rfl ⟨rfl, h⟩
abbrev K_X6_isCompare : fw_Kt := (RX6, "isCompare", cX6_isCompare, 1, some .boolean, [])
def p_X6_isCompare_L56 (r0 : Nat) (μ : fw_M) (Q : Int32 → fw_M → Prop) : Prop :=
  Q (1 : Int32) μ
set_option maxHeartbeats 4000000 in
theorem w_X6_isCompare_L56 {g : fw_G} {f bc bs : Nat} {r0 : Nat} {μ : fw_M} {Q : Int32 → fw_M → Prop} (hf : 1 ≤ f) (hx : m_K μ r0 = 7) (h : p_X6_isCompare_L56 r0 μ Q) : fw_V g K_X6_isCompare f bc bs 56 [(0, fw_rv g r0)] [] μ (fw_Qi Q) fw_nX := by
  unfold p_X6_isCompare_L56 at h
  refine fw_iconst (v := 1) dX6_isCompare_56 (by decide) ?_
  refine fw_goto (tgt := 61) dX6_isCompare_57 (by decide) ?_
  exact fw_ireturn dX6_isCompare_61 rfl (by decide +kernel) ⟨_, rfl, h⟩
def p_X6_isCompare (r0 : Nat) (μ : fw_M) (Q : Int32 → fw_M → Prop) : Prop :=
  (if (m_I μ r0 4) = (60 : Int32) then
  (p_X6_isCompare_L56 r0 μ Q)
  else
  ((if (m_I μ r0 4) = (62 : Int32) then
   (p_X6_isCompare_L56 r0 μ Q)
   else
   ((if (m_I μ r0 4) = (61 : Int32) then
    (p_X6_isCompare_L56 r0 μ Q)
    else
    ((if (m_I μ r0 4) = (35 : Int32) then
     (p_X6_isCompare_L56 r0 μ Q)
     else
     ((if (m_I μ r0 4) = (304 : Int32) then
      (p_X6_isCompare_L56 r0 μ Q)
      else
      ((if (m_I μ r0 4) = (305 : Int32) then
       (p_X6_isCompare_L56 r0 μ Q)
       else
       (Q (0 : Int32) μ))))))))))))
set_option maxHeartbeats 4000000 in
theorem w_X6_isCompare {g : fw_G} {f bc bs : Nat} {r0 : Nat} {μ : fw_M} {Q : Int32 → fw_M → Prop} (hf : 1 ≤ f) (hx : m_K μ r0 = 7) (h : p_X6_isCompare r0 μ Q) : fw_C g f bc bs yX6_isCompare (ws_ yX6_isCompare cX6_isCompare 1 (some .boolean)) [fw_rv g r0] μ (fw_Qi Q) fw_nX := by
  unfold p_X6_isCompare at h
  refine fw_intro' (Ls := [(0, fw_rv g r0)]) (by decide +kernel) (by simp [lg_sl, fw_cat, fw_ci, fw_clo]) (by simp [lv_args, fw_cat, fw_ci, fw_clo]) ?_
  show fw_V g K_X6_isCompare f bc bs 0 [(0, fw_rv g r0)] [] μ (fw_Qi Q) fw_nX
  refine fw_aload_n dX6_isCompare_0 rfl rfl ?_
  refine fw_getfI fl_X6_60 rfl hx dX6_isCompare_1 ?_
  refine fw_bipush (v := 60) dX6_isCompare_4 (by decide) ?_
  refine fw_icmp_eq (tgt := 56) dX6_isCompare_6 (by decide) (fun c1 => ?_) (fun c1 => ?_)
  · have h := fw_it h c1
    exact w_X6_isCompare_L56 hf hx h
  · have h := fw_if h c1
    refine fw_aload_n dX6_isCompare_9 rfl rfl ?_
    refine fw_getfI fl_X6_60 rfl hx dX6_isCompare_10 ?_
    refine fw_bipush (v := 62) dX6_isCompare_13 (by decide) ?_
    refine fw_icmp_eq (tgt := 56) dX6_isCompare_15 (by decide) (fun c2 => ?_) (fun c2 => ?_)
    · have h := fw_it h c2
      exact w_X6_isCompare_L56 hf hx h
    · have h := fw_if h c2
      refine fw_aload_n dX6_isCompare_18 rfl rfl ?_
      refine fw_getfI fl_X6_60 rfl hx dX6_isCompare_19 ?_
      refine fw_bipush (v := 61) dX6_isCompare_22 (by decide) ?_
      refine fw_icmp_eq (tgt := 56) dX6_isCompare_24 (by decide) (fun c3 => ?_) (fun c3 => ?_)
      · have h := fw_it h c3
        exact w_X6_isCompare_L56 hf hx h
      · have h := fw_if h c3
        refine fw_aload_n dX6_isCompare_27 rfl rfl ?_
        refine fw_getfI fl_X6_60 rfl hx dX6_isCompare_28 ?_
        refine fw_bipush (v := 35) dX6_isCompare_31 (by decide) ?_
        refine fw_icmp_eq (tgt := 56) dX6_isCompare_33 (by decide) (fun c4 => ?_) (fun c4 => ?_)
        · have h := fw_it h c4
          exact w_X6_isCompare_L56 hf hx h
        · have h := fw_if h c4
          refine fw_aload_n dX6_isCompare_36 rfl rfl ?_
          refine fw_getfI fl_X6_60 rfl hx dX6_isCompare_37 ?_
          refine fw_sipush (v := 304) dX6_isCompare_40 (by decide) ?_
          refine fw_icmp_eq (tgt := 56) dX6_isCompare_43 (by decide) (fun c5 => ?_) (fun c5 => ?_)
          · have h := fw_it h c5
            exact w_X6_isCompare_L56 hf hx h
          · have h := fw_if h c5
            refine fw_aload_n dX6_isCompare_46 rfl rfl ?_
            refine fw_getfI fl_X6_60 rfl hx dX6_isCompare_47 ?_
            refine fw_sipush (v := 305) dX6_isCompare_50 (by decide) ?_
            refine fw_icmp_ne (tgt := 60) dX6_isCompare_53 (by decide) (fun c6 => ?_) (fun c6 => ?_)
            · have h := fw_if h c6
              refine fw_iconst (v := 0) dX6_isCompare_60 (by decide) ?_
              exact fw_ireturn dX6_isCompare_61 rfl (by decide +kernel) ⟨_, rfl, h⟩
            · have h := fw_it h c6
              exact w_X6_isCompare_L56 hf hx h
abbrev K_X6_ask : fw_Kt := (RX6, "ask", cX6_ask, 3, some (.object "SpoonScales$Ask"), [])
def p_X6_ask (k_X6_ask : Nat → Nat → Nat → fw_M → (Nat → fw_M → Prop) → (Nat → fw_M → Prop) → Prop) (bc : Nat) (bs : Nat) (r0 : Nat) (μ : fw_M) (Q : Nat → fw_M → Prop) (X : Nat → fw_M → Prop) : Prop :=
  (if (m_I μ r0 4) = (319 : Int32) then
  ((∃ b54 b55, b54 ≤ bc ∧ b55 ≤ bs ∧ (p_X6_opens b54 b55 r0 μ (fun μ53 =>
   (1 ≤ (bc - b54) ∧ (1 ≤ (bs - b55) ∧ (∀ rn62 : Nat, rn62 = m_x μ53 →
   (∀ μ65, μ65 = m_al μ53 13 1 →
   (∃ b70 b71, b70 ≤ ((bc - b54) - 1) ∧ b71 ≤ ((bs - b55) - 1) ∧ (k_X6_ask b70 b71 r0 μ65 (fun r68 μ69 =>
   (p_X12_init rn62 r68 μ69 (fun μ78 =>
   (∀ μ82, μ82 = m_uI μ78 r0 7 ((m_I μ78 r0 7) - (1 : Int32)) →
   Q rn62 μ82)))) X))))))) X)))
  else
  ((∃ b4 b5, b4 ≤ bc ∧ b5 ≤ bs ∧ (pc_X6_sum b4 b5 r0 μ (fun r2 μ3 =>
   (p_X6_isCompare r0 μ3 (fun v10 μ11 =>
   (if v10 = 0 then
   ((∃ b45 b46, b45 ≤ (bc - b4) ∧ b46 ≤ (bs - b5) ∧ (p_X6_wrong b45 b46 r0 (1 : Int32) μ11 (fun r43 μ44 =>
    (m_K μ44 r43 = 8 ∧ X r43 μ44)))))
   else
   ((∀ i2_15 : Int32, i2_15 = (m_I μ11 r0 4) →
    (p_X6_next r0 μ11 (fun μ18 =>
    (1 ≤ (bc - b4) ∧ (3 ≤ (bs - b5) ∧ (∀ rn23 : Nat, rn23 = m_x μ18 →
    (∀ μ26, μ26 = m_al μ18 14 3 →
    (∃ b31 b32, b31 ≤ ((bc - b4) - 1) ∧ b32 ≤ ((bs - b5) - 3) ∧ (pc_X6_sum b31 b32 r0 μ26 (fun r29 μ30 =>
    (p_X13_init rn23 i2_15 r2 r29 μ30 (fun μ39 =>
    Q rn23 μ39))) X)))))))))))))) X))))
set_option maxHeartbeats 4000000 in
theorem w_X6_ask {g : fw_G} {f bc bs : Nat} {k_X6_ask : Nat → Nat → Nat → fw_M → (Nat → fw_M → Prop) → (Nat → fw_M → Prop) → Prop} {r0 : Nat} {μ : fw_M} {Q : Nat → fw_M → Prop} {X : Nat → fw_M → Prop} (hf : 134 ≤ f) (hk_X6_ask : ∀ {b1 b2 : Nat} {z0 : Nat} {μ9 : fw_M} {Q9 : Nat → fw_M → Prop} {X9 : Nat → fw_M → Prop}, m_K μ9 z0 = 7 → k_X6_ask b1 b2 z0 μ9 Q9 X9 → fw_C g (f - 1) b1 b2 yX6_ask (ws_ yX6_ask cX6_ask 3 (some (.object "SpoonScales$Ask"))) [fw_rv g z0] μ9 (fw_Qr g Q9) X9) (hx : m_K μ r0 = 7) (h : p_X6_ask k_X6_ask bc bs r0 μ Q X) : fw_C g f bc bs yX6_ask (ws_ yX6_ask cX6_ask 3 (some (.object "SpoonScales$Ask"))) [fw_rv g r0] μ (fw_Qr g Q) X := by
  unfold p_X6_ask at h
  refine fw_intro' (Ls := [(0, fw_rv g r0)]) (by decide +kernel) (by simp [lg_sl, fw_cat, fw_ci, fw_clo]) (by simp [lv_args, fw_cat, fw_ci, fw_clo]) ?_
  show fw_V g K_X6_ask f bc bs 0 [(0, fw_rv g r0)] [] μ (fw_Qr g Q) X
  refine fw_aload_n dX6_ask_0 rfl rfl ?_
  refine fw_getfI fl_X6_60 rfl hx dX6_ask_1 ?_
  refine fw_sipush (v := 319) dX6_ask_4 (by decide) ?_
  refine fw_icmp_ne (tgt := 38) dX6_ask_7 (by decide) (fun c1 => ?_) (fun c1 => ?_)
  · have h := fw_if h c1
    refine fw_aload_n dX6_ask_38 rfl rfl ?_
    obtain ⟨b4, b5, hb6, hb7, h⟩ := h
    refine fw_callV0 (f1 := f - 1) (b1 := b4) (b2 := b5) cl_X6_115 rfl hx (by decide) (by omega) hb6 hb7 (fw_s4 (Nat.le_of_ble_eq_true rfl)) dX6_ask_39 (wc_X6_sum (f := f - 1) (by omega) hx h) (fun _ _ h9 k9 _ => fw_out rfl k9 h9) (fun v9 μ3 q9 hs8 => ?_)
    obtain ⟨r2, rfl, h⟩ := q9
    refine fw_tr ?_
    have hg9 := hs8.K hx (by decide)
    refine fw_astore_nN (Ls' := [(1, fw_rv g r2), (0, fw_rv g r0)]) [] dX6_ask_42 rfl (by decide) rfl rfl rfl (fw_cat _) rfl ?_
    refine fw_aload_n dX6_ask_43 rfl rfl ?_
    refine fw_callV0z (f1 := f - 1) cl_X6_171 rfl hg9 (by decide) (by omega) (fw_s4 (Nat.le_of_ble_eq_true rfl)) dX6_ask_44 (w_X6_isCompare (f := f - 1) (by omega) hg9 h) (fun _ _ h9 _ _ => h9.elim) (fun v9 μ11 q9 hs12 => ?_)
    obtain ⟨v10, rfl, h⟩ := q9
    refine fw_ti ?_
    have hg13 := hs12.K hg9 (by decide)
    refine fw_if_ne (tgt := 56) dX6_ask_47 (by decide) (fun c14 => ?_) (fun c14 => ?_)
    · have h := fw_if h c14
      refine fw_aload_n dX6_ask_56 rfl rfl ?_
      refine fw_getfI fl_X6_60 rfl hg13 dX6_ask_57 ?_
      refine fw_topi (fun i2_15 e16 => ?_)
      have h := h i2_15 e16
      refine fw_istore_nN (Ls' := [(2, Value.int i2_15), (1, fw_rv g r2), (0, fw_rv g r0)]) [1] dX6_ask_60 rfl (by decide) rfl rfl rfl (fw_cat _) rfl ?_
      refine fw_aload_n dX6_ask_61 rfl rfl ?_
      refine fw_callV0z (f1 := f - 1) cl_X6_92 rfl hg13 (by decide) (by omega) (fw_s4 (Nat.le_of_ble_eq_true rfl)) dX6_ask_62 (w_X6_next (f := f - 1) (by omega) hg13 h) (fun _ _ h9 _ _ => h9.elim) (fun v9 μ18 q9 hs19 => ?_)
      obtain ⟨rfl, h⟩ := q9
      refine fw_tv ?_
      have hg20 := hs19.K hg13 (by decide)
      refine fw_x (fun hX => ?_)
      obtain ⟨hc21, h⟩ := h
      obtain ⟨hc22, h⟩ := h
      refine fw_newo (k := 14) rfl q773 q774 q96 hc21 hc22 dX6_ask_65 ?_
      refine fw_topr (fun rn23 e24 => ?_)
      have h := h rn23 e24
      refine fw_topm (fun μ26 e27 => ?_)
      have hg28 := fw_al_sE e27 hg20 (by decide) hX
      have hg25 := fw_al_KE e27 e24
      have h := h μ26 e27
      refine fw_dup dX6_ask_68 (fw_cat _) ?_
      refine fw_iload_n dX6_ask_69 rfl rfl ?_
      refine fw_aload_n dX6_ask_70 rfl rfl ?_
      refine fw_aload_n dX6_ask_71 rfl rfl ?_
      obtain ⟨b31, b32, hb33, hb34, h⟩ := h
      refine fw_callV0 (f1 := f - 1) (b1 := b31) (b2 := b32) cl_X6_115 rfl hg28 (by decide) (by omega) hb33 hb34 (fw_s4 (Nat.le_of_ble_eq_true rfl)) dX6_ask_72 (wc_X6_sum (f := f - 1) (by omega) hg28 h) (fun _ _ h9 k9 _ => fw_out rfl k9 h9) (fun v9 μ30 q9 hs35 => ?_)
      obtain ⟨r29, rfl, h⟩ := q9
      refine fw_tr ?_
      have hg36 := hs35.K hg28 (by decide)
      have hg37 := hs35.K hg25 (by decide)
      refine fw_callI3z (f1 := f - 1) cl_X6_176 (k := 14) rfl hg37 (by decide) (by omega) (fw_s4 (Nat.le_of_ble_eq_true rfl)) dX6_ask_75 (w_X13_init (f := f - 1) (by omega) hg37 h) (fun _ _ h9 _ _ => h9.elim) (fun v9 μ39 q9 hs40 => ?_)
      obtain ⟨rfl, h⟩ := q9
      refine fw_tv ?_
      have hg41 := hs40.K hg36 (by decide)
      have hg42 := hs40.K hg37 (by decide)
      exact fw_areturn dX6_ask_78 rfl (by first | exact Or.inl ⟨_, rfl⟩ | exact Or.inr ⟨_, rfl⟩) ⟨_, rfl, h⟩
    · have h := fw_it h c14
      refine fw_aload_n dX6_ask_50 rfl rfl ?_
      refine fw_iconst (v := 1) dX6_ask_51 (by decide) ?_
      obtain ⟨b45, b46, hb47, hb48, h⟩ := h
      refine fw_callV1 (f1 := f - 1) (b1 := b45) (b2 := b46) cl_X6_88 rfl hg13 (by decide) (by omega) hb47 hb48 (fw_s4 (Nat.le_of_ble_eq_true rfl)) dX6_ask_52 (w_X6_wrong (f := f - 1) (by omega) hg13 h) (fun _ _ h9 _ _ => h9.elim) (fun v9 μ44 q9 hs49 => ?_)
      obtain ⟨r43, rfl, h⟩ := q9
      refine fw_tr ?_
      have hg50 := hs49.K hg13 (by decide)
      obtain ⟨hg51, h⟩ := h
      exact fw_athrow hg51 dX6_ask_55 (fw_out rfl hg51 h)
  · have h := fw_it h c1
    refine fw_aload_n dX6_ask_10 rfl rfl ?_
    obtain ⟨b54, b55, hb56, hb57, h⟩ := h
    refine fw_callV0 (f1 := f - 1) (b1 := b54) (b2 := b55) cl_X6_163 rfl hx (by decide) (by omega) hb56 hb57 (fw_s4 (Nat.le_of_ble_eq_true rfl)) dX6_ask_11 (w_X6_opens (f := f - 1) (by omega) hx h) (fun _ _ h9 k9 _ => fw_out rfl k9 h9) (fun v9 μ53 q9 hs58 => ?_)
    obtain ⟨rfl, h⟩ := q9
    refine fw_tv ?_
    have hg59 := hs58.K hx (by decide)
    refine fw_x (fun hX => ?_)
    obtain ⟨hc60, h⟩ := h
    obtain ⟨hc61, h⟩ := h
    refine fw_newo (k := 13) rfl q759 q760 q95 hc60 hc61 dX6_ask_14 ?_
    refine fw_topr (fun rn62 e63 => ?_)
    have h := h rn62 e63
    refine fw_topm (fun μ65 e66 => ?_)
    have hg67 := fw_al_sE e66 hg59 (by decide) hX
    have hg64 := fw_al_KE e66 e63
    have h := h μ65 e66
    refine fw_dup dX6_ask_17 (fw_cat _) ?_
    refine fw_aload_n dX6_ask_18 rfl rfl ?_
    obtain ⟨b70, b71, hb72, hb73, h⟩ := h
    refine fw_callV0 (f1 := f - 1) (b1 := b70) (b2 := b71) cl_X6_160 rfl hg67 (by decide) (by omega) hb72 hb73 (fw_s4 (Nat.le_of_ble_eq_true rfl)) dX6_ask_19 (hk_X6_ask hg67 h) (fun _ _ h9 k9 _ => fw_out rfl k9 h9) (fun v9 μ69 q9 hs74 => ?_)
    obtain ⟨r68, rfl, h⟩ := q9
    refine fw_tr ?_
    have hg75 := hs74.K hg67 (by decide)
    have hg76 := hs74.K hg64 (by decide)
    refine fw_callI1z (f1 := f - 1) cl_X6_168 (k := 13) rfl hg76 (by decide) (by omega) (fw_s4 (Nat.le_of_ble_eq_true rfl)) dX6_ask_22 (w_X12_init (f := f - 1) (by omega) hg76 h) (fun _ _ h9 _ _ => h9.elim) (fun v9 μ78 q9 hs79 => ?_)
    obtain ⟨rfl, h⟩ := q9
    refine fw_tv ?_
    have hg80 := hs79.K hg75 (by decide)
    have hg81 := hs79.K hg76 (by decide)
    refine fw_astore_nN (Ls' := [(1, fw_rv g rn62), (0, fw_rv g r0)]) [] dX6_ask_25 rfl (by decide) rfl rfl rfl (fw_cat _) rfl ?_
    refine fw_aload_n dX6_ask_26 rfl rfl ?_
    refine fw_dup dX6_ask_27 (fw_cat _) ?_
    refine fw_getfI fl_X6_95 rfl hg80 dX6_ask_28 ?_
    refine fw_iconst (v := 1) dX6_ask_31 (by decide) ?_
    refine fw_isub dX6_ask_32 ?_
    refine fw_putfI fl_X6_95 (fun q hq => Or.inl (by cases hq; rfl)) rfl hg80 dX6_ask_33 ?_
    have h := h _ rfl
    refine fw_aload_n dX6_ask_36 rfl rfl ?_
    exact fw_areturn dX6_ask_37 rfl (by first | exact Or.inl ⟨_, rfl⟩ | exact Or.inr ⟨_, rfl⟩) ⟨_, rfl, h⟩
def p_X6_ask_d : Nat → Nat → Nat → Nat → fw_M → (Nat → fw_M → Prop) → (Nat → fw_M → Prop) → Prop
  | 0 => fun _ _ _ _ _ _ => False
  | d + 1 => p_X6_ask (p_X6_ask_d d)
theorem w_X6_ask_d {g : fw_G} : ∀ (d f : Nat) {bc bs : Nat} {z0 : Nat} {μ : fw_M} {Q : Nat → fw_M → Prop} {X : Nat → fw_M → Prop}, 134 + d ≤ f → m_K μ z0 = 7 → p_X6_ask_d d bc bs z0 μ Q X → fw_C g f bc bs yX6_ask (ws_ yX6_ask cX6_ask 3 (some (.object "SpoonScales$Ask"))) [fw_rv g z0] μ (fw_Qr g Q) X := by
  intro d
  induction d with
  | zero => intro f bc bs z0 μ Q X _ _ h; exact h.elim
  | succ d ih =>
    intro f bc bs z0 μ Q X hf hx h
    exact w_X6_ask (k_X6_ask := p_X6_ask_d d) (by omega) (fun hx9 h9 => ih (f - 1) (by omega) hx9 h9) hx h
def pc_X6_ask (bc bs : Nat) (z0 : Nat) (μ : fw_M) (Q : Nat → fw_M → Prop) (X : Nat → fw_M → Prop) : Prop := ∃ d, d ≤ 20 ∧ p_X6_ask_d d bc bs z0 μ Q X
theorem wc_X6_ask {g : fw_G} {f bc bs : Nat} {z0 : Nat} {μ : fw_M} {Q : Nat → fw_M → Prop} {X : Nat → fw_M → Prop} (hf : 154 ≤ f) (hx : m_K μ z0 = 7) (h : pc_X6_ask bc bs z0 μ Q X) : fw_C g f bc bs yX6_ask (ws_ yX6_ask cX6_ask 3 (some (.object "SpoonScales$Ask"))) [fw_rv g z0] μ (fw_Qr g Q) X := by
  obtain ⟨d, hd, h⟩ := h
  exact w_X6_ask_d d f (by omega) hx h
/-- a call through the interface: the receiver is of one of its classes, whose contract holds -/
def fw_D_Line_done (g : fw_G) (f r v : Nat) (μ : fw_M) (P : Int32 → fw_M → Prop) : Prop := (m_K μ r = 18 ∧ fw_C g f 0 0 yX17_done (ws_ yX17_done cX17_done 2 (some .boolean)) [fw_rv g r, fw_rv g v] μ (fw_Qi P) fw_nX) ∨ (m_K μ r = 19 ∧ fw_C g f 0 0 yX18_done (ws_ yX18_done cX18_done 2 (some .boolean)) [fw_rv g r, fw_rv g v] μ (fw_Qi P) fw_nX) ∨ (m_K μ r = 16 ∧ fw_C g f 0 0 yX15_done (ws_ yX15_done cX15_done 2 (some .boolean)) [fw_rv g r, fw_rv g v] μ (fw_Qi P) fw_nX) ∨ (m_K μ r = 17 ∧ fw_C g f 0 0 yX16_done (ws_ yX16_done cX16_done 2 (some .boolean)) [fw_rv g r, fw_rv g v] μ (fw_Qi P) fw_nX)
theorem cf_X0_212_X17_done : fw_LF RX0 212 RX17 ⟨"SpoonScales$Line", "done", "(LSpoonScales;)Z"⟩ yX17_done cX17_done 2 (some .boolean) 1 := ⟨lw_app (lw_in _ [868, 886, 888, 100] (by decide +kernel) (by decide +kernel)) (lw_meth q890), by decide +kernel, by decide +kernel, by decide +kernel, by decide +kernel⟩
theorem cf_X0_212_X18_done : fw_LF RX0 212 RX18 ⟨"SpoonScales$Line", "done", "(LSpoonScales;)Z"⟩ yX18_done cX18_done 2 (some .boolean) 1 := ⟨lw_app (lw_in _ [868, 893, 895, 101] (by decide +kernel) (by decide +kernel)) (lw_meth q897), by decide +kernel, by decide +kernel, by decide +kernel, by decide +kernel⟩
theorem cf_X0_212_X15_done : fw_LF RX0 212 RX15 ⟨"SpoonScales$Line", "done", "(LSpoonScales;)Z"⟩ yX15_done cX15_done 2 (some .boolean) 1 := ⟨lw_app (lw_in _ [868, 879, 881, 98] (by decide +kernel) (by decide +kernel)) (lw_meth q883), by decide +kernel, by decide +kernel, by decide +kernel, by decide +kernel⟩
theorem cf_X0_212_X16_done : fw_LF RX0 212 RX16 ⟨"SpoonScales$Line", "done", "(LSpoonScales;)Z"⟩ yX16_done cX16_done 2 (some .boolean) 1 := ⟨lw_app (lw_in _ [868, 872, 874, 99] (by decide +kernel) (by decide +kernel)) (lw_meth q876), by decide +kernel, by decide +kernel, by decide +kernel, by decide +kernel⟩
theorem cf_X0_212 {g : fw_G} {K : fw_Kt} {f bc bs pc f1 count : Nat} {Ls : List (Nat × Value)} {st : List Value} {μ : fw_M} {Q : Option Value → fw_M → Prop} {X : Nat → fw_M → Prop} {r v : Nat} {P : Int32 → fw_M → Prop} (hown : K.1 = RX0) (hf : f1 + 1 ≤ f) (hst : (st.map fun v => v.category).sum ≤ 8) (d : decode K.2.2.1 pc = .ok (.invokeinterface 212 count, 5)) (hD : fw_D_Line_done g f1 r v μ P) (kk : ∀ v9 μ', fw_Qi P v9 μ' → fw_sub μ μ' → fw_V g K f bc bs (pc + 5) Ls (v9.toList ++ st) μ' Q X) : fw_V g K f bc bs pc Ls (fw_rv g v :: fw_rv g r :: st) μ Q X := by
  rcases hD with ⟨hk, hC⟩ | ⟨hk, hC⟩ | ⟨hk, hC⟩ | ⟨hk, hC⟩
  · exact fw_callF1z (by rw [hown]; exact cf_X0_212_X17_done) rfl hk (by decide) hf hst d hC (fun _ _ h9 _ _ => h9.elim) kk
  · exact fw_callF1z (by rw [hown]; exact cf_X0_212_X18_done) rfl hk (by decide) hf hst d hC (fun _ _ h9 _ _ => h9.elim) kk
  · exact fw_callF1z (by rw [hown]; exact cf_X0_212_X15_done) rfl hk (by decide) hf hst d hC (fun _ _ h9 _ _ => h9.elim) kk
  · exact fw_callF1z (by rw [hown]; exact cf_X0_212_X16_done) rfl hk (by decide) hf hst d hC (fun _ _ h9 _ _ => h9.elim) kk
abbrev K_X0_isEater : fw_Kt := (RX0, "isEater", cX0_isEater, 2, some .boolean, [])
def p_X0_isEater (r0 : Nat) (i1 : Int32) (μ : fw_M) (Q : Int32 → fw_M → Prop) : Prop :=
  (m_K μ (m_P μ r0 0) = 2 ∧ (p_X0_in i1 (0 : Int32) ((m_I μ (m_P μ r0 0) 0) - (1 : Int32)) μ (fun v2 μ3 =>
  ((v2 = 0 ∨ v2 = 1) ∧ Q v2 μ3))))
set_option maxHeartbeats 4000000 in
theorem w_X0_isEater {g : fw_G} {f bc bs : Nat} {r0 : Nat} {i1 : Int32} {μ : fw_M} {Q : Int32 → fw_M → Prop} (hf : 2 ≤ f) (hx : m_K μ r0 = 1) (h : p_X0_isEater r0 i1 μ Q) : fw_C g f bc bs yX0_isEater (ws_ yX0_isEater cX0_isEater 2 (some .boolean)) [fw_rv g r0, Value.int i1] μ (fw_Qi Q) fw_nX := by
  unfold p_X0_isEater at h
  refine fw_intro' (Ls := [(0, fw_rv g r0), (1, Value.int i1)]) (by decide +kernel) (by simp [lg_sl, fw_cat, fw_ci, fw_clo]) (by simp [lv_args, fw_cat, fw_ci, fw_clo]) ?_
  show fw_V g K_X0_isEater f bc bs 0 [(0, fw_rv g r0), (1, Value.int i1)] [] μ (fw_Qi Q) fw_nX
  refine fw_iload_n dX0_isEater_0 rfl rfl ?_
  refine fw_iconst (v := 0) dX0_isEater_1 (by decide) ?_
  refine fw_aload_n dX0_isEater_2 rfl rfl ?_
  refine fw_getfP fl_X0_12 rfl hx dX0_isEater_3 ?_
  obtain ⟨hg1, h⟩ := h
  refine fw_getfI fl_X0_63 rfl hg1 dX0_isEater_6 ?_
  refine fw_iconst (v := 1) dX0_isEater_9 (by decide) ?_
  refine fw_isub dX0_isEater_10 ?_
  refine fw_callS3z (f1 := f - 1) cl_X0_66 (by decide) (by omega) (fw_s4 (Nat.le_of_ble_eq_true rfl)) dX0_isEater_11 (w_X0_in (f := f - 1) (by omega) h) (fun _ _ h9 _ _ => h9.elim) (fun v9 μ3 q9 hs4 => ?_)
  obtain ⟨v2, rfl, h⟩ := q9
  refine fw_ti ?_
  have hg5 := hs4.K hx (by decide)
  obtain ⟨hc6, h⟩ := h
  exact fw_ireturn dX0_isEater_14 rfl (by rcases hc6 with e9 | e9 <;> rw [e9] <;> decide +kernel) ⟨_, rfl, h⟩
abbrev K_X1_over : fw_Kt := (RX1, "over", cX1_over, 2, none, [])
def p_X1_over (r0 : Nat) (r1 : Nat) (μ : fw_M) (Q : fw_M → Prop) : Prop :=
  (m_K μ r1 = 100 ∧ (m_K μ r0 = 100 ∧ (¬ (0 : Int32) < 0 ∧ (¬ (0 : Int32) < 0 ∧ (¬ (Int32.ofNat (m_N μ r1)) < 0 ∧ ((0 : Int32).toNatClampNeg + (Int32.ofNat (m_N μ r1)).toNatClampNeg ≤ m_N μ r0 ∧ ((0 : Int32).toNatClampNeg + (Int32.ofNat (m_N μ r1)).toNatClampNeg ≤ m_N μ r1 ∧ (∀ μ8, μ8 = m_cp μ r0 (0 : Int32).toNatClampNeg r1 (0 : Int32).toNatClampNeg (Int32.ofNat (m_N μ r1)).toNatClampNeg →
  Q μ8))))))))
set_option maxHeartbeats 4000000 in
theorem w_X1_over {g : fw_G} {f bc bs : Nat} {r0 : Nat} {r1 : Nat} {μ : fw_M} {Q : fw_M → Prop} (hf : 1 ≤ f) (h : p_X1_over r0 r1 μ Q) : fw_C g f bc bs yX1_over (ws_ yX1_over cX1_over 2 (none)) [fw_rv g r0, fw_rv g r1] μ (fw_Qv Q) fw_nX := by
  unfold p_X1_over at h
  refine fw_intro' (Ls := [(0, fw_rv g r0), (1, fw_rv g r1)]) (by decide +kernel) (by simp [lg_sl, fw_cat, fw_ci, fw_clo]) (by simp [lv_args, fw_cat, fw_ci, fw_clo]) ?_
  show fw_V g K_X1_over f bc bs 0 [(0, fw_rv g r0), (1, fw_rv g r1)] [] μ (fw_Qv Q) fw_nX
  refine fw_aload_n dX1_over_0 rfl rfl ?_
  refine fw_iconst (v := 0) dX1_over_1 (by decide) ?_
  refine fw_aload_n dX1_over_2 rfl rfl ?_
  refine fw_iconst (v := 0) dX1_over_3 (by decide) ?_
  refine fw_aload_n dX1_over_4 rfl rfl ?_
  obtain ⟨hg1, h⟩ := h
  refine fw_alen hg1 rfl dX1_over_5 ?_
  obtain ⟨hg2, h⟩ := h
  obtain ⟨hc3, h⟩ := h
  obtain ⟨hc4, h⟩ := h
  obtain ⟨hc5, h⟩ := h
  obtain ⟨hc6, h⟩ := h
  obtain ⟨hc7, h⟩ := h
  refine fw_copy q309 q311 q310 q80 hg2 hg1 hc3 hc4 hc5 hc6 hc7 (by omega) (fw_s4 (Nat.le_of_ble_eq_true rfl)) dX1_over_6 ?_
  have h := h _ rfl
  exact fw_return dX1_over_9 rfl ⟨rfl, h⟩
abbrev K_X1_keep : fw_Kt := (RX1, "keep", cX1_keep, 3, none, [])
def p_X1_keep_L76 (r0 : Nat) (μ : fw_M) (Q : fw_M → Prop) : Prop :=
  (m_K μ (m_P μ r0 11) = 103 ∧ (vp_in (m_I μ r0 3) (m_N μ (m_P μ r0 11)) ∧ (p_X1_over (m_P μ r0 9) (m_P μ (m_P μ r0 11) (m_I μ r0 3).toNatClampNeg) μ (fun μ4 =>
  (∀ μ7, μ7 = m_uI μ4 r0 3 ((m_I μ4 r0 3) + (1 : Int32)) →
  (m_K μ7 (m_P μ4 r0 10) = 100 ∧ (vp_in (m_I μ4 r0 3) (m_N μ7 (m_P μ4 r0 10)) ∧ (∀ μ10, μ10 = m_uI μ7 (m_P μ4 r0 10) (m_I μ4 r0 3).toNatClampNeg (m_I μ7 r0 0) →
  Q μ10))))))))
set_option maxHeartbeats 4000000 in
theorem w_X1_keep_L76 {g : fw_G} {f bc bs : Nat} {r0 : Nat} {μ : fw_M} {Q : fw_M → Prop} (hf : 2 ≤ f) (hx : m_K μ r0 = 2) (h : p_X1_keep_L76 r0 μ Q) : fw_V g K_X1_keep f bc bs 76 [(0, fw_rv g r0)] [] μ (fw_Qv Q) fw_nX := by
  unfold p_X1_keep_L76 at h
  refine fw_aload_n dX1_keep_76 rfl rfl ?_
  refine fw_getfP fl_X1_25 rfl hx dX1_keep_77 ?_
  refine fw_aload_n dX1_keep_80 rfl rfl ?_
  refine fw_getfP fl_X1_33 rfl hx dX1_keep_81 ?_
  refine fw_aload_n dX1_keep_84 rfl rfl ?_
  refine fw_getfI fl_X1_64 rfl hx dX1_keep_85 ?_
  obtain ⟨hg1, h⟩ := h
  obtain ⟨hc2, h⟩ := h
  refine fw_aald hg1 rfl rfl hc2 dX1_keep_88 ?_
  refine fw_callS2z (f1 := f - 1) cl_X1_54 (by decide) (by omega) (fw_s4 (Nat.le_of_ble_eq_true rfl)) dX1_keep_89 (w_X1_over (f := f - 1) (by omega) h) (fun _ _ h9 _ _ => h9.elim) (fun v9 μ4 q9 hs5 => ?_)
  obtain ⟨rfl, h⟩ := q9
  refine fw_tv ?_
  have hg6 := hs5.K hx (by decide)
  refine fw_aload_n dX1_keep_92 rfl rfl ?_
  refine fw_getfP fl_X1_28 rfl hg6 dX1_keep_93 ?_
  refine fw_aload_n dX1_keep_96 rfl rfl ?_
  refine fw_dup dX1_keep_97 (fw_cat _) ?_
  refine fw_getfI fl_X1_64 rfl hg6 dX1_keep_98 ?_
  refine fw_dup_x1 dX1_keep_101 rfl (fw_cat _) ?_
  refine fw_iconst (v := 1) dX1_keep_102 (by decide) ?_
  refine fw_iadd dX1_keep_103 ?_
  refine fw_putfI fl_X1_64 (fun q hq => Or.inl (by cases hq; rfl)) rfl hg6 dX1_keep_104 ?_
  have h := h _ rfl
  refine fw_aload_n dX1_keep_107 rfl rfl ?_
  refine fw_getfI fl_X1_58 rfl hg6 dX1_keep_108 ?_
  obtain ⟨hg8, h⟩ := h
  obtain ⟨hc9, h⟩ := h
  refine fw_iast hg8 hc9 dX1_keep_111 ?_
  have h := h _ rfl
  exact fw_return dX1_keep_112 rfl ⟨rfl, h⟩
def p_X1_keep_L18b (r0 : Nat) (r1 : Nat) (k18 : Int32 → fw_M → Prop) (i2 : Int32) (μ : fw_M) (Q : fw_M → Prop) : Prop :=
  (if (30 : Int32) ≤ i2 then
  ((m_K μ (m_P μ r0 11) = 103 ∧ (vp_in (29 : Int32) (m_N μ (m_P μ r0 11)) ∧ (m_K μ r1 = 100 ∧ (∀ μ5, μ5 = m_uP μ (m_P μ r0 11) (29 : Int32).toNatClampNeg r1 →
   (∀ μ6, μ6 = m_uI μ5 r0 3 ((m_I μ5 r0 3) - (1 : Int32)) →
   p_X1_keep_L76 r0 μ6 Q))))))
  else
  ((m_K μ (m_P μ r0 11) = 103 ∧ (vp_in i2 (m_N μ (m_P μ r0 11)) ∧ (vp_in (i2 - (1 : Int32)) (m_N μ (m_P μ r0 11)) ∧ (m_K μ (m_P μ (m_P μ r0 11) i2.toNatClampNeg) = 100 ∧ (∀ μ11, μ11 = m_uP μ (m_P μ r0 11) (i2 - (1 : Int32)).toNatClampNeg (m_P μ (m_P μ r0 11) i2.toNatClampNeg) →
   (m_K μ11 (m_P μ11 r0 10) = 100 ∧ (vp_in i2 (m_N μ11 (m_P μ11 r0 10)) ∧ (vp_in (i2 - (1 : Int32)) (m_N μ11 (m_P μ11 r0 10)) ∧ (∀ μ15, μ15 = m_uI μ11 (m_P μ11 r0 10) (i2 - (1 : Int32)).toNatClampNeg (m_I μ11 (m_P μ11 r0 10) i2.toNatClampNeg) →
   (∀ i2_16 : Int32, i2_16 = i2 + (1 : Int32) →
   k18 i2_16 μ15))))))))))))
def p_X1_keep_L18 (r0 : Nat) (r1 : Nat) (i2 : Int32) (μ : fw_M) (Q : fw_M → Prop) : Prop := fw_lp (fun (k : Int32 × fw_M → Prop) (a : Int32 × fw_M) => p_X1_keep_L18b r0 r1 (fun i2 μ => k (i2, μ)) a.1 a.2 Q) (i2, μ)
theorem r_X1_keep_L18 {r0 : Nat} {r1 : Nat} {Q : fw_M → Prop} (I : Int32 → fw_M → Prop) (v : Int32 → fw_M → Nat) (hs : ∀ (k : Int32 → fw_M → Prop) (i2 : Int32) (μ : fw_M), I i2 μ → (∀ (i2' : Int32) (ν : fw_M), I i2' ν → v i2' ν < v i2 μ → k i2' ν) → p_X1_keep_L18b r0 r1 k i2 μ Q) (i2 : Int32) (μ : fw_M) (h : I i2 μ) : p_X1_keep_L18 r0 r1 i2 μ Q :=
  fw_lp_in (A := Int32 × fw_M) (fun a => I a.1 a.2) (fun a => v a.1 a.2) (fun k a ha hk => hs (fun i2 μ => k (i2, μ)) a.1 a.2 ha (fun i2' ν hb hlt => hk (i2', ν) hb hlt)) (i2, μ) h
set_option maxHeartbeats 4000000 in
theorem w_X1_keep_L18b {g : fw_G} {f bc bs : Nat} {r0 : Nat} {r1 : Nat} {k18 : Int32 → fw_M → Prop} {i2 : Int32} {μ : fw_M} {Q : fw_M → Prop} (hf : 2 ≤ f) (hk18 : ∀ {i2 : Int32} {μ : fw_M}, m_K μ r0 = 2 → k18 i2 μ → fw_V g K_X1_keep f bc bs 18 [(0, fw_rv g r0), (1, fw_rv g r1), (2, Value.int i2)] [] μ (fw_Qv Q) fw_nX) (hx : m_K μ r0 = 2) (h : p_X1_keep_L18b r0 r1 k18 i2 μ Q) : fw_V g K_X1_keep f bc bs 18 [(0, fw_rv g r0), (1, fw_rv g r1), (2, Value.int i2)] [] μ (fw_Qv Q) fw_nX := by
  unfold p_X1_keep_L18b at h
  refine fw_iload_n dX1_keep_18 rfl rfl ?_
  refine fw_bipush (v := 30) dX1_keep_19 (by decide) ?_
  refine fw_icmp_ge (tgt := 58) dX1_keep_21 (by decide) (fun c1 => ?_) (fun c1 => ?_)
  · have h := fw_it h c1
    refine fw_aload_n dX1_keep_58 rfl rfl ?_
    refine fw_getfP fl_X1_33 rfl hx dX1_keep_59 ?_
    refine fw_bipush (v := 29) dX1_keep_62 (by decide) ?_
    refine fw_aload_n dX1_keep_64 rfl rfl ?_
    obtain ⟨hg2, h⟩ := h
    obtain ⟨hc3, h⟩ := h
    obtain ⟨hg4, h⟩ := h
    refine fw_aast hg2 rfl rfl hg4 (Or.inl (Or.inl ⟨rfl, rfl⟩)) hc3 dX1_keep_65 ?_
    have h := h _ rfl
    refine fw_aload_n dX1_keep_66 rfl rfl ?_
    refine fw_dup dX1_keep_67 (fw_cat _) ?_
    refine fw_getfI fl_X1_64 rfl hx dX1_keep_68 ?_
    refine fw_iconst (v := 1) dX1_keep_71 (by decide) ?_
    refine fw_isub dX1_keep_72 ?_
    refine fw_putfI fl_X1_64 (fun q hq => Or.inl (by cases hq; rfl)) rfl hx dX1_keep_73 ?_
    have h := h _ rfl
    refine fw_ls [0] rfl ?_
    exact w_X1_keep_L76 hf hx h
  · have h := fw_if h c1
    refine fw_aload_n dX1_keep_24 rfl rfl ?_
    refine fw_getfP fl_X1_33 rfl hx dX1_keep_25 ?_
    refine fw_iload_n dX1_keep_28 rfl rfl ?_
    refine fw_iconst (v := 1) dX1_keep_29 (by decide) ?_
    refine fw_isub dX1_keep_30 ?_
    refine fw_aload_n dX1_keep_31 rfl rfl ?_
    refine fw_getfP fl_X1_33 rfl hx dX1_keep_32 ?_
    refine fw_iload_n dX1_keep_35 rfl rfl ?_
    obtain ⟨hg7, h⟩ := h
    obtain ⟨hc8, h⟩ := h
    refine fw_aald hg7 rfl rfl hc8 dX1_keep_36 ?_
    obtain ⟨hc9, h⟩ := h
    obtain ⟨hg10, h⟩ := h
    refine fw_aast hg7 rfl rfl hg10 (Or.inl (Or.inl ⟨rfl, rfl⟩)) hc9 dX1_keep_37 ?_
    have h := h _ rfl
    refine fw_aload_n dX1_keep_38 rfl rfl ?_
    refine fw_getfP fl_X1_28 rfl hx dX1_keep_39 ?_
    refine fw_iload_n dX1_keep_42 rfl rfl ?_
    refine fw_iconst (v := 1) dX1_keep_43 (by decide) ?_
    refine fw_isub dX1_keep_44 ?_
    refine fw_aload_n dX1_keep_45 rfl rfl ?_
    refine fw_getfP fl_X1_28 rfl hx dX1_keep_46 ?_
    refine fw_iload_n dX1_keep_49 rfl rfl ?_
    obtain ⟨hg12, h⟩ := h
    obtain ⟨hc13, h⟩ := h
    refine fw_iald hg12 hc13 dX1_keep_50 ?_
    obtain ⟨hc14, h⟩ := h
    refine fw_iast hg12 hc14 dX1_keep_51 ?_
    have h := h _ rfl
    obtain ⟨i2_16, e17⟩ : ∃ y : Int32, y = i2 + (1 : Int32) := ⟨_, rfl⟩
    have h := h i2_16 e17
    refine fw_iincN (k := 2) (v := i2_16) (Ls' := [(2, Value.int i2_16), (1, fw_rv g r1), (0, fw_rv g r0)]) [0] dX1_keep_52 rfl (by rw [e17]; rfl) (by decide) rfl rfl rfl (fw_cat _) rfl ?_
    refine fw_goto (tgt := 18) dX1_keep_55 (by decide) ?_
    refine fw_ls [2, 1, 0] rfl ?_
    exact hk18 hx h
theorem w_X1_keep_L18 {g : fw_G} {f bc bs : Nat} {r0 : Nat} {r1 : Nat} {i2 : Int32} {μ : fw_M} {Q : fw_M → Prop} (hf : 2 ≤ f) (hx : m_K μ r0 = 2) (h : p_X1_keep_L18 r0 r1 i2 μ Q) : fw_V g K_X1_keep f bc bs 18 [(0, fw_rv g r0), (1, fw_rv g r1), (2, Value.int i2)] [] μ (fw_Qv Q) fw_nX := by
  have key := fw_lp_out (R := fun (a : Int32 × fw_M) => m_K a.2 r0 = 2 → fw_V g K_X1_keep f bc bs 18 [(0, fw_rv g r0), (1, fw_rv g r1), (2, Value.int a.1)] [] a.2 (fw_Qv Q) fw_nX) (fun k hk9 a ha hx2 => w_X1_keep_L18b hf (fun {i2} {μ} hx3 h3 => hk9 (i2, μ) h3 hx3) hx2 ha) h
  exact key hx
def p_X1_keep (r0 : Nat) (μ : fw_M) (Q : fw_M → Prop) : Prop :=
  (if (m_I μ r0 3) = (30 : Int32) then
  ((m_K μ (m_P μ r0 11) = 103 ∧ (vp_in (0 : Int32) (m_N μ (m_P μ r0 11)) ∧ (∀ r1_4 : Nat, r1_4 = (m_P μ (m_P μ r0 11) (0 : Int32).toNatClampNeg) →
   p_X1_keep_L18 r0 r1_4 (1 : Int32) μ Q))))
  else
  (p_X1_keep_L76 r0 μ Q))
set_option maxHeartbeats 4000000 in
theorem w_X1_keep {g : fw_G} {f bc bs : Nat} {r0 : Nat} {μ : fw_M} {Q : fw_M → Prop} (hf : 2 ≤ f) (hx : m_K μ r0 = 2) (h : p_X1_keep r0 μ Q) : fw_C g f bc bs yX1_keep (ws_ yX1_keep cX1_keep 3 (none)) [fw_rv g r0] μ (fw_Qv Q) fw_nX := by
  unfold p_X1_keep at h
  refine fw_intro' (Ls := [(0, fw_rv g r0)]) (by decide +kernel) (by simp [lg_sl, fw_cat, fw_ci, fw_clo]) (by simp [lv_args, fw_cat, fw_ci, fw_clo]) ?_
  show fw_V g K_X1_keep f bc bs 0 [(0, fw_rv g r0)] [] μ (fw_Qv Q) fw_nX
  refine fw_aload_n dX1_keep_0 rfl rfl ?_
  refine fw_getfI fl_X1_64 rfl hx dX1_keep_1 ?_
  refine fw_bipush (v := 30) dX1_keep_4 (by decide) ?_
  refine fw_icmp_ne (tgt := 76) dX1_keep_6 (by decide) (fun c1 => ?_) (fun c1 => ?_)
  · have h := fw_if h c1
    exact w_X1_keep_L76 hf hx h
  · have h := fw_it h c1
    refine fw_aload_n dX1_keep_9 rfl rfl ?_
    refine fw_getfP fl_X1_33 rfl hx dX1_keep_10 ?_
    refine fw_iconst (v := 0) dX1_keep_13 (by decide) ?_
    obtain ⟨hg2, h⟩ := h
    obtain ⟨hc3, h⟩ := h
    refine fw_aald hg2 rfl rfl hc3 dX1_keep_14 ?_
    refine fw_topr (fun r1_4 e5 => ?_)
    have h := h r1_4 e5
    refine fw_astore_nN (Ls' := [(1, fw_rv g r1_4), (0, fw_rv g r0)]) [] dX1_keep_15 rfl (by decide) rfl rfl rfl (fw_cat _) rfl ?_
    refine fw_iconst (v := 1) dX1_keep_16 (by decide) ?_
    refine fw_istore_nN (Ls' := [(2, Value.int (1 : Int32)), (1, fw_rv g r1_4), (0, fw_rv g r0)]) [1] dX1_keep_17 rfl (by decide) rfl rfl rfl (fw_cat _) rfl ?_
    refine fw_ls [2, 1, 0] rfl ?_
    exact w_X1_keep_L18 hf hx h
abbrev K_X0_sit : fw_Kt := (RX0, "sit", cX0_sit, 3, some .boolean, [])
def p_X0_sit (r0 : Nat) (i1 : Int32) (i2 : Int32) (μ : fw_M) (Q : Int32 → fw_M → Prop) : Prop :=
  (p_X0_isEater r0 i1 μ (fun v1 μ2 =>
  (if v1 = 0 then
  (Q (0 : Int32) μ2)
  else
  ((p_X0_in i2 (0 : Int32) (2 : Int32) μ2 (fun v6 μ7 =>
   (if v6 = 0 then
   (Q (0 : Int32) μ7)
   else
   ((m_K μ7 (m_P μ7 r0 0) = 2 ∧ (m_K μ7 (m_P μ7 (m_P μ7 r0 0) 9) = 100 ∧ (vp_in ((4 : Int32) + i1) (m_N μ7 (m_P μ7 (m_P μ7 r0 0) 9)) ∧ (if (m_I μ7 (m_P μ7 (m_P μ7 r0 0) 9) ((4 : Int32) + i1).toNatClampNeg) = i2 then
    (Q (0 : Int32) μ7)
    else
    ((p_X1_keep (m_P μ7 r0 0) μ7 (fun μ16 =>
     (m_K μ16 (m_P μ16 r0 0) = 2 ∧ (m_K μ16 (m_P μ16 (m_P μ16 r0 0) 9) = 100 ∧ (vp_in ((4 : Int32) + i1) (m_N μ16 (m_P μ16 (m_P μ16 r0 0) 9)) ∧ (∀ μ22, μ22 = m_uI μ16 (m_P μ16 (m_P μ16 r0 0) 9) ((4 : Int32) + i1).toNatClampNeg i2 →
     Q (1 : Int32) μ22)))))))))))))))))))
set_option maxHeartbeats 4000000 in
theorem w_X0_sit {g : fw_G} {f bc bs : Nat} {r0 : Nat} {i1 : Int32} {i2 : Int32} {μ : fw_M} {Q : Int32 → fw_M → Prop} (hf : 3 ≤ f) (hx : m_K μ r0 = 1) (h : p_X0_sit r0 i1 i2 μ Q) : fw_C g f bc bs yX0_sit (ws_ yX0_sit cX0_sit 3 (some .boolean)) [fw_rv g r0, Value.int i1, Value.int i2] μ (fw_Qi Q) fw_nX := by
  unfold p_X0_sit at h
  refine fw_intro' (Ls := [(0, fw_rv g r0), (1, Value.int i1), (2, Value.int i2)]) (by decide +kernel) (by simp [lg_sl, fw_cat, fw_ci, fw_clo]) (by simp [lv_args, fw_cat, fw_ci, fw_clo]) ?_
  show fw_V g K_X0_sit f bc bs 0 [(0, fw_rv g r0), (1, Value.int i1), (2, Value.int i2)] [] μ (fw_Qi Q) fw_nX
  refine fw_aload_n dX0_sit_0 rfl rfl ?_
  refine fw_iload_n dX0_sit_1 rfl rfl ?_
  refine fw_callV1z (f1 := f - 1) cl_X0_150 rfl hx (by decide) (by omega) (fw_s4 (Nat.le_of_ble_eq_true rfl)) dX0_sit_2 (w_X0_isEater (f := f - 1) (by omega) hx h) (fun _ _ h9 _ _ => h9.elim) (fun v9 μ2 q9 hs3 => ?_)
  obtain ⟨v1, rfl, h⟩ := q9
  refine fw_ti ?_
  have hg4 := hs3.K hx (by decide)
  refine fw_if_eq (tgt := 32) dX0_sit_5 (by decide) (fun c5 => ?_) (fun c5 => ?_)
  · have h := fw_it h c5
    refine fw_iconst (v := 0) dX0_sit_32 (by decide) ?_
    exact fw_ireturn dX0_sit_33 rfl (by decide +kernel) ⟨_, rfl, h⟩
  · have h := fw_if h c5
    refine fw_iload_n dX0_sit_8 rfl rfl ?_
    refine fw_iconst (v := 0) dX0_sit_9 (by decide) ?_
    refine fw_iconst (v := 2) dX0_sit_10 (by decide) ?_
    refine fw_callS3z (f1 := f - 1) cl_X0_66 (by decide) (by omega) (fw_s4 (Nat.le_of_ble_eq_true rfl)) dX0_sit_11 (w_X0_in (f := f - 1) (by omega) h) (fun _ _ h9 _ _ => h9.elim) (fun v9 μ7 q9 hs8 => ?_)
    obtain ⟨v6, rfl, h⟩ := q9
    refine fw_ti ?_
    have hg9 := hs8.K hg4 (by decide)
    refine fw_if_eq (tgt := 32) dX0_sit_14 (by decide) (fun c10 => ?_) (fun c10 => ?_)
    · have h := fw_it h c10
      refine fw_iconst (v := 0) dX0_sit_32 (by decide) ?_
      exact fw_ireturn dX0_sit_33 rfl (by decide +kernel) ⟨_, rfl, h⟩
    · have h := fw_if h c10
      refine fw_aload_n dX0_sit_17 rfl rfl ?_
      refine fw_getfP fl_X0_12 rfl hg9 dX0_sit_18 ?_
      obtain ⟨hg11, h⟩ := h
      refine fw_getfP fl_X0_77 rfl hg11 dX0_sit_21 ?_
      refine fw_iconst (v := 4) dX0_sit_24 (by decide) ?_
      refine fw_iload_n dX0_sit_25 rfl rfl ?_
      refine fw_iadd dX0_sit_26 ?_
      obtain ⟨hg12, h⟩ := h
      obtain ⟨hc13, h⟩ := h
      refine fw_iald hg12 hc13 dX0_sit_27 ?_
      refine fw_iload_n dX0_sit_28 rfl rfl ?_
      refine fw_icmp_ne (tgt := 34) dX0_sit_29 (by decide) (fun c14 => ?_) (fun c14 => ?_)
      · have h := fw_if h c14
        refine fw_aload_n dX0_sit_34 rfl rfl ?_
        refine fw_getfP fl_X0_12 rfl hg9 dX0_sit_35 ?_
        refine fw_callV0z (f1 := f - 1) cl_X0_153 rfl hg11 (by decide) (by omega) (fw_s4 (Nat.le_of_ble_eq_true rfl)) dX0_sit_38 (w_X1_keep (f := f - 1) (by omega) hg11 h) (fun _ _ h9 _ _ => h9.elim) (fun v9 μ16 q9 hs17 => ?_)
        obtain ⟨rfl, h⟩ := q9
        refine fw_tv ?_
        have hg18 := hs17.K hg9 (by decide)
        refine fw_aload_n dX0_sit_41 rfl rfl ?_
        refine fw_getfP fl_X0_12 rfl hg18 dX0_sit_42 ?_
        obtain ⟨hg19, h⟩ := h
        refine fw_getfP fl_X0_77 rfl hg19 dX0_sit_45 ?_
        refine fw_iconst (v := 4) dX0_sit_48 (by decide) ?_
        refine fw_iload_n dX0_sit_49 rfl rfl ?_
        refine fw_iadd dX0_sit_50 ?_
        refine fw_iload_n dX0_sit_51 rfl rfl ?_
        obtain ⟨hg20, h⟩ := h
        obtain ⟨hc21, h⟩ := h
        refine fw_iast hg20 hc21 dX0_sit_52 ?_
        have h := h _ rfl
        refine fw_iconst (v := 1) dX0_sit_53 (by decide) ?_
        exact fw_ireturn dX0_sit_54 rfl (by decide +kernel) ⟨_, rfl, h⟩
      · have h := fw_it h c14
        refine fw_iconst (v := 0) dX0_sit_32 (by decide) ?_
        exact fw_ireturn dX0_sit_33 rfl (by decide +kernel) ⟨_, rfl, h⟩
abbrev K_X17_done : fw_Kt := (RX17, "done", cX17_done, 2, some .boolean, [])
def p_X17_done (r0 : Nat) (r1 : Nat) (μ : fw_M) (Q : Int32 → fw_M → Prop) : Prop :=
  (m_K μ r1 = 1 ∧ (p_X0_sit r1 (m_I μ r0 0) (m_I μ r0 1) μ (fun v2 μ3 =>
  ((v2 = 0 ∨ v2 = 1) ∧ Q v2 μ3))))
set_option maxHeartbeats 4000000 in
theorem w_X17_done {g : fw_G} {f bc bs : Nat} {r0 : Nat} {r1 : Nat} {μ : fw_M} {Q : Int32 → fw_M → Prop} (hf : 4 ≤ f) (hx : m_K μ r0 = 18) (h : p_X17_done r0 r1 μ Q) : fw_C g f bc bs yX17_done (ws_ yX17_done cX17_done 2 (some .boolean)) [fw_rv g r0, fw_rv g r1] μ (fw_Qi Q) fw_nX := by
  unfold p_X17_done at h
  refine fw_intro' (Ls := [(0, fw_rv g r0), (1, fw_rv g r1)]) (by decide +kernel) (by simp [lg_sl, fw_cat, fw_ci, fw_clo]) (by simp [lv_args, fw_cat, fw_ci, fw_clo]) ?_
  show fw_V g K_X17_done f bc bs 0 [(0, fw_rv g r0), (1, fw_rv g r1)] [] μ (fw_Qi Q) fw_nX
  refine fw_aload_n dX17_done_0 rfl rfl ?_
  refine fw_aload_n dX17_done_1 rfl rfl ?_
  refine fw_getfI fl_X17_7 rfl hx dX17_done_2 ?_
  refine fw_aload_n dX17_done_5 rfl rfl ?_
  refine fw_getfI fl_X17_13 rfl hx dX17_done_6 ?_
  obtain ⟨hg1, h⟩ := h
  refine fw_callV2z (f1 := f - 1) cl_X17_16 rfl hg1 (by decide) (by omega) (fw_s4 (Nat.le_of_ble_eq_true rfl)) dX17_done_9 (w_X0_sit (f := f - 1) (by omega) hg1 h) (fun _ _ h9 _ _ => h9.elim) (fun v9 μ3 q9 hs4 => ?_)
  obtain ⟨v2, rfl, h⟩ := q9
  refine fw_ti ?_
  have hg5 := hs4.K hx (by decide)
  have hg6 := hs4.K hg1 (by decide)
  obtain ⟨hc7, h⟩ := h
  exact fw_ireturn dX17_done_12 rfl (by rcases hc7 with e9 | e9 <;> rw [e9] <;> decide +kernel) ⟨_, rfl, h⟩
abbrev K_X0_isKind : fw_Kt := (RX0, "isKind", cX0_isKind, 1, some .boolean, [])
def p_X0_isKind (i0 : Int32) (μ : fw_M) (Q : Int32 → fw_M → Prop) : Prop :=
  (p_X0_in i0 (0 : Int32) (1 : Int32) μ (fun v1 μ2 =>
  ((v1 = 0 ∨ v1 = 1) ∧ Q v1 μ2)))
set_option maxHeartbeats 4000000 in
theorem w_X0_isKind {g : fw_G} {f bc bs : Nat} {i0 : Int32} {μ : fw_M} {Q : Int32 → fw_M → Prop} (hf : 2 ≤ f) (h : p_X0_isKind i0 μ Q) : fw_C g f bc bs yX0_isKind (ws_ yX0_isKind cX0_isKind 1 (some .boolean)) [Value.int i0] μ (fw_Qi Q) fw_nX := by
  unfold p_X0_isKind at h
  refine fw_intro' (Ls := [(0, Value.int i0)]) (by decide +kernel) (by simp [lg_sl, fw_cat, fw_ci, fw_clo]) (by simp [lv_args, fw_cat, fw_ci, fw_clo]) ?_
  show fw_V g K_X0_isKind f bc bs 0 [(0, Value.int i0)] [] μ (fw_Qi Q) fw_nX
  refine fw_iload_n dX0_isKind_0 rfl rfl ?_
  refine fw_iconst (v := 0) dX0_isKind_1 (by decide) ?_
  refine fw_iconst (v := 1) dX0_isKind_2 (by decide) ?_
  refine fw_callS3z (f1 := f - 1) cl_X0_66 (by decide) (by omega) (fw_s4 (Nat.le_of_ble_eq_true rfl)) dX0_isKind_3 (w_X0_in (f := f - 1) (by omega) h) (fun _ _ h9 _ _ => h9.elim) (fun v9 μ2 q9 hs3 => ?_)
  obtain ⟨v1, rfl, h⟩ := q9
  refine fw_ti ?_
  obtain ⟨hc4, h⟩ := h
  exact fw_ireturn dX0_isKind_6 rfl (by rcases hc4 with e9 | e9 <;> rw [e9] <;> decide +kernel) ⟨_, rfl, h⟩
abbrev K_X0_spoon : fw_Kt := (RX0, "spoon", cX0_spoon, 4, some .int, [])
def p_X0_spoon (r0 : Nat) (i1 : Int32) (i2 : Int32) (μ : fw_M) (Q : Int32 → fw_M → Prop) : Prop :=
  (p_X0_isEater r0 i1 μ (fun v1 μ2 =>
  (if v1 = 0 then
  (Q (-1 : Int32) μ2)
  else
  ((p_X0_isKind i2 μ2 (fun v6 μ7 =>
   (if v6 = 0 then
   (Q (-1 : Int32) μ7)
   else
   ((m_K μ7 (m_P μ7 r0 0) = 2 ∧ (m_K μ7 (m_P μ7 (m_P μ7 r0 0) 9) = 100 ∧ (vp_in (23 : Int32) (m_N μ7 (m_P μ7 (m_P μ7 r0 0) 9)) ∧ (if (m_I μ7 (m_P μ7 (m_P μ7 r0 0) 9) (23 : Int32).toNatClampNeg) = (60 : Int32) then
    (Q (-1 : Int32) μ7)
    else
    ((p_X0_spoonOf r0 (m_P μ7 (m_P μ7 r0 0) 9) i1 i2 μ7 (fun v15 μ16 =>
     (if v15 = 0 then
     (Q (-1 : Int32) μ16)
     else
     ((m_K μ16 (m_P μ16 r0 0) = 2 ∧ (p_X1_keep (m_P μ16 r0 0) μ16 (fun μ22 =>
      (m_K μ22 (m_P μ22 r0 0) = 2 ∧ (m_K μ22 (m_P μ22 (m_P μ22 r0 0) 9) = 100 ∧ (vp_in (23 : Int32) (m_N μ22 (m_P μ22 (m_P μ22 r0 0) 9)) ∧ (m_K μ22 (m_P μ22 (m_P μ22 r0 0) 12) = 103 ∧ (vp_in (m_I μ22 (m_P μ22 (m_P μ22 r0 0) 9) (23 : Int32).toNatClampNeg) (m_N μ22 (m_P μ22 (m_P μ22 r0 0) 12)) ∧ (∀ r3_30 : Nat, r3_30 = (m_P μ22 (m_P μ22 (m_P μ22 r0 0) 12) (m_I μ22 (m_P μ22 (m_P μ22 r0 0) 9) (23 : Int32).toNatClampNeg).toNatClampNeg) →
      (m_K μ22 r3_30 = 100 ∧ (vp_in (0 : Int32) (m_N μ22 r3_30) ∧ (∀ μ34, μ34 = m_uI μ22 r3_30 (0 : Int32).toNatClampNeg i1 →
      (m_K μ34 (m_P μ34 r0 0) = 2 ∧ (m_K μ34 (m_P μ34 (m_P μ34 r0 0) 9) = 100 ∧ (vp_in ((4 : Int32) + i1) (m_N μ34 (m_P μ34 (m_P μ34 r0 0) 9)) ∧ (vp_in (1 : Int32) (m_N μ34 r3_30) ∧ (∀ μ39, μ39 = m_uI μ34 r3_30 (1 : Int32).toNatClampNeg (m_I μ34 (m_P μ34 (m_P μ34 r0 0) 9) ((4 : Int32) + i1).toNatClampNeg) →
      (vp_in (2 : Int32) (m_N μ39 r3_30) ∧ (∀ μ41, μ41 = m_uI μ39 r3_30 (2 : Int32).toNatClampNeg i2 →
      (m_K μ41 (m_P μ41 r0 0) = 2 ∧ (p_X0_eat r0 (m_P μ41 (m_P μ41 r0 0) 9) i1 i2 μ41 (fun v43 μ44 =>
      (vp_in (3 : Int32) (m_N μ44 r3_30) ∧ (∀ μ49, μ49 = m_uI μ44 r3_30 (3 : Int32).toNatClampNeg v43 →
      (vp_in (3 : Int32) (m_N μ49 r3_30) ∧ Q (m_I μ49 r3_30 (3 : Int32).toNatClampNeg) μ49))))))))))))))))))))))))))))))))))))))))))
set_option maxHeartbeats 4000000 in
theorem w_X0_spoon {g : fw_G} {f bc bs : Nat} {r0 : Nat} {i1 : Int32} {i2 : Int32} {μ : fw_M} {Q : Int32 → fw_M → Prop} (hf : 407 ≤ f) (hx : m_K μ r0 = 1) (h : p_X0_spoon r0 i1 i2 μ Q) : fw_C g f bc bs yX0_spoon (ws_ yX0_spoon cX0_spoon 4 (some .int)) [fw_rv g r0, Value.int i1, Value.int i2] μ (fw_Qi Q) fw_nX := by
  unfold p_X0_spoon at h
  refine fw_intro' (Ls := [(0, fw_rv g r0), (1, Value.int i1), (2, Value.int i2)]) (by decide +kernel) (by simp [lg_sl, fw_cat, fw_ci, fw_clo]) (by simp [lv_args, fw_cat, fw_ci, fw_clo]) ?_
  show fw_V g K_X0_spoon f bc bs 0 [(0, fw_rv g r0), (1, Value.int i1), (2, Value.int i2)] [] μ (fw_Qi Q) fw_nX
  refine fw_aload_n dX0_spoon_0 rfl rfl ?_
  refine fw_iload_n dX0_spoon_1 rfl rfl ?_
  refine fw_callV1z (f1 := f - 1) cl_X0_150 rfl hx (by decide) (by omega) (fw_s4 (Nat.le_of_ble_eq_true rfl)) dX0_spoon_2 (w_X0_isEater (f := f - 1) (by omega) hx h) (fun _ _ h9 _ _ => h9.elim) (fun v9 μ2 q9 hs3 => ?_)
  obtain ⟨v1, rfl, h⟩ := q9
  refine fw_ti ?_
  have hg4 := hs3.K hx (by decide)
  refine fw_if_eq (tgt := 46) dX0_spoon_5 (by decide) (fun c5 => ?_) (fun c5 => ?_)
  · have h := fw_it h c5
    refine fw_iconst (v := -1) dX0_spoon_46 (by decide) ?_
    exact fw_ireturn dX0_spoon_47 rfl rfl ⟨_, rfl, h⟩
  · have h := fw_if h c5
    refine fw_iload_n dX0_spoon_8 rfl rfl ?_
    refine fw_callS1z (f1 := f - 1) cl_X0_74 (by decide) (by omega) (fw_s4 (Nat.le_of_ble_eq_true rfl)) dX0_spoon_9 (w_X0_isKind (f := f - 1) (by omega) h) (fun _ _ h9 _ _ => h9.elim) (fun v9 μ7 q9 hs8 => ?_)
    obtain ⟨v6, rfl, h⟩ := q9
    refine fw_ti ?_
    have hg9 := hs8.K hg4 (by decide)
    refine fw_if_eq (tgt := 46) dX0_spoon_12 (by decide) (fun c10 => ?_) (fun c10 => ?_)
    · have h := fw_it h c10
      refine fw_iconst (v := -1) dX0_spoon_46 (by decide) ?_
      exact fw_ireturn dX0_spoon_47 rfl rfl ⟨_, rfl, h⟩
    · have h := fw_if h c10
      refine fw_aload_n dX0_spoon_15 rfl rfl ?_
      refine fw_getfP fl_X0_12 rfl hg9 dX0_spoon_16 ?_
      obtain ⟨hg11, h⟩ := h
      refine fw_getfP fl_X0_77 rfl hg11 dX0_spoon_19 ?_
      refine fw_bipush (v := 23) dX0_spoon_22 (by decide) ?_
      obtain ⟨hg12, h⟩ := h
      obtain ⟨hc13, h⟩ := h
      refine fw_iald hg12 hc13 dX0_spoon_24 ?_
      refine fw_bipush (v := 60) dX0_spoon_25 (by decide) ?_
      refine fw_icmp_eq (tgt := 46) dX0_spoon_27 (by decide) (fun c14 => ?_) (fun c14 => ?_)
      · have h := fw_it h c14
        refine fw_iconst (v := -1) dX0_spoon_46 (by decide) ?_
        exact fw_ireturn dX0_spoon_47 rfl rfl ⟨_, rfl, h⟩
      · have h := fw_if h c14
        refine fw_aload_n dX0_spoon_30 rfl rfl ?_
        refine fw_aload_n dX0_spoon_31 rfl rfl ?_
        refine fw_getfP fl_X0_12 rfl hg9 dX0_spoon_32 ?_
        refine fw_getfP fl_X0_77 rfl hg11 dX0_spoon_35 ?_
        refine fw_iload_n dX0_spoon_38 rfl rfl ?_
        refine fw_iload_n dX0_spoon_39 rfl rfl ?_
        refine fw_callV3z (f1 := f - 1) cl_X0_146 rfl hg9 (by decide) (by omega) (fw_s4 (Nat.le_of_ble_eq_true rfl)) dX0_spoon_40 (w_X0_spoonOf (f := f - 1) (by omega) hg9 h) (fun _ _ h9 _ _ => h9.elim) (fun v9 μ16 q9 hs17 => ?_)
        obtain ⟨v15, rfl, h⟩ := q9
        refine fw_ti ?_
        have hg18 := hs17.K hg9 (by decide)
        refine fw_if_ne (tgt := 48) dX0_spoon_43 (by decide) (fun c19 => ?_) (fun c19 => ?_)
        · have h := fw_if h c19
          refine fw_aload_n dX0_spoon_48 rfl rfl ?_
          refine fw_getfP fl_X0_12 rfl hg18 dX0_spoon_49 ?_
          obtain ⟨hg20, h⟩ := h
          refine fw_callV0z (f1 := f - 1) cl_X0_153 rfl hg20 (by decide) (by omega) (fw_s4 (Nat.le_of_ble_eq_true rfl)) dX0_spoon_52 (w_X1_keep (f := f - 1) (by omega) hg20 h) (fun _ _ h9 _ _ => h9.elim) (fun v9 μ22 q9 hs23 => ?_)
          obtain ⟨rfl, h⟩ := q9
          refine fw_tv ?_
          have hg24 := hs23.K hg18 (by decide)
          refine fw_aload_n dX0_spoon_55 rfl rfl ?_
          refine fw_getfP fl_X0_12 rfl hg24 dX0_spoon_56 ?_
          obtain ⟨hg25, h⟩ := h
          refine fw_getfP fl_X0_156 rfl hg25 dX0_spoon_59 ?_
          refine fw_aload_n dX0_spoon_62 rfl rfl ?_
          refine fw_getfP fl_X0_12 rfl hg24 dX0_spoon_63 ?_
          refine fw_getfP fl_X0_77 rfl hg25 dX0_spoon_66 ?_
          refine fw_bipush (v := 23) dX0_spoon_69 (by decide) ?_
          obtain ⟨hg26, h⟩ := h
          obtain ⟨hc27, h⟩ := h
          refine fw_iald hg26 hc27 dX0_spoon_71 ?_
          obtain ⟨hg28, h⟩ := h
          obtain ⟨hc29, h⟩ := h
          refine fw_aald hg28 rfl rfl hc29 dX0_spoon_72 ?_
          refine fw_topr (fun r3_30 e31 => ?_)
          have h := h r3_30 e31
          refine fw_astore_nN (Ls' := [(3, fw_rv g r3_30), (2, Value.int i2), (0, fw_rv g r0), (1, Value.int i1)]) [0, 1] dX0_spoon_73 rfl (by decide) rfl rfl rfl rfl rfl ?_
          refine fw_aload_n dX0_spoon_74 rfl rfl ?_
          refine fw_iconst (v := 0) dX0_spoon_75 (by decide) ?_
          refine fw_iload_n dX0_spoon_76 rfl rfl ?_
          obtain ⟨hg32, h⟩ := h
          obtain ⟨hc33, h⟩ := h
          refine fw_iast hg32 hc33 dX0_spoon_77 ?_
          have h := h _ rfl
          refine fw_aload_n dX0_spoon_78 rfl rfl ?_
          refine fw_iconst (v := 1) dX0_spoon_79 (by decide) ?_
          refine fw_aload_n dX0_spoon_80 rfl rfl ?_
          refine fw_getfP fl_X0_12 rfl hg24 dX0_spoon_81 ?_
          obtain ⟨hg35, h⟩ := h
          refine fw_getfP fl_X0_77 rfl hg35 dX0_spoon_84 ?_
          refine fw_iconst (v := 4) dX0_spoon_87 (by decide) ?_
          refine fw_iload_n dX0_spoon_88 rfl rfl ?_
          refine fw_iadd dX0_spoon_89 ?_
          obtain ⟨hg36, h⟩ := h
          obtain ⟨hc37, h⟩ := h
          refine fw_iald hg36 hc37 dX0_spoon_90 ?_
          obtain ⟨hc38, h⟩ := h
          refine fw_iast hg32 hc38 dX0_spoon_91 ?_
          have h := h _ rfl
          refine fw_aload_n dX0_spoon_92 rfl rfl ?_
          refine fw_iconst (v := 2) dX0_spoon_93 (by decide) ?_
          refine fw_iload_n dX0_spoon_94 rfl rfl ?_
          obtain ⟨hc40, h⟩ := h
          refine fw_iast hg32 hc40 dX0_spoon_95 ?_
          have h := h _ rfl
          refine fw_aload_n dX0_spoon_96 rfl rfl ?_
          refine fw_iconst (v := 3) dX0_spoon_97 (by decide) ?_
          refine fw_aload_n dX0_spoon_98 rfl rfl ?_
          refine fw_aload_n dX0_spoon_99 rfl rfl ?_
          refine fw_getfP fl_X0_12 rfl hg24 dX0_spoon_100 ?_
          obtain ⟨hg42, h⟩ := h
          refine fw_getfP fl_X0_77 rfl hg42 dX0_spoon_103 ?_
          refine fw_iload_n dX0_spoon_106 rfl rfl ?_
          refine fw_iload_n dX0_spoon_107 rfl rfl ?_
          refine fw_callV3z (f1 := f - 1) cl_X0_159 rfl hg24 (by decide) (by omega) (fw_s4 (Nat.le_of_ble_eq_true rfl)) dX0_spoon_108 (w_X0_eat (f := f - 1) (by omega) hg24 h) (fun _ _ h9 _ _ => h9.elim) (fun v9 μ44 q9 hs45 => ?_)
          obtain ⟨v43, rfl, h⟩ := q9
          refine fw_ti ?_
          have hg46 := hs45.K hg24 (by decide)
          have hg47 := hs45.K hg32 (by decide)
          obtain ⟨hc48, h⟩ := h
          refine fw_iast hg47 hc48 dX0_spoon_111 ?_
          have h := h _ rfl
          refine fw_aload_n dX0_spoon_112 rfl rfl ?_
          refine fw_iconst (v := 3) dX0_spoon_113 (by decide) ?_
          obtain ⟨hc50, h⟩ := h
          refine fw_iald hg47 hc50 dX0_spoon_114 ?_
          exact fw_ireturn dX0_spoon_115 rfl rfl ⟨_, rfl, h⟩
        · have h := fw_it h c19
          refine fw_iconst (v := -1) dX0_spoon_46 (by decide) ?_
          exact fw_ireturn dX0_spoon_47 rfl rfl ⟨_, rfl, h⟩
abbrev K_X18_done : fw_Kt := (RX18, "done", cX18_done, 2, some .boolean, [])
def p_X18_done (r0 : Nat) (r1 : Nat) (μ : fw_M) (Q : Int32 → fw_M → Prop) : Prop :=
  (m_K μ r1 = 1 ∧ (p_X0_spoon r1 (m_I μ r0 0) (m_I μ r0 1) μ (fun v2 μ3 =>
  (if v2 = (-1 : Int32) then
  (Q (0 : Int32) μ3)
  else
  (Q (1 : Int32) μ3)))))
set_option maxHeartbeats 4000000 in
theorem w_X18_done {g : fw_G} {f bc bs : Nat} {r0 : Nat} {r1 : Nat} {μ : fw_M} {Q : Int32 → fw_M → Prop} (hf : 408 ≤ f) (hx : m_K μ r0 = 19) (h : p_X18_done r0 r1 μ Q) : fw_C g f bc bs yX18_done (ws_ yX18_done cX18_done 2 (some .boolean)) [fw_rv g r0, fw_rv g r1] μ (fw_Qi Q) fw_nX := by
  unfold p_X18_done at h
  refine fw_intro' (Ls := [(0, fw_rv g r0), (1, fw_rv g r1)]) (by decide +kernel) (by simp [lg_sl, fw_cat, fw_ci, fw_clo]) (by simp [lv_args, fw_cat, fw_ci, fw_clo]) ?_
  show fw_V g K_X18_done f bc bs 0 [(0, fw_rv g r0), (1, fw_rv g r1)] [] μ (fw_Qi Q) fw_nX
  refine fw_aload_n dX18_done_0 rfl rfl ?_
  refine fw_aload_n dX18_done_1 rfl rfl ?_
  refine fw_getfI fl_X18_9 rfl hx dX18_done_2 ?_
  refine fw_aload_n dX18_done_5 rfl rfl ?_
  refine fw_getfI fl_X18_15 rfl hx dX18_done_6 ?_
  obtain ⟨hg1, h⟩ := h
  refine fw_callV2z (f1 := f - 1) cl_X18_18 rfl hg1 (by decide) (by omega) (fw_s4 (Nat.le_of_ble_eq_true rfl)) dX18_done_9 (w_X0_spoon (f := f - 1) (by omega) hg1 h) (fun _ _ h9 _ _ => h9.elim) (fun v9 μ3 q9 hs4 => ?_)
  obtain ⟨v2, rfl, h⟩ := q9
  refine fw_ti ?_
  have hg5 := hs4.K hx (by decide)
  have hg6 := hs4.K hg1 (by decide)
  refine fw_iconst (v := -1) dX18_done_12 (by decide) ?_
  refine fw_icmp_eq (tgt := 20) dX18_done_13 (by decide) (fun c7 => ?_) (fun c7 => ?_)
  · have h := fw_it h c7
    refine fw_iconst (v := 0) dX18_done_20 (by decide) ?_
    exact fw_ireturn dX18_done_21 rfl (by decide +kernel) ⟨_, rfl, h⟩
  · have h := fw_if h c7
    refine fw_iconst (v := 1) dX18_done_16 (by decide) ?_
    refine fw_goto (tgt := 21) dX18_done_17 (by decide) ?_
    exact fw_ireturn dX18_done_21 rfl (by decide +kernel) ⟨_, rfl, h⟩
abbrev K_X0_isSide : fw_Kt := (RX0, "isSide", cX0_isSide, 1, some .boolean, [])
def p_X0_isSide (i0 : Int32) (μ : fw_M) (Q : Int32 → fw_M → Prop) : Prop :=
  (p_X0_in i0 (0 : Int32) (1 : Int32) μ (fun v1 μ2 =>
  ((v1 = 0 ∨ v1 = 1) ∧ Q v1 μ2)))
set_option maxHeartbeats 4000000 in
theorem w_X0_isSide {g : fw_G} {f bc bs : Nat} {i0 : Int32} {μ : fw_M} {Q : Int32 → fw_M → Prop} (hf : 2 ≤ f) (h : p_X0_isSide i0 μ Q) : fw_C g f bc bs yX0_isSide (ws_ yX0_isSide cX0_isSide 1 (some .boolean)) [Value.int i0] μ (fw_Qi Q) fw_nX := by
  unfold p_X0_isSide at h
  refine fw_intro' (Ls := [(0, Value.int i0)]) (by decide +kernel) (by simp [lg_sl, fw_cat, fw_ci, fw_clo]) (by simp [lv_args, fw_cat, fw_ci, fw_clo]) ?_
  show fw_V g K_X0_isSide f bc bs 0 [(0, Value.int i0)] [] μ (fw_Qi Q) fw_nX
  refine fw_iload_n dX0_isSide_0 rfl rfl ?_
  refine fw_iconst (v := 0) dX0_isSide_1 (by decide) ?_
  refine fw_iconst (v := 1) dX0_isSide_2 (by decide) ?_
  refine fw_callS3z (f1 := f - 1) cl_X0_66 (by decide) (by omega) (fw_s4 (Nat.le_of_ble_eq_true rfl)) dX0_isSide_3 (w_X0_in (f := f - 1) (by omega) h) (fun _ _ h9 _ _ => h9.elim) (fun v9 μ2 q9 hs3 => ?_)
  obtain ⟨v1, rfl, h⟩ := q9
  refine fw_ti ?_
  obtain ⟨hc4, h⟩ := h
  exact fw_ireturn dX0_isSide_6 rfl (by rcases hc4 with e9 | e9 <;> rw [e9] <;> decide +kernel) ⟨_, rfl, h⟩
abbrev K_X0_judge : fw_Kt := (RX0, "judge", cX0_judge, 4, some .int, [])
def p_X0_judge_L51 (r0 : Nat) (i1 : Int32) (is0 : Int32) (μ : fw_M) (Q : Int32 → fw_M → Prop) : Prop :=
  (m_K μ (m_P μ r0 0) = 2 ∧ (m_K μ (m_P μ (m_P μ r0 0) 9) = 100 ∧ (vp_in (24 : Int32) (m_N μ (m_P μ (m_P μ r0 0) 9)) ∧ (vp_in (24 : Int32) (m_N μ (m_P μ (m_P μ r0 0) 9)) ∧ (∀ μ5, μ5 = m_uI μ (m_P μ (m_P μ r0 0) 9) (24 : Int32).toNatClampNeg ((m_I μ (m_P μ (m_P μ r0 0) 9) (24 : Int32).toNatClampNeg) + (1 : Int32)) →
  (m_K μ5 (m_P μ (m_P μ r0 0) 13) = 103 ∧ (vp_in (m_I μ (m_P μ (m_P μ r0 0) 9) (24 : Int32).toNatClampNeg) (m_N μ5 (m_P μ (m_P μ r0 0) 13)) ∧ (∀ r3_8 : Nat, r3_8 = (m_P μ5 (m_P μ (m_P μ r0 0) 13) (m_I μ (m_P μ (m_P μ r0 0) 9) (24 : Int32).toNatClampNeg).toNatClampNeg) →
  (m_K μ5 r3_8 = 100 ∧ (vp_in (0 : Int32) (m_N μ5 r3_8) ∧ (∀ μ12, μ12 = m_uI μ5 r3_8 (0 : Int32).toNatClampNeg i1 →
  (m_K μ12 (m_P μ12 r0 0) = 2 ∧ (p_X0_tiltOf (m_P μ12 (m_P μ12 r0 0) 9) μ12 (fun v14 μ15 =>
  (vp_in (1 : Int32) (m_N μ15 r3_8) ∧ (∀ μ20, μ20 = m_uI μ15 r3_8 (1 : Int32).toNatClampNeg v14 →
  (vp_in (2 : Int32) (m_N μ20 r3_8) ∧ (∀ μ22, μ22 = m_uI μ20 r3_8 (2 : Int32).toNatClampNeg is0 →
  Q is0 μ22))))))))))))))))))
set_option maxHeartbeats 4000000 in
theorem w_X0_judge_L51 {g : fw_G} {f bc bs : Nat} {r0 : Nat} {i1 : Int32} {is0 : Int32} {μ : fw_M} {Q : Int32 → fw_M → Prop} (hf : 805 ≤ f) (hx : m_K μ r0 = 1) (h : p_X0_judge_L51 r0 i1 is0 μ Q) : fw_V g K_X0_judge f bc bs 51 [(0, fw_rv g r0), (1, Value.int i1)] [Value.int is0] μ (fw_Qi Q) fw_nX := by
  unfold p_X0_judge_L51 at h
  refine fw_istore_nN (Ls' := [(2, Value.int is0), (1, Value.int i1), (0, fw_rv g r0)]) [0] dX0_judge_51 rfl (by decide) rfl rfl rfl rfl rfl ?_
  refine fw_aload_n dX0_judge_52 rfl rfl ?_
  refine fw_getfP fl_X0_12 rfl hx dX0_judge_53 ?_
  obtain ⟨hg1, h⟩ := h
  refine fw_getfP fl_X0_166 rfl hg1 dX0_judge_56 ?_
  refine fw_aload_n dX0_judge_59 rfl rfl ?_
  refine fw_getfP fl_X0_12 rfl hx dX0_judge_60 ?_
  refine fw_getfP fl_X0_77 rfl hg1 dX0_judge_63 ?_
  refine fw_bipush (v := 24) dX0_judge_66 (by decide) ?_
  refine fw_dup2 dX0_judge_68 rfl (fw_cat _) ?_
  obtain ⟨hg2, h⟩ := h
  obtain ⟨hc3, h⟩ := h
  refine fw_iald hg2 hc3 dX0_judge_69 ?_
  refine fw_dup_x2 dX0_judge_70 rfl rfl (fw_cat _) ?_
  refine fw_iconst (v := 1) dX0_judge_71 (by decide) ?_
  refine fw_iadd dX0_judge_72 ?_
  obtain ⟨hc4, h⟩ := h
  refine fw_iast hg2 hc4 dX0_judge_73 ?_
  have h := h _ rfl
  obtain ⟨hg6, h⟩ := h
  obtain ⟨hc7, h⟩ := h
  refine fw_aald hg6 rfl rfl hc7 dX0_judge_74 ?_
  refine fw_topr (fun r3_8 e9 => ?_)
  have h := h r3_8 e9
  refine fw_astore_nN (Ls' := [(3, fw_rv g r3_8), (2, Value.int is0), (1, Value.int i1), (0, fw_rv g r0)]) [1, 2] dX0_judge_75 rfl (by decide) rfl rfl rfl rfl rfl ?_
  refine fw_aload_n dX0_judge_76 rfl rfl ?_
  refine fw_iconst (v := 0) dX0_judge_77 (by decide) ?_
  refine fw_iload_n dX0_judge_78 rfl rfl ?_
  obtain ⟨hg10, h⟩ := h
  obtain ⟨hc11, h⟩ := h
  refine fw_iast hg10 hc11 dX0_judge_79 ?_
  have h := h _ rfl
  refine fw_aload_n dX0_judge_80 rfl rfl ?_
  refine fw_iconst (v := 1) dX0_judge_81 (by decide) ?_
  refine fw_aload_n dX0_judge_82 rfl rfl ?_
  refine fw_getfP fl_X0_12 rfl hx dX0_judge_83 ?_
  obtain ⟨hg13, h⟩ := h
  refine fw_getfP fl_X0_77 rfl hg13 dX0_judge_86 ?_
  refine fw_callS1z (f1 := f - 1) cl_X0_132 (by decide) (by omega) (fw_s4 (Nat.le_of_ble_eq_true rfl)) dX0_judge_89 (w_X0_tiltOf (f := f - 1) (by omega) h) (fun _ _ h9 _ _ => h9.elim) (fun v9 μ15 q9 hs16 => ?_)
  obtain ⟨v14, rfl, h⟩ := q9
  refine fw_ti ?_
  have hg17 := hs16.K hx (by decide)
  have hg18 := hs16.K hg10 (by decide)
  obtain ⟨hc19, h⟩ := h
  refine fw_iast hg18 hc19 dX0_judge_92 ?_
  have h := h _ rfl
  refine fw_aload_n dX0_judge_93 rfl rfl ?_
  refine fw_iconst (v := 2) dX0_judge_94 (by decide) ?_
  refine fw_iload_n dX0_judge_95 rfl rfl ?_
  obtain ⟨hc21, h⟩ := h
  refine fw_iast hg18 hc21 dX0_judge_96 ?_
  have h := h _ rfl
  refine fw_iload_n dX0_judge_97 rfl rfl ?_
  exact fw_ireturn dX0_judge_98 rfl rfl ⟨_, rfl, h⟩
def p_X0_judge (r0 : Nat) (i1 : Int32) (μ : fw_M) (Q : Int32 → fw_M → Prop) : Prop :=
  (p_X0_isSide i1 μ (fun v1 μ2 =>
  (if v1 = 0 then
  (Q (-1 : Int32) μ2)
  else
  ((m_K μ2 (m_P μ2 r0 0) = 2 ∧ (m_K μ2 (m_P μ2 (m_P μ2 r0 0) 9) = 100 ∧ (vp_in (24 : Int32) (m_N μ2 (m_P μ2 (m_P μ2 r0 0) 9)) ∧ (if (m_I μ2 (m_P μ2 (m_P μ2 r0 0) 9) (24 : Int32).toNatClampNeg) = (30 : Int32) then
   (Q (-1 : Int32) μ2)
   else
   ((p_X1_keep (m_P μ2 r0 0) μ2 (fun μ11 =>
    (m_K μ11 (m_P μ11 r0 0) = 2 ∧ (p_X0_isGuilty r0 (m_P μ11 (m_P μ11 r0 0) 9) i1 μ11 (fun v15 μ16 =>
    (if v15 = 0 then
    (p_X0_judge_L51 r0 i1 (0 : Int32) μ16 Q)
    else
    (p_X0_judge_L51 r0 i1 (1 : Int32) μ16 Q))))))))))))))))
set_option maxHeartbeats 4000000 in
theorem w_X0_judge {g : fw_G} {f bc bs : Nat} {r0 : Nat} {i1 : Int32} {μ : fw_M} {Q : Int32 → fw_M → Prop} (hf : 805 ≤ f) (hx : m_K μ r0 = 1) (h : p_X0_judge r0 i1 μ Q) : fw_C g f bc bs yX0_judge (ws_ yX0_judge cX0_judge 4 (some .int)) [fw_rv g r0, Value.int i1] μ (fw_Qi Q) fw_nX := by
  unfold p_X0_judge at h
  refine fw_intro' (Ls := [(0, fw_rv g r0), (1, Value.int i1)]) (by decide +kernel) (by simp [lg_sl, fw_cat, fw_ci, fw_clo]) (by simp [lv_args, fw_cat, fw_ci, fw_clo]) ?_
  show fw_V g K_X0_judge f bc bs 0 [(0, fw_rv g r0), (1, Value.int i1)] [] μ (fw_Qi Q) fw_nX
  refine fw_iload_n dX0_judge_0 rfl rfl ?_
  refine fw_callS1z (f1 := f - 1) cl_X0_70 (by decide) (by omega) (fw_s4 (Nat.le_of_ble_eq_true rfl)) dX0_judge_1 (w_X0_isSide (f := f - 1) (by omega) h) (fun _ _ h9 _ _ => h9.elim) (fun v9 μ2 q9 hs3 => ?_)
  obtain ⟨v1, rfl, h⟩ := q9
  refine fw_ti ?_
  have hg4 := hs3.K hx (by decide)
  refine fw_if_eq (tgt := 22) dX0_judge_4 (by decide) (fun c5 => ?_) (fun c5 => ?_)
  · have h := fw_it h c5
    refine fw_iconst (v := -1) dX0_judge_22 (by decide) ?_
    exact fw_ireturn dX0_judge_23 rfl rfl ⟨_, rfl, h⟩
  · have h := fw_if h c5
    refine fw_aload_n dX0_judge_7 rfl rfl ?_
    refine fw_getfP fl_X0_12 rfl hg4 dX0_judge_8 ?_
    obtain ⟨hg6, h⟩ := h
    refine fw_getfP fl_X0_77 rfl hg6 dX0_judge_11 ?_
    refine fw_bipush (v := 24) dX0_judge_14 (by decide) ?_
    obtain ⟨hg7, h⟩ := h
    obtain ⟨hc8, h⟩ := h
    refine fw_iald hg7 hc8 dX0_judge_16 ?_
    refine fw_bipush (v := 30) dX0_judge_17 (by decide) ?_
    refine fw_icmp_ne (tgt := 24) dX0_judge_19 (by decide) (fun c9 => ?_) (fun c9 => ?_)
    · have h := fw_if h c9
      refine fw_aload_n dX0_judge_24 rfl rfl ?_
      refine fw_getfP fl_X0_12 rfl hg4 dX0_judge_25 ?_
      refine fw_callV0z (f1 := f - 1) cl_X0_153 rfl hg6 (by decide) (by omega) (fw_s4 (Nat.le_of_ble_eq_true rfl)) dX0_judge_28 (w_X1_keep (f := f - 1) (by omega) hg6 h) (fun _ _ h9 _ _ => h9.elim) (fun v9 μ11 q9 hs12 => ?_)
      obtain ⟨rfl, h⟩ := q9
      refine fw_tv ?_
      have hg13 := hs12.K hg4 (by decide)
      refine fw_aload_n dX0_judge_31 rfl rfl ?_
      refine fw_aload_n dX0_judge_32 rfl rfl ?_
      refine fw_getfP fl_X0_12 rfl hg13 dX0_judge_33 ?_
      obtain ⟨hg14, h⟩ := h
      refine fw_getfP fl_X0_77 rfl hg14 dX0_judge_36 ?_
      refine fw_iload_n dX0_judge_39 rfl rfl ?_
      refine fw_callV2z (f1 := f - 1) cl_X0_162 rfl hg13 (by decide) (by omega) (fw_s4 (Nat.le_of_ble_eq_true rfl)) dX0_judge_40 (w_X0_isGuilty (f := f - 1) (by omega) hg13 h) (fun _ _ h9 _ _ => h9.elim) (fun v9 μ16 q9 hs17 => ?_)
      obtain ⟨v15, rfl, h⟩ := q9
      refine fw_ti ?_
      have hg18 := hs17.K hg13 (by decide)
      refine fw_if_eq (tgt := 50) dX0_judge_43 (by decide) (fun c19 => ?_) (fun c19 => ?_)
      · have h := fw_it h c19
        refine fw_iconst (v := 0) dX0_judge_50 (by decide) ?_
        exact w_X0_judge_L51 hf hg18 h
      · have h := fw_if h c19
        refine fw_iconst (v := 1) dX0_judge_46 (by decide) ?_
        refine fw_goto (tgt := 51) dX0_judge_47 (by decide) ?_
        exact w_X0_judge_L51 hf hg18 h
    · have h := fw_it h c9
      refine fw_iconst (v := -1) dX0_judge_22 (by decide) ?_
      exact fw_ireturn dX0_judge_23 rfl rfl ⟨_, rfl, h⟩
abbrev K_X15_done : fw_Kt := (RX15, "done", cX15_done, 2, some .boolean, [])
def p_X15_done (r0 : Nat) (r1 : Nat) (μ : fw_M) (Q : Int32 → fw_M → Prop) : Prop :=
  (m_K μ r1 = 1 ∧ (p_X0_judge r1 (m_I μ r0 0) μ (fun v2 μ3 =>
  (if v2 = (-1 : Int32) then
  (Q (0 : Int32) μ3)
  else
  (Q (1 : Int32) μ3)))))
set_option maxHeartbeats 4000000 in
theorem w_X15_done {g : fw_G} {f bc bs : Nat} {r0 : Nat} {r1 : Nat} {μ : fw_M} {Q : Int32 → fw_M → Prop} (hf : 806 ≤ f) (hx : m_K μ r0 = 16) (h : p_X15_done r0 r1 μ Q) : fw_C g f bc bs yX15_done (ws_ yX15_done cX15_done 2 (some .boolean)) [fw_rv g r0, fw_rv g r1] μ (fw_Qi Q) fw_nX := by
  unfold p_X15_done at h
  refine fw_intro' (Ls := [(0, fw_rv g r0), (1, fw_rv g r1)]) (by decide +kernel) (by simp [lg_sl, fw_cat, fw_ci, fw_clo]) (by simp [lv_args, fw_cat, fw_ci, fw_clo]) ?_
  show fw_V g K_X15_done f bc bs 0 [(0, fw_rv g r0), (1, fw_rv g r1)] [] μ (fw_Qi Q) fw_nX
  refine fw_aload_n dX15_done_0 rfl rfl ?_
  refine fw_aload_n dX15_done_1 rfl rfl ?_
  refine fw_getfI fl_X15_9 rfl hx dX15_done_2 ?_
  obtain ⟨hg1, h⟩ := h
  refine fw_callV1z (f1 := f - 1) cl_X15_15 rfl hg1 (by decide) (by omega) (fw_s4 (Nat.le_of_ble_eq_true rfl)) dX15_done_5 (w_X0_judge (f := f - 1) (by omega) hg1 h) (fun _ _ h9 _ _ => h9.elim) (fun v9 μ3 q9 hs4 => ?_)
  obtain ⟨v2, rfl, h⟩ := q9
  refine fw_ti ?_
  have hg5 := hs4.K hx (by decide)
  have hg6 := hs4.K hg1 (by decide)
  refine fw_iconst (v := -1) dX15_done_8 (by decide) ?_
  refine fw_icmp_eq (tgt := 16) dX15_done_9 (by decide) (fun c7 => ?_) (fun c7 => ?_)
  · have h := fw_it h c7
    refine fw_iconst (v := 0) dX15_done_16 (by decide) ?_
    exact fw_ireturn dX15_done_17 rfl (by decide +kernel) ⟨_, rfl, h⟩
  · have h := fw_if h c7
    refine fw_iconst (v := 1) dX15_done_12 (by decide) ?_
    refine fw_goto (tgt := 17) dX15_done_13 (by decide) ?_
    exact fw_ireturn dX15_done_17 rfl (by decide +kernel) ⟨_, rfl, h⟩
abbrev K_X1_draw : fw_Kt := (RX1, "draw", cX1_draw, 3, some .int, [])
def p_X1_draw (r0 : Nat) (i1 : Int32) (μ : fw_M) (Q : Int32 → fw_M → Prop) : Prop :=
  (m_K μ (m_P μ r0 9) = 100 ∧ (vp_in (22 : Int32) (m_N μ (m_P μ r0 9)) ∧ (¬ i1 = 0 ∧ (∀ i2_4 : Int32, i2_4 = ((m_I μ (m_P μ r0 9) (22 : Int32).toNatClampNeg) - (m_I μ (m_P μ r0 9) (22 : Int32).toNatClampNeg) / i1 * i1) →
  (vp_in (22 : Int32) (m_N μ (m_P μ r0 9)) ∧ (vp_in (22 : Int32) (m_N μ (m_P μ r0 9)) ∧ (∀ μ8, μ8 = m_uI μ (m_P μ r0 9) (22 : Int32).toNatClampNeg (((((m_I μ (m_P μ r0 9) (22 : Int32).toNatClampNeg).toInt64 * (181 : Int64)) + (101 : Int64)) - (((m_I μ (m_P μ r0 9) (22 : Int32).toNatClampNeg).toInt64 * (181 : Int64)) + (101 : Int64)) / (30029 : Int64) * (30029 : Int64)).toInt32) →
  Q i2_4 μ8)))))))
set_option maxHeartbeats 4000000 in
theorem w_X1_draw {g : fw_G} {f bc bs : Nat} {r0 : Nat} {i1 : Int32} {μ : fw_M} {Q : Int32 → fw_M → Prop} (hf : 1 ≤ f) (hx : m_K μ r0 = 2) (h : p_X1_draw r0 i1 μ Q) : fw_C g f bc bs yX1_draw (ws_ yX1_draw cX1_draw 3 (some .int)) [fw_rv g r0, Value.int i1] μ (fw_Qi Q) fw_nX := by
  unfold p_X1_draw at h
  refine fw_intro' (Ls := [(0, fw_rv g r0), (1, Value.int i1)]) (by decide +kernel) (by simp [lg_sl, fw_cat, fw_ci, fw_clo]) (by simp [lv_args, fw_cat, fw_ci, fw_clo]) ?_
  show fw_V g K_X1_draw f bc bs 0 [(0, fw_rv g r0), (1, Value.int i1)] [] μ (fw_Qi Q) fw_nX
  refine fw_aload_n dX1_draw_0 rfl rfl ?_
  refine fw_getfP fl_X1_25 rfl hx dX1_draw_1 ?_
  refine fw_bipush (v := 22) dX1_draw_4 (by decide) ?_
  obtain ⟨hg1, h⟩ := h
  obtain ⟨hc2, h⟩ := h
  refine fw_iald hg1 hc2 dX1_draw_6 ?_
  refine fw_iload_n dX1_draw_7 rfl rfl ?_
  obtain ⟨hc3, h⟩ := h
  refine fw_irem dX1_draw_8 hc3 ?_
  refine fw_topi (fun i2_4 e5 => ?_)
  have h := h i2_4 e5
  refine fw_istore_nN (Ls' := [(2, Value.int i2_4), (1, Value.int i1), (0, fw_rv g r0)]) [0] dX1_draw_9 rfl (by decide) rfl rfl rfl rfl rfl ?_
  refine fw_aload_n dX1_draw_10 rfl rfl ?_
  refine fw_getfP fl_X1_25 rfl hx dX1_draw_11 ?_
  refine fw_bipush (v := 22) dX1_draw_14 (by decide) ?_
  refine fw_aload_n dX1_draw_16 rfl rfl ?_
  refine fw_getfP fl_X1_25 rfl hx dX1_draw_17 ?_
  refine fw_bipush (v := 22) dX1_draw_20 (by decide) ?_
  obtain ⟨hc6, h⟩ := h
  refine fw_iald hg1 hc6 dX1_draw_22 ?_
  refine fw_i2l dX1_draw_23 ?_
  refine fw_ldc2 q445 dX1_draw_24 ?_
  refine fw_lmul dX1_draw_27 ?_
  refine fw_ldc2 q446 dX1_draw_28 ?_
  refine fw_ladd dX1_draw_31 ?_
  refine fw_ldc2 q447 dX1_draw_32 ?_
  refine fw_lrem dX1_draw_35 (by decide) ?_
  refine fw_l2i dX1_draw_36 ?_
  obtain ⟨hc7, h⟩ := h
  refine fw_iast hg1 hc7 dX1_draw_37 ?_
  have h := h _ rfl
  refine fw_iload_n dX1_draw_38 rfl rfl ?_
  exact fw_ireturn dX1_draw_39 rfl rfl ⟨_, rfl, h⟩
abbrev K_X0_flies : fw_Kt := (RX0, "flies", cX0_flies, 5, some .int, [])
def p_X0_flies_L23b (r0 : Nat) (i1 : Int32) (k23 : Int32 → Int32 → fw_M → Prop) (i2 : Int32) (i3 : Int32) (μ : fw_M) (Q : Int32 → fw_M → Prop) : Prop :=
  (if i1 ≤ i3 then
  (Q i2 μ)
  else
  ((m_K μ (m_P μ r0 0) = 2 ∧ (p_X1_draw (m_P μ r0 0) (4 : Int32) μ (fun v3 μ4 =>
   (∀ i4_7 : Int32, i4_7 = ((0 : Int32) + v3) →
   (m_K μ4 (m_P μ4 r0 0) = 2 ∧ (m_K μ4 (m_P μ4 (m_P μ4 r0 0) 9) = 100 ∧ (vp_in i4_7 (m_N μ4 (m_P μ4 (m_P μ4 r0 0) 9)) ∧ (if (m_I μ4 (m_P μ4 (m_P μ4 r0 0) 9) i4_7.toNatClampNeg) = 0 then
   ((∀ i3_20 : Int32, i3_20 = i3 + (1 : Int32) →
    k23 i2 i3_20 μ4))
   else
   ((vp_in i4_7 (m_N μ4 (m_P μ4 (m_P μ4 r0 0) 9)) ∧ (vp_in i4_7 (m_N μ4 (m_P μ4 (m_P μ4 r0 0) 9)) ∧ (∀ μ15, μ15 = m_uI μ4 (m_P μ4 (m_P μ4 r0 0) 9) i4_7.toNatClampNeg ((m_I μ4 (m_P μ4 (m_P μ4 r0 0) 9) i4_7.toNatClampNeg) - (1 : Int32)) →
    (∀ i2_16 : Int32, i2_16 = i2 + (1 : Int32) →
    (∀ i3_18 : Int32, i3_18 = i3 + (1 : Int32) →
    k23 i2_16 i3_18 μ15))))))))))))))))
def p_X0_flies_L23 (r0 : Nat) (i1 : Int32) (i2 : Int32) (i3 : Int32) (μ : fw_M) (Q : Int32 → fw_M → Prop) : Prop := fw_lp (fun (k : Int32 × Int32 × fw_M → Prop) (a : Int32 × Int32 × fw_M) => p_X0_flies_L23b r0 i1 (fun i2 i3 μ => k (i2, i3, μ)) a.1 a.2.1 a.2.2 Q) (i2, i3, μ)
theorem r_X0_flies_L23 {r0 : Nat} {i1 : Int32} {Q : Int32 → fw_M → Prop} (I : Int32 → Int32 → fw_M → Prop) (v : Int32 → Int32 → fw_M → Nat) (hs : ∀ (k : Int32 → Int32 → fw_M → Prop) (i2 : Int32) (i3 : Int32) (μ : fw_M), I i2 i3 μ → (∀ (i2' : Int32) (i3' : Int32) (ν : fw_M), I i2' i3' ν → v i2' i3' ν < v i2 i3 μ → k i2' i3' ν) → p_X0_flies_L23b r0 i1 k i2 i3 μ Q) (i2 : Int32) (i3 : Int32) (μ : fw_M) (h : I i2 i3 μ) : p_X0_flies_L23 r0 i1 i2 i3 μ Q :=
  fw_lp_in (A := Int32 × Int32 × fw_M) (fun a => I a.1 a.2.1 a.2.2) (fun a => v a.1 a.2.1 a.2.2) (fun k a ha hk => hs (fun i2 i3 μ => k (i2, i3, μ)) a.1 a.2.1 a.2.2 ha (fun i2' i3' ν hb hlt => hk (i2', i3', ν) hb hlt)) (i2, i3, μ) h
set_option maxHeartbeats 4000000 in
theorem w_X0_flies_L23b {g : fw_G} {f bc bs : Nat} {r0 : Nat} {i1 : Int32} {k23 : Int32 → Int32 → fw_M → Prop} {i2 : Int32} {i3 : Int32} {μ : fw_M} {Q : Int32 → fw_M → Prop} (hf : 3 ≤ f) (hk23 : ∀ {i2 : Int32} {i3 : Int32} {μ : fw_M}, m_K μ r0 = 1 → k23 i2 i3 μ → fw_V g K_X0_flies f bc bs 23 [(0, fw_rv g r0), (1, Value.int i1), (2, Value.int i2), (3, Value.int i3)] [] μ (fw_Qi Q) fw_nX) (hx : m_K μ r0 = 1) (h : p_X0_flies_L23b r0 i1 k23 i2 i3 μ Q) : fw_V g K_X0_flies f bc bs 23 [(0, fw_rv g r0), (1, Value.int i1), (2, Value.int i2), (3, Value.int i3)] [] μ (fw_Qi Q) fw_nX := by
  unfold p_X0_flies_L23b at h
  refine fw_iload_n dX0_flies_23 rfl rfl ?_
  refine fw_iload_n dX0_flies_24 rfl rfl ?_
  refine fw_icmp_ge (tgt := 79) dX0_flies_25 (by decide) (fun c1 => ?_) (fun c1 => ?_)
  · have h := fw_it h c1
    refine fw_iload_n dX0_flies_79 rfl rfl ?_
    exact fw_ireturn dX0_flies_80 rfl rfl ⟨_, rfl, h⟩
  · have h := fw_if h c1
    refine fw_iconst (v := 0) dX0_flies_28 (by decide) ?_
    refine fw_aload_n dX0_flies_29 rfl rfl ?_
    refine fw_getfP fl_X0_12 rfl hx dX0_flies_30 ?_
    refine fw_iconst (v := 4) dX0_flies_33 (by decide) ?_
    obtain ⟨hg2, h⟩ := h
    refine fw_callV1z (f1 := f - 1) cl_X0_169 rfl hg2 (by decide) (by omega) (fw_s4 (Nat.le_of_ble_eq_true rfl)) dX0_flies_34 (w_X1_draw (f := f - 1) (by omega) hg2 h) (fun _ _ h9 _ _ => h9.elim) (fun v9 μ4 q9 hs5 => ?_)
    obtain ⟨v3, rfl, h⟩ := q9
    refine fw_ti ?_
    have hg6 := hs5.K hx (by decide)
    refine fw_iadd dX0_flies_37 ?_
    refine fw_topi (fun i4_7 e8 => ?_)
    have h := h i4_7 e8
    refine fw_istoreN (Ls' := [(4, Value.int i4_7), (3, Value.int i3), (0, fw_rv g r0), (1, Value.int i1), (2, Value.int i2)]) [0, 1, 2] dX0_flies_38 (by decide) rfl rfl rfl rfl rfl ?_
    refine fw_aload_n dX0_flies_40 rfl rfl ?_
    refine fw_getfP fl_X0_12 rfl hg6 dX0_flies_41 ?_
    obtain ⟨hg9, h⟩ := h
    refine fw_getfP fl_X0_77 rfl hg9 dX0_flies_44 ?_
    refine fw_iload dX0_flies_47 rfl ?_
    obtain ⟨hg10, h⟩ := h
    obtain ⟨hc11, h⟩ := h
    refine fw_iald hg10 hc11 dX0_flies_49 ?_
    refine fw_if_ne (tgt := 56) dX0_flies_50 (by decide) (fun c12 => ?_) (fun c12 => ?_)
    · have h := fw_if h c12
      refine fw_aload_n dX0_flies_56 rfl rfl ?_
      refine fw_getfP fl_X0_12 rfl hg6 dX0_flies_57 ?_
      refine fw_getfP fl_X0_77 rfl hg9 dX0_flies_60 ?_
      refine fw_iload dX0_flies_63 rfl ?_
      refine fw_dup2 dX0_flies_65 rfl (fw_cat _) ?_
      obtain ⟨hc13, h⟩ := h
      refine fw_iald hg10 hc13 dX0_flies_66 ?_
      refine fw_iconst (v := 1) dX0_flies_67 (by decide) ?_
      refine fw_isub dX0_flies_68 ?_
      obtain ⟨hc14, h⟩ := h
      refine fw_iast hg10 hc14 dX0_flies_69 ?_
      have h := h _ rfl
      obtain ⟨i2_16, e17⟩ : ∃ y : Int32, y = i2 + (1 : Int32) := ⟨_, rfl⟩
      have h := h i2_16 e17
      refine fw_iincN (k := 4) (v := i2_16) (Ls' := [(2, Value.int i2_16), (1, Value.int i1), (4, Value.int i4_7), (3, Value.int i3), (0, fw_rv g r0)]) [0, 1, 2] dX0_flies_70 rfl (by rw [e17]; rfl) (by decide) rfl rfl rfl rfl rfl ?_
      obtain ⟨i3_18, e19⟩ : ∃ y : Int32, y = i3 + (1 : Int32) := ⟨_, rfl⟩
      have h := h i3_18 e19
      refine fw_iincN (k := 3) (v := i3_18) (Ls' := [(3, Value.int i3_18), (2, Value.int i2_16), (1, Value.int i1), (4, Value.int i4_7), (0, fw_rv g r0)]) [1, 2, 4] dX0_flies_73 rfl (by rw [e19]; rfl) (by decide) rfl rfl rfl rfl rfl ?_
      refine fw_goto (tgt := 23) dX0_flies_76 (by decide) ?_
      refine fw_ls [4, 2, 1, 0] rfl ?_
      exact hk23 hg6 h
    · have h := fw_it h c12
      refine fw_goto (tgt := 73) dX0_flies_53 (by decide) ?_
      obtain ⟨i3_20, e21⟩ : ∃ y : Int32, y = i3 + (1 : Int32) := ⟨_, rfl⟩
      have h := h i3_20 e21
      refine fw_iincN (k := 1) (v := i3_20) (Ls' := [(3, Value.int i3_20), (2, Value.int i2), (4, Value.int i4_7), (0, fw_rv g r0), (1, Value.int i1)]) [0, 2, 3] dX0_flies_73 rfl (by rw [e21]; rfl) (by decide) rfl rfl rfl rfl rfl ?_
      refine fw_goto (tgt := 23) dX0_flies_76 (by decide) ?_
      refine fw_ls [3, 4, 1, 0] rfl ?_
      exact hk23 hg6 h
theorem w_X0_flies_L23 {g : fw_G} {f bc bs : Nat} {r0 : Nat} {i1 : Int32} {i2 : Int32} {i3 : Int32} {μ : fw_M} {Q : Int32 → fw_M → Prop} (hf : 3 ≤ f) (hx : m_K μ r0 = 1) (h : p_X0_flies_L23 r0 i1 i2 i3 μ Q) : fw_V g K_X0_flies f bc bs 23 [(0, fw_rv g r0), (1, Value.int i1), (2, Value.int i2), (3, Value.int i3)] [] μ (fw_Qi Q) fw_nX := by
  have key := fw_lp_out (R := fun (a : Int32 × Int32 × fw_M) => m_K a.2.2 r0 = 1 → fw_V g K_X0_flies f bc bs 23 [(0, fw_rv g r0), (1, Value.int i1), (2, Value.int a.1), (3, Value.int a.2.1)] [] a.2.2 (fw_Qi Q) fw_nX) (fun k hk9 a ha hx2 => w_X0_flies_L23b hf (fun {i2 i3} {μ} hx3 h3 => hk9 (i2, i3, μ) h3 hx3) hx2 ha) h
  exact key hx
def p_X0_flies (r0 : Nat) (i1 : Int32) (μ : fw_M) (Q : Int32 → fw_M → Prop) : Prop :=
  (p_X0_in i1 (1 : Int32) (40 : Int32) μ (fun v1 μ2 =>
  (if v1 = 0 then
  (Q (-1 : Int32) μ2)
  else
  ((m_K μ2 (m_P μ2 r0 0) = 2 ∧ (p_X1_keep (m_P μ2 r0 0) μ2 (fun μ8 =>
   p_X0_flies_L23 r0 i1 (0 : Int32) (0 : Int32) μ8 Q)))))))
set_option maxHeartbeats 4000000 in
theorem w_X0_flies {g : fw_G} {f bc bs : Nat} {r0 : Nat} {i1 : Int32} {μ : fw_M} {Q : Int32 → fw_M → Prop} (hf : 3 ≤ f) (hx : m_K μ r0 = 1) (h : p_X0_flies r0 i1 μ Q) : fw_C g f bc bs yX0_flies (ws_ yX0_flies cX0_flies 5 (some .int)) [fw_rv g r0, Value.int i1] μ (fw_Qi Q) fw_nX := by
  unfold p_X0_flies at h
  refine fw_intro' (Ls := [(0, fw_rv g r0), (1, Value.int i1)]) (by decide +kernel) (by simp [lg_sl, fw_cat, fw_ci, fw_clo]) (by simp [lv_args, fw_cat, fw_ci, fw_clo]) ?_
  show fw_V g K_X0_flies f bc bs 0 [(0, fw_rv g r0), (1, Value.int i1)] [] μ (fw_Qi Q) fw_nX
  refine fw_iload_n dX0_flies_0 rfl rfl ?_
  refine fw_iconst (v := 1) dX0_flies_1 (by decide) ?_
  refine fw_bipush (v := 40) dX0_flies_2 (by decide) ?_
  refine fw_callS3z (f1 := f - 1) cl_X0_66 (by decide) (by omega) (fw_s4 (Nat.le_of_ble_eq_true rfl)) dX0_flies_4 (w_X0_in (f := f - 1) (by omega) h) (fun _ _ h9 _ _ => h9.elim) (fun v9 μ2 q9 hs3 => ?_)
  obtain ⟨v1, rfl, h⟩ := q9
  refine fw_ti ?_
  have hg4 := hs3.K hx (by decide)
  refine fw_if_ne (tgt := 12) dX0_flies_7 (by decide) (fun c5 => ?_) (fun c5 => ?_)
  · have h := fw_if h c5
    refine fw_aload_n dX0_flies_12 rfl rfl ?_
    refine fw_getfP fl_X0_12 rfl hg4 dX0_flies_13 ?_
    obtain ⟨hg6, h⟩ := h
    refine fw_callV0z (f1 := f - 1) cl_X0_153 rfl hg6 (by decide) (by omega) (fw_s4 (Nat.le_of_ble_eq_true rfl)) dX0_flies_16 (w_X1_keep (f := f - 1) (by omega) hg6 h) (fun _ _ h9 _ _ => h9.elim) (fun v9 μ8 q9 hs9 => ?_)
    obtain ⟨rfl, h⟩ := q9
    refine fw_tv ?_
    have hg10 := hs9.K hg4 (by decide)
    refine fw_iconst (v := 0) dX0_flies_19 (by decide) ?_
    refine fw_istore_nN (Ls' := [(2, Value.int (0 : Int32)), (1, Value.int i1), (0, fw_rv g r0)]) [0] dX0_flies_20 rfl (by decide) rfl rfl rfl rfl rfl ?_
    refine fw_iconst (v := 0) dX0_flies_21 (by decide) ?_
    refine fw_istore_nN (Ls' := [(3, Value.int (0 : Int32)), (2, Value.int (0 : Int32)), (1, Value.int i1), (0, fw_rv g r0)]) [1, 2] dX0_flies_22 rfl (by decide) rfl rfl rfl rfl rfl ?_
    refine fw_ls [3, 2, 1, 0] rfl ?_
    exact w_X0_flies_L23 hf hg10 h
  · have h := fw_it h c5
    refine fw_iconst (v := -1) dX0_flies_10 (by decide) ?_
    exact fw_ireturn dX0_flies_11 rfl rfl ⟨_, rfl, h⟩
abbrev K_X16_done : fw_Kt := (RX16, "done", cX16_done, 2, some .boolean, [])
def p_X16_done (r0 : Nat) (r1 : Nat) (μ : fw_M) (Q : Int32 → fw_M → Prop) : Prop :=
  (m_K μ r1 = 1 ∧ (p_X0_flies r1 (m_I μ r0 0) μ (fun v2 μ3 =>
  (if v2 = (-1 : Int32) then
  (Q (0 : Int32) μ3)
  else
  (Q (1 : Int32) μ3)))))
set_option maxHeartbeats 4000000 in
theorem w_X16_done {g : fw_G} {f bc bs : Nat} {r0 : Nat} {r1 : Nat} {μ : fw_M} {Q : Int32 → fw_M → Prop} (hf : 4 ≤ f) (hx : m_K μ r0 = 17) (h : p_X16_done r0 r1 μ Q) : fw_C g f bc bs yX16_done (ws_ yX16_done cX16_done 2 (some .boolean)) [fw_rv g r0, fw_rv g r1] μ (fw_Qi Q) fw_nX := by
  unfold p_X16_done at h
  refine fw_intro' (Ls := [(0, fw_rv g r0), (1, fw_rv g r1)]) (by decide +kernel) (by simp [lg_sl, fw_cat, fw_ci, fw_clo]) (by simp [lv_args, fw_cat, fw_ci, fw_clo]) ?_
  show fw_V g K_X16_done f bc bs 0 [(0, fw_rv g r0), (1, fw_rv g r1)] [] μ (fw_Qi Q) fw_nX
  refine fw_aload_n dX16_done_0 rfl rfl ?_
  refine fw_aload_n dX16_done_1 rfl rfl ?_
  refine fw_getfI fl_X16_9 rfl hx dX16_done_2 ?_
  obtain ⟨hg1, h⟩ := h
  refine fw_callV1z (f1 := f - 1) cl_X16_15 rfl hg1 (by decide) (by omega) (fw_s4 (Nat.le_of_ble_eq_true rfl)) dX16_done_5 (w_X0_flies (f := f - 1) (by omega) hg1 h) (fun _ _ h9 _ _ => h9.elim) (fun v9 μ3 q9 hs4 => ?_)
  obtain ⟨v2, rfl, h⟩ := q9
  refine fw_ti ?_
  have hg5 := hs4.K hx (by decide)
  have hg6 := hs4.K hg1 (by decide)
  refine fw_iconst (v := -1) dX16_done_8 (by decide) ?_
  refine fw_icmp_eq (tgt := 16) dX16_done_9 (by decide) (fun c7 => ?_) (fun c7 => ?_)
  · have h := fw_it h c7
    refine fw_iconst (v := 0) dX16_done_16 (by decide) ?_
    exact fw_ireturn dX16_done_17 rfl (by decide +kernel) ⟨_, rfl, h⟩
  · have h := fw_if h c7
    refine fw_iconst (v := 1) dX16_done_12 (by decide) ?_
    refine fw_goto (tgt := 17) dX16_done_13 (by decide) ?_
    exact fw_ireturn dX16_done_17 rfl (by decide +kernel) ⟨_, rfl, h⟩
def p_Line_done (r v : Nat) (μ : fw_M) (P : Int32 → fw_M → Prop) : Prop := if m_K μ r = 18 then p_X17_done r v μ P else if m_K μ r = 19 then p_X18_done r v μ P else if m_K μ r = 16 then p_X15_done r v μ P else if m_K μ r = 17 then p_X16_done r v μ P else False
theorem w_Line_done {g : fw_G} {f r v : Nat} {μ : fw_M} {P : Int32 → fw_M → Prop} (hf : 806 ≤ f) (h : p_Line_done r v μ P) : fw_D_Line_done g f r v μ P := by
  unfold p_Line_done at h
  by_cases c0 : m_K μ r = 18
  · exact Or.inl ⟨c0, w_X17_done (by omega) c0 (fw_it h c0)⟩
  have h := fw_if h c0
  by_cases c1 : m_K μ r = 19
  · exact Or.inr (Or.inl ⟨c1, w_X18_done (by omega) c1 (fw_it h c1)⟩)
  have h := fw_if h c1
  by_cases c2 : m_K μ r = 16
  · exact Or.inr (Or.inr (Or.inl ⟨c2, w_X15_done (by omega) c2 (fw_it h c2)⟩))
  have h := fw_if h c2
  by_cases c3 : m_K μ r = 17
  · exact Or.inr (Or.inr (Or.inr (⟨c3, w_X16_done (by omega) c3 (fw_it h c3)⟩)))
  have h := fw_if h c3
  exact h.elim
abbrev K_J8_bitCount : fw_Kt := (RJ8, "bitCount", cJ8_bitCount, 1, some .int, [])
def p_J8_bitCount (i0 : Int32) (μ : fw_M) (Q : Int32 → fw_M → Prop) : Prop :=
  (∀ i0_1 : Int32, i0_1 = (i0 - ((i0.toUInt32 >>> ((1 : Int32).toUInt32 &&& Int32.toUInt32 31)).toInt32 &&& (1431655765 : Int32))) →
  (∀ i0_3 : Int32, i0_3 = ((i0_1 &&& (858993459 : Int32)) + ((i0_1.toUInt32 >>> ((2 : Int32).toUInt32 &&& Int32.toUInt32 31)).toInt32 &&& (858993459 : Int32))) →
  (∀ i0_5 : Int32, i0_5 = ((i0_3 + (i0_3.toUInt32 >>> ((4 : Int32).toUInt32 &&& Int32.toUInt32 31)).toInt32) &&& (252645135 : Int32)) →
  (∀ i0_7 : Int32, i0_7 = (i0_5 + (i0_5.toUInt32 >>> ((8 : Int32).toUInt32 &&& Int32.toUInt32 31)).toInt32) →
  (∀ i0_9 : Int32, i0_9 = (i0_7 + (i0_7.toUInt32 >>> ((16 : Int32).toUInt32 &&& Int32.toUInt32 31)).toInt32) →
  Q (i0_9 &&& (63 : Int32)) μ)))))
set_option maxHeartbeats 4000000 in
theorem w_J8_bitCount {g : fw_G} {f bc bs : Nat} {i0 : Int32} {μ : fw_M} {Q : Int32 → fw_M → Prop} (hf : 1 ≤ f) (h : p_J8_bitCount i0 μ Q) : fw_C g f bc bs yJ8_bitCount (ws_ yJ8_bitCount cJ8_bitCount 1 (some .int)) [Value.int i0] μ (fw_Qi Q) fw_nX := by
  unfold p_J8_bitCount at h
  refine fw_intro' (Ls := [(0, Value.int i0)]) (by decide +kernel) (by simp [lg_sl, fw_cat, fw_ci, fw_clo]) (by simp [lv_args, fw_cat, fw_ci, fw_clo]) ?_
  show fw_V g K_J8_bitCount f bc bs 0 [(0, Value.int i0)] [] μ (fw_Qi Q) fw_nX
  refine fw_iload_n dJ8_bitCount_0 rfl rfl ?_
  refine fw_iload_n dJ8_bitCount_1 rfl rfl ?_
  refine fw_iconst (v := 1) dJ8_bitCount_2 (by decide) ?_
  refine fw_iushr dJ8_bitCount_3 ?_
  refine fw_ldcw q922 dJ8_bitCount_4 ?_
  refine fw_iand dJ8_bitCount_7 ?_
  refine fw_isub dJ8_bitCount_8 ?_
  refine fw_topi (fun i0_1 e2 => ?_)
  have h := h i0_1 e2
  refine fw_istore_n (Ls' := [(0, Value.int i0_1)]) [] dJ8_bitCount_9 rfl (by decide) rfl rfl ?_
  refine fw_iload_n dJ8_bitCount_10 rfl rfl ?_
  refine fw_ldcw q923 dJ8_bitCount_11 ?_
  refine fw_iand dJ8_bitCount_14 ?_
  refine fw_iload_n dJ8_bitCount_15 rfl rfl ?_
  refine fw_iconst (v := 2) dJ8_bitCount_16 (by decide) ?_
  refine fw_iushr dJ8_bitCount_17 ?_
  refine fw_ldcw q923 dJ8_bitCount_18 ?_
  refine fw_iand dJ8_bitCount_21 ?_
  refine fw_iadd dJ8_bitCount_22 ?_
  refine fw_topi (fun i0_3 e4 => ?_)
  have h := h i0_3 e4
  refine fw_istore_n (Ls' := [(0, Value.int i0_3)]) [] dJ8_bitCount_23 rfl (by decide) rfl rfl ?_
  refine fw_iload_n dJ8_bitCount_24 rfl rfl ?_
  refine fw_iload_n dJ8_bitCount_25 rfl rfl ?_
  refine fw_iconst (v := 4) dJ8_bitCount_26 (by decide) ?_
  refine fw_iushr dJ8_bitCount_27 ?_
  refine fw_iadd dJ8_bitCount_28 ?_
  refine fw_ldcw q924 dJ8_bitCount_29 ?_
  refine fw_iand dJ8_bitCount_32 ?_
  refine fw_topi (fun i0_5 e6 => ?_)
  have h := h i0_5 e6
  refine fw_istore_n (Ls' := [(0, Value.int i0_5)]) [] dJ8_bitCount_33 rfl (by decide) rfl rfl ?_
  refine fw_iload_n dJ8_bitCount_34 rfl rfl ?_
  refine fw_iload_n dJ8_bitCount_35 rfl rfl ?_
  refine fw_bipush (v := 8) dJ8_bitCount_36 (by decide) ?_
  refine fw_iushr dJ8_bitCount_38 ?_
  refine fw_iadd dJ8_bitCount_39 ?_
  refine fw_topi (fun i0_7 e8 => ?_)
  have h := h i0_7 e8
  refine fw_istore_n (Ls' := [(0, Value.int i0_7)]) [] dJ8_bitCount_40 rfl (by decide) rfl rfl ?_
  refine fw_iload_n dJ8_bitCount_41 rfl rfl ?_
  refine fw_iload_n dJ8_bitCount_42 rfl rfl ?_
  refine fw_bipush (v := 16) dJ8_bitCount_43 (by decide) ?_
  refine fw_iushr dJ8_bitCount_45 ?_
  refine fw_iadd dJ8_bitCount_46 ?_
  refine fw_topi (fun i0_9 e10 => ?_)
  have h := h i0_9 e10
  refine fw_istore_n (Ls' := [(0, Value.int i0_9)]) [] dJ8_bitCount_47 rfl (by decide) rfl rfl ?_
  refine fw_iload_n dJ8_bitCount_48 rfl rfl ?_
  refine fw_bipush (v := 63) dJ8_bitCount_49 (by decide) ?_
  refine fw_iand dJ8_bitCount_51 ?_
  exact fw_ireturn dJ8_bitCount_52 rfl rfl ⟨_, rfl, h⟩
abbrev K_J8_compare : fw_Kt := (RJ8, "compare", cJ8_compare, 2, some .int, [])
def p_J8_compare (i0 : Int32) (i1 : Int32) (μ : fw_M) (Q : Int32 → fw_M → Prop) : Prop :=
  (if i1 ≤ i0 then
  ((if i0 = i1 then
   (Q (0 : Int32) μ)
   else
   (Q (1 : Int32) μ)))
  else
  (Q (-1 : Int32) μ))
set_option maxHeartbeats 4000000 in
theorem w_J8_compare {g : fw_G} {f bc bs : Nat} {i0 : Int32} {i1 : Int32} {μ : fw_M} {Q : Int32 → fw_M → Prop} (hf : 1 ≤ f) (h : p_J8_compare i0 i1 μ Q) : fw_C g f bc bs yJ8_compare (ws_ yJ8_compare cJ8_compare 2 (some .int)) [Value.int i0, Value.int i1] μ (fw_Qi Q) fw_nX := by
  unfold p_J8_compare at h
  refine fw_intro' (Ls := [(0, Value.int i0), (1, Value.int i1)]) (by decide +kernel) (by simp [lg_sl, fw_cat, fw_ci, fw_clo]) (by simp [lv_args, fw_cat, fw_ci, fw_clo]) ?_
  show fw_V g K_J8_compare f bc bs 0 [(0, Value.int i0), (1, Value.int i1)] [] μ (fw_Qi Q) fw_nX
  refine fw_iload_n dJ8_compare_0 rfl rfl ?_
  refine fw_iload_n dJ8_compare_1 rfl rfl ?_
  refine fw_icmp_ge (tgt := 9) dJ8_compare_2 (by decide) (fun c1 => ?_) (fun c1 => ?_)
  · have h := fw_it h c1
    refine fw_iload_n dJ8_compare_9 rfl rfl ?_
    refine fw_iload_n dJ8_compare_10 rfl rfl ?_
    refine fw_icmp_ne (tgt := 18) dJ8_compare_11 (by decide) (fun c2 => ?_) (fun c2 => ?_)
    · have h := fw_if h c2
      refine fw_iconst (v := 1) dJ8_compare_18 (by decide) ?_
      exact fw_ireturn dJ8_compare_19 rfl rfl ⟨_, rfl, h⟩
    · have h := fw_it h c2
      refine fw_iconst (v := 0) dJ8_compare_14 (by decide) ?_
      refine fw_goto (tgt := 19) dJ8_compare_15 (by decide) ?_
      exact fw_ireturn dJ8_compare_19 rfl rfl ⟨_, rfl, h⟩
  · have h := fw_if h c1
    refine fw_iconst (v := -1) dJ8_compare_5 (by decide) ?_
    refine fw_goto (tgt := 19) dJ8_compare_6 (by decide) ?_
    exact fw_ireturn dJ8_compare_19 rfl rfl ⟨_, rfl, h⟩
abbrev K_J9_copyOf : fw_Kt := (RJ9, "copyOf", cJ9_copyOf, 3, some (.array .int), [])
def p_J9_copyOf (bc : Nat) (bs : Nat) (r0 : Nat) (i1 : Int32) (μ : fw_M) (Q : Nat → fw_M → Prop) : Prop :=
  (m_K μ r0 = 100 ∧ (if i1 = (Int32.ofNat (m_N μ r0)) then
  (False)
  else
  ((¬ i1 < 0 ∧ (i1.toNatClampNeg ≤ 60000 ∧ (1 ≤ bc ∧ (i1.toNatClampNeg ≤ bs ∧ (∀ rn7 : Nat, rn7 = m_x μ →
   (∀ μ10, μ10 = m_al μ 100 i1.toNatClampNeg →
   (p_J0_min_2 (Int32.ofNat (m_N μ10 r0)) i1 μ10 (fun v13 μ14 =>
   (¬ (0 : Int32) < 0 ∧ (¬ (0 : Int32) < 0 ∧ (¬ v13 < 0 ∧ ((0 : Int32).toNatClampNeg + v13.toNatClampNeg ≤ m_N μ14 r0 ∧ ((0 : Int32).toNatClampNeg + v13.toNatClampNeg ≤ m_N μ14 rn7 ∧ (∀ μ23, μ23 = m_cp μ14 r0 (0 : Int32).toNatClampNeg rn7 (0 : Int32).toNatClampNeg v13.toNatClampNeg →
   Q rn7 μ23)))))))))))))))))
set_option maxHeartbeats 4000000 in
theorem w_J9_copyOf {g : fw_G} {f bc bs : Nat} {r0 : Nat} {i1 : Int32} {μ : fw_M} {Q : Nat → fw_M → Prop} (hf : 2 ≤ f) (h : p_J9_copyOf bc bs r0 i1 μ Q) : fw_C g f bc bs yJ9_copyOf (ws_ yJ9_copyOf cJ9_copyOf 3 (some (.array .int))) [fw_rv g r0, Value.int i1] μ (fw_Qr g Q) fw_nX := by
  unfold p_J9_copyOf at h
  refine fw_intro' (Ls := [(0, fw_rv g r0), (1, Value.int i1)]) (by decide +kernel) (by simp [lg_sl, fw_cat, fw_ci, fw_clo]) (by simp [lv_args, fw_cat, fw_ci, fw_clo]) ?_
  show fw_V g K_J9_copyOf f bc bs 0 [(0, fw_rv g r0), (1, Value.int i1)] [] μ (fw_Qr g Q) fw_nX
  refine fw_iload_n dJ9_copyOf_0 rfl rfl ?_
  refine fw_aload_n dJ9_copyOf_1 rfl rfl ?_
  obtain ⟨hg1, h⟩ := h
  refine fw_alen hg1 rfl dJ9_copyOf_2 ?_
  refine fw_icmp_ne (tgt := 14) dJ9_copyOf_3 (by decide) (fun c2 => ?_) (fun c2 => ?_)
  · have h := fw_if h c2
    refine fw_iload_n dJ9_copyOf_14 rfl rfl ?_
    refine fw_x (fun hX => ?_)
    obtain ⟨hc3, h⟩ := h
    obtain ⟨hc4, h⟩ := h
    obtain ⟨hc5, h⟩ := h
    obtain ⟨hc6, h⟩ := h
    refine fw_newa (k := 100) rfl rfl q183 hc3 (by show _ * 4 ≤ _; omega) hc5 hc6 dJ9_copyOf_15 ?_
    refine fw_topr (fun rn7 e8 => ?_)
    have h := h rn7 e8
    refine fw_topm (fun μ10 e11 => ?_)
    have hg12 := fw_al_sE e11 hg1 (by decide) hX
    have hg9 := fw_al_KE e11 e8
    have h := h μ10 e11
    refine fw_astore_nN (Ls' := [(2, fw_rv g rn7), (1, Value.int i1), (0, fw_rv g r0)]) [0] dJ9_copyOf_17 rfl (by decide) rfl rfl rfl rfl rfl ?_
    refine fw_aload_n dJ9_copyOf_18 rfl rfl ?_
    refine fw_iconst (v := 0) dJ9_copyOf_19 (by decide) ?_
    refine fw_aload_n dJ9_copyOf_20 rfl rfl ?_
    refine fw_iconst (v := 0) dJ9_copyOf_21 (by decide) ?_
    refine fw_aload_n dJ9_copyOf_22 rfl rfl ?_
    refine fw_alen hg12 rfl dJ9_copyOf_23 ?_
    refine fw_iload_n dJ9_copyOf_24 rfl rfl ?_
    refine fw_callS2z (f1 := f - 1) cl_J9_304 (by decide) (by omega) (fw_s4 (Nat.le_of_ble_eq_true rfl)) dJ9_copyOf_25 (w_J0_min_2 (f := f - 1) (by omega) h) (fun _ _ h9 _ _ => h9.elim) (fun v9 μ14 q9 hs15 => ?_)
    obtain ⟨v13, rfl, h⟩ := q9
    refine fw_ti ?_
    have hg16 := hs15.K hg12 (by decide)
    have hg17 := hs15.K hg9 (by decide)
    obtain ⟨hc18, h⟩ := h
    obtain ⟨hc19, h⟩ := h
    obtain ⟨hc20, h⟩ := h
    obtain ⟨hc21, h⟩ := h
    obtain ⟨hc22, h⟩ := h
    refine fw_copy q997 q311 q310 q80 hg16 hg17 hc18 hc19 hc20 hc21 hc22 (by omega) (fw_s4 (Nat.le_of_ble_eq_true rfl)) dJ9_copyOf_28 ?_
    have h := h _ rfl
    refine fw_aload_n dJ9_copyOf_31 rfl rfl ?_
    exact fw_areturn dJ9_copyOf_32 rfl (by first | exact Or.inl ⟨_, rfl⟩ | exact Or.inr ⟨_, rfl⟩) ⟨_, rfl, h⟩
  · have h := fw_it h c2
    refine fw_aload_n dJ9_copyOf_6 rfl rfl ?_
    exact h.elim
abbrev K_X1_init : fw_Kt := (RX1, "<init>", cX1_init, 1, none, [])
def p_X1_init (bc : Nat) (bs : Nat) (r0 : Nat) (μ : fw_M) (Q : fw_M → Prop) : Prop :=
  (∀ μ1, μ1 = m_uI μ r0 2 (-1 : Int32) →
  (¬ (9 : Int32) < 0 ∧ ((9 : Int32).toNatClampNeg ≤ 60000 ∧ (1 ≤ bc ∧ ((9 : Int32).toNatClampNeg ≤ bs ∧ (∀ rn6 : Nat, rn6 = m_x μ1 →
  (∀ μ9, μ9 = m_al μ1 100 (9 : Int32).toNatClampNeg →
  (∀ μ12, μ12 = m_uP μ9 r0 6 rn6 →
  (¬ (9 : Int32) < 0 ∧ ((9 : Int32).toNatClampNeg ≤ 60000 ∧ (1 ≤ (bc - 1) ∧ ((9 : Int32).toNatClampNeg ≤ (bs - (9 : Int32).toNatClampNeg) ∧ (∀ rn17 : Nat, rn17 = m_x μ12 →
  (∀ μ20, μ20 = m_al μ12 100 (9 : Int32).toNatClampNeg →
  (∀ μ23, μ23 = m_uP μ20 r0 7 rn17 →
  (¬ (9 : Int32) < 0 ∧ ((9 : Int32).toNatClampNeg ≤ 60000 ∧ (1 ≤ ((bc - 1) - 1) ∧ ((9 : Int32).toNatClampNeg ≤ ((bs - (9 : Int32).toNatClampNeg) - (9 : Int32).toNatClampNeg) ∧ (∀ rn28 : Nat, rn28 = m_x μ23 →
  (∀ μ31, μ31 = m_al μ23 100 (9 : Int32).toNatClampNeg →
  (∀ μ34, μ34 = m_uP μ31 r0 8 rn28 →
  (¬ (25 : Int32) < 0 ∧ ((25 : Int32).toNatClampNeg ≤ 60000 ∧ (1 ≤ (((bc - 1) - 1) - 1) ∧ ((25 : Int32).toNatClampNeg ≤ (((bs - (9 : Int32).toNatClampNeg) - (9 : Int32).toNatClampNeg) - (9 : Int32).toNatClampNeg) ∧ (∀ rn39 : Nat, rn39 = m_x μ34 →
  (∀ μ42, μ42 = m_al μ34 100 (25 : Int32).toNatClampNeg →
  (∀ μ45, μ45 = m_uP μ42 r0 9 rn39 →
  (¬ (30 : Int32) < 0 ∧ ((30 : Int32).toNatClampNeg ≤ 60000 ∧ (1 ≤ ((((bc - 1) - 1) - 1) - 1) ∧ ((30 : Int32).toNatClampNeg ≤ ((((bs - (9 : Int32).toNatClampNeg) - (9 : Int32).toNatClampNeg) - (9 : Int32).toNatClampNeg) - (25 : Int32).toNatClampNeg) ∧ (∀ rn50 : Nat, rn50 = m_x μ45 →
  (∀ μ53, μ53 = m_al μ45 100 (30 : Int32).toNatClampNeg →
  (∀ μ56, μ56 = m_uP μ53 r0 10 rn50 →
  (¬ (30 : Int32) < 0 ∧ (¬ (25 : Int32) < 0 ∧ ((30 : Int32).toNatClampNeg ≤ 1000 ∧ ((25 : Int32).toNatClampNeg ≤ 1000 ∧ (1 + (30 : Int32).toNatClampNeg ≤ (((((bc - 1) - 1) - 1) - 1) - 1) ∧ ((30 : Int32).toNatClampNeg + (30 : Int32).toNatClampNeg * (25 : Int32).toNatClampNeg ≤ (((((bs - (9 : Int32).toNatClampNeg) - (9 : Int32).toNatClampNeg) - (9 : Int32).toNatClampNeg) - (25 : Int32).toNatClampNeg) - (30 : Int32).toNatClampNeg) ∧ (∀ rn63 : Nat, rn63 = m_x μ56 →
  (∀ μ66, μ66 = m_al2 μ56 103 100 (30 : Int32).toNatClampNeg (25 : Int32).toNatClampNeg →
  (∀ μ69, μ69 = m_uP μ66 r0 11 rn63 →
  (¬ (60 : Int32) < 0 ∧ (¬ (4 : Int32) < 0 ∧ ((60 : Int32).toNatClampNeg ≤ 1000 ∧ ((4 : Int32).toNatClampNeg ≤ 1000 ∧ (1 + (60 : Int32).toNatClampNeg ≤ ((((((bc - 1) - 1) - 1) - 1) - 1) - (1 + (30 : Int32).toNatClampNeg)) ∧ ((60 : Int32).toNatClampNeg + (60 : Int32).toNatClampNeg * (4 : Int32).toNatClampNeg ≤ ((((((bs - (9 : Int32).toNatClampNeg) - (9 : Int32).toNatClampNeg) - (9 : Int32).toNatClampNeg) - (25 : Int32).toNatClampNeg) - (30 : Int32).toNatClampNeg) - ((30 : Int32).toNatClampNeg + (30 : Int32).toNatClampNeg * (25 : Int32).toNatClampNeg)) ∧ (∀ rn76 : Nat, rn76 = m_x μ69 →
  (∀ μ79, μ79 = m_al2 μ69 103 100 (60 : Int32).toNatClampNeg (4 : Int32).toNatClampNeg →
  (∀ μ82, μ82 = m_uP μ79 r0 12 rn76 →
  (¬ (30 : Int32) < 0 ∧ (¬ (3 : Int32) < 0 ∧ ((30 : Int32).toNatClampNeg ≤ 1000 ∧ ((3 : Int32).toNatClampNeg ≤ 1000 ∧ (1 + (30 : Int32).toNatClampNeg ≤ (((((((bc - 1) - 1) - 1) - 1) - 1) - (1 + (30 : Int32).toNatClampNeg)) - (1 + (60 : Int32).toNatClampNeg)) ∧ ((30 : Int32).toNatClampNeg + (30 : Int32).toNatClampNeg * (3 : Int32).toNatClampNeg ≤ (((((((bs - (9 : Int32).toNatClampNeg) - (9 : Int32).toNatClampNeg) - (9 : Int32).toNatClampNeg) - (25 : Int32).toNatClampNeg) - (30 : Int32).toNatClampNeg) - ((30 : Int32).toNatClampNeg + (30 : Int32).toNatClampNeg * (25 : Int32).toNatClampNeg)) - ((60 : Int32).toNatClampNeg + (60 : Int32).toNatClampNeg * (4 : Int32).toNatClampNeg)) ∧ (∀ rn89 : Nat, rn89 = m_x μ82 →
  (∀ μ92, μ92 = m_al2 μ82 103 100 (30 : Int32).toNatClampNeg (3 : Int32).toNatClampNeg →
  (∀ μ95, μ95 = m_uP μ92 r0 13 rn89 →
  (¬ (12 : Int32) < 0 ∧ (¬ (2 : Int32) < 0 ∧ ((12 : Int32).toNatClampNeg ≤ 1000 ∧ ((2 : Int32).toNatClampNeg ≤ 1000 ∧ (1 + (12 : Int32).toNatClampNeg ≤ ((((((((bc - 1) - 1) - 1) - 1) - 1) - (1 + (30 : Int32).toNatClampNeg)) - (1 + (60 : Int32).toNatClampNeg)) - (1 + (30 : Int32).toNatClampNeg)) ∧ ((12 : Int32).toNatClampNeg + (12 : Int32).toNatClampNeg * (2 : Int32).toNatClampNeg ≤ ((((((((bs - (9 : Int32).toNatClampNeg) - (9 : Int32).toNatClampNeg) - (9 : Int32).toNatClampNeg) - (25 : Int32).toNatClampNeg) - (30 : Int32).toNatClampNeg) - ((30 : Int32).toNatClampNeg + (30 : Int32).toNatClampNeg * (25 : Int32).toNatClampNeg)) - ((60 : Int32).toNatClampNeg + (60 : Int32).toNatClampNeg * (4 : Int32).toNatClampNeg)) - ((30 : Int32).toNatClampNeg + (30 : Int32).toNatClampNeg * (3 : Int32).toNatClampNeg)) ∧ (∀ rn102 : Nat, rn102 = m_x μ95 →
  (∀ μ105, μ105 = m_al2 μ95 103 100 (12 : Int32).toNatClampNeg (2 : Int32).toNatClampNeg →
  (∀ μ108, μ108 = m_uP μ105 r0 14 rn102 →
  (¬ (20 : Int32) < 0 ∧ (¬ (2 : Int32) < 0 ∧ ((20 : Int32).toNatClampNeg ≤ 1000 ∧ ((2 : Int32).toNatClampNeg ≤ 1000 ∧ (1 + (20 : Int32).toNatClampNeg ≤ (((((((((bc - 1) - 1) - 1) - 1) - 1) - (1 + (30 : Int32).toNatClampNeg)) - (1 + (60 : Int32).toNatClampNeg)) - (1 + (30 : Int32).toNatClampNeg)) - (1 + (12 : Int32).toNatClampNeg)) ∧ ((20 : Int32).toNatClampNeg + (20 : Int32).toNatClampNeg * (2 : Int32).toNatClampNeg ≤ (((((((((bs - (9 : Int32).toNatClampNeg) - (9 : Int32).toNatClampNeg) - (9 : Int32).toNatClampNeg) - (25 : Int32).toNatClampNeg) - (30 : Int32).toNatClampNeg) - ((30 : Int32).toNatClampNeg + (30 : Int32).toNatClampNeg * (25 : Int32).toNatClampNeg)) - ((60 : Int32).toNatClampNeg + (60 : Int32).toNatClampNeg * (4 : Int32).toNatClampNeg)) - ((30 : Int32).toNatClampNeg + (30 : Int32).toNatClampNeg * (3 : Int32).toNatClampNeg)) - ((12 : Int32).toNatClampNeg + (12 : Int32).toNatClampNeg * (2 : Int32).toNatClampNeg)) ∧ (∀ rn115 : Nat, rn115 = m_x μ108 →
  (∀ μ118, μ118 = m_al2 μ108 103 100 (20 : Int32).toNatClampNeg (2 : Int32).toNatClampNeg →
  (∀ μ121, μ121 = m_uP μ118 r0 15 rn115 →
  (m_K μ121 (m_P μ121 r0 9) = 100 ∧ (vp_in (22 : Int32) (m_N μ121 (m_P μ121 r0 9)) ∧ (∀ μ124, μ124 = m_uI μ121 (m_P μ121 r0 9) (22 : Int32).toNatClampNeg (3 : Int32) →
  Q μ124))))))))))))))))))))))))))))))))))))))))))))))))))))))))))))))))))))))))))))))))))))
set_option maxHeartbeats 4000000 in
theorem w_X1_init {g : fw_G} {f bc bs : Nat} {r0 : Nat} {μ : fw_M} {Q : fw_M → Prop} (hf : 1 ≤ f) (hx : m_K μ r0 = 2) (h : p_X1_init bc bs r0 μ Q) : fw_C g f bc bs yX1_init (ws_ yX1_init cX1_init 1 (none)) [fw_rv g r0] μ (fw_Qv Q) fw_nX := by
  unfold p_X1_init at h
  refine fw_intro' (Ls := [(0, fw_rv g r0)]) (by decide +kernel) (by simp [lg_sl, fw_cat, fw_ci, fw_clo]) (by simp [lv_args, fw_cat, fw_ci, fw_clo]) ?_
  show fw_V g K_X1_init f bc bs 0 [(0, fw_rv g r0)] [] μ (fw_Qv Q) fw_nX
  refine fw_aload_n dX1_init_0 rfl rfl ?_
  refine fw_objInit (k := 2) rfl hx q117 q110 q111 (by omega) (fw_s4 (Nat.le_of_ble_eq_true rfl)) dX1_init_1 ?_
  refine fw_aload_n dX1_init_4 rfl rfl ?_
  refine fw_iconst (v := -1) dX1_init_5 (by decide) ?_
  refine fw_putfI fl_X1_9 (fun q hq => Or.inl (by cases hq; rfl)) rfl hx dX1_init_6 ?_
  have h := h _ rfl
  refine fw_aload_n dX1_init_9 rfl rfl ?_
  refine fw_bipush (v := 9) dX1_init_10 (by decide) ?_
  refine fw_x (fun hX => ?_)
  obtain ⟨hc2, h⟩ := h
  obtain ⟨hc3, h⟩ := h
  obtain ⟨hc4, h⟩ := h
  obtain ⟨hc5, h⟩ := h
  refine fw_newa (k := 100) rfl rfl q183 hc2 (by show _ * 4 ≤ _; omega) hc4 hc5 dX1_init_12 ?_
  refine fw_topr (fun rn6 e7 => ?_)
  have h := h rn6 e7
  refine fw_topm (fun μ9 e10 => ?_)
  have hg11 := fw_al_sE e10 hx (by decide) hX
  have hg8 := fw_al_KE e10 e7
  have h := h μ9 e10
  refine fw_putfP fl_X1_15 (fun q hq => Or.inr ⟨rfl, by cases hq; rfl⟩) rfl hg11 dX1_init_14 ?_
  have h := h _ rfl
  refine fw_aload_n dX1_init_17 rfl rfl ?_
  refine fw_bipush (v := 9) dX1_init_18 (by decide) ?_
  refine fw_x (fun hX => ?_)
  obtain ⟨hc13, h⟩ := h
  obtain ⟨hc14, h⟩ := h
  obtain ⟨hc15, h⟩ := h
  obtain ⟨hc16, h⟩ := h
  refine fw_newa (k := 100) rfl rfl q183 hc13 (by show _ * 4 ≤ _; omega) hc15 hc16 dX1_init_20 ?_
  refine fw_topr (fun rn17 e18 => ?_)
  have h := h rn17 e18
  refine fw_topm (fun μ20 e21 => ?_)
  have hg22 := fw_al_sE e21 hg11 (by decide) hX
  have hg19 := fw_al_KE e21 e18
  have h := h μ20 e21
  refine fw_putfP fl_X1_19 (fun q hq => Or.inr ⟨rfl, by cases hq; rfl⟩) rfl hg22 dX1_init_22 ?_
  have h := h _ rfl
  refine fw_aload_n dX1_init_25 rfl rfl ?_
  refine fw_bipush (v := 9) dX1_init_26 (by decide) ?_
  refine fw_x (fun hX => ?_)
  obtain ⟨hc24, h⟩ := h
  obtain ⟨hc25, h⟩ := h
  obtain ⟨hc26, h⟩ := h
  obtain ⟨hc27, h⟩ := h
  refine fw_newa (k := 100) rfl rfl q183 hc24 (by show _ * 4 ≤ _; omega) hc26 hc27 dX1_init_28 ?_
  refine fw_topr (fun rn28 e29 => ?_)
  have h := h rn28 e29
  refine fw_topm (fun μ31 e32 => ?_)
  have hg33 := fw_al_sE e32 hg22 (by decide) hX
  have hg30 := fw_al_KE e32 e29
  have h := h μ31 e32
  refine fw_putfP fl_X1_22 (fun q hq => Or.inr ⟨rfl, by cases hq; rfl⟩) rfl hg33 dX1_init_30 ?_
  have h := h _ rfl
  refine fw_aload_n dX1_init_33 rfl rfl ?_
  refine fw_bipush (v := 25) dX1_init_34 (by decide) ?_
  refine fw_x (fun hX => ?_)
  obtain ⟨hc35, h⟩ := h
  obtain ⟨hc36, h⟩ := h
  obtain ⟨hc37, h⟩ := h
  obtain ⟨hc38, h⟩ := h
  refine fw_newa (k := 100) rfl rfl q183 hc35 (by show _ * 4 ≤ _; omega) hc37 hc38 dX1_init_36 ?_
  refine fw_topr (fun rn39 e40 => ?_)
  have h := h rn39 e40
  refine fw_topm (fun μ42 e43 => ?_)
  have hg44 := fw_al_sE e43 hg33 (by decide) hX
  have hg41 := fw_al_KE e43 e40
  have h := h μ42 e43
  refine fw_putfP fl_X1_25 (fun q hq => Or.inr ⟨rfl, by cases hq; rfl⟩) rfl hg44 dX1_init_38 ?_
  have h := h _ rfl
  refine fw_aload_n dX1_init_41 rfl rfl ?_
  refine fw_bipush (v := 30) dX1_init_42 (by decide) ?_
  refine fw_x (fun hX => ?_)
  obtain ⟨hc46, h⟩ := h
  obtain ⟨hc47, h⟩ := h
  obtain ⟨hc48, h⟩ := h
  obtain ⟨hc49, h⟩ := h
  refine fw_newa (k := 100) rfl rfl q183 hc46 (by show _ * 4 ≤ _; omega) hc48 hc49 dX1_init_44 ?_
  refine fw_topr (fun rn50 e51 => ?_)
  have h := h rn50 e51
  refine fw_topm (fun μ53 e54 => ?_)
  have hg55 := fw_al_sE e54 hg44 (by decide) hX
  have hg52 := fw_al_KE e54 e51
  have h := h μ53 e54
  refine fw_putfP fl_X1_28 (fun q hq => Or.inr ⟨rfl, by cases hq; rfl⟩) rfl hg55 dX1_init_46 ?_
  have h := h _ rfl
  refine fw_aload_n dX1_init_49 rfl rfl ?_
  refine fw_bipush (v := 30) dX1_init_50 (by decide) ?_
  refine fw_bipush (v := 25) dX1_init_52 (by decide) ?_
  refine fw_x (fun hX => ?_)
  obtain ⟨hc57, h⟩ := h
  obtain ⟨hc58, h⟩ := h
  obtain ⟨hc59, h⟩ := h
  obtain ⟨hc60, h⟩ := h
  obtain ⟨hc61, h⟩ := h
  obtain ⟨hc62, h⟩ := h
  refine fw_newm q118 q183 hc57 hc58 hc59 hc60 hc61 hc62 dX1_init_54 ?_
  refine fw_topr (fun rn63 e64 => ?_)
  have h := h rn63 e64
  refine fw_topm (fun μ66 e67 => ?_)
  have hg68 := fw_al2_sE e67 hg55 (by decide) hX
  have hg65 := fw_al2_KE e67 e64
  have h := h μ66 e67
  refine fw_putfP fl_X1_33 (fun q hq => Or.inr ⟨rfl, by cases hq; rfl⟩) rfl hg68 dX1_init_58 ?_
  have h := h _ rfl
  refine fw_aload_n dX1_init_61 rfl rfl ?_
  refine fw_bipush (v := 60) dX1_init_62 (by decide) ?_
  refine fw_iconst (v := 4) dX1_init_64 (by decide) ?_
  refine fw_x (fun hX => ?_)
  obtain ⟨hc70, h⟩ := h
  obtain ⟨hc71, h⟩ := h
  obtain ⟨hc72, h⟩ := h
  obtain ⟨hc73, h⟩ := h
  obtain ⟨hc74, h⟩ := h
  obtain ⟨hc75, h⟩ := h
  refine fw_newm q118 q183 hc70 hc71 hc72 hc73 hc74 hc75 dX1_init_65 ?_
  refine fw_topr (fun rn76 e77 => ?_)
  have h := h rn76 e77
  refine fw_topm (fun μ79 e80 => ?_)
  have hg81 := fw_al2_sE e80 hg68 (by decide) hX
  have hg78 := fw_al2_KE e80 e77
  have h := h μ79 e80
  refine fw_putfP fl_X1_36 (fun q hq => Or.inr ⟨rfl, by cases hq; rfl⟩) rfl hg81 dX1_init_69 ?_
  have h := h _ rfl
  refine fw_aload_n dX1_init_72 rfl rfl ?_
  refine fw_bipush (v := 30) dX1_init_73 (by decide) ?_
  refine fw_iconst (v := 3) dX1_init_75 (by decide) ?_
  refine fw_x (fun hX => ?_)
  obtain ⟨hc83, h⟩ := h
  obtain ⟨hc84, h⟩ := h
  obtain ⟨hc85, h⟩ := h
  obtain ⟨hc86, h⟩ := h
  obtain ⟨hc87, h⟩ := h
  obtain ⟨hc88, h⟩ := h
  refine fw_newm q118 q183 hc83 hc84 hc85 hc86 hc87 hc88 dX1_init_76 ?_
  refine fw_topr (fun rn89 e90 => ?_)
  have h := h rn89 e90
  refine fw_topm (fun μ92 e93 => ?_)
  have hg94 := fw_al2_sE e93 hg81 (by decide) hX
  have hg91 := fw_al2_KE e93 e90
  have h := h μ92 e93
  refine fw_putfP fl_X1_39 (fun q hq => Or.inr ⟨rfl, by cases hq; rfl⟩) rfl hg94 dX1_init_80 ?_
  have h := h _ rfl
  refine fw_aload_n dX1_init_83 rfl rfl ?_
  refine fw_bipush (v := 12) dX1_init_84 (by decide) ?_
  refine fw_iconst (v := 2) dX1_init_86 (by decide) ?_
  refine fw_x (fun hX => ?_)
  obtain ⟨hc96, h⟩ := h
  obtain ⟨hc97, h⟩ := h
  obtain ⟨hc98, h⟩ := h
  obtain ⟨hc99, h⟩ := h
  obtain ⟨hc100, h⟩ := h
  obtain ⟨hc101, h⟩ := h
  refine fw_newm q118 q183 hc96 hc97 hc98 hc99 hc100 hc101 dX1_init_87 ?_
  refine fw_topr (fun rn102 e103 => ?_)
  have h := h rn102 e103
  refine fw_topm (fun μ105 e106 => ?_)
  have hg107 := fw_al2_sE e106 hg94 (by decide) hX
  have hg104 := fw_al2_KE e106 e103
  have h := h μ105 e106
  refine fw_putfP fl_X1_42 (fun q hq => Or.inr ⟨rfl, by cases hq; rfl⟩) rfl hg107 dX1_init_91 ?_
  have h := h _ rfl
  refine fw_aload_n dX1_init_94 rfl rfl ?_
  refine fw_bipush (v := 20) dX1_init_95 (by decide) ?_
  refine fw_iconst (v := 2) dX1_init_97 (by decide) ?_
  refine fw_x (fun hX => ?_)
  obtain ⟨hc109, h⟩ := h
  obtain ⟨hc110, h⟩ := h
  obtain ⟨hc111, h⟩ := h
  obtain ⟨hc112, h⟩ := h
  obtain ⟨hc113, h⟩ := h
  obtain ⟨hc114, h⟩ := h
  refine fw_newm q118 q183 hc109 hc110 hc111 hc112 hc113 hc114 dX1_init_98 ?_
  refine fw_topr (fun rn115 e116 => ?_)
  have h := h rn115 e116
  refine fw_topm (fun μ118 e119 => ?_)
  have hg120 := fw_al2_sE e119 hg107 (by decide) hX
  have hg117 := fw_al2_KE e119 e116
  have h := h μ118 e119
  refine fw_putfP fl_X1_45 (fun q hq => Or.inr ⟨rfl, by cases hq; rfl⟩) rfl hg120 dX1_init_102 ?_
  have h := h _ rfl
  refine fw_aload_n dX1_init_105 rfl rfl ?_
  refine fw_getfP fl_X1_25 rfl hg120 dX1_init_106 ?_
  refine fw_bipush (v := 22) dX1_init_109 (by decide) ?_
  refine fw_iconst (v := 3) dX1_init_111 (by decide) ?_
  obtain ⟨hg122, h⟩ := h
  obtain ⟨hc123, h⟩ := h
  refine fw_iast hg122 hc123 dX1_init_112 ?_
  have h := h _ rfl
  exact fw_return dX1_init_113 rfl ⟨rfl, h⟩
abbrev K_X1_takeBack : fw_Kt := (RX1, "takeBack", cX1_takeBack, 2, none, [])
def p_X1_takeBack_L36b (r0 : Nat) (k36 : Int32 → fw_M → Prop) (i1 : Int32) (μ : fw_M) (Q : fw_M → Prop) : Prop :=
  (if (m_I μ r0 0) ≤ i1 then
  (Q μ)
  else
  ((m_K μ (m_P μ r0 9) = 100 ∧ (vp_in ((4 : Int32) + i1) (m_N μ (m_P μ r0 9)) ∧ (∀ μ4, μ4 = m_uI μ (m_P μ r0 9) ((4 : Int32) + i1).toNatClampNeg (2 : Int32) →
   (m_K μ4 (m_P μ4 r0 9) = 100 ∧ (vp_in ((13 : Int32) + i1) (m_N μ4 (m_P μ4 r0 9)) ∧ (∀ μ7, μ7 = m_uI μ4 (m_P μ4 r0 9) ((13 : Int32) + i1).toNatClampNeg (0 : Int32) →
   (∀ i1_8 : Int32, i1_8 = i1 + (1 : Int32) →
   k36 i1_8 μ7)))))))))
def p_X1_takeBack_L36 (r0 : Nat) (i1 : Int32) (μ : fw_M) (Q : fw_M → Prop) : Prop := fw_lp (fun (k : Int32 × fw_M → Prop) (a : Int32 × fw_M) => p_X1_takeBack_L36b r0 (fun i1 μ => k (i1, μ)) a.1 a.2 Q) (i1, μ)
theorem r_X1_takeBack_L36 {r0 : Nat} {Q : fw_M → Prop} (I : Int32 → fw_M → Prop) (v : Int32 → fw_M → Nat) (hs : ∀ (k : Int32 → fw_M → Prop) (i1 : Int32) (μ : fw_M), I i1 μ → (∀ (i1' : Int32) (ν : fw_M), I i1' ν → v i1' ν < v i1 μ → k i1' ν) → p_X1_takeBack_L36b r0 k i1 μ Q) (i1 : Int32) (μ : fw_M) (h : I i1 μ) : p_X1_takeBack_L36 r0 i1 μ Q :=
  fw_lp_in (A := Int32 × fw_M) (fun a => I a.1 a.2) (fun a => v a.1 a.2) (fun k a ha hk => hs (fun i1 μ => k (i1, μ)) a.1 a.2 ha (fun i1' ν hb hlt => hk (i1', ν) hb hlt)) (i1, μ) h
set_option maxHeartbeats 4000000 in
theorem w_X1_takeBack_L36b {g : fw_G} {f bc bs : Nat} {r0 : Nat} {k36 : Int32 → fw_M → Prop} {i1 : Int32} {μ : fw_M} {Q : fw_M → Prop} (hf : 2 ≤ f) (hk36 : ∀ {i1 : Int32} {μ : fw_M}, m_K μ r0 = 2 → k36 i1 μ → fw_V g K_X1_takeBack f bc bs 36 [(0, fw_rv g r0), (1, Value.int i1)] [] μ (fw_Qv Q) fw_nX) (hx : m_K μ r0 = 2) (h : p_X1_takeBack_L36b r0 k36 i1 μ Q) : fw_V g K_X1_takeBack f bc bs 36 [(0, fw_rv g r0), (1, Value.int i1)] [] μ (fw_Qv Q) fw_nX := by
  unfold p_X1_takeBack_L36b at h
  refine fw_iload_n dX1_takeBack_36 rfl rfl ?_
  refine fw_aload_n dX1_takeBack_37 rfl rfl ?_
  refine fw_getfI fl_X1_58 rfl hx dX1_takeBack_38 ?_
  refine fw_icmp_ge (tgt := 69) dX1_takeBack_41 (by decide) (fun c1 => ?_) (fun c1 => ?_)
  · have h := fw_it h c1
    exact fw_return dX1_takeBack_69 rfl ⟨rfl, h⟩
  · have h := fw_if h c1
    refine fw_aload_n dX1_takeBack_44 rfl rfl ?_
    refine fw_getfP fl_X1_25 rfl hx dX1_takeBack_45 ?_
    refine fw_iconst (v := 4) dX1_takeBack_48 (by decide) ?_
    refine fw_iload_n dX1_takeBack_49 rfl rfl ?_
    refine fw_iadd dX1_takeBack_50 ?_
    refine fw_iconst (v := 2) dX1_takeBack_51 (by decide) ?_
    obtain ⟨hg2, h⟩ := h
    obtain ⟨hc3, h⟩ := h
    refine fw_iast hg2 hc3 dX1_takeBack_52 ?_
    have h := h _ rfl
    refine fw_aload_n dX1_takeBack_53 rfl rfl ?_
    refine fw_getfP fl_X1_25 rfl hx dX1_takeBack_54 ?_
    refine fw_bipush (v := 13) dX1_takeBack_57 (by decide) ?_
    refine fw_iload_n dX1_takeBack_59 rfl rfl ?_
    refine fw_iadd dX1_takeBack_60 ?_
    refine fw_iconst (v := 0) dX1_takeBack_61 (by decide) ?_
    obtain ⟨hg5, h⟩ := h
    obtain ⟨hc6, h⟩ := h
    refine fw_iast hg5 hc6 dX1_takeBack_62 ?_
    have h := h _ rfl
    obtain ⟨i1_8, e9⟩ : ∃ y : Int32, y = i1 + (1 : Int32) := ⟨_, rfl⟩
    have h := h i1_8 e9
    refine fw_iincN (k := 1) (v := i1_8) (Ls' := [(1, Value.int i1_8), (0, fw_rv g r0)]) [] dX1_takeBack_63 rfl (by rw [e9]; rfl) (by decide) rfl rfl rfl (fw_cat _) rfl ?_
    refine fw_goto (tgt := 36) dX1_takeBack_66 (by decide) ?_
    refine fw_ls [1, 0] rfl ?_
    exact hk36 hx h
theorem w_X1_takeBack_L36 {g : fw_G} {f bc bs : Nat} {r0 : Nat} {i1 : Int32} {μ : fw_M} {Q : fw_M → Prop} (hf : 2 ≤ f) (hx : m_K μ r0 = 2) (h : p_X1_takeBack_L36 r0 i1 μ Q) : fw_V g K_X1_takeBack f bc bs 36 [(0, fw_rv g r0), (1, Value.int i1)] [] μ (fw_Qv Q) fw_nX := by
  have key := fw_lp_out (R := fun (a : Int32 × fw_M) => m_K a.2 r0 = 2 → fw_V g K_X1_takeBack f bc bs 36 [(0, fw_rv g r0), (1, Value.int a.1)] [] a.2 (fw_Qv Q) fw_nX) (fun k hk9 a ha hx2 => w_X1_takeBack_L36b hf (fun {i1} {μ} hx3 h3 => hk9 (i1, μ) h3 hx3) hx2 ha) h
  exact key hx
def p_X1_takeBack (r0 : Nat) (μ : fw_M) (Q : fw_M → Prop) : Prop :=
  (∀ μ1, μ1 = m_uI μ r0 3 ((m_I μ r0 3) - (1 : Int32)) →
  (m_K μ1 (m_P μ1 r0 11) = 103 ∧ (vp_in (m_I μ1 r0 3) (m_N μ1 (m_P μ1 r0 11)) ∧ (p_X1_over (m_P μ1 (m_P μ1 r0 11) (m_I μ1 r0 3).toNatClampNeg) (m_P μ1 r0 9) μ1 (fun μ5 =>
  (m_K μ5 (m_P μ5 r0 10) = 100 ∧ (vp_in (m_I μ5 r0 3) (m_N μ5 (m_P μ5 r0 10)) ∧ (∀ i1_10 : Int32, i1_10 = (m_I μ5 (m_P μ5 r0 10) (m_I μ5 r0 3).toNatClampNeg) →
  p_X1_takeBack_L36 r0 i1_10 μ5 Q))))))))
set_option maxHeartbeats 4000000 in
theorem w_X1_takeBack {g : fw_G} {f bc bs : Nat} {r0 : Nat} {μ : fw_M} {Q : fw_M → Prop} (hf : 2 ≤ f) (hx : m_K μ r0 = 2) (h : p_X1_takeBack r0 μ Q) : fw_C g f bc bs yX1_takeBack (ws_ yX1_takeBack cX1_takeBack 2 (none)) [fw_rv g r0] μ (fw_Qv Q) fw_nX := by
  unfold p_X1_takeBack at h
  refine fw_intro' (Ls := [(0, fw_rv g r0)]) (by decide +kernel) (by simp [lg_sl, fw_cat, fw_ci, fw_clo]) (by simp [lv_args, fw_cat, fw_ci, fw_clo]) ?_
  show fw_V g K_X1_takeBack f bc bs 0 [(0, fw_rv g r0)] [] μ (fw_Qv Q) fw_nX
  refine fw_aload_n dX1_takeBack_0 rfl rfl ?_
  refine fw_dup dX1_takeBack_1 (fw_cat _) ?_
  refine fw_getfI fl_X1_64 rfl hx dX1_takeBack_2 ?_
  refine fw_iconst (v := 1) dX1_takeBack_5 (by decide) ?_
  refine fw_isub dX1_takeBack_6 ?_
  refine fw_putfI fl_X1_64 (fun q hq => Or.inl (by cases hq; rfl)) rfl hx dX1_takeBack_7 ?_
  have h := h _ rfl
  refine fw_aload_n dX1_takeBack_10 rfl rfl ?_
  refine fw_getfP fl_X1_33 rfl hx dX1_takeBack_11 ?_
  refine fw_aload_n dX1_takeBack_14 rfl rfl ?_
  refine fw_getfI fl_X1_64 rfl hx dX1_takeBack_15 ?_
  obtain ⟨hg2, h⟩ := h
  obtain ⟨hc3, h⟩ := h
  refine fw_aald hg2 rfl rfl hc3 dX1_takeBack_18 ?_
  refine fw_aload_n dX1_takeBack_19 rfl rfl ?_
  refine fw_getfP fl_X1_25 rfl hx dX1_takeBack_20 ?_
  refine fw_callS2z (f1 := f - 1) cl_X1_54 (by decide) (by omega) (fw_s4 (Nat.le_of_ble_eq_true rfl)) dX1_takeBack_23 (w_X1_over (f := f - 1) (by omega) h) (fun _ _ h9 _ _ => h9.elim) (fun v9 μ5 q9 hs6 => ?_)
  obtain ⟨rfl, h⟩ := q9
  refine fw_tv ?_
  have hg7 := hs6.K hx (by decide)
  refine fw_aload_n dX1_takeBack_26 rfl rfl ?_
  refine fw_getfP fl_X1_28 rfl hg7 dX1_takeBack_27 ?_
  refine fw_aload_n dX1_takeBack_30 rfl rfl ?_
  refine fw_getfI fl_X1_64 rfl hg7 dX1_takeBack_31 ?_
  obtain ⟨hg8, h⟩ := h
  obtain ⟨hc9, h⟩ := h
  refine fw_iald hg8 hc9 dX1_takeBack_34 ?_
  refine fw_topi (fun i1_10 e11 => ?_)
  have h := h i1_10 e11
  refine fw_istore_nN (Ls' := [(1, Value.int i1_10), (0, fw_rv g r0)]) [] dX1_takeBack_35 rfl (by decide) rfl rfl rfl (fw_cat _) rfl ?_
  refine fw_ls [1, 0] rfl ?_
  exact w_X1_takeBack_L36 hf hg7 h
abbrev K_X1_overAll : fw_Kt := (RX1, "overAll", cX1_overAll, 3, none, [])
def p_X1_overAll_L2b (r0 : Nat) (r1 : Nat) (k2 : Int32 → fw_M → Prop) (i2 : Int32) (μ : fw_M) (Q : fw_M → Prop) : Prop :=
  (m_K μ r1 = 103 ∧ (if (Int32.ofNat (m_N μ r1)) ≤ i2 then
  (Q μ)
  else
  ((m_K μ r0 = 103 ∧ (vp_in i2 (m_N μ r0) ∧ (vp_in i2 (m_N μ r1) ∧ (p_X1_over (m_P μ r0 i2.toNatClampNeg) (m_P μ r1 i2.toNatClampNeg) μ (fun μ7 =>
   (∀ i2_11 : Int32, i2_11 = i2 + (1 : Int32) →
   k2 i2_11 μ7)))))))))
def p_X1_overAll_L2 (r0 : Nat) (r1 : Nat) (i2 : Int32) (μ : fw_M) (Q : fw_M → Prop) : Prop := fw_lp (fun (k : Int32 × fw_M → Prop) (a : Int32 × fw_M) => p_X1_overAll_L2b r0 r1 (fun i2 μ => k (i2, μ)) a.1 a.2 Q) (i2, μ)
theorem r_X1_overAll_L2 {r0 : Nat} {r1 : Nat} {Q : fw_M → Prop} (I : Int32 → fw_M → Prop) (v : Int32 → fw_M → Nat) (hs : ∀ (k : Int32 → fw_M → Prop) (i2 : Int32) (μ : fw_M), I i2 μ → (∀ (i2' : Int32) (ν : fw_M), I i2' ν → v i2' ν < v i2 μ → k i2' ν) → p_X1_overAll_L2b r0 r1 k i2 μ Q) (i2 : Int32) (μ : fw_M) (h : I i2 μ) : p_X1_overAll_L2 r0 r1 i2 μ Q :=
  fw_lp_in (A := Int32 × fw_M) (fun a => I a.1 a.2) (fun a => v a.1 a.2) (fun k a ha hk => hs (fun i2 μ => k (i2, μ)) a.1 a.2 ha (fun i2' ν hb hlt => hk (i2', ν) hb hlt)) (i2, μ) h
set_option maxHeartbeats 4000000 in
theorem w_X1_overAll_L2b {g : fw_G} {f bc bs : Nat} {r0 : Nat} {r1 : Nat} {k2 : Int32 → fw_M → Prop} {i2 : Int32} {μ : fw_M} {Q : fw_M → Prop} (hf : 2 ≤ f) (hk2 : ∀ {i2 : Int32} {μ : fw_M}, k2 i2 μ → fw_V g K_X1_overAll f bc bs 2 [(0, fw_rv g r0), (1, fw_rv g r1), (2, Value.int i2)] [] μ (fw_Qv Q) fw_nX) (h : p_X1_overAll_L2b r0 r1 k2 i2 μ Q) : fw_V g K_X1_overAll f bc bs 2 [(0, fw_rv g r0), (1, fw_rv g r1), (2, Value.int i2)] [] μ (fw_Qv Q) fw_nX := by
  unfold p_X1_overAll_L2b at h
  refine fw_iload_n dX1_overAll_2 rfl rfl ?_
  refine fw_aload_n dX1_overAll_3 rfl rfl ?_
  obtain ⟨hg1, h⟩ := h
  refine fw_alen hg1 rfl dX1_overAll_4 ?_
  refine fw_icmp_ge (tgt := 23) dX1_overAll_5 (by decide) (fun c2 => ?_) (fun c2 => ?_)
  · have h := fw_it h c2
    exact fw_return dX1_overAll_23 rfl ⟨rfl, h⟩
  · have h := fw_if h c2
    refine fw_aload_n dX1_overAll_8 rfl rfl ?_
    refine fw_iload_n dX1_overAll_9 rfl rfl ?_
    obtain ⟨hg3, h⟩ := h
    obtain ⟨hc4, h⟩ := h
    refine fw_aald hg3 rfl rfl hc4 dX1_overAll_10 ?_
    refine fw_aload_n dX1_overAll_11 rfl rfl ?_
    refine fw_iload_n dX1_overAll_12 rfl rfl ?_
    obtain ⟨hc5, h⟩ := h
    refine fw_aald hg1 rfl rfl hc5 dX1_overAll_13 ?_
    refine fw_callS2z (f1 := f - 1) cl_X1_54 (by decide) (by omega) (fw_s4 (Nat.le_of_ble_eq_true rfl)) dX1_overAll_14 (w_X1_over (f := f - 1) (by omega) h) (fun _ _ h9 _ _ => h9.elim) (fun v9 μ7 q9 hs8 => ?_)
    obtain ⟨rfl, h⟩ := q9
    refine fw_tv ?_
    have hg9 := hs8.K hg1 (by decide)
    have hg10 := hs8.K hg3 (by decide)
    obtain ⟨i2_11, e12⟩ : ∃ y : Int32, y = i2 + (1 : Int32) := ⟨_, rfl⟩
    have h := h i2_11 e12
    refine fw_iincN (k := 2) (v := i2_11) (Ls' := [(2, Value.int i2_11), (1, fw_rv g r1), (0, fw_rv g r0)]) [0] dX1_overAll_17 rfl (by rw [e12]; rfl) (by decide) rfl rfl rfl (fw_cat _) rfl ?_
    refine fw_goto (tgt := 2) dX1_overAll_20 (by decide) ?_
    refine fw_ls [2, 1, 0] rfl ?_
    exact hk2 h
theorem w_X1_overAll_L2 {g : fw_G} {f bc bs : Nat} {r0 : Nat} {r1 : Nat} {i2 : Int32} {μ : fw_M} {Q : fw_M → Prop} (hf : 2 ≤ f) (h : p_X1_overAll_L2 r0 r1 i2 μ Q) : fw_V g K_X1_overAll f bc bs 2 [(0, fw_rv g r0), (1, fw_rv g r1), (2, Value.int i2)] [] μ (fw_Qv Q) fw_nX := by
  have key := fw_lp_out (R := fun (a : Int32 × fw_M) => fw_V g K_X1_overAll f bc bs 2 [(0, fw_rv g r0), (1, fw_rv g r1), (2, Value.int a.1)] [] a.2 (fw_Qv Q) fw_nX) (fun k hk9 a ha => w_X1_overAll_L2b hf (fun {i2} {μ} h3 => hk9 (i2, μ) h3) ha) h
  exact key
def p_X1_overAll (r0 : Nat) (r1 : Nat) (μ : fw_M) (Q : fw_M → Prop) : Prop :=
  p_X1_overAll_L2 r0 r1 (0 : Int32) μ Q
set_option maxHeartbeats 4000000 in
theorem w_X1_overAll {g : fw_G} {f bc bs : Nat} {r0 : Nat} {r1 : Nat} {μ : fw_M} {Q : fw_M → Prop} (hf : 2 ≤ f) (h : p_X1_overAll r0 r1 μ Q) : fw_C g f bc bs yX1_overAll (ws_ yX1_overAll cX1_overAll 3 (none)) [fw_rv g r0, fw_rv g r1] μ (fw_Qv Q) fw_nX := by
  unfold p_X1_overAll at h
  refine fw_intro' (Ls := [(0, fw_rv g r0), (1, fw_rv g r1)]) (by decide +kernel) (by simp [lg_sl, fw_cat, fw_ci, fw_clo]) (by simp [lv_args, fw_cat, fw_ci, fw_clo]) ?_
  show fw_V g K_X1_overAll f bc bs 0 [(0, fw_rv g r0), (1, fw_rv g r1)] [] μ (fw_Qv Q) fw_nX
  refine fw_iconst (v := 0) dX1_overAll_0 (by decide) ?_
  refine fw_istore_nN (Ls' := [(2, Value.int (0 : Int32)), (1, fw_rv g r1), (0, fw_rv g r0)]) [0] dX1_overAll_1 rfl (by decide) rfl rfl rfl (fw_cat _) rfl ?_
  refine fw_ls [2, 1, 0] rfl ?_
  exact w_X1_overAll_L2 hf h
abbrev K_X1_lay : fw_Kt := (RX1, "lay", cX1_lay, 2, none, [])
def p_X1_lay (r0 : Nat) (r1 : Nat) (μ : fw_M) (Q : fw_M → Prop) : Prop :=
  (m_K μ r1 = 2 ∧ (∀ μ2, μ2 = m_uI μ r0 0 (m_I μ r1 0) →
  (∀ μ3, μ3 = m_uI μ2 r0 1 (m_I μ2 r1 1) →
  (∀ μ4, μ4 = m_uI μ3 r0 2 (m_I μ3 r1 2) →
  (∀ μ5, μ5 = m_uI μ4 r0 3 (m_I μ4 r1 3) →
  (∀ μ6, μ6 = m_uI μ5 r0 4 (m_I μ5 r1 4) →
  (∀ μ7, μ7 = m_uI μ6 r0 5 (m_I μ6 r1 5) →
  (p_X1_over (m_P μ7 r1 6) (m_P μ7 r0 6) μ7 (fun μ9 =>
  (p_X1_over (m_P μ9 r1 7) (m_P μ9 r0 7) μ9 (fun μ14 =>
  (p_X1_over (m_P μ14 r1 8) (m_P μ14 r0 8) μ14 (fun μ19 =>
  (p_X1_over (m_P μ19 r1 9) (m_P μ19 r0 9) μ19 (fun μ24 =>
  (p_X1_over (m_P μ24 r1 10) (m_P μ24 r0 10) μ24 (fun μ29 =>
  (p_X1_overAll (m_P μ29 r1 11) (m_P μ29 r0 11) μ29 (fun μ34 =>
  (p_X1_overAll (m_P μ34 r1 12) (m_P μ34 r0 12) μ34 (fun μ39 =>
  (p_X1_overAll (m_P μ39 r1 13) (m_P μ39 r0 13) μ39 (fun μ44 =>
  (p_X1_overAll (m_P μ44 r1 14) (m_P μ44 r0 14) μ44 (fun μ49 =>
  (p_X1_overAll (m_P μ49 r1 15) (m_P μ49 r0 15) μ49 (fun μ54 =>
  Q μ54)))))))))))))))))))))))))))
set_option maxHeartbeats 4000000 in
theorem w_X1_lay {g : fw_G} {f bc bs : Nat} {r0 : Nat} {r1 : Nat} {μ : fw_M} {Q : fw_M → Prop} (hf : 3 ≤ f) (hx : m_K μ r0 = 2) (h : p_X1_lay r0 r1 μ Q) : fw_C g f bc bs yX1_lay (ws_ yX1_lay cX1_lay 2 (none)) [fw_rv g r0, fw_rv g r1] μ (fw_Qv Q) fw_nX := by
  unfold p_X1_lay at h
  refine fw_intro' (Ls := [(0, fw_rv g r0), (1, fw_rv g r1)]) (by decide +kernel) (by simp [lg_sl, fw_cat, fw_ci, fw_clo]) (by simp [lv_args, fw_cat, fw_ci, fw_clo]) ?_
  show fw_V g K_X1_lay f bc bs 0 [(0, fw_rv g r0), (1, fw_rv g r1)] [] μ (fw_Qv Q) fw_nX
  refine fw_aload_n dX1_lay_0 rfl rfl ?_
  refine fw_aload_n dX1_lay_1 rfl rfl ?_
  obtain ⟨hg1, h⟩ := h
  refine fw_getfI fl_X1_58 rfl hg1 dX1_lay_2 ?_
  refine fw_putfI fl_X1_58 (fun q hq => Or.inl (by cases hq; rfl)) rfl hx dX1_lay_5 ?_
  have h := h _ rfl
  refine fw_aload_n dX1_lay_8 rfl rfl ?_
  refine fw_aload_n dX1_lay_9 rfl rfl ?_
  refine fw_getfI fl_X1_61 rfl hg1 dX1_lay_10 ?_
  refine fw_putfI fl_X1_61 (fun q hq => Or.inl (by cases hq; rfl)) rfl hx dX1_lay_13 ?_
  have h := h _ rfl
  refine fw_aload_n dX1_lay_16 rfl rfl ?_
  refine fw_aload_n dX1_lay_17 rfl rfl ?_
  refine fw_getfI fl_X1_9 rfl hg1 dX1_lay_18 ?_
  refine fw_putfI fl_X1_9 (fun q hq => Or.inl (by cases hq; rfl)) rfl hx dX1_lay_21 ?_
  have h := h _ rfl
  refine fw_aload_n dX1_lay_24 rfl rfl ?_
  refine fw_aload_n dX1_lay_25 rfl rfl ?_
  refine fw_getfI fl_X1_64 rfl hg1 dX1_lay_26 ?_
  refine fw_putfI fl_X1_64 (fun q hq => Or.inl (by cases hq; rfl)) rfl hx dX1_lay_29 ?_
  have h := h _ rfl
  refine fw_aload_n dX1_lay_32 rfl rfl ?_
  refine fw_aload_n dX1_lay_33 rfl rfl ?_
  refine fw_getfI fl_X1_67 rfl hg1 dX1_lay_34 ?_
  refine fw_putfI fl_X1_67 (fun q hq => Or.inl (by cases hq; rfl)) rfl hx dX1_lay_37 ?_
  have h := h _ rfl
  refine fw_aload_n dX1_lay_40 rfl rfl ?_
  refine fw_aload_n dX1_lay_41 rfl rfl ?_
  refine fw_getfI fl_X1_70 rfl hg1 dX1_lay_42 ?_
  refine fw_putfI fl_X1_70 (fun q hq => Or.inl (by cases hq; rfl)) rfl hx dX1_lay_45 ?_
  have h := h _ rfl
  refine fw_aload_n dX1_lay_48 rfl rfl ?_
  refine fw_getfP fl_X1_15 rfl hg1 dX1_lay_49 ?_
  refine fw_aload_n dX1_lay_52 rfl rfl ?_
  refine fw_getfP fl_X1_15 rfl hx dX1_lay_53 ?_
  refine fw_callS2z (f1 := f - 1) cl_X1_54 (by decide) (by omega) (fw_s4 (Nat.le_of_ble_eq_true rfl)) dX1_lay_56 (w_X1_over (f := f - 1) (by omega) h) (fun _ _ h9 _ _ => h9.elim) (fun v9 μ9 q9 hs10 => ?_)
  obtain ⟨rfl, h⟩ := q9
  refine fw_tv ?_
  have hg11 := hs10.K hx (by decide)
  have hg12 := hs10.K hg1 (by decide)
  refine fw_aload_n dX1_lay_59 rfl rfl ?_
  refine fw_getfP fl_X1_19 rfl hg12 dX1_lay_60 ?_
  refine fw_aload_n dX1_lay_63 rfl rfl ?_
  refine fw_getfP fl_X1_19 rfl hg11 dX1_lay_64 ?_
  refine fw_callS2z (f1 := f - 1) cl_X1_54 (by decide) (by omega) (fw_s4 (Nat.le_of_ble_eq_true rfl)) dX1_lay_67 (w_X1_over (f := f - 1) (by omega) h) (fun _ _ h9 _ _ => h9.elim) (fun v9 μ14 q9 hs15 => ?_)
  obtain ⟨rfl, h⟩ := q9
  refine fw_tv ?_
  have hg16 := hs15.K hg11 (by decide)
  have hg17 := hs15.K hg12 (by decide)
  refine fw_aload_n dX1_lay_70 rfl rfl ?_
  refine fw_getfP fl_X1_22 rfl hg17 dX1_lay_71 ?_
  refine fw_aload_n dX1_lay_74 rfl rfl ?_
  refine fw_getfP fl_X1_22 rfl hg16 dX1_lay_75 ?_
  refine fw_callS2z (f1 := f - 1) cl_X1_54 (by decide) (by omega) (fw_s4 (Nat.le_of_ble_eq_true rfl)) dX1_lay_78 (w_X1_over (f := f - 1) (by omega) h) (fun _ _ h9 _ _ => h9.elim) (fun v9 μ19 q9 hs20 => ?_)
  obtain ⟨rfl, h⟩ := q9
  refine fw_tv ?_
  have hg21 := hs20.K hg16 (by decide)
  have hg22 := hs20.K hg17 (by decide)
  refine fw_aload_n dX1_lay_81 rfl rfl ?_
  refine fw_getfP fl_X1_25 rfl hg22 dX1_lay_82 ?_
  refine fw_aload_n dX1_lay_85 rfl rfl ?_
  refine fw_getfP fl_X1_25 rfl hg21 dX1_lay_86 ?_
  refine fw_callS2z (f1 := f - 1) cl_X1_54 (by decide) (by omega) (fw_s4 (Nat.le_of_ble_eq_true rfl)) dX1_lay_89 (w_X1_over (f := f - 1) (by omega) h) (fun _ _ h9 _ _ => h9.elim) (fun v9 μ24 q9 hs25 => ?_)
  obtain ⟨rfl, h⟩ := q9
  refine fw_tv ?_
  have hg26 := hs25.K hg21 (by decide)
  have hg27 := hs25.K hg22 (by decide)
  refine fw_aload_n dX1_lay_92 rfl rfl ?_
  refine fw_getfP fl_X1_28 rfl hg27 dX1_lay_93 ?_
  refine fw_aload_n dX1_lay_96 rfl rfl ?_
  refine fw_getfP fl_X1_28 rfl hg26 dX1_lay_97 ?_
  refine fw_callS2z (f1 := f - 1) cl_X1_54 (by decide) (by omega) (fw_s4 (Nat.le_of_ble_eq_true rfl)) dX1_lay_100 (w_X1_over (f := f - 1) (by omega) h) (fun _ _ h9 _ _ => h9.elim) (fun v9 μ29 q9 hs30 => ?_)
  obtain ⟨rfl, h⟩ := q9
  refine fw_tv ?_
  have hg31 := hs30.K hg26 (by decide)
  have hg32 := hs30.K hg27 (by decide)
  refine fw_aload_n dX1_lay_103 rfl rfl ?_
  refine fw_getfP fl_X1_33 rfl hg32 dX1_lay_104 ?_
  refine fw_aload_n dX1_lay_107 rfl rfl ?_
  refine fw_getfP fl_X1_33 rfl hg31 dX1_lay_108 ?_
  refine fw_callS2z (f1 := f - 1) cl_X1_73 (by decide) (by omega) (fw_s4 (Nat.le_of_ble_eq_true rfl)) dX1_lay_111 (w_X1_overAll (f := f - 1) (by omega) h) (fun _ _ h9 _ _ => h9.elim) (fun v9 μ34 q9 hs35 => ?_)
  obtain ⟨rfl, h⟩ := q9
  refine fw_tv ?_
  have hg36 := hs35.K hg31 (by decide)
  have hg37 := hs35.K hg32 (by decide)
  refine fw_aload_n dX1_lay_114 rfl rfl ?_
  refine fw_getfP fl_X1_36 rfl hg37 dX1_lay_115 ?_
  refine fw_aload_n dX1_lay_118 rfl rfl ?_
  refine fw_getfP fl_X1_36 rfl hg36 dX1_lay_119 ?_
  refine fw_callS2z (f1 := f - 1) cl_X1_73 (by decide) (by omega) (fw_s4 (Nat.le_of_ble_eq_true rfl)) dX1_lay_122 (w_X1_overAll (f := f - 1) (by omega) h) (fun _ _ h9 _ _ => h9.elim) (fun v9 μ39 q9 hs40 => ?_)
  obtain ⟨rfl, h⟩ := q9
  refine fw_tv ?_
  have hg41 := hs40.K hg36 (by decide)
  have hg42 := hs40.K hg37 (by decide)
  refine fw_aload_n dX1_lay_125 rfl rfl ?_
  refine fw_getfP fl_X1_39 rfl hg42 dX1_lay_126 ?_
  refine fw_aload_n dX1_lay_129 rfl rfl ?_
  refine fw_getfP fl_X1_39 rfl hg41 dX1_lay_130 ?_
  refine fw_callS2z (f1 := f - 1) cl_X1_73 (by decide) (by omega) (fw_s4 (Nat.le_of_ble_eq_true rfl)) dX1_lay_133 (w_X1_overAll (f := f - 1) (by omega) h) (fun _ _ h9 _ _ => h9.elim) (fun v9 μ44 q9 hs45 => ?_)
  obtain ⟨rfl, h⟩ := q9
  refine fw_tv ?_
  have hg46 := hs45.K hg41 (by decide)
  have hg47 := hs45.K hg42 (by decide)
  refine fw_aload_n dX1_lay_136 rfl rfl ?_
  refine fw_getfP fl_X1_42 rfl hg47 dX1_lay_137 ?_
  refine fw_aload_n dX1_lay_140 rfl rfl ?_
  refine fw_getfP fl_X1_42 rfl hg46 dX1_lay_141 ?_
  refine fw_callS2z (f1 := f - 1) cl_X1_73 (by decide) (by omega) (fw_s4 (Nat.le_of_ble_eq_true rfl)) dX1_lay_144 (w_X1_overAll (f := f - 1) (by omega) h) (fun _ _ h9 _ _ => h9.elim) (fun v9 μ49 q9 hs50 => ?_)
  obtain ⟨rfl, h⟩ := q9
  refine fw_tv ?_
  have hg51 := hs50.K hg46 (by decide)
  have hg52 := hs50.K hg47 (by decide)
  refine fw_aload_n dX1_lay_147 rfl rfl ?_
  refine fw_getfP fl_X1_45 rfl hg52 dX1_lay_148 ?_
  refine fw_aload_n dX1_lay_151 rfl rfl ?_
  refine fw_getfP fl_X1_45 rfl hg51 dX1_lay_152 ?_
  refine fw_callS2z (f1 := f - 1) cl_X1_73 (by decide) (by omega) (fw_s4 (Nat.le_of_ble_eq_true rfl)) dX1_lay_155 (w_X1_overAll (f := f - 1) (by omega) h) (fun _ _ h9 _ _ => h9.elim) (fun v9 μ54 q9 hs55 => ?_)
  obtain ⟨rfl, h⟩ := q9
  refine fw_tv ?_
  have hg56 := hs55.K hg51 (by decide)
  have hg57 := hs55.K hg52 (by decide)
  exact fw_return dX1_lay_158 rfl ⟨rfl, h⟩
abbrev K_X14_init : fw_Kt := (RX14, "<init>", cX14_init, 4, none, [])
def p_X14_init (r0 : Nat) (i1 : Int32) (r2 : Nat) (r3 : Nat) (μ : fw_M) (Q : fw_M → Prop) : Prop :=
  ((i1 = 0 ∨ i1 = 1) ∧ (∀ μ2, μ2 = m_uI μ r0 0 i1 →
  (∀ μ3, μ3 = m_uP μ2 r0 1 r2 →
  (∀ μ4, μ4 = m_uP μ3 r0 2 r3 →
  Q μ4))))
set_option maxHeartbeats 4000000 in
theorem w_X14_init {g : fw_G} {f bc bs : Nat} {r0 : Nat} {i1 : Int32} {r2 : Nat} {r3 : Nat} {μ : fw_M} {Q : fw_M → Prop} (hf : 1 ≤ f) (hx : m_K μ r0 = 15) (h : p_X14_init r0 i1 r2 r3 μ Q) : fw_C g f bc bs yX14_init (ws_ yX14_init cX14_init 4 (none)) [fw_rv g r0, Value.int i1, fw_rv g r2, fw_rv g r3] μ (fw_Qv Q) fw_nX := by
  unfold p_X14_init at h
  refine fw_intro' (Ls := [(0, fw_rv g r0), (1, Value.int i1), (2, fw_rv g r2), (3, fw_rv g r3)]) (by decide +kernel) (by simp [lg_sl, fw_cat, fw_ci, fw_clo]) (by simp [lv_args, fw_cat, fw_ci, fw_clo]) ?_
  show fw_V g K_X14_init f bc bs 0 [(0, fw_rv g r0), (1, Value.int i1), (2, fw_rv g r2), (3, fw_rv g r3)] [] μ (fw_Qv Q) fw_nX
  refine fw_aload_n dX14_init_0 rfl rfl ?_
  refine fw_objInit (k := 15) rfl hx q794 q110 q111 (by omega) (fw_s4 (Nat.le_of_ble_eq_true rfl)) dX14_init_1 ?_
  refine fw_aload_n dX14_init_4 rfl rfl ?_
  refine fw_iload_n dX14_init_5 rfl rfl ?_
  obtain ⟨hc1, h⟩ := h
  refine fw_putfZ fl_X14_7 (fun q hq => Or.inr ⟨rfl, by cases hq; rfl⟩) rfl hx hc1 dX14_init_6 ?_
  have h := h _ rfl
  refine fw_aload_n dX14_init_9 rfl rfl ?_
  refine fw_aload_n dX14_init_10 rfl rfl ?_
  refine fw_putfP fl_X14_13 (fun q hq => Or.inr ⟨rfl, by cases hq; rfl⟩) rfl hx dX14_init_11 ?_
  have h := h _ rfl
  refine fw_aload_n dX14_init_14 rfl rfl ?_
  refine fw_aload_n dX14_init_15 rfl rfl ?_
  refine fw_putfP fl_X14_17 (fun q hq => Or.inr ⟨rfl, by cases hq; rfl⟩) rfl hx dX14_init_16 ?_
  have h := h _ rfl
  exact fw_return dX14_init_19 rfl ⟨rfl, h⟩
abbrev K_X15_init : fw_Kt := (RX15, "<init>", cX15_init, 2, none, [])
def p_X15_init (r0 : Nat) (i1 : Int32) (μ : fw_M) (Q : fw_M → Prop) : Prop :=
  (∀ μ1, μ1 = m_uI μ r0 0 i1 →
  Q μ1)
set_option maxHeartbeats 4000000 in
theorem w_X15_init {g : fw_G} {f bc bs : Nat} {r0 : Nat} {i1 : Int32} {μ : fw_M} {Q : fw_M → Prop} (hf : 1 ≤ f) (hx : m_K μ r0 = 16) (h : p_X15_init r0 i1 μ Q) : fw_C g f bc bs yX15_init (ws_ yX15_init cX15_init 2 (none)) [fw_rv g r0, Value.int i1] μ (fw_Qv Q) fw_nX := by
  unfold p_X15_init at h
  refine fw_intro' (Ls := [(0, fw_rv g r0), (1, Value.int i1)]) (by decide +kernel) (by simp [lg_sl, fw_cat, fw_ci, fw_clo]) (by simp [lv_args, fw_cat, fw_ci, fw_clo]) ?_
  show fw_V g K_X15_init f bc bs 0 [(0, fw_rv g r0), (1, Value.int i1)] [] μ (fw_Qv Q) fw_nX
  refine fw_aload_n dX15_init_0 rfl rfl ?_
  refine fw_objInit (k := 16) rfl hx q814 q110 q111 (by omega) (fw_s4 (Nat.le_of_ble_eq_true rfl)) dX15_init_1 ?_
  refine fw_aload_n dX15_init_4 rfl rfl ?_
  refine fw_iload_n dX15_init_5 rfl rfl ?_
  refine fw_putfI fl_X15_9 (fun q hq => Or.inr ⟨rfl, by cases hq; rfl⟩) rfl hx dX15_init_6 ?_
  have h := h _ rfl
  exact fw_return dX15_init_9 rfl ⟨rfl, h⟩
abbrev K_X16_init : fw_Kt := (RX16, "<init>", cX16_init, 2, none, [])
def p_X16_init (r0 : Nat) (i1 : Int32) (μ : fw_M) (Q : fw_M → Prop) : Prop :=
  (∀ μ1, μ1 = m_uI μ r0 0 i1 →
  Q μ1)
set_option maxHeartbeats 4000000 in
theorem w_X16_init {g : fw_G} {f bc bs : Nat} {r0 : Nat} {i1 : Int32} {μ : fw_M} {Q : fw_M → Prop} (hf : 1 ≤ f) (hx : m_K μ r0 = 17) (h : p_X16_init r0 i1 μ Q) : fw_C g f bc bs yX16_init (ws_ yX16_init cX16_init 2 (none)) [fw_rv g r0, Value.int i1] μ (fw_Qv Q) fw_nX := by
  unfold p_X16_init at h
  refine fw_intro' (Ls := [(0, fw_rv g r0), (1, Value.int i1)]) (by decide +kernel) (by simp [lg_sl, fw_cat, fw_ci, fw_clo]) (by simp [lv_args, fw_cat, fw_ci, fw_clo]) ?_
  show fw_V g K_X16_init f bc bs 0 [(0, fw_rv g r0), (1, Value.int i1)] [] μ (fw_Qv Q) fw_nX
  refine fw_aload_n dX16_init_0 rfl rfl ?_
  refine fw_objInit (k := 17) rfl hx q824 q110 q111 (by omega) (fw_s4 (Nat.le_of_ble_eq_true rfl)) dX16_init_1 ?_
  refine fw_aload_n dX16_init_4 rfl rfl ?_
  refine fw_iload_n dX16_init_5 rfl rfl ?_
  refine fw_putfI fl_X16_9 (fun q hq => Or.inr ⟨rfl, by cases hq; rfl⟩) rfl hx dX16_init_6 ?_
  have h := h _ rfl
  exact fw_return dX16_init_9 rfl ⟨rfl, h⟩
abbrev K_X17_init : fw_Kt := (RX17, "<init>", cX17_init, 3, none, [])
def p_X17_init (r0 : Nat) (i1 : Int32) (i2 : Int32) (μ : fw_M) (Q : fw_M → Prop) : Prop :=
  (∀ μ1, μ1 = m_uI μ r0 0 i1 →
  (∀ μ2, μ2 = m_uI μ1 r0 1 i2 →
  Q μ2))
set_option maxHeartbeats 4000000 in
theorem w_X17_init {g : fw_G} {f bc bs : Nat} {r0 : Nat} {i1 : Int32} {i2 : Int32} {μ : fw_M} {Q : fw_M → Prop} (hf : 1 ≤ f) (hx : m_K μ r0 = 18) (h : p_X17_init r0 i1 i2 μ Q) : fw_C g f bc bs yX17_init (ws_ yX17_init cX17_init 3 (none)) [fw_rv g r0, Value.int i1, Value.int i2] μ (fw_Qv Q) fw_nX := by
  unfold p_X17_init at h
  refine fw_intro' (Ls := [(0, fw_rv g r0), (1, Value.int i1), (2, Value.int i2)]) (by decide +kernel) (by simp [lg_sl, fw_cat, fw_ci, fw_clo]) (by simp [lv_args, fw_cat, fw_ci, fw_clo]) ?_
  show fw_V g K_X17_init f bc bs 0 [(0, fw_rv g r0), (1, Value.int i1), (2, Value.int i2)] [] μ (fw_Qv Q) fw_nX
  refine fw_aload_n dX17_init_0 rfl rfl ?_
  refine fw_objInit (k := 18) rfl hx q834 q110 q111 (by omega) (fw_s4 (Nat.le_of_ble_eq_true rfl)) dX17_init_1 ?_
  refine fw_aload_n dX17_init_4 rfl rfl ?_
  refine fw_iload_n dX17_init_5 rfl rfl ?_
  refine fw_putfI fl_X17_7 (fun q hq => Or.inr ⟨rfl, by cases hq; rfl⟩) rfl hx dX17_init_6 ?_
  have h := h _ rfl
  refine fw_aload_n dX17_init_9 rfl rfl ?_
  refine fw_iload_n dX17_init_10 rfl rfl ?_
  refine fw_putfI fl_X17_13 (fun q hq => Or.inr ⟨rfl, by cases hq; rfl⟩) rfl hx dX17_init_11 ?_
  have h := h _ rfl
  exact fw_return dX17_init_14 rfl ⟨rfl, h⟩
abbrev K_X18_init : fw_Kt := (RX18, "<init>", cX18_init, 3, none, [])
def p_X18_init (r0 : Nat) (i1 : Int32) (i2 : Int32) (μ : fw_M) (Q : fw_M → Prop) : Prop :=
  (∀ μ1, μ1 = m_uI μ r0 0 i1 →
  (∀ μ2, μ2 = m_uI μ1 r0 1 i2 →
  Q μ2))
set_option maxHeartbeats 4000000 in
theorem w_X18_init {g : fw_G} {f bc bs : Nat} {r0 : Nat} {i1 : Int32} {i2 : Int32} {μ : fw_M} {Q : fw_M → Prop} (hf : 1 ≤ f) (hx : m_K μ r0 = 19) (h : p_X18_init r0 i1 i2 μ Q) : fw_C g f bc bs yX18_init (ws_ yX18_init cX18_init 3 (none)) [fw_rv g r0, Value.int i1, Value.int i2] μ (fw_Qv Q) fw_nX := by
  unfold p_X18_init at h
  refine fw_intro' (Ls := [(0, fw_rv g r0), (1, Value.int i1), (2, Value.int i2)]) (by decide +kernel) (by simp [lg_sl, fw_cat, fw_ci, fw_clo]) (by simp [lv_args, fw_cat, fw_ci, fw_clo]) ?_
  show fw_V g K_X18_init f bc bs 0 [(0, fw_rv g r0), (1, Value.int i1), (2, Value.int i2)] [] μ (fw_Qv Q) fw_nX
  refine fw_aload_n dX18_init_0 rfl rfl ?_
  refine fw_objInit (k := 19) rfl hx q847 q110 q111 (by omega) (fw_s4 (Nat.le_of_ble_eq_true rfl)) dX18_init_1 ?_
  refine fw_aload_n dX18_init_4 rfl rfl ?_
  refine fw_iload_n dX18_init_5 rfl rfl ?_
  refine fw_putfI fl_X18_9 (fun q hq => Or.inr ⟨rfl, by cases hq; rfl⟩) rfl hx dX18_init_6 ?_
  have h := h _ rfl
  refine fw_aload_n dX18_init_9 rfl rfl ?_
  refine fw_iload_n dX18_init_10 rfl rfl ?_
  refine fw_putfI fl_X18_15 (fun q hq => Or.inr ⟨rfl, by cases hq; rfl⟩) rfl hx dX18_init_11 ?_
  have h := h _ rfl
  exact fw_return dX18_init_14 rfl ⟨rfl, h⟩
abbrev K_X2_init : fw_Kt := (RX2, "<init>", cX2_init, 1, none, [])
def p_X2_init (bc : Nat) (bs : Nat) (r0 : Nat) (μ : fw_M) (Q : fw_M → Prop) : Prop :=
  (¬ (2 : Int32) < 0 ∧ ((2 : Int32).toNatClampNeg ≤ 60000 ∧ (1 ≤ bc ∧ ((2 : Int32).toNatClampNeg ≤ bs ∧ (∀ rn5 : Nat, rn5 = m_x μ →
  (∀ μ8, μ8 = m_al μ 104 (2 : Int32).toNatClampNeg →
  (∀ μ11, μ11 = m_uP μ8 r0 0 rn5 →
  (¬ (24 : Int32) < 0 ∧ ((24 : Int32).toNatClampNeg ≤ 60000 ∧ (1 ≤ (bc - 1) ∧ ((24 : Int32).toNatClampNeg ≤ (bs - (2 : Int32).toNatClampNeg) ∧ (∀ rn16 : Nat, rn16 = m_x μ11 →
  (∀ μ19, μ19 = m_al μ11 105 (24 : Int32).toNatClampNeg →
  (∀ μ22, μ22 = m_uP μ19 r0 2 rn16 →
  Q μ22))))))))))))))
set_option maxHeartbeats 4000000 in
theorem w_X2_init {g : fw_G} {f bc bs : Nat} {r0 : Nat} {μ : fw_M} {Q : fw_M → Prop} (hf : 1 ≤ f) (hx : m_K μ r0 = 3) (h : p_X2_init bc bs r0 μ Q) : fw_C g f bc bs yX2_init (ws_ yX2_init cX2_init 1 (none)) [fw_rv g r0] μ (fw_Qv Q) fw_nX := by
  unfold p_X2_init at h
  refine fw_intro' (Ls := [(0, fw_rv g r0)]) (by decide +kernel) (by simp [lg_sl, fw_cat, fw_ci, fw_clo]) (by simp [lv_args, fw_cat, fw_ci, fw_clo]) ?_
  show fw_V g K_X2_init f bc bs 0 [(0, fw_rv g r0)] [] μ (fw_Qv Q) fw_nX
  refine fw_aload_n dX2_init_0 rfl rfl ?_
  refine fw_objInit (k := 3) rfl hx q190 q110 q111 (by omega) (fw_s4 (Nat.le_of_ble_eq_true rfl)) dX2_init_1 ?_
  refine fw_aload_n dX2_init_4 rfl rfl ?_
  refine fw_iconst (v := 2) dX2_init_5 (by decide) ?_
  refine fw_x (fun hX => ?_)
  obtain ⟨hc1, h⟩ := h
  obtain ⟨hc2, h⟩ := h
  obtain ⟨hc3, h⟩ := h
  obtain ⟨hc4, h⟩ := h
  refine fw_newq (k := 104) rfl q191 (by decide +kernel) hc1 (by omega) hc3 hc4 dX2_init_6 ?_
  refine fw_topr (fun rn5 e6 => ?_)
  have h := h rn5 e6
  refine fw_topm (fun μ8 e9 => ?_)
  have hg10 := fw_al_sE e9 hx (by decide) hX
  have hg7 := fw_al_KE e9 e6
  have h := h μ8 e9
  refine fw_putfP fl_X2_11 (fun q hq => Or.inr ⟨rfl, by cases hq; rfl⟩) rfl hg10 dX2_init_9 ?_
  have h := h _ rfl
  refine fw_aload_n dX2_init_12 rfl rfl ?_
  refine fw_bipush (v := 24) dX2_init_13 (by decide) ?_
  refine fw_x (fun hX => ?_)
  obtain ⟨hc12, h⟩ := h
  obtain ⟨hc13, h⟩ := h
  obtain ⟨hc14, h⟩ := h
  obtain ⟨hc15, h⟩ := h
  refine fw_newq (k := 105) rfl q193 (by decide +kernel) hc12 (by omega) hc14 hc15 dX2_init_15 ?_
  refine fw_topr (fun rn16 e17 => ?_)
  have h := h rn16 e17
  refine fw_topm (fun μ19 e20 => ?_)
  have hg21 := fw_al_sE e20 hg10 (by decide) hX
  have hg18 := fw_al_KE e20 e17
  have h := h μ19 e20
  refine fw_putfP fl_X2_19 (fun q hq => Or.inr ⟨rfl, by cases hq; rfl⟩) rfl hg21 dX2_init_18 ?_
  have h := h _ rfl
  exact fw_return dX2_init_21 rfl ⟨rfl, h⟩
abbrev K_X3_init : fw_Kt := (RX3, "<init>", cX3_init, 1, none, [])
def p_X3_init (r0 : Nat) (μ : fw_M) (Q : fw_M → Prop) : Prop :=
  Q μ
set_option maxHeartbeats 4000000 in
theorem w_X3_init {g : fw_G} {f bc bs : Nat} {r0 : Nat} {μ : fw_M} {Q : fw_M → Prop} (hf : 1 ≤ f) (hx : m_K μ r0 = 5) (h : p_X3_init r0 μ Q) : fw_C g f bc bs yX3_init (ws_ yX3_init cX3_init 1 (none)) [fw_rv g r0] μ (fw_Qv Q) fw_nX := by
  unfold p_X3_init at h
  refine fw_intro' (Ls := [(0, fw_rv g r0)]) (by decide +kernel) (by simp [lg_sl, fw_cat, fw_ci, fw_clo]) (by simp [lv_args, fw_cat, fw_ci, fw_clo]) ?_
  show fw_V g K_X3_init f bc bs 0 [(0, fw_rv g r0)] [] μ (fw_Qv Q) fw_nX
  refine fw_aload_n dX3_init_0 rfl rfl ?_
  refine fw_objInit (k := 5) rfl hx q222 q110 q111 (by omega) (fw_s4 (Nat.le_of_ble_eq_true rfl)) dX3_init_1 ?_
  exact fw_return dX3_init_4 rfl ⟨rfl, h⟩
abbrev K_X4_init : fw_Kt := (RX4, "<init>", cX4_init, 1, none, [])
def p_X4_init (bc : Nat) (bs : Nat) (r0 : Nat) (μ : fw_M) (Q : fw_M → Prop) : Prop :=
  (p_X3_init r0 μ (fun μ2 =>
  (¬ (12 : Int32) < 0 ∧ ((12 : Int32).toNatClampNeg ≤ 60000 ∧ (1 ≤ bc ∧ ((12 : Int32).toNatClampNeg ≤ bs ∧ (∀ rn9 : Nat, rn9 = m_x μ2 →
  (∀ μ12, μ12 = m_al μ2 100 (12 : Int32).toNatClampNeg →
  (∀ μ15, μ15 = m_uP μ12 r0 0 rn9 →
  Q μ15)))))))))
set_option maxHeartbeats 4000000 in
theorem w_X4_init {g : fw_G} {f bc bs : Nat} {r0 : Nat} {μ : fw_M} {Q : fw_M → Prop} (hf : 2 ≤ f) (hx : m_K μ r0 = 5) (h : p_X4_init bc bs r0 μ Q) : fw_C g f bc bs yX4_init (ws_ yX4_init cX4_init 1 (none)) [fw_rv g r0] μ (fw_Qv Q) fw_nX := by
  unfold p_X4_init at h
  refine fw_intro' (Ls := [(0, fw_rv g r0)]) (by decide +kernel) (by simp [lg_sl, fw_cat, fw_ci, fw_clo]) (by simp [lv_args, fw_cat, fw_ci, fw_clo]) ?_
  show fw_V g K_X4_init f bc bs 0 [(0, fw_rv g r0)] [] μ (fw_Qv Q) fw_nX
  refine fw_aload_n dX4_init_0 rfl rfl ?_
  refine fw_callIN0z (f1 := f - 1) cl_X4_1 (k := 5) rfl hx (by decide) (by omega) (fw_s4 (Nat.le_of_ble_eq_true rfl)) dX4_init_1 (w_X3_init (f := f - 1) (by omega) hx h) (fun _ _ h9 _ _ => h9.elim) (fun v9 μ2 q9 hs3 => ?_)
  obtain ⟨rfl, h⟩ := q9
  refine fw_tv ?_
  have hg4 := hs3.K hx (by decide)
  refine fw_aload_n dX4_init_4 rfl rfl ?_
  refine fw_bipush (v := 12) dX4_init_5 (by decide) ?_
  refine fw_x (fun hX => ?_)
  obtain ⟨hc5, h⟩ := h
  obtain ⟨hc6, h⟩ := h
  obtain ⟨hc7, h⟩ := h
  obtain ⟨hc8, h⟩ := h
  refine fw_newa (k := 100) rfl rfl q183 hc5 (by show _ * 4 ≤ _; omega) hc7 hc8 dX4_init_7 ?_
  refine fw_topr (fun rn9 e10 => ?_)
  have h := h rn9 e10
  refine fw_topm (fun μ12 e13 => ?_)
  have hg14 := fw_al_sE e13 hg4 (by decide) hX
  have hg11 := fw_al_KE e13 e10
  have h := h μ12 e13
  refine fw_putfP fl_X4_7 (fun q hq => Or.inr ⟨rfl, by cases hq; rfl⟩) rfl hg14 dX4_init_9 ?_
  have h := h _ rfl
  exact fw_return dX4_init_12 rfl ⟨rfl, h⟩
abbrev K_X6_init : fw_Kt := (RX6, "<init>", cX6_init, 3, none, [])
def p_X6_init (r0 : Nat) (r1 : Nat) (i2 : Int32) (μ : fw_M) (Q : fw_M → Prop) : Prop :=
  (∀ μ1, μ1 = m_uP μ r0 0 r1 →
  (∀ μ2, μ2 = m_uI μ1 r0 1 i2 →
  Q μ2))
set_option maxHeartbeats 4000000 in
theorem w_X6_init {g : fw_G} {f bc bs : Nat} {r0 : Nat} {r1 : Nat} {i2 : Int32} {μ : fw_M} {Q : fw_M → Prop} (hf : 1 ≤ f) (hx : m_K μ r0 = 7) (h : p_X6_init r0 r1 i2 μ Q) : fw_C g f bc bs yX6_init (ws_ yX6_init cX6_init 3 (none)) [fw_rv g r0, fw_rv g r1, Value.int i2] μ (fw_Qv Q) fw_nX := by
  unfold p_X6_init at h
  refine fw_intro' (Ls := [(0, fw_rv g r0), (1, fw_rv g r1), (2, Value.int i2)]) (by decide +kernel) (by simp [lg_sl, fw_cat, fw_ci, fw_clo]) (by simp [lv_args, fw_cat, fw_ci, fw_clo]) ?_
  show fw_V g K_X6_init f bc bs 0 [(0, fw_rv g r0), (1, fw_rv g r1), (2, Value.int i2)] [] μ (fw_Qv Q) fw_nX
  refine fw_aload_n dX6_init_0 rfl rfl ?_
  refine fw_objInit (k := 7) rfl hx q478 q110 q111 (by omega) (fw_s4 (Nat.le_of_ble_eq_true rfl)) dX6_init_1 ?_
  refine fw_aload_n dX6_init_4 rfl rfl ?_
  refine fw_aload_n dX6_init_5 rfl rfl ?_
  refine fw_putfP fl_X6_9 (fun q hq => Or.inr ⟨rfl, by cases hq; rfl⟩) rfl hx dX6_init_6 ?_
  have h := h _ rfl
  refine fw_aload_n dX6_init_9 rfl rfl ?_
  refine fw_iload_n dX6_init_10 rfl rfl ?_
  refine fw_putfI fl_X6_15 (fun q hq => Or.inr ⟨rfl, by cases hq; rfl⟩) rfl hx dX6_init_11 ?_
  have h := h _ rfl
  exact fw_return dX6_init_14 rfl ⟨rfl, h⟩
