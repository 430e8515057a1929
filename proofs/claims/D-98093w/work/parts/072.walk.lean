set_option maxRecDepth 100000
abbrev K_X6_both : fw_Kt := (RX6, "both", cX6_both, 2, some (.object "SpoonScales$Ask"), [])
def p_X6_both_L5b (r0 : Nat) (k5 : Nat → Nat → Nat → fw_M → Prop) (bc : Nat) (bs : Nat) (r1 : Nat) (μ : fw_M) (Q : Nat → fw_M → Prop) (X : Nat → fw_M → Prop) : Prop :=
  (if (m_I μ r0 4) = (318 : Int32) then
  ((p_X6_next r0 μ (fun μ3 =>
   (1 ≤ bc ∧ (3 ≤ bs ∧ (∀ rn8 : Nat, rn8 = m_x μ3 →
   (∀ μ11, μ11 = m_al μ3 15 3 →
   (∃ b16 b17, b16 ≤ (bc - 1) ∧ b17 ≤ (bs - 3) ∧ (pc_X6_ask b16 b17 r0 μ11 (fun r14 μ15 =>
   (p_X14_init rn8 (0 : Int32) r1 r14 μ15 (fun μ24 =>
   k5 ((bc - 1) - b16) ((bs - 3) - b17) rn8 μ24))) X)))))))))
  else
  (Q r1 μ))
def p_X6_both_L5 (r0 : Nat) (bc : Nat) (bs : Nat) (r1 : Nat) (μ : fw_M) (Q : Nat → fw_M → Prop) (X : Nat → fw_M → Prop) : Prop := fw_lp (fun (k : Nat × Nat × Nat × fw_M → Prop) (a : Nat × Nat × Nat × fw_M) => p_X6_both_L5b r0 (fun bc bs r1 μ => k (bc, bs, r1, μ)) a.1 a.2.1 a.2.2.1 a.2.2.2 Q X) (bc, bs, r1, μ)
theorem r_X6_both_L5 {r0 : Nat} {Q : Nat → fw_M → Prop} {X : Nat → fw_M → Prop} (I : Nat → Nat → Nat → fw_M → Prop) (v : Nat → Nat → Nat → fw_M → Nat) (hs : ∀ (k : Nat → Nat → Nat → fw_M → Prop) (bc : Nat) (bs : Nat) (r1 : Nat) (μ : fw_M), I bc bs r1 μ → (∀ (bc' : Nat) (bs' : Nat) (r1' : Nat) (ν : fw_M), I bc' bs' r1' ν → v bc' bs' r1' ν < v bc bs r1 μ → k bc' bs' r1' ν) → p_X6_both_L5b r0 k bc bs r1 μ Q X) (bc : Nat) (bs : Nat) (r1 : Nat) (μ : fw_M) (h : I bc bs r1 μ) : p_X6_both_L5 r0 bc bs r1 μ Q X :=
  fw_lp_in (A := Nat × Nat × Nat × fw_M) (fun a => I a.1 a.2.1 a.2.2.1 a.2.2.2) (fun a => v a.1 a.2.1 a.2.2.1 a.2.2.2) (fun k a ha hk => hs (fun bc bs r1 μ => k (bc, bs, r1, μ)) a.1 a.2.1 a.2.2.1 a.2.2.2 ha (fun bc' bs' r1' ν hb hlt => hk (bc', bs', r1', ν) hb hlt)) (bc, bs, r1, μ) h
set_option maxHeartbeats 4000000 in
theorem w_X6_both_L5b {g : fw_G} {f : Nat} {r0 : Nat} {k5 : Nat → Nat → Nat → fw_M → Prop} {bc : Nat} {bs : Nat} {r1 : Nat} {μ : fw_M} {Q : Nat → fw_M → Prop} {X : Nat → fw_M → Prop} (hf : 155 ≤ f) (hk5 : ∀ {bc : Nat} {bs : Nat} {r1 : Nat} {μ : fw_M}, m_K μ r0 = 7 → k5 bc bs r1 μ → fw_V g K_X6_both f bc bs 5 [(0, fw_rv g r0), (1, fw_rv g r1)] [] μ (fw_Qr g Q) X) (hx : m_K μ r0 = 7) (h : p_X6_both_L5b r0 k5 bc bs r1 μ Q X) : fw_V g K_X6_both f bc bs 5 [(0, fw_rv g r0), (1, fw_rv g r1)] [] μ (fw_Qr g Q) X := by
  unfold p_X6_both_L5b at h
  refine fw_aload_n dX6_both_5 rfl rfl ?_
  refine fw_getfI fl_X6_60 rfl hx dX6_both_6 ?_
  refine fw_sipush (v := 318) dX6_both_9 (by decide) ?_
  refine fw_icmp_ne (tgt := 36) dX6_both_12 (by decide) (fun c1 => ?_) (fun c1 => ?_)
  · have h := fw_if h c1
    refine fw_aload_n dX6_both_36 rfl rfl ?_
    exact fw_areturn dX6_both_37 rfl (by first | exact Or.inl ⟨_, rfl⟩ | exact Or.inr ⟨_, rfl⟩) ⟨_, rfl, h⟩
  · have h := fw_it h c1
    refine fw_aload_n dX6_both_15 rfl rfl ?_
    refine fw_callV0z (f1 := f - 1) cl_X6_92 rfl hx (by decide) (by omega) (fw_s4 (Nat.le_of_ble_eq_true rfl)) dX6_both_16 (w_X6_next (f := f - 1) (by omega) hx h) (fun _ _ h9 _ _ => h9.elim) (fun v9 μ3 q9 hs4 => ?_)
    obtain ⟨rfl, h⟩ := q9
    refine fw_tv ?_
    have hg5 := hs4.K hx (by decide)
    refine fw_x (fun hX => ?_)
    obtain ⟨hc6, h⟩ := h
    obtain ⟨hc7, h⟩ := h
    refine fw_newo (k := 15) rfl q789 q790 q97 hc6 hc7 dX6_both_19 ?_
    refine fw_topr (fun rn8 e9 => ?_)
    have h := h rn8 e9
    refine fw_topm (fun μ11 e12 => ?_)
    have hg13 := fw_al_sE e12 hg5 (by decide) hX
    have hg10 := fw_al_KE e12 e9
    have h := h μ11 e12
    refine fw_dup dX6_both_22 (fw_cat _) ?_
    refine fw_iconst (v := 0) dX6_both_23 (by decide) ?_
    refine fw_aload_n dX6_both_24 rfl rfl ?_
    refine fw_aload_n dX6_both_25 rfl rfl ?_
    obtain ⟨b16, b17, hb18, hb19, h⟩ := h
    refine fw_callV0 (f1 := f - 1) (b1 := b16) (b2 := b17) cl_X6_160 rfl hg13 (by decide) (by omega) hb18 hb19 (fw_s4 (Nat.le_of_ble_eq_true rfl)) dX6_both_26 (wc_X6_ask (f := f - 1) (by omega) hg13 h) (fun _ _ h9 k9 _ => fw_out rfl k9 h9) (fun v9 μ15 q9 hs20 => ?_)
    obtain ⟨r14, rfl, h⟩ := q9
    refine fw_tr ?_
    have hg21 := hs20.K hg13 (by decide)
    have hg22 := hs20.K hg10 (by decide)
    refine fw_callI3z (f1 := f - 1) cl_X6_157 (k := 15) rfl hg22 (by decide) (by omega) (fw_s4 (Nat.le_of_ble_eq_true rfl)) dX6_both_29 (w_X14_init (f := f - 1) (by omega) hg22 h) (fun _ _ h9 _ _ => h9.elim) (fun v9 μ24 q9 hs25 => ?_)
    obtain ⟨rfl, h⟩ := q9
    refine fw_tv ?_
    have hg26 := hs25.K hg21 (by decide)
    have hg27 := hs25.K hg22 (by decide)
    refine fw_astore_nN (Ls' := [(1, fw_rv g rn8), (0, fw_rv g r0)]) [] dX6_both_32 rfl (by decide) rfl rfl rfl (fw_cat _) rfl ?_
    refine fw_goto (tgt := 5) dX6_both_33 (by decide) ?_
    refine fw_ls [1, 0] rfl ?_
    exact hk5 hg26 h
theorem w_X6_both_L5 {g : fw_G} {f : Nat} {r0 : Nat} {bc : Nat} {bs : Nat} {r1 : Nat} {μ : fw_M} {Q : Nat → fw_M → Prop} {X : Nat → fw_M → Prop} (hf : 155 ≤ f) (hx : m_K μ r0 = 7) (h : p_X6_both_L5 r0 bc bs r1 μ Q X) : fw_V g K_X6_both f bc bs 5 [(0, fw_rv g r0), (1, fw_rv g r1)] [] μ (fw_Qr g Q) X := by
  have key := fw_lp_out (R := fun (a : Nat × Nat × Nat × fw_M) => m_K a.2.2.2 r0 = 7 → fw_V g K_X6_both f a.1 a.2.1 5 [(0, fw_rv g r0), (1, fw_rv g a.2.2.1)] [] a.2.2.2 (fw_Qr g Q) X) (fun k hk9 a ha hx2 => w_X6_both_L5b hf (fun {bc bs r1} {μ} hx3 h3 => hk9 (bc, bs, r1, μ) h3 hx3) hx2 ha) h
  exact key hx
def p_X6_both (bc : Nat) (bs : Nat) (r0 : Nat) (μ : fw_M) (Q : Nat → fw_M → Prop) (X : Nat → fw_M → Prop) : Prop :=
  (∃ b3 b4, b3 ≤ bc ∧ b4 ≤ bs ∧ (pc_X6_ask b3 b4 r0 μ (fun r1 μ2 =>
  p_X6_both_L5 r0 (bc - b3) (bs - b4) r1 μ2 Q X) X))
set_option maxHeartbeats 4000000 in
theorem w_X6_both {g : fw_G} {f bc bs : Nat} {r0 : Nat} {μ : fw_M} {Q : Nat → fw_M → Prop} {X : Nat → fw_M → Prop} (hf : 155 ≤ f) (hx : m_K μ r0 = 7) (h : p_X6_both bc bs r0 μ Q X) : fw_C g f bc bs yX6_both (ws_ yX6_both cX6_both 2 (some (.object "SpoonScales$Ask"))) [fw_rv g r0] μ (fw_Qr g Q) X := by
  unfold p_X6_both at h
  refine fw_intro' (Ls := [(0, fw_rv g r0)]) (by decide +kernel) (by simp [lg_sl, fw_cat, fw_ci, fw_clo]) (by simp [lv_args, fw_cat, fw_ci, fw_clo]) ?_
  show fw_V g K_X6_both f bc bs 0 [(0, fw_rv g r0)] [] μ (fw_Qr g Q) X
  refine fw_aload_n dX6_both_0 rfl rfl ?_
  obtain ⟨b3, b4, hb5, hb6, h⟩ := h
  refine fw_callV0 (f1 := f - 1) (b1 := b3) (b2 := b4) cl_X6_160 rfl hx (by decide) (by omega) hb5 hb6 (fw_s4 (Nat.le_of_ble_eq_true rfl)) dX6_both_1 (wc_X6_ask (f := f - 1) (by omega) hx h) (fun _ _ h9 k9 _ => fw_out rfl k9 h9) (fun v9 μ2 q9 hs7 => ?_)
  obtain ⟨r1, rfl, h⟩ := q9
  refine fw_tr ?_
  have hg8 := hs7.K hx (by decide)
  refine fw_astore_nN (Ls' := [(1, fw_rv g r1), (0, fw_rv g r0)]) [] dX6_both_4 rfl (by decide) rfl rfl rfl (fw_cat _) rfl ?_
  refine fw_ls [1, 0] rfl ?_
  exact w_X6_both_L5 hf hg8 h
abbrev K_X6_either : fw_Kt := (RX6, "either", cX6_either, 2, some (.object "SpoonScales$Ask"), [])
def p_X6_either_L5b (r0 : Nat) (k5 : Nat → Nat → Nat → fw_M → Prop) (bc : Nat) (bs : Nat) (r1 : Nat) (μ : fw_M) (Q : Nat → fw_M → Prop) (X : Nat → fw_M → Prop) : Prop :=
  (if (m_I μ r0 4) = (317 : Int32) then
  ((p_X6_next r0 μ (fun μ3 =>
   (1 ≤ bc ∧ (3 ≤ bs ∧ (∀ rn8 : Nat, rn8 = m_x μ3 →
   (∀ μ11, μ11 = m_al μ3 15 3 →
   (∃ b16 b17, b16 ≤ (bc - 1) ∧ b17 ≤ (bs - 3) ∧ (p_X6_both b16 b17 r0 μ11 (fun r14 μ15 =>
   (p_X14_init rn8 (1 : Int32) r1 r14 μ15 (fun μ24 =>
   k5 ((bc - 1) - b16) ((bs - 3) - b17) rn8 μ24))) X)))))))))
  else
  (Q r1 μ))
def p_X6_either_L5 (r0 : Nat) (bc : Nat) (bs : Nat) (r1 : Nat) (μ : fw_M) (Q : Nat → fw_M → Prop) (X : Nat → fw_M → Prop) : Prop := fw_lp (fun (k : Nat × Nat × Nat × fw_M → Prop) (a : Nat × Nat × Nat × fw_M) => p_X6_either_L5b r0 (fun bc bs r1 μ => k (bc, bs, r1, μ)) a.1 a.2.1 a.2.2.1 a.2.2.2 Q X) (bc, bs, r1, μ)
theorem r_X6_either_L5 {r0 : Nat} {Q : Nat → fw_M → Prop} {X : Nat → fw_M → Prop} (I : Nat → Nat → Nat → fw_M → Prop) (v : Nat → Nat → Nat → fw_M → Nat) (hs : ∀ (k : Nat → Nat → Nat → fw_M → Prop) (bc : Nat) (bs : Nat) (r1 : Nat) (μ : fw_M), I bc bs r1 μ → (∀ (bc' : Nat) (bs' : Nat) (r1' : Nat) (ν : fw_M), I bc' bs' r1' ν → v bc' bs' r1' ν < v bc bs r1 μ → k bc' bs' r1' ν) → p_X6_either_L5b r0 k bc bs r1 μ Q X) (bc : Nat) (bs : Nat) (r1 : Nat) (μ : fw_M) (h : I bc bs r1 μ) : p_X6_either_L5 r0 bc bs r1 μ Q X :=
  fw_lp_in (A := Nat × Nat × Nat × fw_M) (fun a => I a.1 a.2.1 a.2.2.1 a.2.2.2) (fun a => v a.1 a.2.1 a.2.2.1 a.2.2.2) (fun k a ha hk => hs (fun bc bs r1 μ => k (bc, bs, r1, μ)) a.1 a.2.1 a.2.2.1 a.2.2.2 ha (fun bc' bs' r1' ν hb hlt => hk (bc', bs', r1', ν) hb hlt)) (bc, bs, r1, μ) h
set_option maxHeartbeats 4000000 in
theorem w_X6_either_L5b {g : fw_G} {f : Nat} {r0 : Nat} {k5 : Nat → Nat → Nat → fw_M → Prop} {bc : Nat} {bs : Nat} {r1 : Nat} {μ : fw_M} {Q : Nat → fw_M → Prop} {X : Nat → fw_M → Prop} (hf : 156 ≤ f) (hk5 : ∀ {bc : Nat} {bs : Nat} {r1 : Nat} {μ : fw_M}, m_K μ r0 = 7 → k5 bc bs r1 μ → fw_V g K_X6_either f bc bs 5 [(0, fw_rv g r0), (1, fw_rv g r1)] [] μ (fw_Qr g Q) X) (hx : m_K μ r0 = 7) (h : p_X6_either_L5b r0 k5 bc bs r1 μ Q X) : fw_V g K_X6_either f bc bs 5 [(0, fw_rv g r0), (1, fw_rv g r1)] [] μ (fw_Qr g Q) X := by
  unfold p_X6_either_L5b at h
  refine fw_aload_n dX6_either_5 rfl rfl ?_
  refine fw_getfI fl_X6_60 rfl hx dX6_either_6 ?_
  refine fw_sipush (v := 317) dX6_either_9 (by decide) ?_
  refine fw_icmp_ne (tgt := 36) dX6_either_12 (by decide) (fun c1 => ?_) (fun c1 => ?_)
  · have h := fw_if h c1
    refine fw_aload_n dX6_either_36 rfl rfl ?_
    exact fw_areturn dX6_either_37 rfl (by first | exact Or.inl ⟨_, rfl⟩ | exact Or.inr ⟨_, rfl⟩) ⟨_, rfl, h⟩
  · have h := fw_it h c1
    refine fw_aload_n dX6_either_15 rfl rfl ?_
    refine fw_callV0z (f1 := f - 1) cl_X6_92 rfl hx (by decide) (by omega) (fw_s4 (Nat.le_of_ble_eq_true rfl)) dX6_either_16 (w_X6_next (f := f - 1) (by omega) hx h) (fun _ _ h9 _ _ => h9.elim) (fun v9 μ3 q9 hs4 => ?_)
    obtain ⟨rfl, h⟩ := q9
    refine fw_tv ?_
    have hg5 := hs4.K hx (by decide)
    refine fw_x (fun hX => ?_)
    obtain ⟨hc6, h⟩ := h
    obtain ⟨hc7, h⟩ := h
    refine fw_newo (k := 15) rfl q789 q790 q97 hc6 hc7 dX6_either_19 ?_
    refine fw_topr (fun rn8 e9 => ?_)
    have h := h rn8 e9
    refine fw_topm (fun μ11 e12 => ?_)
    have hg13 := fw_al_sE e12 hg5 (by decide) hX
    have hg10 := fw_al_KE e12 e9
    have h := h μ11 e12
    refine fw_dup dX6_either_22 (fw_cat _) ?_
    refine fw_iconst (v := 1) dX6_either_23 (by decide) ?_
    refine fw_aload_n dX6_either_24 rfl rfl ?_
    refine fw_aload_n dX6_either_25 rfl rfl ?_
    obtain ⟨b16, b17, hb18, hb19, h⟩ := h
    refine fw_callV0 (f1 := f - 1) (b1 := b16) (b2 := b17) cl_X6_152 rfl hg13 (by decide) (by omega) hb18 hb19 (fw_s4 (Nat.le_of_ble_eq_true rfl)) dX6_either_26 (w_X6_both (f := f - 1) (by omega) hg13 h) (fun _ _ h9 k9 _ => fw_out rfl k9 h9) (fun v9 μ15 q9 hs20 => ?_)
    obtain ⟨r14, rfl, h⟩ := q9
    refine fw_tr ?_
    have hg21 := hs20.K hg13 (by decide)
    have hg22 := hs20.K hg10 (by decide)
    refine fw_callI3z (f1 := f - 1) cl_X6_157 (k := 15) rfl hg22 (by decide) (by omega) (fw_s4 (Nat.le_of_ble_eq_true rfl)) dX6_either_29 (w_X14_init (f := f - 1) (by omega) hg22 h) (fun _ _ h9 _ _ => h9.elim) (fun v9 μ24 q9 hs25 => ?_)
    obtain ⟨rfl, h⟩ := q9
    refine fw_tv ?_
    have hg26 := hs25.K hg21 (by decide)
    have hg27 := hs25.K hg22 (by decide)
    refine fw_astore_nN (Ls' := [(1, fw_rv g rn8), (0, fw_rv g r0)]) [] dX6_either_32 rfl (by decide) rfl rfl rfl (fw_cat _) rfl ?_
    refine fw_goto (tgt := 5) dX6_either_33 (by decide) ?_
    refine fw_ls [1, 0] rfl ?_
    exact hk5 hg26 h
theorem w_X6_either_L5 {g : fw_G} {f : Nat} {r0 : Nat} {bc : Nat} {bs : Nat} {r1 : Nat} {μ : fw_M} {Q : Nat → fw_M → Prop} {X : Nat → fw_M → Prop} (hf : 156 ≤ f) (hx : m_K μ r0 = 7) (h : p_X6_either_L5 r0 bc bs r1 μ Q X) : fw_V g K_X6_either f bc bs 5 [(0, fw_rv g r0), (1, fw_rv g r1)] [] μ (fw_Qr g Q) X := by
  have key := fw_lp_out (R := fun (a : Nat × Nat × Nat × fw_M) => m_K a.2.2.2 r0 = 7 → fw_V g K_X6_either f a.1 a.2.1 5 [(0, fw_rv g r0), (1, fw_rv g a.2.2.1)] [] a.2.2.2 (fw_Qr g Q) X) (fun k hk9 a ha hx2 => w_X6_either_L5b hf (fun {bc bs r1} {μ} hx3 h3 => hk9 (bc, bs, r1, μ) h3 hx3) hx2 ha) h
  exact key hx
def p_X6_either (bc : Nat) (bs : Nat) (r0 : Nat) (μ : fw_M) (Q : Nat → fw_M → Prop) (X : Nat → fw_M → Prop) : Prop :=
  (∃ b3 b4, b3 ≤ bc ∧ b4 ≤ bs ∧ (p_X6_both b3 b4 r0 μ (fun r1 μ2 =>
  p_X6_either_L5 r0 (bc - b3) (bs - b4) r1 μ2 Q X) X))
set_option maxHeartbeats 4000000 in
theorem w_X6_either {g : fw_G} {f bc bs : Nat} {r0 : Nat} {μ : fw_M} {Q : Nat → fw_M → Prop} {X : Nat → fw_M → Prop} (hf : 156 ≤ f) (hx : m_K μ r0 = 7) (h : p_X6_either bc bs r0 μ Q X) : fw_C g f bc bs yX6_either (ws_ yX6_either cX6_either 2 (some (.object "SpoonScales$Ask"))) [fw_rv g r0] μ (fw_Qr g Q) X := by
  unfold p_X6_either at h
  refine fw_intro' (Ls := [(0, fw_rv g r0)]) (by decide +kernel) (by simp [lg_sl, fw_cat, fw_ci, fw_clo]) (by simp [lv_args, fw_cat, fw_ci, fw_clo]) ?_
  show fw_V g K_X6_either f bc bs 0 [(0, fw_rv g r0)] [] μ (fw_Qr g Q) X
  refine fw_aload_n dX6_either_0 rfl rfl ?_
  obtain ⟨b3, b4, hb5, hb6, h⟩ := h
  refine fw_callV0 (f1 := f - 1) (b1 := b3) (b2 := b4) cl_X6_152 rfl hx (by decide) (by omega) hb5 hb6 (fw_s4 (Nat.le_of_ble_eq_true rfl)) dX6_either_1 (w_X6_both (f := f - 1) (by omega) hx h) (fun _ _ h9 k9 _ => fw_out rfl k9 h9) (fun v9 μ2 q9 hs7 => ?_)
  obtain ⟨r1, rfl, h⟩ := q9
  refine fw_tr ?_
  have hg8 := hs7.K hx (by decide)
  refine fw_astore_nN (Ls' := [(1, fw_rv g r1), (0, fw_rv g r0)]) [] dX6_either_4 rfl (by decide) rfl rfl rfl (fw_cat _) rfl ?_
  refine fw_ls [1, 0] rfl ?_
  exact w_X6_either_L5 hf hg8 h
abbrev K_X6_line : fw_Kt := (RX6, "line", cX6_line, 2, some (.object "SpoonScales$Line"), [])
def p_X6_line_L77 (r0 : Nat) (i1 : Int32) (rs0 : Nat) (is1 : Int32) (bc : Nat) (bs : Nat) (μ : fw_M) (Q : Nat → fw_M → Prop) (X : Nat → fw_M → Prop) : Prop :=
  (m_K μ rs0 = 7 ∧ (∃ b4 b5, b4 ≤ bc ∧ b5 ≤ bs ∧ (p_X6_need b4 b5 rs0 is1 μ (fun μ3 =>
  (if (m_I μ3 r0 9) = (313 : Int32) then
  ((1 ≤ (bc - b4) ∧ (2 ≤ (bs - b5) ∧ (∀ rn36 : Nat, rn36 = m_x μ3 →
   (∀ μ39, μ39 = m_al μ3 18 2 →
   (∃ b44 b45, b44 ≤ ((bc - b4) - 1) ∧ b45 ≤ ((bs - b5) - 2) ∧ (p_X6_number b44 b45 r0 (0 : Int32) (2 : Int32) μ39 (fun v42 μ43 =>
   (p_X17_init rn36 i1 v42 μ43 (fun μ52 =>
   Q rn36 μ52))) X)))))))
  else
  ((1 ≤ (bc - b4) ∧ (2 ≤ (bs - b5) ∧ (∀ rn14 : Nat, rn14 = m_x μ3 →
   (∀ μ17, μ17 = m_al μ3 19 2 →
   (∃ b22 b23, b22 ≤ ((bc - b4) - 1) ∧ b23 ≤ ((bs - b5) - 2) ∧ (p_X6_number b22 b23 r0 (0 : Int32) (1 : Int32) μ17 (fun v20 μ21 =>
   (p_X18_init rn14 i1 v20 μ21 (fun μ30 =>
   Q rn14 μ30))) X))))))))) X)))
set_option maxHeartbeats 4000000 in
theorem w_X6_line_L77 {g : fw_G} {f : Nat} {r0 : Nat} {i1 : Int32} {rs0 : Nat} {is1 : Int32} {bc : Nat} {bs : Nat} {μ : fw_M} {Q : Nat → fw_M → Prop} {X : Nat → fw_M → Prop} (hf : 9 ≤ f) (hx : m_K μ r0 = 7) (h : p_X6_line_L77 r0 i1 rs0 is1 bc bs μ Q X) : fw_V g K_X6_line f bc bs 77 [(0, fw_rv g r0), (1, Value.int i1)] [Value.int is1, fw_rv g rs0] μ (fw_Qr g Q) X := by
  unfold p_X6_line_L77 at h
  obtain ⟨hg1, h⟩ := h
  obtain ⟨b4, b5, hb6, hb7, h⟩ := h
  refine fw_callV1 (f1 := f - 1) (b1 := b4) (b2 := b5) cl_X6_131 rfl hg1 (by decide) (by omega) hb6 hb7 (fw_s4 (Nat.le_of_ble_eq_true rfl)) dX6_line_77 (w_X6_need (f := f - 1) (by omega) hg1 h) (fun _ _ h9 k9 _ => fw_out rfl k9 h9) (fun v9 μ3 q9 hs8 => ?_)
  obtain ⟨rfl, h⟩ := q9
  refine fw_tv ?_
  have hg9 := hs8.K hx (by decide)
  have hg10 := hs8.K hg1 (by decide)
  refine fw_aload_n dX6_line_80 rfl rfl ?_
  refine fw_getfI fl_X6_101 rfl hg9 dX6_line_81 ?_
  refine fw_sipush (v := 313) dX6_line_84 (by decide) ?_
  refine fw_icmp_ne (tgt := 107) dX6_line_87 (by decide) (fun c11 => ?_) (fun c11 => ?_)
  · have h := fw_if h c11
    refine fw_x (fun hX => ?_)
    obtain ⟨hc12, h⟩ := h
    obtain ⟨hc13, h⟩ := h
    refine fw_newo (k := 19) rfl q842 q843 q101 hc12 hc13 dX6_line_107 ?_
    refine fw_topr (fun rn14 e15 => ?_)
    have h := h rn14 e15
    refine fw_topm (fun μ17 e18 => ?_)
    have hg19 := fw_al_sE e18 hg9 (by decide) hX
    have hg16 := fw_al_KE e18 e15
    have h := h μ17 e18
    refine fw_dup dX6_line_110 (fw_cat _) ?_
    refine fw_iload_n dX6_line_111 rfl rfl ?_
    refine fw_aload_n dX6_line_112 rfl rfl ?_
    refine fw_iconst (v := 0) dX6_line_113 (by decide) ?_
    refine fw_iconst (v := 1) dX6_line_114 (by decide) ?_
    obtain ⟨b22, b23, hb24, hb25, h⟩ := h
    refine fw_callV2 (f1 := f - 1) (b1 := b22) (b2 := b23) cl_X6_138 rfl hg19 (by decide) (by omega) hb24 hb25 (fw_s4 (Nat.le_of_ble_eq_true rfl)) dX6_line_115 (w_X6_number (f := f - 1) (by omega) hg19 h) (fun _ _ h9 k9 _ => fw_out rfl k9 h9) (fun v9 μ21 q9 hs26 => ?_)
    obtain ⟨v20, rfl, h⟩ := q9
    refine fw_ti ?_
    have hg27 := hs26.K hg19 (by decide)
    have hg28 := hs26.K hg16 (by decide)
    refine fw_callI2z (f1 := f - 1) cl_X6_151 (k := 19) rfl hg28 (by decide) (by omega) (fw_s4 (Nat.le_of_ble_eq_true rfl)) dX6_line_118 (w_X18_init (f := f - 1) (by omega) hg28 h) (fun _ _ h9 _ _ => h9.elim) (fun v9 μ30 q9 hs31 => ?_)
    obtain ⟨rfl, h⟩ := q9
    refine fw_tv ?_
    have hg32 := hs31.K hg27 (by decide)
    have hg33 := hs31.K hg28 (by decide)
    exact fw_areturn dX6_line_121 rfl (by first | exact Or.inl ⟨_, rfl⟩ | exact Or.inr ⟨_, rfl⟩) ⟨_, rfl, h⟩
  · have h := fw_it h c11
    refine fw_x (fun hX => ?_)
    obtain ⟨hc34, h⟩ := h
    obtain ⟨hc35, h⟩ := h
    refine fw_newo (k := 18) rfl q829 q830 q100 hc34 hc35 dX6_line_90 ?_
    refine fw_topr (fun rn36 e37 => ?_)
    have h := h rn36 e37
    refine fw_topm (fun μ39 e40 => ?_)
    have hg41 := fw_al_sE e40 hg9 (by decide) hX
    have hg38 := fw_al_KE e40 e37
    have h := h μ39 e40
    refine fw_dup dX6_line_93 (fw_cat _) ?_
    refine fw_iload_n dX6_line_94 rfl rfl ?_
    refine fw_aload_n dX6_line_95 rfl rfl ?_
    refine fw_iconst (v := 0) dX6_line_96 (by decide) ?_
    refine fw_iconst (v := 2) dX6_line_97 (by decide) ?_
    obtain ⟨b44, b45, hb46, hb47, h⟩ := h
    refine fw_callV2 (f1 := f - 1) (b1 := b44) (b2 := b45) cl_X6_138 rfl hg41 (by decide) (by omega) hb46 hb47 (fw_s4 (Nat.le_of_ble_eq_true rfl)) dX6_line_98 (w_X6_number (f := f - 1) (by omega) hg41 h) (fun _ _ h9 k9 _ => fw_out rfl k9 h9) (fun v9 μ43 q9 hs48 => ?_)
    obtain ⟨v42, rfl, h⟩ := q9
    refine fw_ti ?_
    have hg49 := hs48.K hg41 (by decide)
    have hg50 := hs48.K hg38 (by decide)
    refine fw_callI2z (f1 := f - 1) cl_X6_148 (k := 18) rfl hg50 (by decide) (by omega) (fw_s4 (Nat.le_of_ble_eq_true rfl)) dX6_line_101 (w_X17_init (f := f - 1) (by omega) hg50 h) (fun _ _ h9 _ _ => h9.elim) (fun v9 μ52 q9 hs53 => ?_)
    obtain ⟨rfl, h⟩ := q9
    refine fw_tv ?_
    have hg54 := hs53.K hg49 (by decide)
    have hg55 := hs53.K hg50 (by decide)
    refine fw_goto (tgt := 121) dX6_line_104 (by decide) ?_
    exact fw_areturn dX6_line_121 rfl (by first | exact Or.inl ⟨_, rfl⟩ | exact Or.inr ⟨_, rfl⟩) ⟨_, rfl, h⟩
def p_X6_line (bc : Nat) (bs : Nat) (r0 : Nat) (μ : fw_M) (Q : Nat → fw_M → Prop) (X : Nat → fw_M → Prop) : Prop :=
  (if (m_I μ r0 9) = (315 : Int32) then
  ((1 ≤ bc ∧ (1 ≤ bs ∧ (∀ rn36 : Nat, rn36 = m_x μ →
   (∀ μ39, μ39 = m_al μ 16 1 →
   (∃ b44 b45, b44 ≤ (bc - 1) ∧ b45 ≤ (bs - 1) ∧ (p_X6_number b44 b45 r0 (0 : Int32) (1 : Int32) μ39 (fun v42 μ43 =>
   (p_X15_init rn36 v42 μ43 (fun μ52 =>
   Q rn36 μ52))) X)))))))
  else
  ((if (m_I μ r0 9) = (316 : Int32) then
   ((1 ≤ bc ∧ (1 ≤ bs ∧ (∀ rn14 : Nat, rn14 = m_x μ →
    (∀ μ17, μ17 = m_al μ 17 1 →
    (∃ b22 b23, b22 ≤ (bc - 1) ∧ b23 ≤ (bs - 1) ∧ (p_X6_number b22 b23 r0 (1 : Int32) (40 : Int32) μ17 (fun v20 μ21 =>
    (p_X16_init rn14 v20 μ21 (fun μ30 =>
    Q rn14 μ30))) X)))))))
   else
   ((∃ b5 b6, b5 ≤ bc ∧ b6 ≤ bs ∧ (p_X6_number b5 b6 r0 (0 : Int32) (8 : Int32) μ (fun v3 μ4 =>
    (if (m_I μ4 r0 9) = (313 : Int32) then
    (p_X6_line_L77 r0 v3 r0 (321 : Int32) (bc - b5) (bs - b6) μ4 Q X)
    else
    (p_X6_line_L77 r0 v3 r0 (320 : Int32) (bc - b5) (bs - b6) μ4 Q X))) X))))))
set_option maxHeartbeats 4000000 in
theorem w_X6_line {g : fw_G} {f bc bs : Nat} {r0 : Nat} {μ : fw_M} {Q : Nat → fw_M → Prop} {X : Nat → fw_M → Prop} (hf : 9 ≤ f) (hx : m_K μ r0 = 7) (h : p_X6_line bc bs r0 μ Q X) : fw_C g f bc bs yX6_line (ws_ yX6_line cX6_line 2 (some (.object "SpoonScales$Line"))) [fw_rv g r0] μ (fw_Qr g Q) X := by
  unfold p_X6_line at h
  refine fw_intro' (Ls := [(0, fw_rv g r0)]) (by decide +kernel) (by simp [lg_sl, fw_cat, fw_ci, fw_clo]) (by simp [lv_args, fw_cat, fw_ci, fw_clo]) ?_
  show fw_V g K_X6_line f bc bs 0 [(0, fw_rv g r0)] [] μ (fw_Qr g Q) X
  refine fw_aload_n dX6_line_0 rfl rfl ?_
  refine fw_getfI fl_X6_101 rfl hx dX6_line_1 ?_
  refine fw_sipush (v := 315) dX6_line_4 (by decide) ?_
  refine fw_icmp_ne (tgt := 24) dX6_line_7 (by decide) (fun c1 => ?_) (fun c1 => ?_)
  · have h := fw_if h c1
    refine fw_aload_n dX6_line_24 rfl rfl ?_
    refine fw_getfI fl_X6_101 rfl hx dX6_line_25 ?_
    refine fw_sipush (v := 316) dX6_line_28 (by decide) ?_
    refine fw_icmp_ne (tgt := 49) dX6_line_31 (by decide) (fun c2 => ?_) (fun c2 => ?_)
    · have h := fw_if h c2
      refine fw_aload_n dX6_line_49 rfl rfl ?_
      refine fw_iconst (v := 0) dX6_line_50 (by decide) ?_
      refine fw_bipush (v := 8) dX6_line_51 (by decide) ?_
      obtain ⟨b5, b6, hb7, hb8, h⟩ := h
      refine fw_callV2 (f1 := f - 1) (b1 := b5) (b2 := b6) cl_X6_138 rfl hx (by decide) (by omega) hb7 hb8 (fw_s4 (Nat.le_of_ble_eq_true rfl)) dX6_line_53 (w_X6_number (f := f - 1) (by omega) hx h) (fun _ _ h9 k9 _ => fw_out rfl k9 h9) (fun v9 μ4 q9 hs9 => ?_)
      obtain ⟨v3, rfl, h⟩ := q9
      refine fw_ti ?_
      have hg10 := hs9.K hx (by decide)
      refine fw_istore_nN (Ls' := [(1, Value.int v3), (0, fw_rv g r0)]) [] dX6_line_56 rfl (by decide) rfl rfl rfl (fw_cat _) rfl ?_
      refine fw_aload_n dX6_line_57 rfl rfl ?_
      refine fw_aload_n dX6_line_58 rfl rfl ?_
      refine fw_getfI fl_X6_101 rfl hg10 dX6_line_59 ?_
      refine fw_sipush (v := 313) dX6_line_62 (by decide) ?_
      refine fw_icmp_ne (tgt := 74) dX6_line_65 (by decide) (fun c11 => ?_) (fun c11 => ?_)
      · have h := fw_if h c11
        refine fw_sipush (v := 320) dX6_line_74 (by decide) ?_
        refine fw_ls [1, 0] rfl ?_
        exact w_X6_line_L77 hf hg10 h
      · have h := fw_it h c11
        refine fw_sipush (v := 321) dX6_line_68 (by decide) ?_
        refine fw_goto (tgt := 77) dX6_line_71 (by decide) ?_
        refine fw_ls [1, 0] rfl ?_
        exact w_X6_line_L77 hf hg10 h
    · have h := fw_it h c2
      refine fw_x (fun hX => ?_)
      obtain ⟨hc12, h⟩ := h
      obtain ⟨hc13, h⟩ := h
      refine fw_newo (k := 17) rfl q819 q820 q99 hc12 hc13 dX6_line_34 ?_
      refine fw_topr (fun rn14 e15 => ?_)
      have h := h rn14 e15
      refine fw_topm (fun μ17 e18 => ?_)
      have hg19 := fw_al_sE e18 hx (by decide) hX
      have hg16 := fw_al_KE e18 e15
      have h := h μ17 e18
      refine fw_dup dX6_line_37 (fw_cat _) ?_
      refine fw_aload_n dX6_line_38 rfl rfl ?_
      refine fw_iconst (v := 1) dX6_line_39 (by decide) ?_
      refine fw_bipush (v := 40) dX6_line_40 (by decide) ?_
      obtain ⟨b22, b23, hb24, hb25, h⟩ := h
      refine fw_callV2 (f1 := f - 1) (b1 := b22) (b2 := b23) cl_X6_138 rfl hg19 (by decide) (by omega) hb24 hb25 (fw_s4 (Nat.le_of_ble_eq_true rfl)) dX6_line_42 (w_X6_number (f := f - 1) (by omega) hg19 h) (fun _ _ h9 k9 _ => fw_out rfl k9 h9) (fun v9 μ21 q9 hs26 => ?_)
      obtain ⟨v20, rfl, h⟩ := q9
      refine fw_ti ?_
      have hg27 := hs26.K hg19 (by decide)
      have hg28 := hs26.K hg16 (by decide)
      refine fw_callI1z (f1 := f - 1) cl_X6_145 (k := 17) rfl hg28 (by decide) (by omega) (fw_s4 (Nat.le_of_ble_eq_true rfl)) dX6_line_45 (w_X16_init (f := f - 1) (by omega) hg28 h) (fun _ _ h9 _ _ => h9.elim) (fun v9 μ30 q9 hs31 => ?_)
      obtain ⟨rfl, h⟩ := q9
      refine fw_tv ?_
      have hg32 := hs31.K hg27 (by decide)
      have hg33 := hs31.K hg28 (by decide)
      exact fw_areturn dX6_line_48 rfl (by first | exact Or.inl ⟨_, rfl⟩ | exact Or.inr ⟨_, rfl⟩) ⟨_, rfl, h⟩
  · have h := fw_it h c1
    refine fw_x (fun hX => ?_)
    obtain ⟨hc34, h⟩ := h
    obtain ⟨hc35, h⟩ := h
    refine fw_newo (k := 16) rfl q809 q810 q98 hc34 hc35 dX6_line_10 ?_
    refine fw_topr (fun rn36 e37 => ?_)
    have h := h rn36 e37
    refine fw_topm (fun μ39 e40 => ?_)
    have hg41 := fw_al_sE e40 hx (by decide) hX
    have hg38 := fw_al_KE e40 e37
    have h := h μ39 e40
    refine fw_dup dX6_line_13 (fw_cat _) ?_
    refine fw_aload_n dX6_line_14 rfl rfl ?_
    refine fw_iconst (v := 0) dX6_line_15 (by decide) ?_
    refine fw_iconst (v := 1) dX6_line_16 (by decide) ?_
    obtain ⟨b44, b45, hb46, hb47, h⟩ := h
    refine fw_callV2 (f1 := f - 1) (b1 := b44) (b2 := b45) cl_X6_138 rfl hg41 (by decide) (by omega) hb46 hb47 (fw_s4 (Nat.le_of_ble_eq_true rfl)) dX6_line_17 (w_X6_number (f := f - 1) (by omega) hg41 h) (fun _ _ h9 k9 _ => fw_out rfl k9 h9) (fun v9 μ43 q9 hs48 => ?_)
    obtain ⟨v42, rfl, h⟩ := q9
    refine fw_ti ?_
    have hg49 := hs48.K hg41 (by decide)
    have hg50 := hs48.K hg38 (by decide)
    refine fw_callI1z (f1 := f - 1) cl_X6_141 (k := 16) rfl hg50 (by decide) (by omega) (fw_s4 (Nat.le_of_ble_eq_true rfl)) dX6_line_20 (w_X15_init (f := f - 1) (by omega) hg50 h) (fun _ _ h9 _ _ => h9.elim) (fun v9 μ52 q9 hs53 => ?_)
    obtain ⟨rfl, h⟩ := q9
    refine fw_tv ?_
    have hg54 := hs53.K hg49 (by decide)
    have hg55 := hs53.K hg50 (by decide)
    exact fw_areturn dX6_line_23 rfl (by first | exact Or.inl ⟨_, rfl⟩ | exact Or.inr ⟨_, rfl⟩) ⟨_, rfl, h⟩
abbrev K_X6_read : fw_Kt := (RX6, "read", cX6_read, 2, some (.object "SpoonScales$Law"), [])
def p_X6_read_L95 (r0 : Nat) (bc : Nat) (bs : Nat) (μ : fw_M) (Q : Nat → fw_M → Prop) (X : Nat → fw_M → Prop) : Prop :=
  (∃ b3 b4, b3 ≤ bc ∧ b4 ≤ bs ∧ (p_X6_wrong b3 b4 r0 (4 : Int32) μ (fun r1 μ2 =>
  (m_K μ2 r1 = 8 ∧ X r1 μ2))))
set_option maxHeartbeats 4000000 in
theorem w_X6_read_L95 {g : fw_G} {f : Nat} {r0 : Nat} {bc : Nat} {bs : Nat} {μ : fw_M} {Q : Nat → fw_M → Prop} {X : Nat → fw_M → Prop} (hf : 157 ≤ f) (hx : m_K μ r0 = 7) (h : p_X6_read_L95 r0 bc bs μ Q X) : fw_V g K_X6_read f bc bs 95 [(0, fw_rv g r0)] [] μ (fw_Qr g Q) X := by
  unfold p_X6_read_L95 at h
  refine fw_aload_n dX6_read_95 rfl rfl ?_
  refine fw_iconst (v := 4) dX6_read_96 (by decide) ?_
  obtain ⟨b3, b4, hb5, hb6, h⟩ := h
  refine fw_callV1 (f1 := f - 1) (b1 := b3) (b2 := b4) cl_X6_88 rfl hx (by decide) (by omega) hb5 hb6 (fw_s4 (Nat.le_of_ble_eq_true rfl)) dX6_read_97 (w_X6_wrong (f := f - 1) (by omega) hx h) (fun _ _ h9 _ _ => h9.elim) (fun v9 μ2 q9 hs7 => ?_)
  obtain ⟨r1, rfl, h⟩ := q9
  refine fw_tr ?_
  have hg8 := hs7.K hx (by decide)
  obtain ⟨hg9, h⟩ := h
  exact fw_athrow hg9 dX6_read_100 (fw_out rfl hg9 h)
def p_X6_read_L197 (k12 : Nat → Nat → fw_M → Prop) (r0 : Nat) (r1 : Nat) (bc : Nat) (bs : Nat) (μ : fw_M) (Q : Nat → fw_M → Prop) (X : Nat → fw_M → Prop) : Prop :=
  (∃ b3 b4, b3 ≤ bc ∧ b4 ≤ bs ∧ (p_X6_need b3 b4 r0 (59 : Int32) μ (fun μ2 =>
  k12 (bc - b3) (bs - b4) μ2) X))
set_option maxHeartbeats 4000000 in
theorem w_X6_read_L197 {g : fw_G} {f : Nat} {k12 : Nat → Nat → fw_M → Prop} {r0 : Nat} {r1 : Nat} {bc : Nat} {bs : Nat} {μ : fw_M} {Q : Nat → fw_M → Prop} {X : Nat → fw_M → Prop} (hf : 157 ≤ f) (hk12 : ∀ {bc : Nat} {bs : Nat} {μ : fw_M}, m_K μ r0 = 7 → k12 bc bs μ → fw_V g K_X6_read f bc bs 12 [(0, fw_rv g r0), (1, fw_rv g r1)] [] μ (fw_Qr g Q) X) (hx : m_K μ r0 = 7) (h : p_X6_read_L197 k12 r0 r1 bc bs μ Q X) : fw_V g K_X6_read f bc bs 197 [(0, fw_rv g r0), (1, fw_rv g r1)] [] μ (fw_Qr g Q) X := by
  unfold p_X6_read_L197 at h
  refine fw_aload_n dX6_read_197 rfl rfl ?_
  refine fw_bipush (v := 59) dX6_read_198 (by decide) ?_
  obtain ⟨b3, b4, hb5, hb6, h⟩ := h
  refine fw_callV1 (f1 := f - 1) (b1 := b3) (b2 := b4) cl_X6_131 rfl hx (by decide) (by omega) hb5 hb6 (fw_s4 (Nat.le_of_ble_eq_true rfl)) dX6_read_200 (w_X6_need (f := f - 1) (by omega) hx h) (fun _ _ h9 k9 _ => fw_out rfl k9 h9) (fun v9 μ2 q9 hs7 => ?_)
  obtain ⟨rfl, h⟩ := q9
  refine fw_tv ?_
  have hg8 := hs7.K hx (by decide)
  refine fw_goto (tgt := 12) dX6_read_203 (by decide) ?_
  exact hk12 hg8 h
def p_X6_read_L101 (k12 : Nat → Nat → fw_M → Prop) (r0 : Nat) (r1 : Nat) (bc : Nat) (bs : Nat) (μ : fw_M) (Q : Nat → fw_M → Prop) (X : Nat → fw_M → Prop) : Prop :=
  (if (m_I μ r0 8) = (24 : Int32) then
  ((∃ b49 b50, b49 ≤ bc ∧ b50 ≤ bs ∧ (p_X6_wrong b49 b50 r0 (6 : Int32) μ (fun r47 μ48 =>
   (m_K μ48 r47 = 8 ∧ X r47 μ48)))))
  else
  ((∀ μ2, μ2 = m_uI μ r0 8 ((m_I μ r0 8) + (1 : Int32)) →
   (p_X6_next r0 μ2 (fun μ4 =>
   (if (312 : Int32) ≤ (m_I μ4 r0 9) then
   ((if (m_I μ4 r0 9) = (312 : Int32) then
    ((∃ b25 b26, b25 ≤ bc ∧ b26 ≤ bs ∧ (p_X6_either b25 b26 r0 μ4 (fun r23 μ24 =>
     (m_K μ24 r1 = 3 ∧ (∀ μ32, μ32 = m_uP μ24 r1 1 r23 →
     p_X6_read_L197 k12 r0 r1 (bc - b25) (bs - b26) μ32 Q X))) X)))
    else
    ((m_K μ4 r1 = 3 ∧ (∃ b12 b13, b12 ≤ bc ∧ b13 ≤ bs ∧ (p_X6_line b12 b13 r0 μ4 (fun r10 μ11 =>
     (m_K μ11 (m_P μ4 r1 2) = 105 ∧ (vp_in ((m_I μ4 r0 8) - (1 : Int32)) (m_N μ11 (m_P μ4 r1 2)) ∧ (fw_As 105 (m_K μ11 r10) ∧ (∀ μ22, μ22 = m_uP μ11 (m_P μ4 r1 2) ((m_I μ4 r0 8) - (1 : Int32)).toNatClampNeg r10 →
     p_X6_read_L197 k12 r0 r1 (bc - b12) (bs - b13) μ22 Q X))))) X))))))
   else
   ((m_K μ4 r1 = 3 ∧ (∃ b36 b37, b36 ≤ bc ∧ b37 ≤ bs ∧ (pc_X6_sum b36 b37 r0 μ4 (fun r34 μ35 =>
    (m_K μ35 (m_P μ4 r1 0) = 104 ∧ (vp_in ((m_I μ4 r0 9) - (310 : Int32)) (m_N μ35 (m_P μ4 r1 0)) ∧ (fw_As 104 (m_K μ35 r34) ∧ (∀ μ46, μ46 = m_uP μ35 (m_P μ4 r1 0) ((m_I μ4 r0 9) - (310 : Int32)).toNatClampNeg r34 →
    p_X6_read_L197 k12 r0 r1 (bc - b36) (bs - b37) μ46 Q X))))) X))))))))))
set_option maxHeartbeats 4000000 in
theorem w_X6_read_L101 {g : fw_G} {f : Nat} {k12 : Nat → Nat → fw_M → Prop} {r0 : Nat} {r1 : Nat} {bc : Nat} {bs : Nat} {μ : fw_M} {Q : Nat → fw_M → Prop} {X : Nat → fw_M → Prop} (hf : 157 ≤ f) (hk12 : ∀ {bc : Nat} {bs : Nat} {μ : fw_M}, m_K μ r0 = 7 → k12 bc bs μ → fw_V g K_X6_read f bc bs 12 [(0, fw_rv g r0), (1, fw_rv g r1)] [] μ (fw_Qr g Q) X) (hx : m_K μ r0 = 7) (h : p_X6_read_L101 k12 r0 r1 bc bs μ Q X) : fw_V g K_X6_read f bc bs 101 [(0, fw_rv g r0), (1, fw_rv g r1)] [] μ (fw_Qr g Q) X := by
  unfold p_X6_read_L101 at h
  refine fw_aload_n dX6_read_101 rfl rfl ?_
  refine fw_getfI fl_X6_112 rfl hx dX6_read_102 ?_
  refine fw_bipush (v := 24) dX6_read_105 (by decide) ?_
  refine fw_icmp_ne (tgt := 117) dX6_read_107 (by decide) (fun c1 => ?_) (fun c1 => ?_)
  · have h := fw_if h c1
    refine fw_aload_n dX6_read_117 rfl rfl ?_
    refine fw_dup dX6_read_118 (fw_cat _) ?_
    refine fw_getfI fl_X6_112 rfl hx dX6_read_119 ?_
    refine fw_iconst (v := 1) dX6_read_122 (by decide) ?_
    refine fw_iadd dX6_read_123 ?_
    refine fw_putfI fl_X6_112 (fun q hq => Or.inl (by cases hq; rfl)) rfl hx dX6_read_124 ?_
    have h := h _ rfl
    refine fw_aload_n dX6_read_127 rfl rfl ?_
    refine fw_callV0z (f1 := f - 1) cl_X6_92 rfl hx (by decide) (by omega) (fw_s4 (Nat.le_of_ble_eq_true rfl)) dX6_read_128 (w_X6_next (f := f - 1) (by omega) hx h) (fun _ _ h9 _ _ => h9.elim) (fun v9 μ4 q9 hs5 => ?_)
    obtain ⟨rfl, h⟩ := q9
    refine fw_tv ?_
    have hg6 := hs5.K hx (by decide)
    refine fw_aload_n dX6_read_131 rfl rfl ?_
    refine fw_getfI fl_X6_101 rfl hg6 dX6_read_132 ?_
    refine fw_sipush (v := 312) dX6_read_135 (by decide) ?_
    refine fw_icmp_ge (tgt := 161) dX6_read_138 (by decide) (fun c7 => ?_) (fun c7 => ?_)
    · have h := fw_it h c7
      refine fw_aload_n dX6_read_161 rfl rfl ?_
      refine fw_getfI fl_X6_101 rfl hg6 dX6_read_162 ?_
      refine fw_sipush (v := 312) dX6_read_165 (by decide) ?_
      refine fw_icmp_ne (tgt := 182) dX6_read_168 (by decide) (fun c8 => ?_) (fun c8 => ?_)
      · have h := fw_if h c8
        refine fw_aload_n dX6_read_182 rfl rfl ?_
        obtain ⟨hg9, h⟩ := h
        refine fw_getfP fl_X6_123 rfl hg9 dX6_read_183 ?_
        refine fw_aload_n dX6_read_186 rfl rfl ?_
        refine fw_getfI fl_X6_112 rfl hg6 dX6_read_187 ?_
        refine fw_iconst (v := 1) dX6_read_190 (by decide) ?_
        refine fw_isub dX6_read_191 ?_
        refine fw_aload_n dX6_read_192 rfl rfl ?_
        obtain ⟨b12, b13, hb14, hb15, h⟩ := h
        refine fw_callV0 (f1 := f - 1) (b1 := b12) (b2 := b13) cl_X6_127 rfl hg6 (by decide) (by omega) hb14 hb15 (fw_s4 (Nat.le_of_ble_eq_true rfl)) dX6_read_193 (w_X6_line (f := f - 1) (by omega) hg6 h) (fun _ _ h9 k9 _ => fw_out rfl k9 h9) (fun v9 μ11 q9 hs16 => ?_)
        obtain ⟨r10, rfl, h⟩ := q9
        refine fw_tr ?_
        have hg17 := hs16.K hg6 (by decide)
        have hg18 := hs16.K hg9 (by decide)
        obtain ⟨hg19, h⟩ := h
        obtain ⟨hc20, h⟩ := h
        obtain ⟨hg21, h⟩ := h
        refine fw_aast hg19 rfl rfl rfl (Or.inl hg21) hc20 dX6_read_196 ?_
        have h := h _ rfl
        exact w_X6_read_L197 hf hk12 hg17 h
      · have h := fw_it h c8
        refine fw_aload_n dX6_read_171 rfl rfl ?_
        refine fw_aload_n dX6_read_172 rfl rfl ?_
        obtain ⟨b25, b26, hb27, hb28, h⟩ := h
        refine fw_callV0 (f1 := f - 1) (b1 := b25) (b2 := b26) cl_X6_119 rfl hg6 (by decide) (by omega) hb27 hb28 (fw_s4 (Nat.le_of_ble_eq_true rfl)) dX6_read_173 (w_X6_either (f := f - 1) (by omega) hg6 h) (fun _ _ h9 k9 _ => fw_out rfl k9 h9) (fun v9 μ24 q9 hs29 => ?_)
        obtain ⟨r23, rfl, h⟩ := q9
        refine fw_tr ?_
        have hg30 := hs29.K hg6 (by decide)
        obtain ⟨hg31, h⟩ := h
        refine fw_putfP fl_X6_108 (fun q hq => Or.inl (by cases hq; rfl)) rfl hg31 dX6_read_176 ?_
        have h := h _ rfl
        refine fw_goto (tgt := 197) dX6_read_179 (by decide) ?_
        exact w_X6_read_L197 hf hk12 hg30 h
    · have h := fw_if h c7
      refine fw_aload_n dX6_read_141 rfl rfl ?_
      obtain ⟨hg33, h⟩ := h
      refine fw_getfP fl_X6_104 rfl hg33 dX6_read_142 ?_
      refine fw_aload_n dX6_read_145 rfl rfl ?_
      refine fw_getfI fl_X6_101 rfl hg6 dX6_read_146 ?_
      refine fw_sipush (v := 310) dX6_read_149 (by decide) ?_
      refine fw_isub dX6_read_152 ?_
      refine fw_aload_n dX6_read_153 rfl rfl ?_
      obtain ⟨b36, b37, hb38, hb39, h⟩ := h
      refine fw_callV0 (f1 := f - 1) (b1 := b36) (b2 := b37) cl_X6_115 rfl hg6 (by decide) (by omega) hb38 hb39 (fw_s4 (Nat.le_of_ble_eq_true rfl)) dX6_read_154 (wc_X6_sum (f := f - 1) (by omega) hg6 h) (fun _ _ h9 k9 _ => fw_out rfl k9 h9) (fun v9 μ35 q9 hs40 => ?_)
      obtain ⟨r34, rfl, h⟩ := q9
      refine fw_tr ?_
      have hg41 := hs40.K hg6 (by decide)
      have hg42 := hs40.K hg33 (by decide)
      obtain ⟨hg43, h⟩ := h
      obtain ⟨hc44, h⟩ := h
      obtain ⟨hg45, h⟩ := h
      refine fw_aast hg43 rfl rfl rfl (Or.inl hg45) hc44 dX6_read_157 ?_
      have h := h _ rfl
      refine fw_goto (tgt := 197) dX6_read_158 (by decide) ?_
      exact w_X6_read_L197 hf hk12 hg41 h
  · have h := fw_it h c1
    refine fw_aload_n dX6_read_110 rfl rfl ?_
    refine fw_bipush (v := 6) dX6_read_111 (by decide) ?_
    obtain ⟨b49, b50, hb51, hb52, h⟩ := h
    refine fw_callV1 (f1 := f - 1) (b1 := b49) (b2 := b50) cl_X6_88 rfl hx (by decide) (by omega) hb51 hb52 (fw_s4 (Nat.le_of_ble_eq_true rfl)) dX6_read_113 (w_X6_wrong (f := f - 1) (by omega) hx h) (fun _ _ h9 _ _ => h9.elim) (fun v9 μ48 q9 hs53 => ?_)
    obtain ⟨r47, rfl, h⟩ := q9
    refine fw_tr ?_
    have hg54 := hs53.K hx (by decide)
    obtain ⟨hg55, h⟩ := h
    exact fw_athrow hg55 dX6_read_116 (fw_out rfl hg55 h)
def p_X6_read_L78 (k12 : Nat → Nat → fw_M → Prop) (r0 : Nat) (r1 : Nat) (bc : Nat) (bs : Nat) (μ : fw_M) (Q : Nat → fw_M → Prop) (X : Nat → fw_M → Prop) : Prop :=
  (if (m_I μ r0 9) = (312 : Int32) then
  ((m_K μ r1 = 3 ∧ (if (m_P μ r1 1) = 0 then
   (p_X6_read_L101 k12 r0 r1 bc bs μ Q X)
   else
   (p_X6_read_L95 r0 bc bs μ Q X))))
  else
  (p_X6_read_L101 k12 r0 r1 bc bs μ Q X))
set_option maxHeartbeats 4000000 in
theorem w_X6_read_L78 {g : fw_G} {f : Nat} {k12 : Nat → Nat → fw_M → Prop} {r0 : Nat} {r1 : Nat} {bc : Nat} {bs : Nat} {μ : fw_M} {Q : Nat → fw_M → Prop} {X : Nat → fw_M → Prop} (hf : 157 ≤ f) (hk12 : ∀ {bc : Nat} {bs : Nat} {μ : fw_M}, m_K μ r0 = 7 → k12 bc bs μ → fw_V g K_X6_read f bc bs 12 [(0, fw_rv g r0), (1, fw_rv g r1)] [] μ (fw_Qr g Q) X) (hx : m_K μ r0 = 7) (h : p_X6_read_L78 k12 r0 r1 bc bs μ Q X) : fw_V g K_X6_read f bc bs 78 [(0, fw_rv g r0), (1, fw_rv g r1)] [] μ (fw_Qr g Q) X := by
  unfold p_X6_read_L78 at h
  refine fw_aload_n dX6_read_78 rfl rfl ?_
  refine fw_getfI fl_X6_101 rfl hx dX6_read_79 ?_
  refine fw_sipush (v := 312) dX6_read_82 (by decide) ?_
  refine fw_icmp_ne (tgt := 101) dX6_read_85 (by decide) (fun c1 => ?_) (fun c1 => ?_)
  · have h := fw_if h c1
    exact w_X6_read_L101 hf hk12 hx h
  · have h := fw_it h c1
    refine fw_aload_n dX6_read_88 rfl rfl ?_
    obtain ⟨hg2, h⟩ := h
    refine fw_getfP fl_X6_108 rfl hg2 dX6_read_89 ?_
    refine fw_ifnull (tgt := 101) dX6_read_92 (by decide) (fun c3 => ?_) (fun c3 => ?_)
    · have h := fw_it h c3
      exact w_X6_read_L101 hf hk12 hx h
    · have h := fw_if h c3
      refine fw_ls [0] rfl ?_
      exact w_X6_read_L95 hf hx h
def p_X6_read_L12b (r0 : Nat) (r1 : Nat) (k12 : Nat → Nat → fw_M → Prop) (bc : Nat) (bs : Nat) (μ : fw_M) (Q : Nat → fw_M → Prop) (X : Nat → fw_M → Prop) : Prop :=
  (if (m_I μ r0 4) = (300 : Int32) then
  ((m_K μ r1 = 3 ∧ (∀ μ3, μ3 = m_uI μ r1 3 (m_I μ r0 8) →
   Q r1 μ3)))
  else
  ((p_X0_in (m_I μ r0 4) (310 : Int32) (316 : Int32) μ (fun v4 μ5 =>
   (if v4 = 0 then
   ((∃ b17 b18, b17 ≤ bc ∧ b18 ≤ bs ∧ (p_X6_wrong b17 b18 r0 (1 : Int32) μ5 (fun r15 μ16 =>
    (m_K μ16 r15 = 8 ∧ X r15 μ16)))))
   else
   ((∀ μ9, μ9 = m_uI μ5 r0 9 (m_I μ5 r0 4) →
    (if (312 : Int32) ≤ (m_I μ9 r0 9) then
    (p_X6_read_L78 k12 r0 r1 bc bs μ9 Q X)
    else
    ((m_K μ9 r1 = 3 ∧ (m_K μ9 (m_P μ9 r1 0) = 104 ∧ (vp_in ((m_I μ9 r0 9) - (310 : Int32)) (m_N μ9 (m_P μ9 r1 0)) ∧ (if (m_P μ9 (m_P μ9 r1 0) ((m_I μ9 r0 9) - (310 : Int32)).toNatClampNeg) = 0 then
     (p_X6_read_L78 k12 r0 r1 bc bs μ9 Q X)
     else
     (p_X6_read_L95 r0 bc bs μ9 Q X))))))))))))))
def p_X6_read_L12 (r0 : Nat) (r1 : Nat) (bc : Nat) (bs : Nat) (μ : fw_M) (Q : Nat → fw_M → Prop) (X : Nat → fw_M → Prop) : Prop := fw_lp (fun (k : Nat × Nat × fw_M → Prop) (a : Nat × Nat × fw_M) => p_X6_read_L12b r0 r1 (fun bc bs μ => k (bc, bs, μ)) a.1 a.2.1 a.2.2 Q X) (bc, bs, μ)
theorem r_X6_read_L12 {r0 : Nat} {r1 : Nat} {Q : Nat → fw_M → Prop} {X : Nat → fw_M → Prop} (I : Nat → Nat → fw_M → Prop) (v : Nat → Nat → fw_M → Nat) (hs : ∀ (k : Nat → Nat → fw_M → Prop) (bc : Nat) (bs : Nat) (μ : fw_M), I bc bs μ → (∀ (bc' : Nat) (bs' : Nat) (ν : fw_M), I bc' bs' ν → v bc' bs' ν < v bc bs μ → k bc' bs' ν) → p_X6_read_L12b r0 r1 k bc bs μ Q X) (bc : Nat) (bs : Nat) (μ : fw_M) (h : I bc bs μ) : p_X6_read_L12 r0 r1 bc bs μ Q X :=
  fw_lp_in (A := Nat × Nat × fw_M) (fun a => I a.1 a.2.1 a.2.2) (fun a => v a.1 a.2.1 a.2.2) (fun k a ha hk => hs (fun bc bs μ => k (bc, bs, μ)) a.1 a.2.1 a.2.2 ha (fun bc' bs' ν hb hlt => hk (bc', bs', ν) hb hlt)) (bc, bs, μ) h
set_option maxHeartbeats 4000000 in
theorem w_X6_read_L12b {g : fw_G} {f : Nat} {r0 : Nat} {r1 : Nat} {k12 : Nat → Nat → fw_M → Prop} {bc : Nat} {bs : Nat} {μ : fw_M} {Q : Nat → fw_M → Prop} {X : Nat → fw_M → Prop} (hf : 157 ≤ f) (hk12 : ∀ {bc : Nat} {bs : Nat} {μ : fw_M}, m_K μ r0 = 7 → k12 bc bs μ → fw_V g K_X6_read f bc bs 12 [(0, fw_rv g r0), (1, fw_rv g r1)] [] μ (fw_Qr g Q) X) (hx : m_K μ r0 = 7) (h : p_X6_read_L12b r0 r1 k12 bc bs μ Q X) : fw_V g K_X6_read f bc bs 12 [(0, fw_rv g r0), (1, fw_rv g r1)] [] μ (fw_Qr g Q) X := by
  unfold p_X6_read_L12b at h
  refine fw_aload_n dX6_read_12 rfl rfl ?_
  refine fw_getfI fl_X6_60 rfl hx dX6_read_13 ?_
  refine fw_sipush (v := 300) dX6_read_16 (by decide) ?_
  refine fw_icmp_eq (tgt := 206) dX6_read_19 (by decide) (fun c1 => ?_) (fun c1 => ?_)
  · have h := fw_it h c1
    refine fw_aload_n dX6_read_206 rfl rfl ?_
    refine fw_aload_n dX6_read_207 rfl rfl ?_
    refine fw_getfI fl_X6_112 rfl hx dX6_read_208 ?_
    obtain ⟨hg2, h⟩ := h
    refine fw_putfI fl_X6_135 (fun q hq => Or.inl (by cases hq; rfl)) rfl hg2 dX6_read_211 ?_
    have h := h _ rfl
    refine fw_aload_n dX6_read_214 rfl rfl ?_
    exact fw_areturn dX6_read_215 rfl (by first | exact Or.inl ⟨_, rfl⟩ | exact Or.inr ⟨_, rfl⟩) ⟨_, rfl, h⟩
  · have h := fw_if h c1
    refine fw_aload_n dX6_read_22 rfl rfl ?_
    refine fw_getfI fl_X6_60 rfl hx dX6_read_23 ?_
    refine fw_sipush (v := 310) dX6_read_26 (by decide) ?_
    refine fw_sipush (v := 316) dX6_read_29 (by decide) ?_
    refine fw_callSN3z (f1 := f - 1) cl_X6_26 (by decide) (by omega) (fw_s4 (Nat.le_of_ble_eq_true rfl)) dX6_read_32 (w_X0_in (f := f - 1) (by omega) h) (fun _ _ h9 _ _ => h9.elim) (fun v9 μ5 q9 hs6 => ?_)
    obtain ⟨v4, rfl, h⟩ := q9
    refine fw_ti ?_
    have hg7 := hs6.K hx (by decide)
    refine fw_if_ne (tgt := 44) dX6_read_35 (by decide) (fun c8 => ?_) (fun c8 => ?_)
    · have h := fw_if h c8
      refine fw_aload_n dX6_read_44 rfl rfl ?_
      refine fw_aload_n dX6_read_45 rfl rfl ?_
      refine fw_getfI fl_X6_60 rfl hg7 dX6_read_46 ?_
      refine fw_putfI fl_X6_101 (fun q hq => Or.inl (by cases hq; rfl)) rfl hg7 dX6_read_49 ?_
      have h := h _ rfl
      refine fw_aload_n dX6_read_52 rfl rfl ?_
      refine fw_getfI fl_X6_101 rfl hg7 dX6_read_53 ?_
      refine fw_sipush (v := 312) dX6_read_56 (by decide) ?_
      refine fw_icmp_ge (tgt := 78) dX6_read_59 (by decide) (fun c10 => ?_) (fun c10 => ?_)
      · have h := fw_it h c10
        exact w_X6_read_L78 hf hk12 hg7 h
      · have h := fw_if h c10
        refine fw_aload_n dX6_read_62 rfl rfl ?_
        obtain ⟨hg11, h⟩ := h
        refine fw_getfP fl_X6_104 rfl hg11 dX6_read_63 ?_
        refine fw_aload_n dX6_read_66 rfl rfl ?_
        refine fw_getfI fl_X6_101 rfl hg7 dX6_read_67 ?_
        refine fw_sipush (v := 310) dX6_read_70 (by decide) ?_
        refine fw_isub dX6_read_73 ?_
        obtain ⟨hg12, h⟩ := h
        obtain ⟨hc13, h⟩ := h
        refine fw_aald hg12 rfl rfl hc13 dX6_read_74 ?_
        refine fw_ifnonnull (tgt := 95) dX6_read_75 (by decide) (fun c14 => ?_) (fun c14 => ?_)
        · have h := fw_if h c14
          refine fw_ls [0] rfl ?_
          exact w_X6_read_L95 hf hg7 h
        · have h := fw_it h c14
          exact w_X6_read_L78 hf hk12 hg7 h
    · have h := fw_it h c8
      refine fw_aload_n dX6_read_38 rfl rfl ?_
      refine fw_iconst (v := 1) dX6_read_39 (by decide) ?_
      obtain ⟨b17, b18, hb19, hb20, h⟩ := h
      refine fw_callV1 (f1 := f - 1) (b1 := b17) (b2 := b18) cl_X6_88 rfl hg7 (by decide) (by omega) hb19 hb20 (fw_s4 (Nat.le_of_ble_eq_true rfl)) dX6_read_40 (w_X6_wrong (f := f - 1) (by omega) hg7 h) (fun _ _ h9 _ _ => h9.elim) (fun v9 μ16 q9 hs21 => ?_)
      obtain ⟨r15, rfl, h⟩ := q9
      refine fw_tr ?_
      have hg22 := hs21.K hg7 (by decide)
      obtain ⟨hg23, h⟩ := h
      exact fw_athrow hg23 dX6_read_43 (fw_out rfl hg23 h)
theorem w_X6_read_L12 {g : fw_G} {f : Nat} {r0 : Nat} {r1 : Nat} {bc : Nat} {bs : Nat} {μ : fw_M} {Q : Nat → fw_M → Prop} {X : Nat → fw_M → Prop} (hf : 157 ≤ f) (hx : m_K μ r0 = 7) (h : p_X6_read_L12 r0 r1 bc bs μ Q X) : fw_V g K_X6_read f bc bs 12 [(0, fw_rv g r0), (1, fw_rv g r1)] [] μ (fw_Qr g Q) X := by
  have key := fw_lp_out (R := fun (a : Nat × Nat × fw_M) => m_K a.2.2 r0 = 7 → fw_V g K_X6_read f a.1 a.2.1 12 [(0, fw_rv g r0), (1, fw_rv g r1)] [] a.2.2 (fw_Qr g Q) X) (fun k hk9 a ha hx2 => w_X6_read_L12b hf (fun {bc bs} {μ} hx3 h3 => hk9 (bc, bs, μ) h3 hx3) hx2 ha) h
  exact key hx
def p_X6_read (bc : Nat) (bs : Nat) (r0 : Nat) (μ : fw_M) (Q : Nat → fw_M → Prop) (X : Nat → fw_M → Prop) : Prop :=
  (1 ≤ bc ∧ (4 ≤ bs ∧ (∀ rn3 : Nat, rn3 = m_x μ →
  (∀ μ6, μ6 = m_al μ 3 4 →
  (∃ b11 b12, b11 ≤ (bc - 1) ∧ b12 ≤ (bs - 4) ∧ (p_X2_init b11 b12 rn3 μ6 (fun μ10 =>
  (p_X6_next r0 μ10 (fun μ19 =>
  p_X6_read_L12 r0 rn3 ((bc - 1) - b11) ((bs - 4) - b12) μ19 Q X)))))))))
set_option maxHeartbeats 4000000 in
theorem w_X6_read {g : fw_G} {f bc bs : Nat} {r0 : Nat} {μ : fw_M} {Q : Nat → fw_M → Prop} {X : Nat → fw_M → Prop} (hf : 157 ≤ f) (hx : m_K μ r0 = 7) (h : p_X6_read bc bs r0 μ Q X) : fw_C g f bc bs yX6_read (ws_ yX6_read cX6_read 2 (some (.object "SpoonScales$Law"))) [fw_rv g r0] μ (fw_Qr g Q) X := by
  unfold p_X6_read at h
  refine fw_intro' (Ls := [(0, fw_rv g r0)]) (by decide +kernel) (by simp [lg_sl, fw_cat, fw_ci, fw_clo]) (by simp [lv_args, fw_cat, fw_ci, fw_clo]) ?_
  show fw_V g K_X6_read f bc bs 0 [(0, fw_rv g r0)] [] μ (fw_Qr g Q) X
  refine fw_x (fun hX => ?_)
  obtain ⟨hc1, h⟩ := h
  obtain ⟨hc2, h⟩ := h
  refine fw_newo (k := 3) rfl q514 q186 q76 hc1 hc2 dX6_read_0 ?_
  refine fw_topr (fun rn3 e4 => ?_)
  have h := h rn3 e4
  refine fw_topm (fun μ6 e7 => ?_)
  have hg8 := fw_al_sE e7 hx (by decide) hX
  have hg5 := fw_al_KE e7 e4
  have h := h μ6 e7
  refine fw_dup dX6_read_3 (fw_cat _) ?_
  obtain ⟨b11, b12, hb13, hb14, h⟩ := h
  refine fw_callIN0 (f1 := f - 1) (b1 := b11) (b2 := b12) cl_X6_100 (k := 3) rfl hg5 (by decide) (by omega) hb13 hb14 (fw_s4 (Nat.le_of_ble_eq_true rfl)) dX6_read_4 (w_X2_init (f := f - 1) (by omega) hg5 h) (fun _ _ h9 _ _ => h9.elim) (fun v9 μ10 q9 hs15 => ?_)
  obtain ⟨rfl, h⟩ := q9
  refine fw_tv ?_
  have hg16 := hs15.K hg8 (by decide)
  have hg17 := hs15.K hg5 (by decide)
  refine fw_astore_nN (Ls' := [(1, fw_rv g rn3), (0, fw_rv g r0)]) [] dX6_read_7 rfl (by decide) rfl rfl rfl (fw_cat _) rfl ?_
  refine fw_aload_n dX6_read_8 rfl rfl ?_
  refine fw_callV0z (f1 := f - 1) cl_X6_92 rfl hg16 (by decide) (by omega) (fw_s4 (Nat.le_of_ble_eq_true rfl)) dX6_read_9 (w_X6_next (f := f - 1) (by omega) hg16 h) (fun _ _ h9 _ _ => h9.elim) (fun v9 μ19 q9 hs20 => ?_)
  obtain ⟨rfl, h⟩ := q9
  refine fw_tv ?_
  have hg21 := hs20.K hg16 (by decide)
  have hg22 := hs20.K hg17 (by decide)
  refine fw_ls [1, 0] rfl ?_
  exact w_X6_read_L12 hf hg21 h
abbrev K_X0_init : fw_Kt := (RX0, "<init>", cX0_init, 1, none, [])
def p_X0_init (bc : Nat) (bs : Nat) (r0 : Nat) (μ : fw_M) (Q : fw_M → Prop) : Prop :=
  (1 ≤ bc ∧ (16 ≤ bs ∧ (∀ rn3 : Nat, rn3 = m_x μ →
  (∀ μ6, μ6 = m_al μ 2 16 →
  (∃ b11 b12, b11 ≤ (bc - 1) ∧ b12 ≤ (bs - 16) ∧ (p_X1_init b11 b12 rn3 μ6 (fun μ10 =>
  (∀ μ18, μ18 = m_uP μ10 r0 0 rn3 →
  (1 ≤ ((bc - 1) - b11) ∧ (16 ≤ ((bs - 16) - b12) ∧ (∀ rn21 : Nat, rn21 = m_x μ18 →
  (∀ μ24, μ24 = m_al μ18 2 16 →
  (∃ b29 b30, b29 ≤ (((bc - 1) - b11) - 1) ∧ b30 ≤ (((bs - 16) - b12) - 16) ∧ (p_X1_init b29 b30 rn21 μ24 (fun μ28 =>
  (∀ μ36, μ36 = m_uP μ28 r0 1 rn21 →
  (¬ (4 : Int32) < 0 ∧ ((4 : Int32).toNatClampNeg ≤ 60000 ∧ (1 ≤ ((((bc - 1) - b11) - 1) - b29) ∧ ((4 : Int32).toNatClampNeg ≤ ((((bs - 16) - b12) - 16) - b30) ∧ (∀ rn41 : Nat, rn41 = m_x μ36 →
  (∀ μ44, μ44 = m_al μ36 106 (4 : Int32).toNatClampNeg →
  (∀ μ47, μ47 = m_uP μ44 r0 2 rn41 →
  (1 ≤ (((((bc - 1) - b11) - 1) - b29) - 1) ∧ (4 ≤ (((((bs - 16) - b12) - 16) - b30) - (4 : Int32).toNatClampNeg) ∧ (∀ rn50 : Nat, rn50 = m_x μ47 →
  (∀ μ53, μ53 = m_al μ47 3 4 →
  (∃ b58 b59, b58 ≤ ((((((bc - 1) - b11) - 1) - b29) - 1) - 1) ∧ b59 ≤ ((((((bs - 16) - b12) - 16) - b30) - (4 : Int32).toNatClampNeg) - 4) ∧ (p_X2_init b58 b59 rn50 μ53 (fun μ57 =>
  (∀ μ65, μ65 = m_uP μ57 r0 3 rn50 →
  (1 ≤ (((((((bc - 1) - b11) - 1) - b29) - 1) - 1) - b58) ∧ (1 ≤ (((((((bs - 16) - b12) - 16) - b30) - (4 : Int32).toNatClampNeg) - 4) - b59) ∧ (∀ rn68 : Nat, rn68 = m_x μ65 →
  (∀ μ71, μ71 = m_al μ65 5 1 →
  (∃ b76 b77, b76 ≤ ((((((((bc - 1) - b11) - 1) - b29) - 1) - 1) - b58) - 1) ∧ b77 ≤ ((((((((bs - 16) - b12) - 16) - b30) - (4 : Int32).toNatClampNeg) - 4) - b59) - 1) ∧ (p_X4_init b76 b77 rn68 μ71 (fun μ75 =>
  (∀ μ83, μ83 = m_uP μ75 r0 4 rn68 →
  (¬ (300 : Int32) < 0 ∧ ((300 : Int32).toNatClampNeg ≤ 60000 ∧ (1 ≤ (((((((((bc - 1) - b11) - 1) - b29) - 1) - 1) - b58) - 1) - b76) ∧ ((300 : Int32).toNatClampNeg ≤ (((((((((bs - 16) - b12) - 16) - b30) - (4 : Int32).toNatClampNeg) - 4) - b59) - 1) - b77) ∧ (∀ rn88 : Nat, rn88 = m_x μ83 →
  (∀ μ91, μ91 = m_al μ83 101 (300 : Int32).toNatClampNeg →
  (∀ μ94, μ94 = m_uP μ91 r0 5 rn88 →
  (∀ μ95, μ95 = m_uI μ94 r0 7 (-1 : Int32) →
  (∀ μ96, μ96 = m_uI μ95 r0 8 (-1 : Int32) →
  (¬ (10 : Int32) < 0 ∧ (¬ (25 : Int32) < 0 ∧ ((10 : Int32).toNatClampNeg ≤ 1000 ∧ ((25 : Int32).toNatClampNeg ≤ 1000 ∧ (1 + (10 : Int32).toNatClampNeg ≤ ((((((((((bc - 1) - b11) - 1) - b29) - 1) - 1) - b58) - 1) - b76) - 1) ∧ ((10 : Int32).toNatClampNeg + (10 : Int32).toNatClampNeg * (25 : Int32).toNatClampNeg ≤ ((((((((((bs - 16) - b12) - 16) - b30) - (4 : Int32).toNatClampNeg) - 4) - b59) - 1) - b77) - (300 : Int32).toNatClampNeg) ∧ (∀ rn103 : Nat, rn103 = m_x μ96 →
  (∀ μ106, μ106 = m_al2 μ96 103 100 (10 : Int32).toNatClampNeg (25 : Int32).toNatClampNeg →
  (∀ μ109, μ109 = m_uP μ106 r0 9 rn103 →
  (¬ (9 : Int32) < 0 ∧ ((9 : Int32).toNatClampNeg ≤ 60000 ∧ (1 ≤ (((((((((((bc - 1) - b11) - 1) - b29) - 1) - 1) - b58) - 1) - b76) - 1) - (1 + (10 : Int32).toNatClampNeg)) ∧ ((9 : Int32).toNatClampNeg ≤ (((((((((((bs - 16) - b12) - 16) - b30) - (4 : Int32).toNatClampNeg) - 4) - b59) - 1) - b77) - (300 : Int32).toNatClampNeg) - ((10 : Int32).toNatClampNeg + (10 : Int32).toNatClampNeg * (25 : Int32).toNatClampNeg)) ∧ (∀ rn114 : Nat, rn114 = m_x μ109 →
  (∀ μ117, μ117 = m_al μ109 100 (9 : Int32).toNatClampNeg →
  (∀ μ120, μ120 = m_uP μ117 r0 10 rn114 →
  (¬ (9 : Int32) < 0 ∧ ((9 : Int32).toNatClampNeg ≤ 60000 ∧ (1 ≤ ((((((((((((bc - 1) - b11) - 1) - b29) - 1) - 1) - b58) - 1) - b76) - 1) - (1 + (10 : Int32).toNatClampNeg)) - 1) ∧ ((9 : Int32).toNatClampNeg ≤ ((((((((((((bs - 16) - b12) - 16) - b30) - (4 : Int32).toNatClampNeg) - 4) - b59) - 1) - b77) - (300 : Int32).toNatClampNeg) - ((10 : Int32).toNatClampNeg + (10 : Int32).toNatClampNeg * (25 : Int32).toNatClampNeg)) - (9 : Int32).toNatClampNeg) ∧ (∀ rn125 : Nat, rn125 = m_x μ120 →
  (∀ μ128, μ128 = m_al μ120 100 (9 : Int32).toNatClampNeg →
  (∀ μ131, μ131 = m_uP μ128 r0 11 rn125 →
  Q μ131)))))))))))))))))))))))))))))))))))))))))))))))))))))))))))))))))))))))
set_option maxHeartbeats 4000000 in
theorem w_X0_init {g : fw_G} {f bc bs : Nat} {r0 : Nat} {μ : fw_M} {Q : fw_M → Prop} (hf : 3 ≤ f) (hx : m_K μ r0 = 1) (h : p_X0_init bc bs r0 μ Q) : fw_C g f bc bs yX0_init (ws_ yX0_init cX0_init 1 (none)) [fw_rv g r0] μ (fw_Qv Q) fw_nX := by
  unfold p_X0_init at h
  refine fw_intro' (Ls := [(0, fw_rv g r0)]) (by decide +kernel) (by simp [lg_sl, fw_cat, fw_ci, fw_clo]) (by simp [lv_args, fw_cat, fw_ci, fw_clo]) ?_
  show fw_V g K_X0_init f bc bs 0 [(0, fw_rv g r0)] [] μ (fw_Qv Q) fw_nX
  refine fw_aload_n dX0_init_0 rfl rfl ?_
  refine fw_objInit (k := 1) rfl hx q109 q110 q111 (by omega) (fw_s4 (Nat.le_of_ble_eq_true rfl)) dX0_init_1 ?_
  refine fw_aload_n dX0_init_4 rfl rfl ?_
  refine fw_x (fun hX => ?_)
  obtain ⟨hc1, h⟩ := h
  obtain ⟨hc2, h⟩ := h
  refine fw_newo (k := 2) rfl q112 q113 q75 hc1 hc2 dX0_init_5 ?_
  refine fw_topr (fun rn3 e4 => ?_)
  have h := h rn3 e4
  refine fw_topm (fun μ6 e7 => ?_)
  have hg8 := fw_al_sE e7 hx (by decide) hX
  have hg5 := fw_al_KE e7 e4
  have h := h μ6 e7
  refine fw_dup dX0_init_8 (fw_cat _) ?_
  obtain ⟨b11, b12, hb13, hb14, h⟩ := h
  refine fw_callI0 (f1 := f - 1) (b1 := b11) (b2 := b12) cl_X0_11 (k := 2) rfl hg5 (by decide) (by omega) hb13 hb14 (fw_s4 (Nat.le_of_ble_eq_true rfl)) dX0_init_9 (w_X1_init (f := f - 1) (by omega) hg5 h) (fun _ _ h9 _ _ => h9.elim) (fun v9 μ10 q9 hs15 => ?_)
  obtain ⟨rfl, h⟩ := q9
  refine fw_tv ?_
  have hg16 := hs15.K hg8 (by decide)
  have hg17 := hs15.K hg5 (by decide)
  refine fw_putfP fl_X0_12 (fun q hq => Or.inr ⟨rfl, by cases hq; rfl⟩) rfl hg16 dX0_init_12 ?_
  have h := h _ rfl
  refine fw_aload_n dX0_init_15 rfl rfl ?_
  refine fw_x (fun hX => ?_)
  obtain ⟨hc19, h⟩ := h
  obtain ⟨hc20, h⟩ := h
  refine fw_newo (k := 2) rfl q112 q113 q75 hc19 hc20 dX0_init_16 ?_
  refine fw_topr (fun rn21 e22 => ?_)
  have h := h rn21 e22
  refine fw_topm (fun μ24 e25 => ?_)
  have hg26 := fw_al_sE e25 hg16 (by decide) hX
  have hg23 := fw_al_KE e25 e22
  have h := h μ24 e25
  refine fw_dup dX0_init_19 (fw_cat _) ?_
  obtain ⟨b29, b30, hb31, hb32, h⟩ := h
  refine fw_callI0 (f1 := f - 1) (b1 := b29) (b2 := b30) cl_X0_11 (k := 2) rfl hg23 (by decide) (by omega) hb31 hb32 (fw_s4 (Nat.le_of_ble_eq_true rfl)) dX0_init_20 (w_X1_init (f := f - 1) (by omega) hg23 h) (fun _ _ h9 _ _ => h9.elim) (fun v9 μ28 q9 hs33 => ?_)
  obtain ⟨rfl, h⟩ := q9
  refine fw_tv ?_
  have hg34 := hs33.K hg26 (by decide)
  have hg35 := hs33.K hg23 (by decide)
  refine fw_putfP fl_X0_16 (fun q hq => Or.inr ⟨rfl, by cases hq; rfl⟩) rfl hg34 dX0_init_23 ?_
  have h := h _ rfl
  refine fw_aload_n dX0_init_26 rfl rfl ?_
  refine fw_iconst (v := 4) dX0_init_27 (by decide) ?_
  refine fw_x (fun hX => ?_)
  obtain ⟨hc37, h⟩ := h
  obtain ⟨hc38, h⟩ := h
  obtain ⟨hc39, h⟩ := h
  obtain ⟨hc40, h⟩ := h
  refine fw_newq (k := 106) rfl q184 (by decide +kernel) hc37 (by omega) hc39 hc40 dX0_init_28 ?_
  refine fw_topr (fun rn41 e42 => ?_)
  have h := h rn41 e42
  refine fw_topm (fun μ44 e45 => ?_)
  have hg46 := fw_al_sE e45 hg34 (by decide) hX
  have hg43 := fw_al_KE e45 e42
  have h := h μ44 e45
  refine fw_putfP fl_X0_21 (fun q hq => Or.inr ⟨rfl, by cases hq; rfl⟩) rfl hg46 dX0_init_31 ?_
  have h := h _ rfl
  refine fw_aload_n dX0_init_34 rfl rfl ?_
  refine fw_x (fun hX => ?_)
  obtain ⟨hc48, h⟩ := h
  obtain ⟨hc49, h⟩ := h
  refine fw_newo (k := 3) rfl q184 q186 q76 hc48 hc49 dX0_init_35 ?_
  refine fw_topr (fun rn50 e51 => ?_)
  have h := h rn50 e51
  refine fw_topm (fun μ53 e54 => ?_)
  have hg55 := fw_al_sE e54 hg46 (by decide) hX
  have hg52 := fw_al_KE e54 e51
  have h := h μ53 e54
  refine fw_dup dX0_init_38 (fw_cat _) ?_
  obtain ⟨b58, b59, hb60, hb61, h⟩ := h
  refine fw_callIN0 (f1 := f - 1) (b1 := b58) (b2 := b59) cl_X0_25 (k := 3) rfl hg52 (by decide) (by omega) hb60 hb61 (fw_s4 (Nat.le_of_ble_eq_true rfl)) dX0_init_39 (w_X2_init (f := f - 1) (by omega) hg52 h) (fun _ _ h9 _ _ => h9.elim) (fun v9 μ57 q9 hs62 => ?_)
  obtain ⟨rfl, h⟩ := q9
  refine fw_tv ?_
  have hg63 := hs62.K hg55 (by decide)
  have hg64 := hs62.K hg52 (by decide)
  refine fw_putfP fl_X0_26 (fun q hq => Or.inr ⟨rfl, by cases hq; rfl⟩) rfl hg63 dX0_init_42 ?_
  have h := h _ rfl
  refine fw_aload_n dX0_init_45 rfl rfl ?_
  refine fw_x (fun hX => ?_)
  obtain ⟨hc66, h⟩ := h
  obtain ⟨hc67, h⟩ := h
  refine fw_newo (k := 5) rfl q214 q215 q78 hc66 hc67 dX0_init_46 ?_
  refine fw_topr (fun rn68 e69 => ?_)
  have h := h rn68 e69
  refine fw_topm (fun μ71 e72 => ?_)
  have hg73 := fw_al_sE e72 hg63 (by decide) hX
  have hg70 := fw_al_KE e72 e69
  have h := h μ71 e72
  refine fw_dup dX0_init_49 (fw_cat _) ?_
  obtain ⟨b76, b77, hb78, hb79, h⟩ := h
  refine fw_callIN0 (f1 := f - 1) (b1 := b76) (b2 := b77) cl_X0_32 (k := 5) rfl hg70 (by decide) (by omega) hb78 hb79 (fw_s4 (Nat.le_of_ble_eq_true rfl)) dX0_init_50 (w_X4_init (f := f - 1) (by omega) hg70 h) (fun _ _ h9 _ _ => h9.elim) (fun v9 μ75 q9 hs80 => ?_)
  obtain ⟨rfl, h⟩ := q9
  refine fw_tv ?_
  have hg81 := hs80.K hg73 (by decide)
  have hg82 := hs80.K hg70 (by decide)
  refine fw_putfP fl_X0_33 (fun q hq => Or.inr ⟨rfl, by cases hq; rfl⟩) rfl hg81 dX0_init_53 ?_
  have h := h _ rfl
  refine fw_aload_n dX0_init_56 rfl rfl ?_
  refine fw_sipush (v := 300) dX0_init_57 (by decide) ?_
  refine fw_x (fun hX => ?_)
  obtain ⟨hc84, h⟩ := h
  obtain ⟨hc85, h⟩ := h
  obtain ⟨hc86, h⟩ := h
  obtain ⟨hc87, h⟩ := h
  refine fw_newa (k := 101) rfl rfl q272 hc84 (by show _ * 1 ≤ _; omega) hc86 hc87 dX0_init_60 ?_
  refine fw_topr (fun rn88 e89 => ?_)
  have h := h rn88 e89
  refine fw_topm (fun μ91 e92 => ?_)
  have hg93 := fw_al_sE e92 hg81 (by decide) hX
  have hg90 := fw_al_KE e92 e89
  have h := h μ91 e92
  refine fw_putfP fl_X0_37 (fun q hq => Or.inr ⟨rfl, by cases hq; rfl⟩) rfl hg93 dX0_init_62 ?_
  have h := h _ rfl
  refine fw_aload_n dX0_init_65 rfl rfl ?_
  refine fw_iconst (v := -1) dX0_init_66 (by decide) ?_
  refine fw_putfI fl_X0_41 (fun q hq => Or.inl (by cases hq; rfl)) rfl hg93 dX0_init_67 ?_
  have h := h _ rfl
  refine fw_aload_n dX0_init_70 rfl rfl ?_
  refine fw_iconst (v := -1) dX0_init_71 (by decide) ?_
  refine fw_putfI fl_X0_45 (fun q hq => Or.inl (by cases hq; rfl)) rfl hg93 dX0_init_72 ?_
  have h := h _ rfl
  refine fw_aload_n dX0_init_75 rfl rfl ?_
  refine fw_bipush (v := 10) dX0_init_76 (by decide) ?_
  refine fw_bipush (v := 25) dX0_init_78 (by decide) ?_
  refine fw_x (fun hX => ?_)
  obtain ⟨hc97, h⟩ := h
  obtain ⟨hc98, h⟩ := h
  obtain ⟨hc99, h⟩ := h
  obtain ⟨hc100, h⟩ := h
  obtain ⟨hc101, h⟩ := h
  obtain ⟨hc102, h⟩ := h
  refine fw_newm q228 q183 hc97 hc98 hc99 hc100 hc101 hc102 dX0_init_80 ?_
  refine fw_topr (fun rn103 e104 => ?_)
  have h := h rn103 e104
  refine fw_topm (fun μ106 e107 => ?_)
  have hg108 := fw_al2_sE e107 hg93 (by decide) hX
  have hg105 := fw_al2_KE e107 e104
  have h := h μ106 e107
  refine fw_putfP fl_X0_50 (fun q hq => Or.inr ⟨rfl, by cases hq; rfl⟩) rfl hg108 dX0_init_84 ?_
  have h := h _ rfl
  refine fw_aload_n dX0_init_87 rfl rfl ?_
  refine fw_bipush (v := 9) dX0_init_88 (by decide) ?_
  refine fw_x (fun hX => ?_)
  obtain ⟨hc110, h⟩ := h
  obtain ⟨hc111, h⟩ := h
  obtain ⟨hc112, h⟩ := h
  obtain ⟨hc113, h⟩ := h
  refine fw_newa (k := 100) rfl rfl q183 hc110 (by show _ * 4 ≤ _; omega) hc112 hc113 dX0_init_90 ?_
  refine fw_topr (fun rn114 e115 => ?_)
  have h := h rn114 e115
  refine fw_topm (fun μ117 e118 => ?_)
  have hg119 := fw_al_sE e118 hg108 (by decide) hX
  have hg116 := fw_al_KE e118 e115
  have h := h μ117 e118
  refine fw_putfP fl_X0_53 (fun q hq => Or.inr ⟨rfl, by cases hq; rfl⟩) rfl hg119 dX0_init_92 ?_
  have h := h _ rfl
  refine fw_aload_n dX0_init_95 rfl rfl ?_
  refine fw_bipush (v := 9) dX0_init_96 (by decide) ?_
  refine fw_x (fun hX => ?_)
  obtain ⟨hc121, h⟩ := h
  obtain ⟨hc122, h⟩ := h
  obtain ⟨hc123, h⟩ := h
  obtain ⟨hc124, h⟩ := h
  refine fw_newa (k := 100) rfl rfl q183 hc121 (by show _ * 4 ≤ _; omega) hc123 hc124 dX0_init_98 ?_
  refine fw_topr (fun rn125 e126 => ?_)
  have h := h rn125 e126
  refine fw_topm (fun μ128 e129 => ?_)
  have hg130 := fw_al_sE e129 hg119 (by decide) hX
  have hg127 := fw_al_KE e129 e126
  have h := h μ128 e129
  refine fw_putfP fl_X0_57 (fun q hq => Or.inr ⟨rfl, by cases hq; rfl⟩) rfl hg130 dX0_init_100 ?_
  have h := h _ rfl
  exact fw_return dX0_init_103 rfl ⟨rfl, h⟩
abbrev K_X0_pot : fw_Kt := (RX0, "pot", cX0_pot, 4, some .boolean, [])
def p_X0_pot (r0 : Nat) (i1 : Int32) (i2 : Int32) (i3 : Int32) (μ : fw_M) (Q : Int32 → fw_M → Prop) : Prop :=
  (p_X0_isSide i1 μ (fun v1 μ2 =>
  (if v1 = 0 then
  (Q (0 : Int32) μ2)
  else
  ((p_X0_isKind i2 μ2 (fun v6 μ7 =>
   (if v6 = 0 then
   (Q (0 : Int32) μ7)
   else
   ((p_X0_in i3 (0 : Int32) (999 : Int32) μ7 (fun v11 μ12 =>
    (if v11 = 0 then
    (Q (0 : Int32) μ12)
    else
    ((m_K μ12 (m_P μ12 r0 0) = 2 ∧ (m_K μ12 (m_P μ12 (m_P μ12 r0 0) 9) = 100 ∧ (vp_in (((0 : Int32) + ((2 : Int32) * i1)) + i2) (m_N μ12 (m_P μ12 (m_P μ12 r0 0) 9)) ∧ (∀ μ19, μ19 = m_uI μ12 (m_P μ12 (m_P μ12 r0 0) 9) (((0 : Int32) + ((2 : Int32) * i1)) + i2).toNatClampNeg i3 →
     Q (1 : Int32) μ19))))))))))))))))
set_option maxHeartbeats 4000000 in
theorem w_X0_pot {g : fw_G} {f bc bs : Nat} {r0 : Nat} {i1 : Int32} {i2 : Int32} {i3 : Int32} {μ : fw_M} {Q : Int32 → fw_M → Prop} (hf : 3 ≤ f) (hx : m_K μ r0 = 1) (h : p_X0_pot r0 i1 i2 i3 μ Q) : fw_C g f bc bs yX0_pot (ws_ yX0_pot cX0_pot 4 (some .boolean)) [fw_rv g r0, Value.int i1, Value.int i2, Value.int i3] μ (fw_Qi Q) fw_nX := by
  unfold p_X0_pot at h
  refine fw_intro' (Ls := [(0, fw_rv g r0), (1, Value.int i1), (2, Value.int i2), (3, Value.int i3)]) (by decide +kernel) (by simp [lg_sl, fw_cat, fw_ci, fw_clo]) (by simp [lv_args, fw_cat, fw_ci, fw_clo]) ?_
  show fw_V g K_X0_pot f bc bs 0 [(0, fw_rv g r0), (1, Value.int i1), (2, Value.int i2), (3, Value.int i3)] [] μ (fw_Qi Q) fw_nX
  refine fw_iload_n dX0_pot_0 rfl rfl ?_
  refine fw_callS1z (f1 := f - 1) cl_X0_70 (by decide) (by omega) (fw_s4 (Nat.le_of_ble_eq_true rfl)) dX0_pot_1 (w_X0_isSide (f := f - 1) (by omega) h) (fun _ _ h9 _ _ => h9.elim) (fun v9 μ2 q9 hs3 => ?_)
  obtain ⟨v1, rfl, h⟩ := q9
  refine fw_ti ?_
  have hg4 := hs3.K hx (by decide)
  refine fw_if_eq (tgt := 25) dX0_pot_4 (by decide) (fun c5 => ?_) (fun c5 => ?_)
  · have h := fw_it h c5
    refine fw_iconst (v := 0) dX0_pot_25 (by decide) ?_
    exact fw_ireturn dX0_pot_26 rfl (by decide +kernel) ⟨_, rfl, h⟩
  · have h := fw_if h c5
    refine fw_iload_n dX0_pot_7 rfl rfl ?_
    refine fw_callS1z (f1 := f - 1) cl_X0_74 (by decide) (by omega) (fw_s4 (Nat.le_of_ble_eq_true rfl)) dX0_pot_8 (w_X0_isKind (f := f - 1) (by omega) h) (fun _ _ h9 _ _ => h9.elim) (fun v9 μ7 q9 hs8 => ?_)
    obtain ⟨v6, rfl, h⟩ := q9
    refine fw_ti ?_
    have hg9 := hs8.K hg4 (by decide)
    refine fw_if_eq (tgt := 25) dX0_pot_11 (by decide) (fun c10 => ?_) (fun c10 => ?_)
    · have h := fw_it h c10
      refine fw_iconst (v := 0) dX0_pot_25 (by decide) ?_
      exact fw_ireturn dX0_pot_26 rfl (by decide +kernel) ⟨_, rfl, h⟩
    · have h := fw_if h c10
      refine fw_iload_n dX0_pot_14 rfl rfl ?_
      refine fw_iconst (v := 0) dX0_pot_15 (by decide) ?_
      refine fw_sipush (v := 999) dX0_pot_16 (by decide) ?_
      refine fw_callS3z (f1 := f - 1) cl_X0_66 (by decide) (by omega) (fw_s4 (Nat.le_of_ble_eq_true rfl)) dX0_pot_19 (w_X0_in (f := f - 1) (by omega) h) (fun _ _ h9 _ _ => h9.elim) (fun v9 μ12 q9 hs13 => ?_)
      obtain ⟨v11, rfl, h⟩ := q9
      refine fw_ti ?_
      have hg14 := hs13.K hg9 (by decide)
      refine fw_if_ne (tgt := 27) dX0_pot_22 (by decide) (fun c15 => ?_) (fun c15 => ?_)
      · have h := fw_if h c15
        refine fw_aload_n dX0_pot_27 rfl rfl ?_
        refine fw_getfP fl_X0_12 rfl hg14 dX0_pot_28 ?_
        obtain ⟨hg16, h⟩ := h
        refine fw_getfP fl_X0_77 rfl hg16 dX0_pot_31 ?_
        refine fw_iconst (v := 0) dX0_pot_34 (by decide) ?_
        refine fw_iconst (v := 2) dX0_pot_35 (by decide) ?_
        refine fw_iload_n dX0_pot_36 rfl rfl ?_
        refine fw_imul dX0_pot_37 ?_
        refine fw_iadd dX0_pot_38 ?_
        refine fw_iload_n dX0_pot_39 rfl rfl ?_
        refine fw_iadd dX0_pot_40 ?_
        refine fw_iload_n dX0_pot_41 rfl rfl ?_
        obtain ⟨hg17, h⟩ := h
        obtain ⟨hc18, h⟩ := h
        refine fw_iast hg17 hc18 dX0_pot_42 ?_
        have h := h _ rfl
        refine fw_iconst (v := 1) dX0_pot_43 (by decide) ?_
        exact fw_ireturn dX0_pot_44 rfl (by decide +kernel) ⟨_, rfl, h⟩
      · have h := fw_it h c15
        refine fw_iconst (v := 0) dX0_pot_25 (by decide) ?_
        exact fw_ireturn dX0_pot_26 rfl (by decide +kernel) ⟨_, rfl, h⟩
abbrev K_X0_eater : fw_Kt := (RX0, "eater", cX0_eater, 5, some .int, [])
def p_X0_eater (r0 : Nat) (i1 : Int32) (i2 : Int32) (i3 : Int32) (μ : fw_M) (Q : Int32 → fw_M → Prop) : Prop :=
  (p_X0_in i1 (0 : Int32) (9 : Int32) μ (fun v1 μ2 =>
  (if v1 = 0 then
  (Q (-1 : Int32) μ2)
  else
  ((p_X0_in i2 (1 : Int32) (9 : Int32) μ2 (fun v6 μ7 =>
   (if v6 = 0 then
   (Q (-1 : Int32) μ7)
   else
   ((p_X0_in i3 (0 : Int32) (99 : Int32) μ7 (fun v11 μ12 =>
    (if v11 = 0 then
    (Q (-1 : Int32) μ12)
    else
    ((m_K μ12 (m_P μ12 r0 0) = 2 ∧ (if (m_I μ12 (m_P μ12 r0 0) 0) = (9 : Int32) then
     (Q (-1 : Int32) μ12)
     else
     ((∀ μ18, μ18 = m_uI μ12 (m_P μ12 r0 0) 0 ((m_I μ12 (m_P μ12 r0 0) 0) + (1 : Int32)) →
      (∀ i4_19 : Int32, i4_19 = (m_I μ12 (m_P μ12 r0 0) 0) →
      (m_K μ18 (m_P μ18 r0 0) = 2 ∧ (m_K μ18 (m_P μ18 (m_P μ18 r0 0) 6) = 100 ∧ (vp_in i4_19 (m_N μ18 (m_P μ18 (m_P μ18 r0 0) 6)) ∧ (∀ μ24, μ24 = m_uI μ18 (m_P μ18 (m_P μ18 r0 0) 6) i4_19.toNatClampNeg i1 →
      (m_K μ24 (m_P μ24 r0 0) = 2 ∧ (m_K μ24 (m_P μ24 (m_P μ24 r0 0) 7) = 100 ∧ (vp_in i4_19 (m_N μ24 (m_P μ24 (m_P μ24 r0 0) 7)) ∧ (∀ μ28, μ28 = m_uI μ24 (m_P μ24 (m_P μ24 r0 0) 7) i4_19.toNatClampNeg i2 →
      (m_K μ28 (m_P μ28 r0 0) = 2 ∧ (m_K μ28 (m_P μ28 (m_P μ28 r0 0) 8) = 100 ∧ (vp_in i4_19 (m_N μ28 (m_P μ28 (m_P μ28 r0 0) 8)) ∧ (∀ μ32, μ32 = m_uI μ28 (m_P μ28 (m_P μ28 r0 0) 8) i4_19.toNatClampNeg i3 →
      (m_K μ32 (m_P μ32 r0 0) = 2 ∧ (m_K μ32 (m_P μ32 (m_P μ32 r0 0) 9) = 100 ∧ (vp_in ((4 : Int32) + i4_19) (m_N μ32 (m_P μ32 (m_P μ32 r0 0) 9)) ∧ (∀ μ36, μ36 = m_uI μ32 (m_P μ32 (m_P μ32 r0 0) 9) ((4 : Int32) + i4_19).toNatClampNeg (2 : Int32) →
      (m_K μ36 (m_P μ36 r0 0) = 2 ∧ (m_K μ36 (m_P μ36 (m_P μ36 r0 0) 9) = 100 ∧ (vp_in ((13 : Int32) + i4_19) (m_N μ36 (m_P μ36 (m_P μ36 r0 0) 9)) ∧ (∀ μ40, μ40 = m_uI μ36 (m_P μ36 (m_P μ36 r0 0) 9) ((13 : Int32) + i4_19).toNatClampNeg (0 : Int32) →
      Q i4_19 μ40)))))))))))))))))))))))))))))))))))))
set_option maxHeartbeats 4000000 in
theorem w_X0_eater {g : fw_G} {f bc bs : Nat} {r0 : Nat} {i1 : Int32} {i2 : Int32} {i3 : Int32} {μ : fw_M} {Q : Int32 → fw_M → Prop} (hf : 2 ≤ f) (hx : m_K μ r0 = 1) (h : p_X0_eater r0 i1 i2 i3 μ Q) : fw_C g f bc bs yX0_eater (ws_ yX0_eater cX0_eater 5 (some .int)) [fw_rv g r0, Value.int i1, Value.int i2, Value.int i3] μ (fw_Qi Q) fw_nX := by
  unfold p_X0_eater at h
  refine fw_intro' (Ls := [(0, fw_rv g r0), (1, Value.int i1), (2, Value.int i2), (3, Value.int i3)]) (by decide +kernel) (by simp [lg_sl, fw_cat, fw_ci, fw_clo]) (by simp [lv_args, fw_cat, fw_ci, fw_clo]) ?_
  show fw_V g K_X0_eater f bc bs 0 [(0, fw_rv g r0), (1, Value.int i1), (2, Value.int i2), (3, Value.int i3)] [] μ (fw_Qi Q) fw_nX
  refine fw_iload_n dX0_eater_0 rfl rfl ?_
  refine fw_iconst (v := 0) dX0_eater_1 (by decide) ?_
  refine fw_bipush (v := 9) dX0_eater_2 (by decide) ?_
  refine fw_callS3z (f1 := f - 1) cl_X0_66 (by decide) (by omega) (fw_s4 (Nat.le_of_ble_eq_true rfl)) dX0_eater_4 (w_X0_in (f := f - 1) (by omega) h) (fun _ _ h9 _ _ => h9.elim) (fun v9 μ2 q9 hs3 => ?_)
  obtain ⟨v1, rfl, h⟩ := q9
  refine fw_ti ?_
  have hg4 := hs3.K hx (by decide)
  refine fw_if_eq (tgt := 42) dX0_eater_7 (by decide) (fun c5 => ?_) (fun c5 => ?_)
  · have h := fw_it h c5
    refine fw_iconst (v := -1) dX0_eater_42 (by decide) ?_
    exact fw_ireturn dX0_eater_43 rfl rfl ⟨_, rfl, h⟩
  · have h := fw_if h c5
    refine fw_iload_n dX0_eater_10 rfl rfl ?_
    refine fw_iconst (v := 1) dX0_eater_11 (by decide) ?_
    refine fw_bipush (v := 9) dX0_eater_12 (by decide) ?_
    refine fw_callS3z (f1 := f - 1) cl_X0_66 (by decide) (by omega) (fw_s4 (Nat.le_of_ble_eq_true rfl)) dX0_eater_14 (w_X0_in (f := f - 1) (by omega) h) (fun _ _ h9 _ _ => h9.elim) (fun v9 μ7 q9 hs8 => ?_)
    obtain ⟨v6, rfl, h⟩ := q9
    refine fw_ti ?_
    have hg9 := hs8.K hg4 (by decide)
    refine fw_if_eq (tgt := 42) dX0_eater_17 (by decide) (fun c10 => ?_) (fun c10 => ?_)
    · have h := fw_it h c10
      refine fw_iconst (v := -1) dX0_eater_42 (by decide) ?_
      exact fw_ireturn dX0_eater_43 rfl rfl ⟨_, rfl, h⟩
    · have h := fw_if h c10
      refine fw_iload_n dX0_eater_20 rfl rfl ?_
      refine fw_iconst (v := 0) dX0_eater_21 (by decide) ?_
      refine fw_bipush (v := 99) dX0_eater_22 (by decide) ?_
      refine fw_callS3z (f1 := f - 1) cl_X0_66 (by decide) (by omega) (fw_s4 (Nat.le_of_ble_eq_true rfl)) dX0_eater_24 (w_X0_in (f := f - 1) (by omega) h) (fun _ _ h9 _ _ => h9.elim) (fun v9 μ12 q9 hs13 => ?_)
      obtain ⟨v11, rfl, h⟩ := q9
      refine fw_ti ?_
      have hg14 := hs13.K hg9 (by decide)
      refine fw_if_eq (tgt := 42) dX0_eater_27 (by decide) (fun c15 => ?_) (fun c15 => ?_)
      · have h := fw_it h c15
        refine fw_iconst (v := -1) dX0_eater_42 (by decide) ?_
        exact fw_ireturn dX0_eater_43 rfl rfl ⟨_, rfl, h⟩
      · have h := fw_if h c15
        refine fw_aload_n dX0_eater_30 rfl rfl ?_
        refine fw_getfP fl_X0_12 rfl hg14 dX0_eater_31 ?_
        obtain ⟨hg16, h⟩ := h
        refine fw_getfI fl_X0_63 rfl hg16 dX0_eater_34 ?_
        refine fw_bipush (v := 9) dX0_eater_37 (by decide) ?_
        refine fw_icmp_ne (tgt := 44) dX0_eater_39 (by decide) (fun c17 => ?_) (fun c17 => ?_)
        · have h := fw_if h c17
          refine fw_aload_n dX0_eater_44 rfl rfl ?_
          refine fw_getfP fl_X0_12 rfl hg14 dX0_eater_45 ?_
          refine fw_dup dX0_eater_48 (fw_cat _) ?_
          refine fw_getfI fl_X0_63 rfl hg16 dX0_eater_49 ?_
          refine fw_dup_x1 dX0_eater_52 rfl (fw_cat _) ?_
          refine fw_iconst (v := 1) dX0_eater_53 (by decide) ?_
          refine fw_iadd dX0_eater_54 ?_
          refine fw_putfI fl_X0_63 (fun q hq => Or.inl (by cases hq; rfl)) rfl hg16 dX0_eater_55 ?_
          have h := h _ rfl
          refine fw_topi (fun i4_19 e20 => ?_)
          have h := h i4_19 e20
          refine fw_istoreN (Ls' := [(4, Value.int i4_19), (3, Value.int i3), (0, fw_rv g r0), (1, Value.int i1), (2, Value.int i2)]) [0, 1, 2] dX0_eater_58 (by decide) rfl rfl rfl rfl rfl ?_
          refine fw_aload_n dX0_eater_60 rfl rfl ?_
          refine fw_getfP fl_X0_12 rfl hg14 dX0_eater_61 ?_
          obtain ⟨hg21, h⟩ := h
          refine fw_getfP fl_X0_80 rfl hg21 dX0_eater_64 ?_
          refine fw_iload dX0_eater_67 rfl ?_
          refine fw_iload_n dX0_eater_69 rfl rfl ?_
          obtain ⟨hg22, h⟩ := h
          obtain ⟨hc23, h⟩ := h
          refine fw_iast hg22 hc23 dX0_eater_70 ?_
          have h := h _ rfl
          refine fw_aload_n dX0_eater_71 rfl rfl ?_
          refine fw_getfP fl_X0_12 rfl hg14 dX0_eater_72 ?_
          obtain ⟨hg25, h⟩ := h
          refine fw_getfP fl_X0_83 rfl hg25 dX0_eater_75 ?_
          refine fw_iload dX0_eater_78 rfl ?_
          refine fw_iload_n dX0_eater_80 rfl rfl ?_
          obtain ⟨hg26, h⟩ := h
          obtain ⟨hc27, h⟩ := h
          refine fw_iast hg26 hc27 dX0_eater_81 ?_
          have h := h _ rfl
          refine fw_aload_n dX0_eater_82 rfl rfl ?_
          refine fw_getfP fl_X0_12 rfl hg14 dX0_eater_83 ?_
          obtain ⟨hg29, h⟩ := h
          refine fw_getfP fl_X0_86 rfl hg29 dX0_eater_86 ?_
          refine fw_iload dX0_eater_89 rfl ?_
          refine fw_iload_n dX0_eater_91 rfl rfl ?_
          obtain ⟨hg30, h⟩ := h
          obtain ⟨hc31, h⟩ := h
          refine fw_iast hg30 hc31 dX0_eater_92 ?_
          have h := h _ rfl
          refine fw_aload_n dX0_eater_93 rfl rfl ?_
          refine fw_getfP fl_X0_12 rfl hg14 dX0_eater_94 ?_
          obtain ⟨hg33, h⟩ := h
          refine fw_getfP fl_X0_77 rfl hg33 dX0_eater_97 ?_
          refine fw_iconst (v := 4) dX0_eater_100 (by decide) ?_
          refine fw_iload dX0_eater_101 rfl ?_
          refine fw_iadd dX0_eater_103 ?_
          refine fw_iconst (v := 2) dX0_eater_104 (by decide) ?_
          obtain ⟨hg34, h⟩ := h
          obtain ⟨hc35, h⟩ := h
          refine fw_iast hg34 hc35 dX0_eater_105 ?_
          have h := h _ rfl
          refine fw_aload_n dX0_eater_106 rfl rfl ?_
          refine fw_getfP fl_X0_12 rfl hg14 dX0_eater_107 ?_
          obtain ⟨hg37, h⟩ := h
          refine fw_getfP fl_X0_77 rfl hg37 dX0_eater_110 ?_
          refine fw_bipush (v := 13) dX0_eater_113 (by decide) ?_
          refine fw_iload dX0_eater_115 rfl ?_
          refine fw_iadd dX0_eater_117 ?_
          refine fw_iconst (v := 0) dX0_eater_118 (by decide) ?_
          obtain ⟨hg38, h⟩ := h
          obtain ⟨hc39, h⟩ := h
          refine fw_iast hg38 hc39 dX0_eater_119 ?_
          have h := h _ rfl
          refine fw_iload dX0_eater_120 rfl ?_
          exact fw_ireturn dX0_eater_122 rfl rfl ⟨_, rfl, h⟩
        · have h := fw_it h c17
          refine fw_iconst (v := -1) dX0_eater_42 (by decide) ?_
          exact fw_ireturn dX0_eater_43 rfl rfl ⟨_, rfl, h⟩
abbrev K_X0_seed : fw_Kt := (RX0, "seed", cX0_seed, 2, some .boolean, [])
def p_X0_seed (r0 : Nat) (i1 : Int32) (μ : fw_M) (Q : Int32 → fw_M → Prop) : Prop :=
  (p_X0_in i1 (0 : Int32) (9999 : Int32) μ (fun v1 μ2 =>
  (if v1 = 0 then
  (Q (0 : Int32) μ2)
  else
  ((m_K μ2 (m_P μ2 r0 0) = 2 ∧ (m_K μ2 (m_P μ2 (m_P μ2 r0 0) 9) = 100 ∧ (vp_in (22 : Int32) (m_N μ2 (m_P μ2 (m_P μ2 r0 0) 9)) ∧ (∀ μ9, μ9 = m_uI μ2 (m_P μ2 (m_P μ2 r0 0) 9) (22 : Int32).toNatClampNeg (((5 : Int32) * i1) + (3 : Int32)) →
   Q (1 : Int32) μ9))))))))
set_option maxHeartbeats 4000000 in
theorem w_X0_seed {g : fw_G} {f bc bs : Nat} {r0 : Nat} {i1 : Int32} {μ : fw_M} {Q : Int32 → fw_M → Prop} (hf : 2 ≤ f) (hx : m_K μ r0 = 1) (h : p_X0_seed r0 i1 μ Q) : fw_C g f bc bs yX0_seed (ws_ yX0_seed cX0_seed 2 (some .boolean)) [fw_rv g r0, Value.int i1] μ (fw_Qi Q) fw_nX := by
  unfold p_X0_seed at h
  refine fw_intro' (Ls := [(0, fw_rv g r0), (1, Value.int i1)]) (by decide +kernel) (by simp [lg_sl, fw_cat, fw_ci, fw_clo]) (by simp [lv_args, fw_cat, fw_ci, fw_clo]) ?_
  show fw_V g K_X0_seed f bc bs 0 [(0, fw_rv g r0), (1, Value.int i1)] [] μ (fw_Qi Q) fw_nX
  refine fw_iload_n dX0_seed_0 rfl rfl ?_
  refine fw_iconst (v := 0) dX0_seed_1 (by decide) ?_
  refine fw_sipush (v := 9999) dX0_seed_2 (by decide) ?_
  refine fw_callS3z (f1 := f - 1) cl_X0_66 (by decide) (by omega) (fw_s4 (Nat.le_of_ble_eq_true rfl)) dX0_seed_5 (w_X0_in (f := f - 1) (by omega) h) (fun _ _ h9 _ _ => h9.elim) (fun v9 μ2 q9 hs3 => ?_)
  obtain ⟨v1, rfl, h⟩ := q9
  refine fw_ti ?_
  have hg4 := hs3.K hx (by decide)
  refine fw_if_ne (tgt := 13) dX0_seed_8 (by decide) (fun c5 => ?_) (fun c5 => ?_)
  · have h := fw_if h c5
    refine fw_aload_n dX0_seed_13 rfl rfl ?_
    refine fw_getfP fl_X0_12 rfl hg4 dX0_seed_14 ?_
    obtain ⟨hg6, h⟩ := h
    refine fw_getfP fl_X0_77 rfl hg6 dX0_seed_17 ?_
    refine fw_bipush (v := 22) dX0_seed_20 (by decide) ?_
    refine fw_iconst (v := 5) dX0_seed_22 (by decide) ?_
    refine fw_iload_n dX0_seed_23 rfl rfl ?_
    refine fw_imul dX0_seed_24 ?_
    refine fw_iconst (v := 3) dX0_seed_25 (by decide) ?_
    refine fw_iadd dX0_seed_26 ?_
    obtain ⟨hg7, h⟩ := h
    obtain ⟨hc8, h⟩ := h
    refine fw_iast hg7 hc8 dX0_seed_27 ?_
    have h := h _ rfl
    refine fw_iconst (v := 1) dX0_seed_28 (by decide) ?_
    exact fw_ireturn dX0_seed_29 rfl (by decide +kernel) ⟨_, rfl, h⟩
  · have h := fw_it h c5
    refine fw_iconst (v := 0) dX0_seed_11 (by decide) ?_
    exact fw_ireturn dX0_seed_12 rfl (by decide +kernel) ⟨_, rfl, h⟩
abbrev K_X0_undo : fw_Kt := (RX0, "undo", cX0_undo, 1, some .int, [])
def p_X0_undo (r0 : Nat) (μ : fw_M) (Q : Int32 → fw_M → Prop) : Prop :=
  (m_K μ (m_P μ r0 0) = 2 ∧ (if (m_I μ (m_P μ r0 0) 3) = 0 then
  (Q (-1 : Int32) μ)
  else
  ((p_X1_takeBack (m_P μ r0 0) μ (fun μ4 =>
   (m_K μ4 (m_P μ4 r0 0) = 2 ∧ Q (m_I μ4 (m_P μ4 r0 0) 3) μ4))))))
set_option maxHeartbeats 4000000 in
theorem w_X0_undo {g : fw_G} {f bc bs : Nat} {r0 : Nat} {μ : fw_M} {Q : Int32 → fw_M → Prop} (hf : 3 ≤ f) (hx : m_K μ r0 = 1) (h : p_X0_undo r0 μ Q) : fw_C g f bc bs yX0_undo (ws_ yX0_undo cX0_undo 1 (some .int)) [fw_rv g r0] μ (fw_Qi Q) fw_nX := by
  unfold p_X0_undo at h
  refine fw_intro' (Ls := [(0, fw_rv g r0)]) (by decide +kernel) (by simp [lg_sl, fw_cat, fw_ci, fw_clo]) (by simp [lv_args, fw_cat, fw_ci, fw_clo]) ?_
  show fw_V g K_X0_undo f bc bs 0 [(0, fw_rv g r0)] [] μ (fw_Qi Q) fw_nX
  refine fw_aload_n dX0_undo_0 rfl rfl ?_
  refine fw_getfP fl_X0_12 rfl hx dX0_undo_1 ?_
  obtain ⟨hg1, h⟩ := h
  refine fw_getfI fl_X0_173 rfl hg1 dX0_undo_4 ?_
  refine fw_if_ne (tgt := 12) dX0_undo_7 (by decide) (fun c2 => ?_) (fun c2 => ?_)
  · have h := fw_if h c2
    refine fw_aload_n dX0_undo_12 rfl rfl ?_
    refine fw_getfP fl_X0_12 rfl hx dX0_undo_13 ?_
    refine fw_callV0z (f1 := f - 1) cl_X0_176 rfl hg1 (by decide) (by omega) (fw_s4 (Nat.le_of_ble_eq_true rfl)) dX0_undo_16 (w_X1_takeBack (f := f - 1) (by omega) hg1 h) (fun _ _ h9 _ _ => h9.elim) (fun v9 μ4 q9 hs5 => ?_)
    obtain ⟨rfl, h⟩ := q9
    refine fw_tv ?_
    have hg6 := hs5.K hx (by decide)
    refine fw_aload_n dX0_undo_19 rfl rfl ?_
    refine fw_getfP fl_X0_12 rfl hg6 dX0_undo_20 ?_
    obtain ⟨hg7, h⟩ := h
    refine fw_getfI fl_X0_173 rfl hg7 dX0_undo_23 ?_
    exact fw_ireturn dX0_undo_26 rfl rfl ⟨_, rfl, h⟩
  · have h := fw_it h c2
    refine fw_iconst (v := -1) dX0_undo_10 (by decide) ?_
    exact fw_ireturn dX0_undo_11 rfl rfl ⟨_, rfl, h⟩
abbrev K_X0_four : fw_Kt := (RX0, "four", cX0_four, 3, none, [])
def p_X0_four_L3b (r0 : Nat) (i1 : Int32) (k3 : Int32 → fw_M → Prop) (i2 : Int32) (μ : fw_M) (Q : fw_M → Prop) : Prop :=
  (if i2 < 0 then
  (Q μ)
  else
  ((∀ μ2, μ2 = m_uI μ r0 6 ((m_I μ r0 6) + (1 : Int32)) →
   (m_K μ2 (m_P μ r0 5) = 101 ∧ (vp_in (m_I μ r0 6) (m_N μ2 (m_P μ r0 5)) ∧ (∀ μ5, μ5 = m_uI μ2 (m_P μ r0 5) (m_I μ r0 6).toNatClampNeg (((i1 >>> (i2 &&& 31)).toInt8.toInt32).toInt8.toInt32) →
   (∀ i2_6 : Int32, i2_6 = i2 + (-8 : Int32) →
   k3 i2_6 μ5)))))))
def p_X0_four_L3 (r0 : Nat) (i1 : Int32) (i2 : Int32) (μ : fw_M) (Q : fw_M → Prop) : Prop := fw_lp (fun (k : Int32 × fw_M → Prop) (a : Int32 × fw_M) => p_X0_four_L3b r0 i1 (fun i2 μ => k (i2, μ)) a.1 a.2 Q) (i2, μ)
theorem r_X0_four_L3 {r0 : Nat} {i1 : Int32} {Q : fw_M → Prop} (I : Int32 → fw_M → Prop) (v : Int32 → fw_M → Nat) (hs : ∀ (k : Int32 → fw_M → Prop) (i2 : Int32) (μ : fw_M), I i2 μ → (∀ (i2' : Int32) (ν : fw_M), I i2' ν → v i2' ν < v i2 μ → k i2' ν) → p_X0_four_L3b r0 i1 k i2 μ Q) (i2 : Int32) (μ : fw_M) (h : I i2 μ) : p_X0_four_L3 r0 i1 i2 μ Q :=
  fw_lp_in (A := Int32 × fw_M) (fun a => I a.1 a.2) (fun a => v a.1 a.2) (fun k a ha hk => hs (fun i2 μ => k (i2, μ)) a.1 a.2 ha (fun i2' ν hb hlt => hk (i2', ν) hb hlt)) (i2, μ) h
set_option maxHeartbeats 4000000 in
theorem w_X0_four_L3b {g : fw_G} {f bc bs : Nat} {r0 : Nat} {i1 : Int32} {k3 : Int32 → fw_M → Prop} {i2 : Int32} {μ : fw_M} {Q : fw_M → Prop} (hf : 1 ≤ f) (hk3 : ∀ {i2 : Int32} {μ : fw_M}, m_K μ r0 = 1 → k3 i2 μ → fw_V g K_X0_four f bc bs 3 [(0, fw_rv g r0), (1, Value.int i1), (2, Value.int i2)] [] μ (fw_Qv Q) fw_nX) (hx : m_K μ r0 = 1) (h : p_X0_four_L3b r0 i1 k3 i2 μ Q) : fw_V g K_X0_four f bc bs 3 [(0, fw_rv g r0), (1, Value.int i1), (2, Value.int i2)] [] μ (fw_Qv Q) fw_nX := by
  unfold p_X0_four_L3b at h
  refine fw_iload_n dX0_four_3 rfl rfl ?_
  refine fw_if_lt (tgt := 33) dX0_four_4 (by decide) (fun c1 => ?_) (fun c1 => ?_)
  · have h := fw_it h c1
    exact fw_return dX0_four_33 rfl ⟨rfl, h⟩
  · have h := fw_if h c1
    refine fw_aload_n dX0_four_7 rfl rfl ?_
    refine fw_getfP fl_X0_37 rfl hx dX0_four_8 ?_
    refine fw_aload_n dX0_four_11 rfl rfl ?_
    refine fw_dup dX0_four_12 (fw_cat _) ?_
    refine fw_getfI fl_X0_179 rfl hx dX0_four_13 ?_
    refine fw_dup_x1 dX0_four_16 rfl (fw_cat _) ?_
    refine fw_iconst (v := 1) dX0_four_17 (by decide) ?_
    refine fw_iadd dX0_four_18 ?_
    refine fw_putfI fl_X0_179 (fun q hq => Or.inl (by cases hq; rfl)) rfl hx dX0_four_19 ?_
    have h := h _ rfl
    refine fw_iload_n dX0_four_22 rfl rfl ?_
    refine fw_iload_n dX0_four_23 rfl rfl ?_
    refine fw_ishr dX0_four_24 ?_
    refine fw_i2b dX0_four_25 ?_
    obtain ⟨hg3, h⟩ := h
    obtain ⟨hc4, h⟩ := h
    refine fw_bast hg3 hc4 dX0_four_26 ?_
    have h := h _ rfl
    obtain ⟨i2_6, e7⟩ : ∃ y : Int32, y = i2 + (-8 : Int32) := ⟨_, rfl⟩
    have h := h i2_6 e7
    refine fw_iincN (k := 2) (v := i2_6) (Ls' := [(2, Value.int i2_6), (1, Value.int i1), (0, fw_rv g r0)]) [0] dX0_four_27 rfl (by rw [e7]; rfl) (by decide) rfl rfl rfl rfl rfl ?_
    refine fw_goto (tgt := 3) dX0_four_30 (by decide) ?_
    refine fw_ls [2, 1, 0] rfl ?_
    exact hk3 hx h
theorem w_X0_four_L3 {g : fw_G} {f bc bs : Nat} {r0 : Nat} {i1 : Int32} {i2 : Int32} {μ : fw_M} {Q : fw_M → Prop} (hf : 1 ≤ f) (hx : m_K μ r0 = 1) (h : p_X0_four_L3 r0 i1 i2 μ Q) : fw_V g K_X0_four f bc bs 3 [(0, fw_rv g r0), (1, Value.int i1), (2, Value.int i2)] [] μ (fw_Qv Q) fw_nX := by
  have key := fw_lp_out (R := fun (a : Int32 × fw_M) => m_K a.2 r0 = 1 → fw_V g K_X0_four f bc bs 3 [(0, fw_rv g r0), (1, Value.int i1), (2, Value.int a.1)] [] a.2 (fw_Qv Q) fw_nX) (fun k hk9 a ha hx2 => w_X0_four_L3b hf (fun {i2} {μ} hx3 h3 => hk9 (i2, μ) h3 hx3) hx2 ha) h
  exact key hx
def p_X0_four (r0 : Nat) (i1 : Int32) (μ : fw_M) (Q : fw_M → Prop) : Prop :=
  p_X0_four_L3 r0 i1 (24 : Int32) μ Q
set_option maxHeartbeats 4000000 in
theorem w_X0_four {g : fw_G} {f bc bs : Nat} {r0 : Nat} {i1 : Int32} {μ : fw_M} {Q : fw_M → Prop} (hf : 1 ≤ f) (hx : m_K μ r0 = 1) (h : p_X0_four r0 i1 μ Q) : fw_C g f bc bs yX0_four (ws_ yX0_four cX0_four 3 (none)) [fw_rv g r0, Value.int i1] μ (fw_Qv Q) fw_nX := by
  unfold p_X0_four at h
  refine fw_intro' (Ls := [(0, fw_rv g r0), (1, Value.int i1)]) (by decide +kernel) (by simp [lg_sl, fw_cat, fw_ci, fw_clo]) (by simp [lv_args, fw_cat, fw_ci, fw_clo]) ?_
  show fw_V g K_X0_four f bc bs 0 [(0, fw_rv g r0), (1, Value.int i1)] [] μ (fw_Qv Q) fw_nX
  refine fw_bipush (v := 24) dX0_four_0 (by decide) ?_
  refine fw_istore_nN (Ls' := [(2, Value.int (24 : Int32)), (1, Value.int i1), (0, fw_rv g r0)]) [0] dX0_four_2 rfl (by decide) rfl rfl rfl rfl rfl ?_
  refine fw_ls [2, 1, 0] rfl ?_
  exact w_X0_four_L3 hf hx h
abbrev K_X0_feed : fw_Kt := (RX0, "feed", cX0_feed, 6, some .int, [])
def p_X0_feed (r0 : Nat) (i1 : Int32) (i2 : Int32) (i3 : Int32) (i4 : Int32) (i5 : Int32) (μ : fw_M) (Q : Int32 → fw_M → Prop) : Prop :=
  (if ((m_I μ r0 6) + (20 : Int32)) ≤ (300 : Int32) then
  ((p_X0_four r0 i1 μ (fun μ3 =>
   (p_X0_four r0 i2 μ3 (fun μ7 =>
   (p_X0_four r0 i3 μ7 (fun μ11 =>
   (p_X0_four r0 i4 μ11 (fun μ15 =>
   (p_X0_four r0 i5 μ15 (fun μ19 =>
   Q (m_I μ19 r0 6) μ19)))))))))))
  else
  (Q (-1 : Int32) μ))
set_option maxHeartbeats 4000000 in
theorem w_X0_feed {g : fw_G} {f bc bs : Nat} {r0 : Nat} {i1 : Int32} {i2 : Int32} {i3 : Int32} {i4 : Int32} {i5 : Int32} {μ : fw_M} {Q : Int32 → fw_M → Prop} (hf : 2 ≤ f) (hx : m_K μ r0 = 1) (h : p_X0_feed r0 i1 i2 i3 i4 i5 μ Q) : fw_C g f bc bs yX0_feed (ws_ yX0_feed cX0_feed 6 (some .int)) [fw_rv g r0, Value.int i1, Value.int i2, Value.int i3, Value.int i4, Value.int i5] μ (fw_Qi Q) fw_nX := by
  unfold p_X0_feed at h
  refine fw_intro' (Ls := [(0, fw_rv g r0), (1, Value.int i1), (2, Value.int i2), (3, Value.int i3), (4, Value.int i4), (5, Value.int i5)]) (by decide +kernel) (by simp [lg_sl, fw_cat, fw_ci, fw_clo]) (by simp [lv_args, fw_cat, fw_ci, fw_clo]) ?_
  show fw_V g K_X0_feed f bc bs 0 [(0, fw_rv g r0), (1, Value.int i1), (2, Value.int i2), (3, Value.int i3), (4, Value.int i4), (5, Value.int i5)] [] μ (fw_Qi Q) fw_nX
  refine fw_aload_n dX0_feed_0 rfl rfl ?_
  refine fw_getfI fl_X0_179 rfl hx dX0_feed_1 ?_
  refine fw_bipush (v := 20) dX0_feed_4 (by decide) ?_
  refine fw_iadd dX0_feed_6 ?_
  refine fw_sipush (v := 300) dX0_feed_7 (by decide) ?_
  refine fw_icmp_le (tgt := 15) dX0_feed_10 (by decide) (fun c1 => ?_) (fun c1 => ?_)
  · have h := fw_it h c1
    refine fw_aload_n dX0_feed_15 rfl rfl ?_
    refine fw_iload_n dX0_feed_16 rfl rfl ?_
    refine fw_callV1z (f1 := f - 1) cl_X0_182 rfl hx (by decide) (by omega) (fw_s4 (Nat.le_of_ble_eq_true rfl)) dX0_feed_17 (w_X0_four (f := f - 1) (by omega) hx h) (fun _ _ h9 _ _ => h9.elim) (fun v9 μ3 q9 hs4 => ?_)
    obtain ⟨rfl, h⟩ := q9
    refine fw_tv ?_
    have hg5 := hs4.K hx (by decide)
    refine fw_aload_n dX0_feed_20 rfl rfl ?_
    refine fw_iload_n dX0_feed_21 rfl rfl ?_
    refine fw_callV1z (f1 := f - 1) cl_X0_182 rfl hg5 (by decide) (by omega) (fw_s4 (Nat.le_of_ble_eq_true rfl)) dX0_feed_22 (w_X0_four (f := f - 1) (by omega) hg5 h) (fun _ _ h9 _ _ => h9.elim) (fun v9 μ7 q9 hs8 => ?_)
    obtain ⟨rfl, h⟩ := q9
    refine fw_tv ?_
    have hg9 := hs8.K hg5 (by decide)
    refine fw_aload_n dX0_feed_25 rfl rfl ?_
    refine fw_iload_n dX0_feed_26 rfl rfl ?_
    refine fw_callV1z (f1 := f - 1) cl_X0_182 rfl hg9 (by decide) (by omega) (fw_s4 (Nat.le_of_ble_eq_true rfl)) dX0_feed_27 (w_X0_four (f := f - 1) (by omega) hg9 h) (fun _ _ h9 _ _ => h9.elim) (fun v9 μ11 q9 hs12 => ?_)
    obtain ⟨rfl, h⟩ := q9
    refine fw_tv ?_
    have hg13 := hs12.K hg9 (by decide)
    refine fw_aload_n dX0_feed_30 rfl rfl ?_
    refine fw_iload dX0_feed_31 rfl ?_
    refine fw_callV1z (f1 := f - 1) cl_X0_182 rfl hg13 (by decide) (by omega) (fw_s4 (Nat.le_of_ble_eq_true rfl)) dX0_feed_33 (w_X0_four (f := f - 1) (by omega) hg13 h) (fun _ _ h9 _ _ => h9.elim) (fun v9 μ15 q9 hs16 => ?_)
    obtain ⟨rfl, h⟩ := q9
    refine fw_tv ?_
    have hg17 := hs16.K hg13 (by decide)
    refine fw_aload_n dX0_feed_36 rfl rfl ?_
    refine fw_iload dX0_feed_37 rfl ?_
    refine fw_callV1z (f1 := f - 1) cl_X0_182 rfl hg17 (by decide) (by omega) (fw_s4 (Nat.le_of_ble_eq_true rfl)) dX0_feed_39 (w_X0_four (f := f - 1) (by omega) hg17 h) (fun _ _ h9 _ _ => h9.elim) (fun v9 μ19 q9 hs20 => ?_)
    obtain ⟨rfl, h⟩ := q9
    refine fw_tv ?_
    have hg21 := hs20.K hg17 (by decide)
    refine fw_aload_n dX0_feed_42 rfl rfl ?_
    refine fw_getfI fl_X0_179 rfl hg21 dX0_feed_43 ?_
    exact fw_ireturn dX0_feed_46 rfl rfl ⟨_, rfl, h⟩
  · have h := fw_if h c1
    refine fw_iconst (v := -1) dX0_feed_13 (by decide) ?_
    exact fw_ireturn dX0_feed_14 rfl rfl ⟨_, rfl, h⟩
abbrev K_X0_end : fw_Kt := (RX0, "end", cX0_end, 2, some .int, [])
def p_X0_end (r0 : Nat) (i1 : Int32) (μ : fw_M) (Q : Int32 → fw_M → Prop) : Prop :=
  (p_X0_in i1 (0 : Int32) (m_I μ r0 6) μ (fun v1 μ2 =>
  (if v1 = 0 then
  (Q (-1 : Int32) μ2)
  else
  ((∀ μ6, μ6 = m_uI μ2 r0 6 i1 →
   Q i1 μ6)))))
set_option maxHeartbeats 4000000 in
theorem w_X0_end {g : fw_G} {f bc bs : Nat} {r0 : Nat} {i1 : Int32} {μ : fw_M} {Q : Int32 → fw_M → Prop} (hf : 2 ≤ f) (hx : m_K μ r0 = 1) (h : p_X0_end r0 i1 μ Q) : fw_C g f bc bs yX0_end (ws_ yX0_end cX0_end 2 (some .int)) [fw_rv g r0, Value.int i1] μ (fw_Qi Q) fw_nX := by
  unfold p_X0_end at h
  refine fw_intro' (Ls := [(0, fw_rv g r0), (1, Value.int i1)]) (by decide +kernel) (by simp [lg_sl, fw_cat, fw_ci, fw_clo]) (by simp [lv_args, fw_cat, fw_ci, fw_clo]) ?_
  show fw_V g K_X0_end f bc bs 0 [(0, fw_rv g r0), (1, Value.int i1)] [] μ (fw_Qi Q) fw_nX
  refine fw_iload_n dX0_end_0 rfl rfl ?_
  refine fw_iconst (v := 0) dX0_end_1 (by decide) ?_
  refine fw_aload_n dX0_end_2 rfl rfl ?_
  refine fw_getfI fl_X0_179 rfl hx dX0_end_3 ?_
  refine fw_callS3z (f1 := f - 1) cl_X0_66 (by decide) (by omega) (fw_s4 (Nat.le_of_ble_eq_true rfl)) dX0_end_6 (w_X0_in (f := f - 1) (by omega) h) (fun _ _ h9 _ _ => h9.elim) (fun v9 μ2 q9 hs3 => ?_)
  obtain ⟨v1, rfl, h⟩ := q9
  refine fw_ti ?_
  have hg4 := hs3.K hx (by decide)
  refine fw_if_ne (tgt := 14) dX0_end_9 (by decide) (fun c5 => ?_) (fun c5 => ?_)
  · have h := fw_if h c5
    refine fw_aload_n dX0_end_14 rfl rfl ?_
    refine fw_iload_n dX0_end_15 rfl rfl ?_
    refine fw_putfI fl_X0_179 (fun q hq => Or.inl (by cases hq; rfl)) rfl hg4 dX0_end_16 ?_
    have h := h _ rfl
    refine fw_iload_n dX0_end_19 rfl rfl ?_
    exact fw_ireturn dX0_end_20 rfl rfl ⟨_, rfl, h⟩
  · have h := fw_it h c5
    refine fw_iconst (v := -1) dX0_end_12 (by decide) ?_
    exact fw_ireturn dX0_end_13 rfl rfl ⟨_, rfl, h⟩
abbrev K_X0_text : fw_Kt := (RX0, "text", cX0_text, 3, some .int, [((34 : Nat), (60 : Nat), (63 : Nat), (197 : Nat))])
def p_X0_text (bc : Nat) (bs : Nat) (r0 : Nat) (μ : fw_M) (Q : Int32 → fw_M → Prop) : Prop :=
  (m_K μ (m_P μ r0 0) = 2 ∧ (if (m_I μ (m_P μ r0 0) 1) = (4 : Int32) then
  (Q (-1 : Int32) μ)
  else
  ((1 ≤ bc ∧ (10 ≤ bs ∧ (∀ rn5 : Nat, rn5 = m_x μ →
   (∀ μ8, μ8 = m_al μ 7 10 →
   (p_X6_init rn5 (m_P μ8 r0 5) (m_I μ8 r0 6) μ8 (fun μ12 =>
   (∀ μ16, μ16 = m_uI μ12 r0 6 (0 : Int32) →
   (m_K μ16 (m_P μ16 r0 0) = 2 ∧ (∃ b20 b21, b20 ≤ (bc - 1) ∧ b21 ≤ (bs - 10) ∧ (p_X6_read b20 b21 rn5 μ16 (fun r18 μ19 =>
   (m_K μ19 (m_P μ16 r0 2) = 106 ∧ (vp_in (m_I μ16 (m_P μ16 r0 0) 1) (m_N μ19 (m_P μ16 r0 2)) ∧ (m_K μ19 r18 = 3 ∧ (∀ μ38, μ38 = m_uP μ19 (m_P μ16 r0 2) (m_I μ16 (m_P μ16 r0 0) 1).toNatClampNeg r18 →
   (∀ μ39, μ39 = m_uI μ38 r0 7 (0 : Int32) →
   (∀ μ40, μ40 = m_uI μ39 r0 8 (-1 : Int32) →
   (m_K μ40 (m_P μ40 r0 0) = 2 ∧ (∀ μ42, μ42 = m_uI μ40 (m_P μ40 r0 0) 1 ((m_I μ40 (m_P μ40 r0 0) 1) + (1 : Int32)) →
   Q (m_I μ40 (m_P μ40 r0 0) 1) μ42))))))))) (fun rx24 μ25 =>
   (∀ μ30, μ30 = m_uI μ25 r0 7 (m_I μ25 rx24 6) →
    (∀ μ31, μ31 = m_uI μ30 r0 8 (m_I μ30 rx24 7) →
    Q (-1 : Int32) μ31))))))))))))))))
set_option maxHeartbeats 4000000 in
theorem w_X0_text {g : fw_G} {f bc bs : Nat} {r0 : Nat} {μ : fw_M} {Q : Int32 → fw_M → Prop} (hf : 158 ≤ f) (hx : m_K μ r0 = 1) (h : p_X0_text bc bs r0 μ Q) : fw_C g f bc bs yX0_text (wsW_ yX0_text cX0_text 3 (some .int) [((34 : Nat), (60 : Nat), (63 : Nat), (197 : Nat))]) [fw_rv g r0] μ (fw_Qi Q) fw_nX := by
  unfold p_X0_text at h
  refine fw_introH' (Ls := [(0, fw_rv g r0)]) (by decide +kernel) (by simp [lg_sl, fw_cat, fw_ci, fw_clo]) (by simp [lv_args, fw_cat, fw_ci, fw_clo]) ?_
  show fw_V g K_X0_text f bc bs 0 [(0, fw_rv g r0)] [] μ (fw_Qi Q) fw_nX
  refine fw_aload_n dX0_text_0 rfl rfl ?_
  refine fw_getfP fl_X0_12 rfl hx dX0_text_1 ?_
  obtain ⟨hg1, h⟩ := h
  refine fw_getfI fl_X0_186 rfl hg1 dX0_text_4 ?_
  refine fw_iconst (v := 4) dX0_text_7 (by decide) ?_
  refine fw_icmp_ne (tgt := 13) dX0_text_8 (by decide) (fun c2 => ?_) (fun c2 => ?_)
  · have h := fw_if h c2
    refine fw_x (fun hX => ?_)
    obtain ⟨hc3, h⟩ := h
    obtain ⟨hc4, h⟩ := h
    refine fw_newo (k := 7) rfl q473 q474 q82 hc3 hc4 dX0_text_13 ?_
    refine fw_topr (fun rn5 e6 => ?_)
    have h := h rn5 e6
    refine fw_topm (fun μ8 e9 => ?_)
    have hg10 := fw_al_sE e9 hx (by decide) hX
    have hg7 := fw_al_KE e9 e6
    have h := h μ8 e9
    refine fw_dup dX0_text_16 (fw_cat _) ?_
    refine fw_aload_n dX0_text_17 rfl rfl ?_
    refine fw_getfP fl_X0_37 rfl hg10 dX0_text_18 ?_
    refine fw_aload_n dX0_text_21 rfl rfl ?_
    refine fw_getfI fl_X0_179 rfl hg10 dX0_text_22 ?_
    refine fw_callI2z (f1 := f - 1) cl_X0_191 (k := 7) rfl hg7 (by decide) (by omega) (fw_s4 (Nat.le_of_ble_eq_true rfl)) dX0_text_25 (w_X6_init (f := f - 1) (by omega) hg7 h) (fun _ _ h9 _ _ => h9.elim) (fun v9 μ12 q9 hs13 => ?_)
    obtain ⟨rfl, h⟩ := q9
    refine fw_tv ?_
    have hg14 := hs13.K hg10 (by decide)
    have hg15 := hs13.K hg7 (by decide)
    refine fw_astore_nN (Ls' := [(1, fw_rv g rn5), (0, fw_rv g r0)]) [] dX0_text_28 rfl (by decide) rfl rfl rfl (fw_cat _) rfl ?_
    refine fw_aload_n dX0_text_29 rfl rfl ?_
    refine fw_iconst (v := 0) dX0_text_30 (by decide) ?_
    refine fw_putfI fl_X0_179 (fun q hq => Or.inl (by cases hq; rfl)) rfl hg14 dX0_text_31 ?_
    have h := h _ rfl
    refine fw_aload_n dX0_text_34 rfl rfl ?_
    refine fw_getfP fl_X0_21 rfl hg14 dX0_text_35 ?_
    refine fw_aload_n dX0_text_38 rfl rfl ?_
    refine fw_getfP fl_X0_12 rfl hg14 dX0_text_39 ?_
    obtain ⟨hg17, h⟩ := h
    refine fw_getfI fl_X0_186 rfl hg17 dX0_text_42 ?_
    refine fw_aload_n dX0_text_45 rfl rfl ?_
    obtain ⟨b20, b21, hb22, hb23, h⟩ := h
    refine fw_callV0 (f1 := f - 1) (b1 := b20) (b2 := b21) cl_X0_194 rfl hg15 (by decide) (by omega) hb22 hb23 (fw_s4 (Nat.le_of_ble_eq_true rfl)) dX0_text_46 (w_X6_read (f := f - 1) (by omega) hg15 h) ?_ (fun v9 μ19 q9 hs32 => ?_)
    · intro rx24 μ25 h hg26 hs27
      refine fw_catch (a := 34) (b := 60) (h := 63) (ct := 197) rfl (by decide) (by decide) q472 hg26 ?_
      have hg28 := hs27.K hg14 (by decide)
      have hg29 := hs27.K hg15 (by decide)
      refine fw_astore_nN (Ls' := [(2, fw_rv g rx24), (1, fw_rv g rn5), (0, fw_rv g r0)]) [1] dX0_text_63 rfl (by decide) rfl rfl rfl (fw_cat _) rfl ?_
      refine fw_aload_n dX0_text_64 rfl rfl ?_
      refine fw_aload_n dX0_text_65 rfl rfl ?_
      refine fw_getfI fl_X0_199 rfl hg26 dX0_text_66 ?_
      refine fw_putfI fl_X0_41 (fun q hq => Or.inl (by cases hq; rfl)) rfl hg28 dX0_text_69 ?_
      have h := h _ rfl
      refine fw_aload_n dX0_text_72 rfl rfl ?_
      refine fw_aload_n dX0_text_73 rfl rfl ?_
      refine fw_getfI fl_X0_202 rfl hg26 dX0_text_74 ?_
      refine fw_putfI fl_X0_45 (fun q hq => Or.inl (by cases hq; rfl)) rfl hg28 dX0_text_77 ?_
      have h := h _ rfl
      refine fw_iconst (v := -1) dX0_text_80 (by decide) ?_
      exact fw_ireturn dX0_text_81 rfl rfl ⟨_, rfl, h⟩
    obtain ⟨r18, rfl, h⟩ := q9
    refine fw_tr ?_
    have hg33 := hs32.K hg14 (by decide)
    have hg34 := hs32.K hg15 (by decide)
    obtain ⟨hg35, h⟩ := h
    obtain ⟨hc36, h⟩ := h
    obtain ⟨hg37, h⟩ := h
    refine fw_aast hg35 rfl rfl hg37 (Or.inr ⟨_, rfl, rfl⟩) hc36 dX0_text_49 ?_
    have h := h _ rfl
    refine fw_aload_n dX0_text_50 rfl rfl ?_
    refine fw_iconst (v := 0) dX0_text_51 (by decide) ?_
    refine fw_putfI fl_X0_41 (fun q hq => Or.inl (by cases hq; rfl)) rfl hg33 dX0_text_52 ?_
    have h := h _ rfl
    refine fw_aload_n dX0_text_55 rfl rfl ?_
    refine fw_iconst (v := -1) dX0_text_56 (by decide) ?_
    refine fw_putfI fl_X0_45 (fun q hq => Or.inl (by cases hq; rfl)) rfl hg33 dX0_text_57 ?_
    have h := h _ rfl
    refine fw_goto (tgt := 82) dX0_text_60 (by decide) ?_
    refine fw_aload_n dX0_text_82 rfl rfl ?_
    refine fw_getfP fl_X0_12 rfl hg33 dX0_text_83 ?_
    refine fw_dup dX0_text_86 (fw_cat _) ?_
    obtain ⟨hg41, h⟩ := h
    refine fw_getfI fl_X0_186 rfl hg41 dX0_text_87 ?_
    refine fw_dup_x1 dX0_text_90 rfl (fw_cat _) ?_
    refine fw_iconst (v := 1) dX0_text_91 (by decide) ?_
    refine fw_iadd dX0_text_92 ?_
    refine fw_putfI fl_X0_186 (fun q hq => Or.inl (by cases hq; rfl)) rfl hg41 dX0_text_93 ?_
    have h := h _ rfl
    exact fw_ireturn dX0_text_96 rfl rfl ⟨_, rfl, h⟩
  · have h := fw_it h c2
    refine fw_iconst (v := -1) dX0_text_11 (by decide) ?_
    exact fw_ireturn dX0_text_12 rfl rfl ⟨_, rfl, h⟩
abbrev K_X0_fault : fw_Kt := (RX0, "fault", cX0_fault, 2, some .int, [])
def p_X0_fault (r0 : Nat) (i1 : Int32) (μ : fw_M) (Q : Int32 → fw_M → Prop) : Prop :=
  (if i1 = 0 then
  (Q (m_I μ r0 7) μ)
  else
  ((if i1 = (1 : Int32) then
   (Q (m_I μ r0 8) μ)
   else
   (Q (-1 : Int32) μ))))
set_option maxHeartbeats 4000000 in
theorem w_X0_fault {g : fw_G} {f bc bs : Nat} {r0 : Nat} {i1 : Int32} {μ : fw_M} {Q : Int32 → fw_M → Prop} (hf : 1 ≤ f) (hx : m_K μ r0 = 1) (h : p_X0_fault r0 i1 μ Q) : fw_C g f bc bs yX0_fault (ws_ yX0_fault cX0_fault 2 (some .int)) [fw_rv g r0, Value.int i1] μ (fw_Qi Q) fw_nX := by
  unfold p_X0_fault at h
  refine fw_intro' (Ls := [(0, fw_rv g r0), (1, Value.int i1)]) (by decide +kernel) (by simp [lg_sl, fw_cat, fw_ci, fw_clo]) (by simp [lv_args, fw_cat, fw_ci, fw_clo]) ?_
  show fw_V g K_X0_fault f bc bs 0 [(0, fw_rv g r0), (1, Value.int i1)] [] μ (fw_Qi Q) fw_nX
  refine fw_iload_n dX0_fault_0 rfl rfl ?_
  refine fw_if_ne (tgt := 11) dX0_fault_1 (by decide) (fun c1 => ?_) (fun c1 => ?_)
  · have h := fw_if h c1
    refine fw_iload_n dX0_fault_11 rfl rfl ?_
    refine fw_iconst (v := 1) dX0_fault_12 (by decide) ?_
    refine fw_icmp_ne (tgt := 23) dX0_fault_13 (by decide) (fun c2 => ?_) (fun c2 => ?_)
    · have h := fw_if h c2
      refine fw_iconst (v := -1) dX0_fault_23 (by decide) ?_
      exact fw_ireturn dX0_fault_24 rfl rfl ⟨_, rfl, h⟩
    · have h := fw_it h c2
      refine fw_aload_n dX0_fault_16 rfl rfl ?_
      refine fw_getfI fl_X0_45 rfl hx dX0_fault_17 ?_
      refine fw_goto (tgt := 24) dX0_fault_20 (by decide) ?_
      exact fw_ireturn dX0_fault_24 rfl rfl ⟨_, rfl, h⟩
  · have h := fw_it h c1
    refine fw_aload_n dX0_fault_4 rfl rfl ?_
    refine fw_getfI fl_X0_41 rfl hx dX0_fault_5 ?_
    refine fw_goto (tgt := 24) dX0_fault_8 (by decide) ?_
    exact fw_ireturn dX0_fault_24 rfl rfl ⟨_, rfl, h⟩
abbrev K_X0_by : fw_Kt := (RX0, "by", cX0_by, 2, some .boolean, [])
def p_X0_by (r0 : Nat) (i1 : Int32) (μ : fw_M) (Q : Int32 → fw_M → Prop) : Prop :=
  (m_K μ (m_P μ r0 0) = 2 ∧ (p_X0_in i1 (-1 : Int32) ((m_I μ (m_P μ r0 0) 1) - (1 : Int32)) μ (fun v2 μ3 =>
  (if v2 = 0 then
  (Q (0 : Int32) μ3)
  else
  ((m_K μ3 (m_P μ3 r0 0) = 2 ∧ (∀ μ8, μ8 = m_uI μ3 (m_P μ3 r0 0) 2 i1 →
   Q (1 : Int32) μ8)))))))
set_option maxHeartbeats 4000000 in
theorem w_X0_by {g : fw_G} {f bc bs : Nat} {r0 : Nat} {i1 : Int32} {μ : fw_M} {Q : Int32 → fw_M → Prop} (hf : 2 ≤ f) (hx : m_K μ r0 = 1) (h : p_X0_by r0 i1 μ Q) : fw_C g f bc bs yX0_by (ws_ yX0_by cX0_by 2 (some .boolean)) [fw_rv g r0, Value.int i1] μ (fw_Qi Q) fw_nX := by
  unfold p_X0_by at h
  refine fw_intro' (Ls := [(0, fw_rv g r0), (1, Value.int i1)]) (by decide +kernel) (by simp [lg_sl, fw_cat, fw_ci, fw_clo]) (by simp [lv_args, fw_cat, fw_ci, fw_clo]) ?_
  show fw_V g K_X0_by f bc bs 0 [(0, fw_rv g r0), (1, Value.int i1)] [] μ (fw_Qi Q) fw_nX
  refine fw_iload_n dX0_by_0 rfl rfl ?_
  refine fw_iconst (v := -1) dX0_by_1 (by decide) ?_
  refine fw_aload_n dX0_by_2 rfl rfl ?_
  refine fw_getfP fl_X0_12 rfl hx dX0_by_3 ?_
  obtain ⟨hg1, h⟩ := h
  refine fw_getfI fl_X0_186 rfl hg1 dX0_by_6 ?_
  refine fw_iconst (v := 1) dX0_by_9 (by decide) ?_
  refine fw_isub dX0_by_10 ?_
  refine fw_callS3z (f1 := f - 1) cl_X0_66 (by decide) (by omega) (fw_s4 (Nat.le_of_ble_eq_true rfl)) dX0_by_11 (w_X0_in (f := f - 1) (by omega) h) (fun _ _ h9 _ _ => h9.elim) (fun v9 μ3 q9 hs4 => ?_)
  obtain ⟨v2, rfl, h⟩ := q9
  refine fw_ti ?_
  have hg5 := hs4.K hx (by decide)
  refine fw_if_ne (tgt := 19) dX0_by_14 (by decide) (fun c6 => ?_) (fun c6 => ?_)
  · have h := fw_if h c6
    refine fw_aload_n dX0_by_19 rfl rfl ?_
    refine fw_getfP fl_X0_12 rfl hg5 dX0_by_20 ?_
    refine fw_iload_n dX0_by_23 rfl rfl ?_
    obtain ⟨hg7, h⟩ := h
    refine fw_putfI fl_X0_60 (fun q hq => Or.inl (by cases hq; rfl)) rfl hg7 dX0_by_24 ?_
    have h := h _ rfl
    refine fw_iconst (v := 1) dX0_by_27 (by decide) ?_
    exact fw_ireturn dX0_by_28 rfl (by decide +kernel) ⟨_, rfl, h⟩
  · have h := fw_it h c6
    refine fw_iconst (v := 0) dX0_by_17 (by decide) ?_
    exact fw_ireturn dX0_by_18 rfl (by decide +kernel) ⟨_, rfl, h⟩
abbrev K_X0_played : fw_Kt := (RX0, "played", cX0_played, 4, some .int, [])
def p_X0_played_L29b (r0 : Nat) (r2 : Nat) (k29 : Int32 → fw_M → Prop) (i3 : Int32) (μ : fw_M) (Q : Int32 → fw_M → Prop) : Prop :=
  (m_K μ r2 = 3 ∧ (if (m_I μ r2 3) ≤ i3 then
  (Q (-1 : Int32) μ)
  else
  ((m_K μ (m_P μ r2 2) = 105 ∧ (vp_in i3 (m_N μ (m_P μ r2 2)) ∧ (if (m_P μ (m_P μ r2 2) i3.toNatClampNeg) = 0 then
   ((∀ i3_6 : Int32, i3_6 = i3 + (1 : Int32) →
    k29 i3_6 μ))
   else
   ((vp_in i3 (m_N μ (m_P μ r2 2)) ∧ (p_Line_done (m_P μ (m_P μ r2 2) i3.toNatClampNeg) r0 μ (fun v9 μ10 =>
    (if v9 = 0 then
    (Q i3 μ10)
    else
    ((∀ i3_15 : Int32, i3_15 = i3 + (1 : Int32) →
     k29 i3_15 μ10)))))))))))))
def p_X0_played_L29 (r0 : Nat) (r2 : Nat) (i3 : Int32) (μ : fw_M) (Q : Int32 → fw_M → Prop) : Prop := fw_lp (fun (k : Int32 × fw_M → Prop) (a : Int32 × fw_M) => p_X0_played_L29b r0 r2 (fun i3 μ => k (i3, μ)) a.1 a.2 Q) (i3, μ)
theorem r_X0_played_L29 {r0 : Nat} {r2 : Nat} {Q : Int32 → fw_M → Prop} (I : Int32 → fw_M → Prop) (v : Int32 → fw_M → Nat) (hs : ∀ (k : Int32 → fw_M → Prop) (i3 : Int32) (μ : fw_M), I i3 μ → (∀ (i3' : Int32) (ν : fw_M), I i3' ν → v i3' ν < v i3 μ → k i3' ν) → p_X0_played_L29b r0 r2 k i3 μ Q) (i3 : Int32) (μ : fw_M) (h : I i3 μ) : p_X0_played_L29 r0 r2 i3 μ Q :=
  fw_lp_in (A := Int32 × fw_M) (fun a => I a.1 a.2) (fun a => v a.1 a.2) (fun k a ha hk => hs (fun i3 μ => k (i3, μ)) a.1 a.2 ha (fun i3' ν hb hlt => hk (i3', ν) hb hlt)) (i3, μ) h
set_option maxHeartbeats 4000000 in
theorem w_X0_played_L29b {g : fw_G} {f bc bs : Nat} {r0 : Nat} {r2 : Nat} {k29 : Int32 → fw_M → Prop} {i3 : Int32} {μ : fw_M} {Q : Int32 → fw_M → Prop} (hf : 807 ≤ f) (hk29 : ∀ {i3 : Int32} {μ : fw_M}, m_K μ r0 = 1 → k29 i3 μ → fw_V g K_X0_played f bc bs 29 [(0, fw_rv g r0), (2, fw_rv g r2), (3, Value.int i3)] [] μ (fw_Qi Q) fw_nX) (hx : m_K μ r0 = 1) (h : p_X0_played_L29b r0 r2 k29 i3 μ Q) : fw_V g K_X0_played f bc bs 29 [(0, fw_rv g r0), (2, fw_rv g r2), (3, Value.int i3)] [] μ (fw_Qi Q) fw_nX := by
  unfold p_X0_played_L29b at h
  refine fw_iload_n dX0_played_29 rfl rfl ?_
  refine fw_aload_n dX0_played_30 rfl rfl ?_
  obtain ⟨hg1, h⟩ := h
  refine fw_getfI fl_X0_205 rfl hg1 dX0_played_31 ?_
  refine fw_icmp_ge (tgt := 69) dX0_played_34 (by decide) (fun c2 => ?_) (fun c2 => ?_)
  · have h := fw_it h c2
    refine fw_iconst (v := -1) dX0_played_69 (by decide) ?_
    exact fw_ireturn dX0_played_70 rfl rfl ⟨_, rfl, h⟩
  · have h := fw_if h c2
    refine fw_aload_n dX0_played_37 rfl rfl ?_
    refine fw_getfP fl_X0_208 rfl hg1 dX0_played_38 ?_
    refine fw_iload_n dX0_played_41 rfl rfl ?_
    obtain ⟨hg3, h⟩ := h
    obtain ⟨hc4, h⟩ := h
    refine fw_aald hg3 rfl rfl hc4 dX0_played_42 ?_
    refine fw_ifnull (tgt := 63) dX0_played_43 (by decide) (fun c5 => ?_) (fun c5 => ?_)
    · have h := fw_it h c5
      obtain ⟨i3_6, e7⟩ : ∃ y : Int32, y = i3 + (1 : Int32) := ⟨_, rfl⟩
      have h := h i3_6 e7
      refine fw_iincN (k := 2) (v := i3_6) (Ls' := [(3, Value.int i3_6), (2, fw_rv g r2), (0, fw_rv g r0)]) [0] dX0_played_63 rfl (by rw [e7]; rfl) (by decide) rfl rfl rfl (fw_cat _) rfl ?_
      refine fw_goto (tgt := 29) dX0_played_66 (by decide) ?_
      refine fw_ls [2, 1, 0] rfl ?_
      exact hk29 hx h
    · have h := fw_if h c5
      refine fw_aload_n dX0_played_46 rfl rfl ?_
      refine fw_getfP fl_X0_208 rfl hg1 dX0_played_47 ?_
      refine fw_iload_n dX0_played_50 rfl rfl ?_
      obtain ⟨hc8, h⟩ := h
      refine fw_aald hg3 rfl rfl hc8 dX0_played_51 ?_
      refine fw_aload_n dX0_played_52 rfl rfl ?_
      refine cf_X0_212 (f1 := f - 1) rfl (by omega) (fw_s4 (Nat.le_of_ble_eq_true rfl)) dX0_played_53 (w_Line_done (f := f - 1) (by omega) h) (fun v9 μ10 q9 hs11 => ?_)
      obtain ⟨v9, rfl, h⟩ := q9
      refine fw_ti ?_
      have hg12 := hs11.K hx (by decide)
      have hg13 := hs11.K hg1 (by decide)
      refine fw_if_ne (tgt := 63) dX0_played_58 (by decide) (fun c14 => ?_) (fun c14 => ?_)
      · have h := fw_if h c14
        obtain ⟨i3_15, e16⟩ : ∃ y : Int32, y = i3 + (1 : Int32) := ⟨_, rfl⟩
        have h := h i3_15 e16
        refine fw_iincN (k := 2) (v := i3_15) (Ls' := [(3, Value.int i3_15), (2, fw_rv g r2), (0, fw_rv g r0)]) [0] dX0_played_63 rfl (by rw [e16]; rfl) (by decide) rfl rfl rfl (fw_cat _) rfl ?_
        refine fw_goto (tgt := 29) dX0_played_66 (by decide) ?_
        refine fw_ls [2, 1, 0] rfl ?_
        exact hk29 hg12 h
      · have h := fw_it h c14
        refine fw_iload_n dX0_played_61 rfl rfl ?_
        exact fw_ireturn dX0_played_62 rfl rfl ⟨_, rfl, h⟩
theorem w_X0_played_L29 {g : fw_G} {f bc bs : Nat} {r0 : Nat} {r2 : Nat} {i3 : Int32} {μ : fw_M} {Q : Int32 → fw_M → Prop} (hf : 807 ≤ f) (hx : m_K μ r0 = 1) (h : p_X0_played_L29 r0 r2 i3 μ Q) : fw_V g K_X0_played f bc bs 29 [(0, fw_rv g r0), (2, fw_rv g r2), (3, Value.int i3)] [] μ (fw_Qi Q) fw_nX := by
  have key := fw_lp_out (R := fun (a : Int32 × fw_M) => m_K a.2 r0 = 1 → fw_V g K_X0_played f bc bs 29 [(0, fw_rv g r0), (2, fw_rv g r2), (3, Value.int a.1)] [] a.2 (fw_Qi Q) fw_nX) (fun k hk9 a ha hx2 => w_X0_played_L29b hf (fun {i3} {μ} hx3 h3 => hk9 (i3, μ) h3 hx3) hx2 ha) h
  exact key hx
def p_X0_played (r0 : Nat) (i1 : Int32) (μ : fw_M) (Q : Int32 → fw_M → Prop) : Prop :=
  (m_K μ (m_P μ r0 0) = 2 ∧ (p_X0_in i1 (0 : Int32) ((m_I μ (m_P μ r0 0) 1) - (1 : Int32)) μ (fun v2 μ3 =>
  (if v2 = 0 then
  (Q (-2 : Int32) μ3)
  else
  ((m_K μ3 (m_P μ3 r0 2) = 106 ∧ (vp_in i1 (m_N μ3 (m_P μ3 r0 2)) ∧ (∀ r2_9 : Nat, r2_9 = (m_P μ3 (m_P μ3 r0 2) i1.toNatClampNeg) →
   p_X0_played_L29 r0 r2_9 (0 : Int32) μ3 Q))))))))
set_option maxHeartbeats 4000000 in
theorem w_X0_played {g : fw_G} {f bc bs : Nat} {r0 : Nat} {i1 : Int32} {μ : fw_M} {Q : Int32 → fw_M → Prop} (hf : 807 ≤ f) (hx : m_K μ r0 = 1) (h : p_X0_played r0 i1 μ Q) : fw_C g f bc bs yX0_played (ws_ yX0_played cX0_played 4 (some .int)) [fw_rv g r0, Value.int i1] μ (fw_Qi Q) fw_nX := by
  unfold p_X0_played at h
  refine fw_intro' (Ls := [(0, fw_rv g r0), (1, Value.int i1)]) (by decide +kernel) (by simp [lg_sl, fw_cat, fw_ci, fw_clo]) (by simp [lv_args, fw_cat, fw_ci, fw_clo]) ?_
  show fw_V g K_X0_played f bc bs 0 [(0, fw_rv g r0), (1, Value.int i1)] [] μ (fw_Qi Q) fw_nX
  refine fw_iload_n dX0_played_0 rfl rfl ?_
  refine fw_iconst (v := 0) dX0_played_1 (by decide) ?_
  refine fw_aload_n dX0_played_2 rfl rfl ?_
  refine fw_getfP fl_X0_12 rfl hx dX0_played_3 ?_
  obtain ⟨hg1, h⟩ := h
  refine fw_getfI fl_X0_186 rfl hg1 dX0_played_6 ?_
  refine fw_iconst (v := 1) dX0_played_9 (by decide) ?_
  refine fw_isub dX0_played_10 ?_
  refine fw_callS3z (f1 := f - 1) cl_X0_66 (by decide) (by omega) (fw_s4 (Nat.le_of_ble_eq_true rfl)) dX0_played_11 (w_X0_in (f := f - 1) (by omega) h) (fun _ _ h9 _ _ => h9.elim) (fun v9 μ3 q9 hs4 => ?_)
  obtain ⟨v2, rfl, h⟩ := q9
  refine fw_ti ?_
  have hg5 := hs4.K hx (by decide)
  refine fw_if_ne (tgt := 20) dX0_played_14 (by decide) (fun c6 => ?_) (fun c6 => ?_)
  · have h := fw_if h c6
    refine fw_aload_n dX0_played_20 rfl rfl ?_
    refine fw_getfP fl_X0_21 rfl hg5 dX0_played_21 ?_
    refine fw_iload_n dX0_played_24 rfl rfl ?_
    obtain ⟨hg7, h⟩ := h
    obtain ⟨hc8, h⟩ := h
    refine fw_aald hg7 rfl rfl hc8 dX0_played_25 ?_
    refine fw_topr (fun r2_9 e10 => ?_)
    have h := h r2_9 e10
    refine fw_astore_nN (Ls' := [(2, fw_rv g r2_9), (1, Value.int i1), (0, fw_rv g r0)]) [0] dX0_played_26 rfl (by decide) rfl rfl rfl rfl rfl ?_
    refine fw_iconst (v := 0) dX0_played_27 (by decide) ?_
    refine fw_istore_nN (Ls' := [(3, Value.int (0 : Int32)), (2, fw_rv g r2_9), (1, Value.int i1), (0, fw_rv g r0)]) [1, 2] dX0_played_28 rfl (by decide) rfl rfl rfl (fw_cat _) rfl ?_
    refine fw_ls [3, 1, 0] rfl ?_
    exact w_X0_played_L29 hf hg5 h
  · have h := fw_it h c6
    refine fw_bipush (v := -2) dX0_played_17 (by decide) ?_
    exact fw_ireturn dX0_played_19 rfl rfl ⟨_, rfl, h⟩
abbrev K_X0_of : fw_Kt := (RX0, "of", cX0_of, 3, some .int, [])
def p_X0_of (r0 : Nat) (i1 : Int32) (i2 : Int32) (μ : fw_M) (Q : Int32 → fw_M → Prop) : Prop :=
  (p_X0_isEater r0 i1 μ (fun v1 μ2 =>
  (if v1 = 0 then
  (Q (-2 : Int32) μ2)
  else
  ((if i2 = 0 then
   ((m_K μ2 (m_P μ2 r0 0) = 2 ∧ (m_K μ2 (m_P μ2 (m_P μ2 r0 0) 6) = 100 ∧ (vp_in i1 (m_N μ2 (m_P μ2 (m_P μ2 r0 0) 6)) ∧ Q (m_I μ2 (m_P μ2 (m_P μ2 r0 0) 6) i1.toNatClampNeg) μ2))))
   else (if i2 = 1 then
   ((m_K μ2 (m_P μ2 r0 0) = 2 ∧ (m_K μ2 (m_P μ2 (m_P μ2 r0 0) 7) = 100 ∧ (vp_in i1 (m_N μ2 (m_P μ2 (m_P μ2 r0 0) 7)) ∧ Q (m_I μ2 (m_P μ2 (m_P μ2 r0 0) 7) i1.toNatClampNeg) μ2))))
   else (if i2 = 2 then
   ((m_K μ2 (m_P μ2 r0 0) = 2 ∧ (m_K μ2 (m_P μ2 (m_P μ2 r0 0) 8) = 100 ∧ (vp_in i1 (m_N μ2 (m_P μ2 (m_P μ2 r0 0) 8)) ∧ Q (m_I μ2 (m_P μ2 (m_P μ2 r0 0) 8) i1.toNatClampNeg) μ2))))
   else (if i2 = 3 then
   ((m_K μ2 (m_P μ2 r0 0) = 2 ∧ (m_K μ2 (m_P μ2 (m_P μ2 r0 0) 9) = 100 ∧ (vp_in ((4 : Int32) + i1) (m_N μ2 (m_P μ2 (m_P μ2 r0 0) 9)) ∧ Q (m_I μ2 (m_P μ2 (m_P μ2 r0 0) 9) ((4 : Int32) + i1).toNatClampNeg) μ2))))
   else (if i2 = 4 then
   ((m_K μ2 (m_P μ2 r0 0) = 2 ∧ (m_K μ2 (m_P μ2 (m_P μ2 r0 0) 9) = 100 ∧ (vp_in ((13 : Int32) + i1) (m_N μ2 (m_P μ2 (m_P μ2 r0 0) 9)) ∧ Q (m_I μ2 (m_P μ2 (m_P μ2 r0 0) 9) ((13 : Int32) + i1).toNatClampNeg) μ2))))
   else (if i2 = 5 then
   ((m_K μ2 (m_P μ2 r0 0) = 2 ∧ (p_X0_holds r0 (m_P μ2 (m_P μ2 r0 0) 9) i1 μ2 (fun v28 μ29 =>
    Q v28 μ29))))
   else (if i2 = 6 then
   ((m_K μ2 (m_P μ2 r0 0) = 2 ∧ (p_X0_spoonOf r0 (m_P μ2 (m_P μ2 r0 0) 9) i1 (0 : Int32) μ2 (fun v34 μ35 =>
    Q v34 μ35))))
   else (if i2 = 7 then
   ((m_K μ2 (m_P μ2 r0 0) = 2 ∧ (p_X0_spoonOf r0 (m_P μ2 (m_P μ2 r0 0) 9) i1 (1 : Int32) μ2 (fun v40 μ41 =>
    Q v40 μ41))))
   else Q (-2 : Int32) μ2))))))))))))
set_option maxHeartbeats 4000000 in
theorem w_X0_of {g : fw_G} {f bc bs : Nat} {r0 : Nat} {i1 : Int32} {i2 : Int32} {μ : fw_M} {Q : Int32 → fw_M → Prop} (hf : 406 ≤ f) (hx : m_K μ r0 = 1) (h : p_X0_of r0 i1 i2 μ Q) : fw_C g f bc bs yX0_of (ws_ yX0_of cX0_of 3 (some .int)) [fw_rv g r0, Value.int i1, Value.int i2] μ (fw_Qi Q) fw_nX := by
  unfold p_X0_of at h
  refine fw_intro' (Ls := [(0, fw_rv g r0), (1, Value.int i1), (2, Value.int i2)]) (by decide +kernel) (by simp [lg_sl, fw_cat, fw_ci, fw_clo]) (by simp [lv_args, fw_cat, fw_ci, fw_clo]) ?_
  show fw_V g K_X0_of f bc bs 0 [(0, fw_rv g r0), (1, Value.int i1), (2, Value.int i2)] [] μ (fw_Qi Q) fw_nX
  refine fw_aload_n dX0_of_0 rfl rfl ?_
  refine fw_iload_n dX0_of_1 rfl rfl ?_
  refine fw_callV1z (f1 := f - 1) cl_X0_150 rfl hx (by decide) (by omega) (fw_s4 (Nat.le_of_ble_eq_true rfl)) dX0_of_2 (w_X0_isEater (f := f - 1) (by omega) hx h) (fun _ _ h9 _ _ => h9.elim) (fun v9 μ2 q9 hs3 => ?_)
  obtain ⟨v1, rfl, h⟩ := q9
  refine fw_ti ?_
  have hg4 := hs3.K hx (by decide)
  refine fw_if_ne (tgt := 11) dX0_of_5 (by decide) (fun c5 => ?_) (fun c5 => ?_)
  · have h := fw_if h c5
    refine fw_iload_n dX0_of_11 rfl rfl ?_
    refine fw_sw (k := 0) h (fun c6 h => ?_) (fun c6 h => ?_)
    · refine fw_tableIn (tgt := 60) dX0_of_12 (by rw [c6]; decide) (by rw [c6]; decide) (by rw [c6]; rfl) (by decide) ?_
      refine fw_aload_n dX0_of_60 rfl rfl ?_
      refine fw_getfP fl_X0_12 rfl hg4 dX0_of_61 ?_
      obtain ⟨hg7, h⟩ := h
      refine fw_getfP fl_X0_80 rfl hg7 dX0_of_64 ?_
      refine fw_iload_n dX0_of_67 rfl rfl ?_
      obtain ⟨hg8, h⟩ := h
      obtain ⟨hc9, h⟩ := h
      refine fw_iald hg8 hc9 dX0_of_68 ?_
      exact fw_ireturn dX0_of_69 rfl rfl ⟨_, rfl, h⟩
    · refine fw_sw (k := 1) h (fun c10 h => ?_) (fun c10 h => ?_)
      · refine fw_tableIn (tgt := 70) dX0_of_12 (by rw [c10]; decide) (by rw [c10]; decide) (by rw [c10]; rfl) (by decide) ?_
        refine fw_aload_n dX0_of_70 rfl rfl ?_
        refine fw_getfP fl_X0_12 rfl hg4 dX0_of_71 ?_
        obtain ⟨hg11, h⟩ := h
        refine fw_getfP fl_X0_83 rfl hg11 dX0_of_74 ?_
        refine fw_iload_n dX0_of_77 rfl rfl ?_
        obtain ⟨hg12, h⟩ := h
        obtain ⟨hc13, h⟩ := h
        refine fw_iald hg12 hc13 dX0_of_78 ?_
        exact fw_ireturn dX0_of_79 rfl rfl ⟨_, rfl, h⟩
      · refine fw_sw (k := 2) h (fun c14 h => ?_) (fun c14 h => ?_)
        · refine fw_tableIn (tgt := 80) dX0_of_12 (by rw [c14]; decide) (by rw [c14]; decide) (by rw [c14]; rfl) (by decide) ?_
          refine fw_aload_n dX0_of_80 rfl rfl ?_
          refine fw_getfP fl_X0_12 rfl hg4 dX0_of_81 ?_
          obtain ⟨hg15, h⟩ := h
          refine fw_getfP fl_X0_86 rfl hg15 dX0_of_84 ?_
          refine fw_iload_n dX0_of_87 rfl rfl ?_
          obtain ⟨hg16, h⟩ := h
          obtain ⟨hc17, h⟩ := h
          refine fw_iald hg16 hc17 dX0_of_88 ?_
          exact fw_ireturn dX0_of_89 rfl rfl ⟨_, rfl, h⟩
        · refine fw_sw (k := 3) h (fun c18 h => ?_) (fun c18 h => ?_)
          · refine fw_tableIn (tgt := 90) dX0_of_12 (by rw [c18]; decide) (by rw [c18]; decide) (by rw [c18]; rfl) (by decide) ?_
            refine fw_aload_n dX0_of_90 rfl rfl ?_
            refine fw_getfP fl_X0_12 rfl hg4 dX0_of_91 ?_
            obtain ⟨hg19, h⟩ := h
            refine fw_getfP fl_X0_77 rfl hg19 dX0_of_94 ?_
            refine fw_iconst (v := 4) dX0_of_97 (by decide) ?_
            refine fw_iload_n dX0_of_98 rfl rfl ?_
            refine fw_iadd dX0_of_99 ?_
            obtain ⟨hg20, h⟩ := h
            obtain ⟨hc21, h⟩ := h
            refine fw_iald hg20 hc21 dX0_of_100 ?_
            exact fw_ireturn dX0_of_101 rfl rfl ⟨_, rfl, h⟩
          · refine fw_sw (k := 4) h (fun c22 h => ?_) (fun c22 h => ?_)
            · refine fw_tableIn (tgt := 102) dX0_of_12 (by rw [c22]; decide) (by rw [c22]; decide) (by rw [c22]; rfl) (by decide) ?_
              refine fw_aload_n dX0_of_102 rfl rfl ?_
              refine fw_getfP fl_X0_12 rfl hg4 dX0_of_103 ?_
              obtain ⟨hg23, h⟩ := h
              refine fw_getfP fl_X0_77 rfl hg23 dX0_of_106 ?_
              refine fw_bipush (v := 13) dX0_of_109 (by decide) ?_
              refine fw_iload_n dX0_of_111 rfl rfl ?_
              refine fw_iadd dX0_of_112 ?_
              obtain ⟨hg24, h⟩ := h
              obtain ⟨hc25, h⟩ := h
              refine fw_iald hg24 hc25 dX0_of_113 ?_
              exact fw_ireturn dX0_of_114 rfl rfl ⟨_, rfl, h⟩
            · refine fw_sw (k := 5) h (fun c26 h => ?_) (fun c26 h => ?_)
              · refine fw_tableIn (tgt := 115) dX0_of_12 (by rw [c26]; decide) (by rw [c26]; decide) (by rw [c26]; rfl) (by decide) ?_
                refine fw_aload_n dX0_of_115 rfl rfl ?_
                refine fw_aload_n dX0_of_116 rfl rfl ?_
                refine fw_getfP fl_X0_12 rfl hg4 dX0_of_117 ?_
                obtain ⟨hg27, h⟩ := h
                refine fw_getfP fl_X0_77 rfl hg27 dX0_of_120 ?_
                refine fw_iload_n dX0_of_123 rfl rfl ?_
                refine fw_callV2z (f1 := f - 1) cl_X0_128 rfl hg4 (by decide) (by omega) (fw_s4 (Nat.le_of_ble_eq_true rfl)) dX0_of_124 (w_X0_holds (f := f - 1) (by omega) hg4 h) (fun _ _ h9 _ _ => h9.elim) (fun v9 μ29 q9 hs30 => ?_)
                obtain ⟨v28, rfl, h⟩ := q9
                refine fw_ti ?_
                have hg31 := hs30.K hg4 (by decide)
                exact fw_ireturn dX0_of_127 rfl rfl ⟨_, rfl, h⟩
              · refine fw_sw (k := 6) h (fun c32 h => ?_) (fun c32 h => ?_)
                · refine fw_tableIn (tgt := 128) dX0_of_12 (by rw [c32]; decide) (by rw [c32]; decide) (by rw [c32]; rfl) (by decide) ?_
                  refine fw_aload_n dX0_of_128 rfl rfl ?_
                  refine fw_aload_n dX0_of_129 rfl rfl ?_
                  refine fw_getfP fl_X0_12 rfl hg4 dX0_of_130 ?_
                  obtain ⟨hg33, h⟩ := h
                  refine fw_getfP fl_X0_77 rfl hg33 dX0_of_133 ?_
                  refine fw_iload_n dX0_of_136 rfl rfl ?_
                  refine fw_iconst (v := 0) dX0_of_137 (by decide) ?_
                  refine fw_callV3z (f1 := f - 1) cl_X0_146 rfl hg4 (by decide) (by omega) (fw_s4 (Nat.le_of_ble_eq_true rfl)) dX0_of_138 (w_X0_spoonOf (f := f - 1) (by omega) hg4 h) (fun _ _ h9 _ _ => h9.elim) (fun v9 μ35 q9 hs36 => ?_)
                  obtain ⟨v34, rfl, h⟩ := q9
                  refine fw_ti ?_
                  have hg37 := hs36.K hg4 (by decide)
                  exact fw_ireturn dX0_of_141 rfl rfl ⟨_, rfl, h⟩
                · refine fw_sw (k := 7) h (fun c38 h => ?_) (fun c38 h => ?_)
                  · refine fw_tableIn (tgt := 142) dX0_of_12 (by rw [c38]; decide) (by rw [c38]; decide) (by rw [c38]; rfl) (by decide) ?_
                    refine fw_aload_n dX0_of_142 rfl rfl ?_
                    refine fw_aload_n dX0_of_143 rfl rfl ?_
                    refine fw_getfP fl_X0_12 rfl hg4 dX0_of_144 ?_
                    obtain ⟨hg39, h⟩ := h
                    refine fw_getfP fl_X0_77 rfl hg39 dX0_of_147 ?_
                    refine fw_iload_n dX0_of_150 rfl rfl ?_
                    refine fw_iconst (v := 1) dX0_of_151 (by decide) ?_
                    refine fw_callV3z (f1 := f - 1) cl_X0_146 rfl hg4 (by decide) (by omega) (fw_s4 (Nat.le_of_ble_eq_true rfl)) dX0_of_152 (w_X0_spoonOf (f := f - 1) (by omega) hg4 h) (fun _ _ h9 _ _ => h9.elim) (fun v9 μ41 q9 hs42 => ?_)
                    obtain ⟨v40, rfl, h⟩ := q9
                    refine fw_ti ?_
                    have hg43 := hs42.K hg4 (by decide)
                    exact fw_ireturn dX0_of_155 rfl rfl ⟨_, rfl, h⟩
                  · have nc6 := lv_neT c6 (k := 0) (a := 0) (by decide)
                    have nc10 := lv_neT c10 (k := 1) (a := 1) (by decide)
                    have nc14 := lv_neT c14 (k := 2) (a := 2) (by decide)
                    have nc18 := lv_neT c18 (k := 3) (a := 3) (by decide)
                    have nc22 := lv_neT c22 (k := 4) (a := 4) (by decide)
                    have nc26 := lv_neT c26 (k := 5) (a := 5) (by decide)
                    have nc32 := lv_neT c32 (k := 6) (a := 6) (by decide)
                    have nc38 := lv_neT c38 (k := 7) (a := 7) (by decide)
                    refine fw_tableOut (tgt := 156) dX0_of_12 (by omega) (by decide) ?_
                    refine fw_bipush (v := -2) dX0_of_156 (by decide) ?_
                    exact fw_ireturn dX0_of_158 rfl rfl ⟨_, rfl, h⟩
  · have h := fw_it h c5
    refine fw_bipush (v := -2) dX0_of_8 (by decide) ?_
    exact fw_ireturn dX0_of_10 rfl rfl ⟨_, rfl, h⟩
abbrev K_X0_written : fw_Kt := (RX0, "written", cX0_written, 3, some .int, [])
def p_X0_written (r0 : Nat) (i1 : Int32) (i2 : Int32) (μ : fw_M) (Q : Int32 → fw_M → Prop) : Prop :=
  (if i1 = (-1 : Int32) then
  ((m_K μ (m_P μ r0 0) = 2 ∧ (m_K μ (m_P μ (m_P μ r0 0) 9) = 100 ∧ (vp_in (23 : Int32) (m_N μ (m_P μ (m_P μ r0 0) 9)) ∧ Q (m_I μ (m_P μ (m_P μ r0 0) 9) (23 : Int32).toNatClampNeg) μ))))
  else
  ((m_K μ (m_P μ r0 0) = 2 ∧ (m_K μ (m_P μ (m_P μ r0 0) 9) = 100 ∧ (vp_in (23 : Int32) (m_N μ (m_P μ (m_P μ r0 0) 9)) ∧ (p_X0_in i1 (0 : Int32) ((m_I μ (m_P μ (m_P μ r0 0) 9) (23 : Int32).toNatClampNeg) - (1 : Int32)) μ (fun v5 μ6 =>
   (if v5 = 0 then
   (Q (-2 : Int32) μ6)
   else
   ((p_X0_in i2 (0 : Int32) (3 : Int32) μ6 (fun v10 μ11 =>
    (if v10 = 0 then
    (Q (-2 : Int32) μ11)
    else
    ((m_K μ11 (m_P μ11 r0 0) = 2 ∧ (m_K μ11 (m_P μ11 (m_P μ11 r0 0) 12) = 103 ∧ (vp_in i1 (m_N μ11 (m_P μ11 (m_P μ11 r0 0) 12)) ∧ (m_K μ11 (m_P μ11 (m_P μ11 (m_P μ11 r0 0) 12) i1.toNatClampNeg) = 100 ∧ (vp_in i2 (m_N μ11 (m_P μ11 (m_P μ11 (m_P μ11 r0 0) 12) i1.toNatClampNeg)) ∧ Q (m_I μ11 (m_P μ11 (m_P μ11 (m_P μ11 r0 0) 12) i1.toNatClampNeg) i2.toNatClampNeg) μ11))))))))))))))))))
set_option maxHeartbeats 4000000 in
theorem w_X0_written {g : fw_G} {f bc bs : Nat} {r0 : Nat} {i1 : Int32} {i2 : Int32} {μ : fw_M} {Q : Int32 → fw_M → Prop} (hf : 2 ≤ f) (hx : m_K μ r0 = 1) (h : p_X0_written r0 i1 i2 μ Q) : fw_C g f bc bs yX0_written (ws_ yX0_written cX0_written 3 (some .int)) [fw_rv g r0, Value.int i1, Value.int i2] μ (fw_Qi Q) fw_nX := by
  unfold p_X0_written at h
  refine fw_intro' (Ls := [(0, fw_rv g r0), (1, Value.int i1), (2, Value.int i2)]) (by decide +kernel) (by simp [lg_sl, fw_cat, fw_ci, fw_clo]) (by simp [lv_args, fw_cat, fw_ci, fw_clo]) ?_
  show fw_V g K_X0_written f bc bs 0 [(0, fw_rv g r0), (1, Value.int i1), (2, Value.int i2)] [] μ (fw_Qi Q) fw_nX
  refine fw_iload_n dX0_written_0 rfl rfl ?_
  refine fw_iconst (v := -1) dX0_written_1 (by decide) ?_
  refine fw_icmp_ne (tgt := 16) dX0_written_2 (by decide) (fun c1 => ?_) (fun c1 => ?_)
  · have h := fw_if h c1
    refine fw_iload_n dX0_written_16 rfl rfl ?_
    refine fw_iconst (v := 0) dX0_written_17 (by decide) ?_
    refine fw_aload_n dX0_written_18 rfl rfl ?_
    refine fw_getfP fl_X0_12 rfl hx dX0_written_19 ?_
    obtain ⟨hg2, h⟩ := h
    refine fw_getfP fl_X0_77 rfl hg2 dX0_written_22 ?_
    refine fw_bipush (v := 23) dX0_written_25 (by decide) ?_
    obtain ⟨hg3, h⟩ := h
    obtain ⟨hc4, h⟩ := h
    refine fw_iald hg3 hc4 dX0_written_27 ?_
    refine fw_iconst (v := 1) dX0_written_28 (by decide) ?_
    refine fw_isub dX0_written_29 ?_
    refine fw_callS3z (f1 := f - 1) cl_X0_66 (by decide) (by omega) (fw_s4 (Nat.le_of_ble_eq_true rfl)) dX0_written_30 (w_X0_in (f := f - 1) (by omega) h) (fun _ _ h9 _ _ => h9.elim) (fun v9 μ6 q9 hs7 => ?_)
    obtain ⟨v5, rfl, h⟩ := q9
    refine fw_ti ?_
    have hg8 := hs7.K hx (by decide)
    refine fw_if_eq (tgt := 59) dX0_written_33 (by decide) (fun c9 => ?_) (fun c9 => ?_)
    · have h := fw_it h c9
      refine fw_bipush (v := -2) dX0_written_59 (by decide) ?_
      exact fw_ireturn dX0_written_61 rfl rfl ⟨_, rfl, h⟩
    · have h := fw_if h c9
      refine fw_iload_n dX0_written_36 rfl rfl ?_
      refine fw_iconst (v := 0) dX0_written_37 (by decide) ?_
      refine fw_iconst (v := 3) dX0_written_38 (by decide) ?_
      refine fw_callS3z (f1 := f - 1) cl_X0_66 (by decide) (by omega) (fw_s4 (Nat.le_of_ble_eq_true rfl)) dX0_written_39 (w_X0_in (f := f - 1) (by omega) h) (fun _ _ h9 _ _ => h9.elim) (fun v9 μ11 q9 hs12 => ?_)
      obtain ⟨v10, rfl, h⟩ := q9
      refine fw_ti ?_
      have hg13 := hs12.K hg8 (by decide)
      refine fw_if_eq (tgt := 59) dX0_written_42 (by decide) (fun c14 => ?_) (fun c14 => ?_)
      · have h := fw_it h c14
        refine fw_bipush (v := -2) dX0_written_59 (by decide) ?_
        exact fw_ireturn dX0_written_61 rfl rfl ⟨_, rfl, h⟩
      · have h := fw_if h c14
        refine fw_aload_n dX0_written_45 rfl rfl ?_
        refine fw_getfP fl_X0_12 rfl hg13 dX0_written_46 ?_
        obtain ⟨hg15, h⟩ := h
        refine fw_getfP fl_X0_156 rfl hg15 dX0_written_49 ?_
        refine fw_iload_n dX0_written_52 rfl rfl ?_
        obtain ⟨hg16, h⟩ := h
        obtain ⟨hc17, h⟩ := h
        refine fw_aald hg16 rfl rfl hc17 dX0_written_53 ?_
        refine fw_iload_n dX0_written_54 rfl rfl ?_
        obtain ⟨hg18, h⟩ := h
        obtain ⟨hc19, h⟩ := h
        refine fw_iald hg18 hc19 dX0_written_55 ?_
        refine fw_goto (tgt := 61) dX0_written_56 (by decide) ?_
        exact fw_ireturn dX0_written_61 rfl rfl ⟨_, rfl, h⟩
  · have h := fw_it h c1
    refine fw_aload_n dX0_written_5 rfl rfl ?_
    refine fw_getfP fl_X0_12 rfl hx dX0_written_6 ?_
    obtain ⟨hg20, h⟩ := h
    refine fw_getfP fl_X0_77 rfl hg20 dX0_written_9 ?_
    refine fw_bipush (v := 23) dX0_written_12 (by decide) ?_
    obtain ⟨hg21, h⟩ := h
    obtain ⟨hc22, h⟩ := h
    refine fw_iald hg21 hc22 dX0_written_14 ?_
    exact fw_ireturn dX0_written_15 rfl rfl ⟨_, rfl, h⟩
abbrev K_X0_dent : fw_Kt := (RX0, "dent", cX0_dent, 3, some .int, [])
def p_X0_dent (r0 : Nat) (i1 : Int32) (i2 : Int32) (μ : fw_M) (Q : Int32 → fw_M → Prop) : Prop :=
  (if i1 = (-1 : Int32) then
  ((m_K μ (m_P μ r0 0) = 2 ∧ (m_K μ (m_P μ (m_P μ r0 0) 9) = 100 ∧ (vp_in (24 : Int32) (m_N μ (m_P μ (m_P μ r0 0) 9)) ∧ Q (m_I μ (m_P μ (m_P μ r0 0) 9) (24 : Int32).toNatClampNeg) μ))))
  else
  ((m_K μ (m_P μ r0 0) = 2 ∧ (m_K μ (m_P μ (m_P μ r0 0) 9) = 100 ∧ (vp_in (24 : Int32) (m_N μ (m_P μ (m_P μ r0 0) 9)) ∧ (p_X0_in i1 (0 : Int32) ((m_I μ (m_P μ (m_P μ r0 0) 9) (24 : Int32).toNatClampNeg) - (1 : Int32)) μ (fun v5 μ6 =>
   (if v5 = 0 then
   (Q (-9999 : Int32) μ6)
   else
   ((p_X0_in i2 (0 : Int32) (2 : Int32) μ6 (fun v10 μ11 =>
    (if v10 = 0 then
    (Q (-9999 : Int32) μ11)
    else
    ((m_K μ11 (m_P μ11 r0 0) = 2 ∧ (m_K μ11 (m_P μ11 (m_P μ11 r0 0) 13) = 103 ∧ (vp_in i1 (m_N μ11 (m_P μ11 (m_P μ11 r0 0) 13)) ∧ (m_K μ11 (m_P μ11 (m_P μ11 (m_P μ11 r0 0) 13) i1.toNatClampNeg) = 100 ∧ (vp_in i2 (m_N μ11 (m_P μ11 (m_P μ11 (m_P μ11 r0 0) 13) i1.toNatClampNeg)) ∧ Q (m_I μ11 (m_P μ11 (m_P μ11 (m_P μ11 r0 0) 13) i1.toNatClampNeg) i2.toNatClampNeg) μ11))))))))))))))))))
set_option maxHeartbeats 4000000 in
theorem w_X0_dent {g : fw_G} {f bc bs : Nat} {r0 : Nat} {i1 : Int32} {i2 : Int32} {μ : fw_M} {Q : Int32 → fw_M → Prop} (hf : 2 ≤ f) (hx : m_K μ r0 = 1) (h : p_X0_dent r0 i1 i2 μ Q) : fw_C g f bc bs yX0_dent (ws_ yX0_dent cX0_dent 3 (some .int)) [fw_rv g r0, Value.int i1, Value.int i2] μ (fw_Qi Q) fw_nX := by
  unfold p_X0_dent at h
  refine fw_intro' (Ls := [(0, fw_rv g r0), (1, Value.int i1), (2, Value.int i2)]) (by decide +kernel) (by simp [lg_sl, fw_cat, fw_ci, fw_clo]) (by simp [lv_args, fw_cat, fw_ci, fw_clo]) ?_
  show fw_V g K_X0_dent f bc bs 0 [(0, fw_rv g r0), (1, Value.int i1), (2, Value.int i2)] [] μ (fw_Qi Q) fw_nX
  refine fw_iload_n dX0_dent_0 rfl rfl ?_
  refine fw_iconst (v := -1) dX0_dent_1 (by decide) ?_
  refine fw_icmp_ne (tgt := 16) dX0_dent_2 (by decide) (fun c1 => ?_) (fun c1 => ?_)
  · have h := fw_if h c1
    refine fw_iload_n dX0_dent_16 rfl rfl ?_
    refine fw_iconst (v := 0) dX0_dent_17 (by decide) ?_
    refine fw_aload_n dX0_dent_18 rfl rfl ?_
    refine fw_getfP fl_X0_12 rfl hx dX0_dent_19 ?_
    obtain ⟨hg2, h⟩ := h
    refine fw_getfP fl_X0_77 rfl hg2 dX0_dent_22 ?_
    refine fw_bipush (v := 24) dX0_dent_25 (by decide) ?_
    obtain ⟨hg3, h⟩ := h
    obtain ⟨hc4, h⟩ := h
    refine fw_iald hg3 hc4 dX0_dent_27 ?_
    refine fw_iconst (v := 1) dX0_dent_28 (by decide) ?_
    refine fw_isub dX0_dent_29 ?_
    refine fw_callS3z (f1 := f - 1) cl_X0_66 (by decide) (by omega) (fw_s4 (Nat.le_of_ble_eq_true rfl)) dX0_dent_30 (w_X0_in (f := f - 1) (by omega) h) (fun _ _ h9 _ _ => h9.elim) (fun v9 μ6 q9 hs7 => ?_)
    obtain ⟨v5, rfl, h⟩ := q9
    refine fw_ti ?_
    have hg8 := hs7.K hx (by decide)
    refine fw_if_eq (tgt := 59) dX0_dent_33 (by decide) (fun c9 => ?_) (fun c9 => ?_)
    · have h := fw_it h c9
      refine fw_sipush (v := -9999) dX0_dent_59 (by decide) ?_
      exact fw_ireturn dX0_dent_62 rfl rfl ⟨_, rfl, h⟩
    · have h := fw_if h c9
      refine fw_iload_n dX0_dent_36 rfl rfl ?_
      refine fw_iconst (v := 0) dX0_dent_37 (by decide) ?_
      refine fw_iconst (v := 2) dX0_dent_38 (by decide) ?_
      refine fw_callS3z (f1 := f - 1) cl_X0_66 (by decide) (by omega) (fw_s4 (Nat.le_of_ble_eq_true rfl)) dX0_dent_39 (w_X0_in (f := f - 1) (by omega) h) (fun _ _ h9 _ _ => h9.elim) (fun v9 μ11 q9 hs12 => ?_)
      obtain ⟨v10, rfl, h⟩ := q9
      refine fw_ti ?_
      have hg13 := hs12.K hg8 (by decide)
      refine fw_if_eq (tgt := 59) dX0_dent_42 (by decide) (fun c14 => ?_) (fun c14 => ?_)
      · have h := fw_it h c14
        refine fw_sipush (v := -9999) dX0_dent_59 (by decide) ?_
        exact fw_ireturn dX0_dent_62 rfl rfl ⟨_, rfl, h⟩
      · have h := fw_if h c14
        refine fw_aload_n dX0_dent_45 rfl rfl ?_
        refine fw_getfP fl_X0_12 rfl hg13 dX0_dent_46 ?_
        obtain ⟨hg15, h⟩ := h
        refine fw_getfP fl_X0_166 rfl hg15 dX0_dent_49 ?_
        refine fw_iload_n dX0_dent_52 rfl rfl ?_
        obtain ⟨hg16, h⟩ := h
        obtain ⟨hc17, h⟩ := h
        refine fw_aald hg16 rfl rfl hc17 dX0_dent_53 ?_
        refine fw_iload_n dX0_dent_54 rfl rfl ?_
        obtain ⟨hg18, h⟩ := h
        obtain ⟨hc19, h⟩ := h
        refine fw_iald hg18 hc19 dX0_dent_55 ?_
        refine fw_goto (tgt := 62) dX0_dent_56 (by decide) ?_
        exact fw_ireturn dX0_dent_62 rfl rfl ⟨_, rfl, h⟩
  · have h := fw_it h c1
    refine fw_aload_n dX0_dent_5 rfl rfl ?_
    refine fw_getfP fl_X0_12 rfl hx dX0_dent_6 ?_
    obtain ⟨hg20, h⟩ := h
    refine fw_getfP fl_X0_77 rfl hg20 dX0_dent_9 ?_
    refine fw_bipush (v := 24) dX0_dent_12 (by decide) ?_
    obtain ⟨hg21, h⟩ := h
    obtain ⟨hc22, h⟩ := h
    refine fw_iald hg21 hc22 dX0_dent_14 ?_
    exact fw_ireturn dX0_dent_15 rfl rfl ⟨_, rfl, h⟩
abbrev K_X0_canCall : fw_Kt := (RX0, "canCall", cX0_canCall, 3, some .boolean, [])
def p_X0_canCall_L32b (r0 : Nat) (i1 : Int32) (k32 : Int32 → fw_M → Prop) (i2 : Int32) (μ : fw_M) (Q : Int32 → fw_M → Prop) : Prop :=
  (m_K μ (m_P μ r0 0) = 2 ∧ (if (m_I μ (m_P μ r0 0) 0) ≤ i2 then
  (Q (1 : Int32) μ)
  else
  ((if ((i1 >>> (i2 &&& 31)) &&& (1 : Int32)) = (1 : Int32) then
   ((m_K μ (m_P μ (m_P μ r0 0) 9) = 100 ∧ (vp_in ((4 : Int32) + i2) (m_N μ (m_P μ (m_P μ r0 0) 9)) ∧ (if (m_I μ (m_P μ (m_P μ r0 0) 9) ((4 : Int32) + i2).toNatClampNeg) = (2 : Int32) then
    (Q (0 : Int32) μ)
    else
    ((∀ i2_9 : Int32, i2_9 = i2 + (1 : Int32) →
     k32 i2_9 μ))))))
   else
   ((∀ i2_4 : Int32, i2_4 = i2 + (1 : Int32) →
    k32 i2_4 μ))))))
def p_X0_canCall_L32 (r0 : Nat) (i1 : Int32) (i2 : Int32) (μ : fw_M) (Q : Int32 → fw_M → Prop) : Prop := fw_lp (fun (k : Int32 × fw_M → Prop) (a : Int32 × fw_M) => p_X0_canCall_L32b r0 i1 (fun i2 μ => k (i2, μ)) a.1 a.2 Q) (i2, μ)
theorem r_X0_canCall_L32 {r0 : Nat} {i1 : Int32} {Q : Int32 → fw_M → Prop} (I : Int32 → fw_M → Prop) (v : Int32 → fw_M → Nat) (hs : ∀ (k : Int32 → fw_M → Prop) (i2 : Int32) (μ : fw_M), I i2 μ → (∀ (i2' : Int32) (ν : fw_M), I i2' ν → v i2' ν < v i2 μ → k i2' ν) → p_X0_canCall_L32b r0 i1 k i2 μ Q) (i2 : Int32) (μ : fw_M) (h : I i2 μ) : p_X0_canCall_L32 r0 i1 i2 μ Q :=
  fw_lp_in (A := Int32 × fw_M) (fun a => I a.1 a.2) (fun a => v a.1 a.2) (fun k a ha hk => hs (fun i2 μ => k (i2, μ)) a.1 a.2 ha (fun i2' ν hb hlt => hk (i2', ν) hb hlt)) (i2, μ) h
set_option maxHeartbeats 4000000 in
theorem w_X0_canCall_L32b {g : fw_G} {f bc bs : Nat} {r0 : Nat} {i1 : Int32} {k32 : Int32 → fw_M → Prop} {i2 : Int32} {μ : fw_M} {Q : Int32 → fw_M → Prop} (hf : 2 ≤ f) (hk32 : ∀ {i2 : Int32} {μ : fw_M}, m_K μ r0 = 1 → k32 i2 μ → fw_V g K_X0_canCall f bc bs 32 [(0, fw_rv g r0), (1, Value.int i1), (2, Value.int i2)] [] μ (fw_Qi Q) fw_nX) (hx : m_K μ r0 = 1) (h : p_X0_canCall_L32b r0 i1 k32 i2 μ Q) : fw_V g K_X0_canCall f bc bs 32 [(0, fw_rv g r0), (1, Value.int i1), (2, Value.int i2)] [] μ (fw_Qi Q) fw_nX := by
  unfold p_X0_canCall_L32b at h
  refine fw_iload_n dX0_canCall_32 rfl rfl ?_
  refine fw_aload_n dX0_canCall_33 rfl rfl ?_
  refine fw_getfP fl_X0_12 rfl hx dX0_canCall_34 ?_
  obtain ⟨hg1, h⟩ := h
  refine fw_getfI fl_X0_63 rfl hg1 dX0_canCall_37 ?_
  refine fw_icmp_ge (tgt := 75) dX0_canCall_40 (by decide) (fun c2 => ?_) (fun c2 => ?_)
  · have h := fw_it h c2
    refine fw_iconst (v := 1) dX0_canCall_75 (by decide) ?_
    exact fw_ireturn dX0_canCall_76 rfl (by decide +kernel) ⟨_, rfl, h⟩
  · have h := fw_if h c2
    refine fw_iload_n dX0_canCall_43 rfl rfl ?_
    refine fw_iload_n dX0_canCall_44 rfl rfl ?_
    refine fw_ishr dX0_canCall_45 ?_
    refine fw_iconst (v := 1) dX0_canCall_46 (by decide) ?_
    refine fw_iand dX0_canCall_47 ?_
    refine fw_iconst (v := 1) dX0_canCall_48 (by decide) ?_
    refine fw_icmp_ne (tgt := 69) dX0_canCall_49 (by decide) (fun c3 => ?_) (fun c3 => ?_)
    · have h := fw_if h c3
      obtain ⟨i2_4, e5⟩ : ∃ y : Int32, y = i2 + (1 : Int32) := ⟨_, rfl⟩
      have h := h i2_4 e5
      refine fw_iincN (k := 2) (v := i2_4) (Ls' := [(2, Value.int i2_4), (1, Value.int i1), (0, fw_rv g r0)]) [0] dX0_canCall_69 rfl (by rw [e5]; rfl) (by decide) rfl rfl rfl rfl rfl ?_
      refine fw_goto (tgt := 32) dX0_canCall_72 (by decide) ?_
      refine fw_ls [2, 1, 0] rfl ?_
      exact hk32 hx h
    · have h := fw_it h c3
      refine fw_aload_n dX0_canCall_52 rfl rfl ?_
      refine fw_getfP fl_X0_12 rfl hx dX0_canCall_53 ?_
      refine fw_getfP fl_X0_77 rfl hg1 dX0_canCall_56 ?_
      refine fw_iconst (v := 4) dX0_canCall_59 (by decide) ?_
      refine fw_iload_n dX0_canCall_60 rfl rfl ?_
      refine fw_iadd dX0_canCall_61 ?_
      obtain ⟨hg6, h⟩ := h
      obtain ⟨hc7, h⟩ := h
      refine fw_iald hg6 hc7 dX0_canCall_62 ?_
      refine fw_iconst (v := 2) dX0_canCall_63 (by decide) ?_
      refine fw_icmp_ne (tgt := 69) dX0_canCall_64 (by decide) (fun c8 => ?_) (fun c8 => ?_)
      · have h := fw_if h c8
        obtain ⟨i2_9, e10⟩ : ∃ y : Int32, y = i2 + (1 : Int32) := ⟨_, rfl⟩
        have h := h i2_9 e10
        refine fw_iincN (k := 2) (v := i2_9) (Ls' := [(2, Value.int i2_9), (1, Value.int i1), (0, fw_rv g r0)]) [0] dX0_canCall_69 rfl (by rw [e10]; rfl) (by decide) rfl rfl rfl rfl rfl ?_
        refine fw_goto (tgt := 32) dX0_canCall_72 (by decide) ?_
        refine fw_ls [2, 1, 0] rfl ?_
        exact hk32 hx h
      · have h := fw_it h c8
        refine fw_iconst (v := 0) dX0_canCall_67 (by decide) ?_
        exact fw_ireturn dX0_canCall_68 rfl (by decide +kernel) ⟨_, rfl, h⟩
theorem w_X0_canCall_L32 {g : fw_G} {f bc bs : Nat} {r0 : Nat} {i1 : Int32} {i2 : Int32} {μ : fw_M} {Q : Int32 → fw_M → Prop} (hf : 2 ≤ f) (hx : m_K μ r0 = 1) (h : p_X0_canCall_L32 r0 i1 i2 μ Q) : fw_V g K_X0_canCall f bc bs 32 [(0, fw_rv g r0), (1, Value.int i1), (2, Value.int i2)] [] μ (fw_Qi Q) fw_nX := by
  have key := fw_lp_out (R := fun (a : Int32 × fw_M) => m_K a.2 r0 = 1 → fw_V g K_X0_canCall f bc bs 32 [(0, fw_rv g r0), (1, Value.int i1), (2, Value.int a.1)] [] a.2 (fw_Qi Q) fw_nX) (fun k hk9 a ha hx2 => w_X0_canCall_L32b hf (fun {i2} {μ} hx3 h3 => hk9 (i2, μ) h3 hx3) hx2 ha) h
  exact key hx
def p_X0_canCall (r0 : Nat) (i1 : Int32) (μ : fw_M) (Q : Int32 → fw_M → Prop) : Prop :=
  (m_K μ (m_P μ r0 0) = 2 ∧ (p_X0_in i1 (1 : Int32) (((1 : Int32) <<< ((m_I μ (m_P μ r0 0) 0) &&& 31)) - (1 : Int32)) μ (fun v2 μ3 =>
  (if v2 = 0 then
  (Q (0 : Int32) μ3)
  else
  ((p_J8_bitCount i1 μ3 (fun v7 μ8 =>
   (if v7 ≤ (6 : Int32) then
   (p_X0_canCall_L32 r0 i1 (0 : Int32) μ8 Q)
   else
   (Q (0 : Int32) μ8)))))))))
set_option maxHeartbeats 4000000 in
theorem w_X0_canCall {g : fw_G} {f bc bs : Nat} {r0 : Nat} {i1 : Int32} {μ : fw_M} {Q : Int32 → fw_M → Prop} (hf : 2 ≤ f) (hx : m_K μ r0 = 1) (h : p_X0_canCall r0 i1 μ Q) : fw_C g f bc bs yX0_canCall (ws_ yX0_canCall cX0_canCall 3 (some .boolean)) [fw_rv g r0, Value.int i1] μ (fw_Qi Q) fw_nX := by
  unfold p_X0_canCall at h
  refine fw_intro' (Ls := [(0, fw_rv g r0), (1, Value.int i1)]) (by decide +kernel) (by simp [lg_sl, fw_cat, fw_ci, fw_clo]) (by simp [lv_args, fw_cat, fw_ci, fw_clo]) ?_
  show fw_V g K_X0_canCall f bc bs 0 [(0, fw_rv g r0), (1, Value.int i1)] [] μ (fw_Qi Q) fw_nX
  refine fw_iload_n dX0_canCall_0 rfl rfl ?_
  refine fw_iconst (v := 1) dX0_canCall_1 (by decide) ?_
  refine fw_iconst (v := 1) dX0_canCall_2 (by decide) ?_
  refine fw_aload_n dX0_canCall_3 rfl rfl ?_
  refine fw_getfP fl_X0_12 rfl hx dX0_canCall_4 ?_
  obtain ⟨hg1, h⟩ := h
  refine fw_getfI fl_X0_63 rfl hg1 dX0_canCall_7 ?_
  refine fw_ishl dX0_canCall_10 ?_
  refine fw_iconst (v := 1) dX0_canCall_11 (by decide) ?_
  refine fw_isub dX0_canCall_12 ?_
  refine fw_callS3z (f1 := f - 1) cl_X0_66 (by decide) (by omega) (fw_s4 (Nat.le_of_ble_eq_true rfl)) dX0_canCall_13 (w_X0_in (f := f - 1) (by omega) h) (fun _ _ h9 _ _ => h9.elim) (fun v9 μ3 q9 hs4 => ?_)
  obtain ⟨v2, rfl, h⟩ := q9
  refine fw_ti ?_
  have hg5 := hs4.K hx (by decide)
  refine fw_if_eq (tgt := 28) dX0_canCall_16 (by decide) (fun c6 => ?_) (fun c6 => ?_)
  · have h := fw_it h c6
    refine fw_iconst (v := 0) dX0_canCall_28 (by decide) ?_
    exact fw_ireturn dX0_canCall_29 rfl (by decide +kernel) ⟨_, rfl, h⟩
  · have h := fw_if h c6
    refine fw_iload_n dX0_canCall_19 rfl rfl ?_
    refine fw_callS1z (f1 := f - 1) cl_X0_234 (by decide) (by omega) (fw_s4 (Nat.le_of_ble_eq_true rfl)) dX0_canCall_20 (w_J8_bitCount (f := f - 1) (by omega) h) (fun _ _ h9 _ _ => h9.elim) (fun v9 μ8 q9 hs9 => ?_)
    obtain ⟨v7, rfl, h⟩ := q9
    refine fw_ti ?_
    have hg10 := hs9.K hg5 (by decide)
    refine fw_bipush (v := 6) dX0_canCall_23 (by decide) ?_
    refine fw_icmp_le (tgt := 30) dX0_canCall_25 (by decide) (fun c11 => ?_) (fun c11 => ?_)
    · have h := fw_it h c11
      refine fw_iconst (v := 0) dX0_canCall_30 (by decide) ?_
      refine fw_istore_nN (Ls' := [(2, Value.int (0 : Int32)), (1, Value.int i1), (0, fw_rv g r0)]) [0] dX0_canCall_31 rfl (by decide) rfl rfl rfl rfl rfl ?_
      refine fw_ls [2, 1, 0] rfl ?_
      exact w_X0_canCall_L32 hf hg10 h
    · have h := fw_if h c11
      refine fw_iconst (v := 0) dX0_canCall_28 (by decide) ?_
      exact fw_ireturn dX0_canCall_29 rfl (by decide +kernel) ⟨_, rfl, h⟩
abbrev K_X0_called : fw_Kt := (RX0, "called", cX0_called, 4, some .int, [])
def p_X0_called (r0 : Nat) (i1 : Int32) (i2 : Int32) (i3 : Int32) (μ : fw_M) (Q : Int32 → fw_M → Prop) : Prop :=
  (p_X0_canCall r0 i1 μ (fun v1 μ2 =>
  (if v1 = 0 then
  (Q (-9999 : Int32) μ2)
  else
  ((p_X0_isKind i2 μ2 (fun v6 μ7 =>
   (if v6 = 0 then
   (Q (-9999 : Int32) μ7)
   else
   ((p_J8_bitCount i1 μ7 (fun v11 μ12 =>
    (p_X0_in i3 (-1 : Int32) (v11 - (1 : Int32)) μ12 (fun v15 μ16 =>
    (if v15 = 0 then
    (Q (-9999 : Int32) μ16)
    else
    ((m_K μ16 (m_P μ16 r0 0) = 2 ∧ (m_K μ16 (m_P μ16 r0 9) = 103 ∧ (vp_in (0 : Int32) (m_N μ16 (m_P μ16 r0 9)) ∧ (m_K μ16 (m_P μ16 (m_P μ16 r0 0) 9) = 100 ∧ (m_K μ16 (m_P μ16 (m_P μ16 r0 9) (0 : Int32).toNatClampNeg) = 100 ∧ (¬ (0 : Int32) < 0 ∧ (¬ (0 : Int32) < 0 ∧ (¬ (25 : Int32) < 0 ∧ ((0 : Int32).toNatClampNeg + (25 : Int32).toNatClampNeg ≤ m_N μ16 (m_P μ16 (m_P μ16 r0 0) 9) ∧ ((0 : Int32).toNatClampNeg + (25 : Int32).toNatClampNeg ≤ m_N μ16 (m_P μ16 (m_P μ16 r0 9) (0 : Int32).toNatClampNeg) ∧ (∀ μ30, μ30 = m_cp μ16 (m_P μ16 (m_P μ16 r0 0) 9) (0 : Int32).toNatClampNeg (m_P μ16 (m_P μ16 r0 9) (0 : Int32).toNatClampNeg) (0 : Int32).toNatClampNeg (25 : Int32).toNatClampNeg →
     (∀ μ31, μ31 = m_uI μ30 r0 12 (2147483647 : Int32) →
     (pc_X0_calls r0 i1 i2 (0 : Int32) μ31 (fun μ33 =>
     (if i3 = (-1 : Int32) then
     (Q (m_I μ33 r0 12) μ33)
     else
     ((m_K μ33 (m_P μ33 r0 11) = 100 ∧ (vp_in i3 (m_N μ33 (m_P μ33 r0 11)) ∧ Q (m_I μ33 (m_P μ33 r0 11) i3.toNatClampNeg) μ33))))))))))))))))))))))))))))))))
set_option maxHeartbeats 4000000 in
theorem w_X0_called {g : fw_G} {f bc bs : Nat} {r0 : Nat} {i1 : Int32} {i2 : Int32} {i3 : Int32} {μ : fw_M} {Q : Int32 → fw_M → Prop} (hf : 428 ≤ f) (hx : m_K μ r0 = 1) (h : p_X0_called r0 i1 i2 i3 μ Q) : fw_C g f bc bs yX0_called (ws_ yX0_called cX0_called 4 (some .int)) [fw_rv g r0, Value.int i1, Value.int i2, Value.int i3] μ (fw_Qi Q) fw_nX := by
  unfold p_X0_called at h
  refine fw_intro' (Ls := [(0, fw_rv g r0), (1, Value.int i1), (2, Value.int i2), (3, Value.int i3)]) (by decide +kernel) (by simp [lg_sl, fw_cat, fw_ci, fw_clo]) (by simp [lv_args, fw_cat, fw_ci, fw_clo]) ?_
  show fw_V g K_X0_called f bc bs 0 [(0, fw_rv g r0), (1, Value.int i1), (2, Value.int i2), (3, Value.int i3)] [] μ (fw_Qi Q) fw_nX
  refine fw_aload_n dX0_called_0 rfl rfl ?_
  refine fw_iload_n dX0_called_1 rfl rfl ?_
  refine fw_callV1z (f1 := f - 1) cl_X0_239 rfl hx (by decide) (by omega) (fw_s4 (Nat.le_of_ble_eq_true rfl)) dX0_called_2 (w_X0_canCall (f := f - 1) (by omega) hx h) (fun _ _ h9 _ _ => h9.elim) (fun v9 μ2 q9 hs3 => ?_)
  obtain ⟨v1, rfl, h⟩ := q9
  refine fw_ti ?_
  have hg4 := hs3.K hx (by decide)
  refine fw_if_eq (tgt := 29) dX0_called_5 (by decide) (fun c5 => ?_) (fun c5 => ?_)
  · have h := fw_it h c5
    refine fw_sipush (v := -9999) dX0_called_29 (by decide) ?_
    exact fw_ireturn dX0_called_32 rfl rfl ⟨_, rfl, h⟩
  · have h := fw_if h c5
    refine fw_iload_n dX0_called_8 rfl rfl ?_
    refine fw_callS1z (f1 := f - 1) cl_X0_74 (by decide) (by omega) (fw_s4 (Nat.le_of_ble_eq_true rfl)) dX0_called_9 (w_X0_isKind (f := f - 1) (by omega) h) (fun _ _ h9 _ _ => h9.elim) (fun v9 μ7 q9 hs8 => ?_)
    obtain ⟨v6, rfl, h⟩ := q9
    refine fw_ti ?_
    have hg9 := hs8.K hg4 (by decide)
    refine fw_if_eq (tgt := 29) dX0_called_12 (by decide) (fun c10 => ?_) (fun c10 => ?_)
    · have h := fw_it h c10
      refine fw_sipush (v := -9999) dX0_called_29 (by decide) ?_
      exact fw_ireturn dX0_called_32 rfl rfl ⟨_, rfl, h⟩
    · have h := fw_if h c10
      refine fw_iload_n dX0_called_15 rfl rfl ?_
      refine fw_iconst (v := -1) dX0_called_16 (by decide) ?_
      refine fw_iload_n dX0_called_17 rfl rfl ?_
      refine fw_callS1z (f1 := f - 1) cl_X0_234 (by decide) (by omega) (fw_s4 (Nat.le_of_ble_eq_true rfl)) dX0_called_18 (w_J8_bitCount (f := f - 1) (by omega) h) (fun _ _ h9 _ _ => h9.elim) (fun v9 μ12 q9 hs13 => ?_)
      obtain ⟨v11, rfl, h⟩ := q9
      refine fw_ti ?_
      have hg14 := hs13.K hg9 (by decide)
      refine fw_iconst (v := 1) dX0_called_21 (by decide) ?_
      refine fw_isub dX0_called_22 ?_
      refine fw_callS3z (f1 := f - 1) cl_X0_66 (by decide) (by omega) (fw_s4 (Nat.le_of_ble_eq_true rfl)) dX0_called_23 (w_X0_in (f := f - 1) (by omega) h) (fun _ _ h9 _ _ => h9.elim) (fun v9 μ16 q9 hs17 => ?_)
      obtain ⟨v15, rfl, h⟩ := q9
      refine fw_ti ?_
      have hg18 := hs17.K hg14 (by decide)
      refine fw_if_ne (tgt := 33) dX0_called_26 (by decide) (fun c19 => ?_) (fun c19 => ?_)
      · have h := fw_if h c19
        refine fw_aload_n dX0_called_33 rfl rfl ?_
        refine fw_getfP fl_X0_12 rfl hg18 dX0_called_34 ?_
        obtain ⟨hg20, h⟩ := h
        refine fw_getfP fl_X0_77 rfl hg20 dX0_called_37 ?_
        refine fw_iconst (v := 0) dX0_called_40 (by decide) ?_
        refine fw_aload_n dX0_called_41 rfl rfl ?_
        refine fw_getfP fl_X0_50 rfl hg18 dX0_called_42 ?_
        refine fw_iconst (v := 0) dX0_called_45 (by decide) ?_
        obtain ⟨hg21, h⟩ := h
        obtain ⟨hc22, h⟩ := h
        refine fw_aald hg21 rfl rfl hc22 dX0_called_46 ?_
        refine fw_iconst (v := 0) dX0_called_47 (by decide) ?_
        refine fw_bipush (v := 25) dX0_called_48 (by decide) ?_
        obtain ⟨hg23, h⟩ := h
        obtain ⟨hg24, h⟩ := h
        obtain ⟨hc25, h⟩ := h
        obtain ⟨hc26, h⟩ := h
        obtain ⟨hc27, h⟩ := h
        obtain ⟨hc28, h⟩ := h
        obtain ⟨hc29, h⟩ := h
        refine fw_copy q925 q311 q310 q80 hg23 hg24 hc25 hc26 hc27 hc28 hc29 (by omega) (fw_s4 (Nat.le_of_ble_eq_true rfl)) dX0_called_50 ?_
        have h := h _ rfl
        refine fw_aload_n dX0_called_53 rfl rfl ?_
        refine fw_ldc q926 dX0_called_54 ?_
        refine fw_putfI fl_X0_221 (fun q hq => Or.inl (by cases hq; rfl)) rfl hg18 dX0_called_56 ?_
        have h := h _ rfl
        refine fw_aload_n dX0_called_59 rfl rfl ?_
        refine fw_iload_n dX0_called_60 rfl rfl ?_
        refine fw_iload_n dX0_called_61 rfl rfl ?_
        refine fw_iconst (v := 0) dX0_called_62 (by decide) ?_
        refine fw_callV3z (f1 := f - 1) cl_X0_230 rfl hg18 (by decide) (by omega) (fw_s4 (Nat.le_of_ble_eq_true rfl)) dX0_called_63 (wc_X0_calls (f := f - 1) (by omega) hg18 h) (fun _ _ h9 _ _ => h9.elim) (fun v9 μ33 q9 hs34 => ?_)
        obtain ⟨rfl, h⟩ := q9
        refine fw_tv ?_
        have hg35 := hs34.K hg18 (by decide)
        refine fw_iload_n dX0_called_66 rfl rfl ?_
        refine fw_iconst (v := -1) dX0_called_67 (by decide) ?_
        refine fw_icmp_ne (tgt := 78) dX0_called_68 (by decide) (fun c36 => ?_) (fun c36 => ?_)
        · have h := fw_if h c36
          refine fw_aload_n dX0_called_78 rfl rfl ?_
          refine fw_getfP fl_X0_57 rfl hg35 dX0_called_79 ?_
          refine fw_iload_n dX0_called_82 rfl rfl ?_
          obtain ⟨hg37, h⟩ := h
          obtain ⟨hc38, h⟩ := h
          refine fw_iald hg37 hc38 dX0_called_83 ?_
          exact fw_ireturn dX0_called_84 rfl rfl ⟨_, rfl, h⟩
        · have h := fw_it h c36
          refine fw_aload_n dX0_called_71 rfl rfl ?_
          refine fw_getfI fl_X0_221 rfl hg35 dX0_called_72 ?_
          refine fw_goto (tgt := 84) dX0_called_75 (by decide) ?_
          exact fw_ireturn dX0_called_84 rfl rfl ⟨_, rfl, h⟩
      · have h := fw_it h c19
        refine fw_sipush (v := -9999) dX0_called_29 (by decide) ?_
        exact fw_ireturn dX0_called_32 rfl rfl ⟨_, rfl, h⟩
abbrev K_X0_acquitted : fw_Kt := (RX0, "acquitted", cX0_acquitted, 4, some .int, [])
def p_X0_acquitted_L44b (r0 : Nat) (i1 : Int32) (i2 : Int32) (k44 : Int32 → fw_M → Prop) (i3 : Int32) (μ : fw_M) (Q : Int32 → fw_M → Prop) : Prop :=
  (if (4 : Int32) < i3 then
  (Q (-3 : Int32) μ)
  else
  ((pc_X0_acquits r0 i1 i3 (0 : Int32) (0 : Int32) μ (fun μ3 =>
   (if (m_I μ3 r0 13) = (2147483647 : Int32) then
   ((∀ i3_12 : Int32, i3_12 = i3 + (1 : Int32) →
    k44 i3_12 μ3))
   else
   ((if i2 = (-1 : Int32) then
    (Q i3 μ3)
    else
    ((if i2 = (-2 : Int32) then
     (Q (m_I μ3 r0 13) μ3)
     else
     ((if i3 ≤ i2 then
      (Q (-3 : Int32) μ3)
      else
      ((m_K μ3 (m_P μ3 r0 11) = 100 ∧ (vp_in i2 (m_N μ3 (m_P μ3 r0 11)) ∧ Q (m_I μ3 (m_P μ3 r0 11) i2.toNatClampNeg) μ3))))))))))))))
def p_X0_acquitted_L44 (r0 : Nat) (i1 : Int32) (i2 : Int32) (i3 : Int32) (μ : fw_M) (Q : Int32 → fw_M → Prop) : Prop := fw_lp (fun (k : Int32 × fw_M → Prop) (a : Int32 × fw_M) => p_X0_acquitted_L44b r0 i1 i2 (fun i3 μ => k (i3, μ)) a.1 a.2 Q) (i3, μ)
theorem r_X0_acquitted_L44 {r0 : Nat} {i1 : Int32} {i2 : Int32} {Q : Int32 → fw_M → Prop} (I : Int32 → fw_M → Prop) (v : Int32 → fw_M → Nat) (hs : ∀ (k : Int32 → fw_M → Prop) (i3 : Int32) (μ : fw_M), I i3 μ → (∀ (i3' : Int32) (ν : fw_M), I i3' ν → v i3' ν < v i3 μ → k i3' ν) → p_X0_acquitted_L44b r0 i1 i2 k i3 μ Q) (i3 : Int32) (μ : fw_M) (h : I i3 μ) : p_X0_acquitted_L44 r0 i1 i2 i3 μ Q :=
  fw_lp_in (A := Int32 × fw_M) (fun a => I a.1 a.2) (fun a => v a.1 a.2) (fun k a ha hk => hs (fun i3 μ => k (i3, μ)) a.1 a.2 ha (fun i3' ν hb hlt => hk (i3', ν) hb hlt)) (i3, μ) h
set_option maxHeartbeats 4000000 in
theorem w_X0_acquitted_L44b {g : fw_G} {f bc bs : Nat} {r0 : Nat} {i1 : Int32} {i2 : Int32} {k44 : Int32 → fw_M → Prop} {i3 : Int32} {μ : fw_M} {Q : Int32 → fw_M → Prop} (hf : 826 ≤ f) (hk44 : ∀ {i3 : Int32} {μ : fw_M}, m_K μ r0 = 1 → k44 i3 μ → fw_V g K_X0_acquitted f bc bs 44 [(0, fw_rv g r0), (1, Value.int i1), (2, Value.int i2), (3, Value.int i3)] [] μ (fw_Qi Q) fw_nX) (hx : m_K μ r0 = 1) (h : p_X0_acquitted_L44b r0 i1 i2 k44 i3 μ Q) : fw_V g K_X0_acquitted f bc bs 44 [(0, fw_rv g r0), (1, Value.int i1), (2, Value.int i2), (3, Value.int i3)] [] μ (fw_Qi Q) fw_nX := by
  unfold p_X0_acquitted_L44b at h
  refine fw_iload_n dX0_acquitted_44 rfl rfl ?_
  refine fw_iconst (v := 4) dX0_acquitted_45 (by decide) ?_
  refine fw_icmp_gt (tgt := 114) dX0_acquitted_46 (by decide) (fun c1 => ?_) (fun c1 => ?_)
  · have h := fw_it h c1
    refine fw_bipush (v := -3) dX0_acquitted_114 (by decide) ?_
    exact fw_ireturn dX0_acquitted_116 rfl rfl ⟨_, rfl, h⟩
  · have h := fw_if h c1
    refine fw_aload_n dX0_acquitted_49 rfl rfl ?_
    refine fw_iload_n dX0_acquitted_50 rfl rfl ?_
    refine fw_iload_n dX0_acquitted_51 rfl rfl ?_
    refine fw_iconst (v := 0) dX0_acquitted_52 (by decide) ?_
    refine fw_iconst (v := 0) dX0_acquitted_53 (by decide) ?_
    refine fw_callV4z (f1 := f - 1) cl_X0_246 rfl hx (by decide) (by omega) (fw_s4 (Nat.le_of_ble_eq_true rfl)) dX0_acquitted_54 (wc_X0_acquits (f := f - 1) (by omega) hx h) (fun _ _ h9 _ _ => h9.elim) (fun v9 μ3 q9 hs4 => ?_)
    obtain ⟨rfl, h⟩ := q9
    refine fw_tv ?_
    have hg5 := hs4.K hx (by decide)
    refine fw_aload_n dX0_acquitted_57 rfl rfl ?_
    refine fw_getfI fl_X0_243 rfl hg5 dX0_acquitted_58 ?_
    refine fw_ldc q926 dX0_acquitted_61 ?_
    refine fw_icmp_ne (tgt := 69) dX0_acquitted_63 (by decide) (fun c6 => ?_) (fun c6 => ?_)
    · have h := fw_if h c6
      refine fw_iload_n dX0_acquitted_69 rfl rfl ?_
      refine fw_iconst (v := -1) dX0_acquitted_70 (by decide) ?_
      refine fw_icmp_ne (tgt := 78) dX0_acquitted_71 (by decide) (fun c7 => ?_) (fun c7 => ?_)
      · have h := fw_if h c7
        refine fw_iload_n dX0_acquitted_78 rfl rfl ?_
        refine fw_bipush (v := -2) dX0_acquitted_79 (by decide) ?_
        refine fw_icmp_ne (tgt := 91) dX0_acquitted_81 (by decide) (fun c8 => ?_) (fun c8 => ?_)
        · have h := fw_if h c8
          refine fw_iload_n dX0_acquitted_91 rfl rfl ?_
          refine fw_iload_n dX0_acquitted_92 rfl rfl ?_
          refine fw_icmp_ge (tgt := 105) dX0_acquitted_93 (by decide) (fun c9 => ?_) (fun c9 => ?_)
          · have h := fw_it h c9
            refine fw_bipush (v := -3) dX0_acquitted_105 (by decide) ?_
            exact fw_ireturn dX0_acquitted_107 rfl rfl ⟨_, rfl, h⟩
          · have h := fw_if h c9
            refine fw_aload_n dX0_acquitted_96 rfl rfl ?_
            refine fw_getfP fl_X0_57 rfl hg5 dX0_acquitted_97 ?_
            refine fw_iload_n dX0_acquitted_100 rfl rfl ?_
            obtain ⟨hg10, h⟩ := h
            obtain ⟨hc11, h⟩ := h
            refine fw_iald hg10 hc11 dX0_acquitted_101 ?_
            refine fw_goto (tgt := 107) dX0_acquitted_102 (by decide) ?_
            exact fw_ireturn dX0_acquitted_107 rfl rfl ⟨_, rfl, h⟩
        · have h := fw_it h c8
          refine fw_aload_n dX0_acquitted_84 rfl rfl ?_
          refine fw_getfI fl_X0_243 rfl hg5 dX0_acquitted_85 ?_
          refine fw_goto (tgt := 107) dX0_acquitted_88 (by decide) ?_
          exact fw_ireturn dX0_acquitted_107 rfl rfl ⟨_, rfl, h⟩
      · have h := fw_it h c7
        refine fw_iload_n dX0_acquitted_74 rfl rfl ?_
        refine fw_goto (tgt := 107) dX0_acquitted_75 (by decide) ?_
        exact fw_ireturn dX0_acquitted_107 rfl rfl ⟨_, rfl, h⟩
    · have h := fw_it h c6
      refine fw_goto (tgt := 108) dX0_acquitted_66 (by decide) ?_
      obtain ⟨i3_12, e13⟩ : ∃ y : Int32, y = i3 + (1 : Int32) := ⟨_, rfl⟩
      have h := h i3_12 e13
      refine fw_iincN (k := 3) (v := i3_12) (Ls' := [(3, Value.int i3_12), (2, Value.int i2), (0, fw_rv g r0), (1, Value.int i1)]) [0, 1] dX0_acquitted_108 rfl (by rw [e13]; rfl) (by decide) rfl rfl rfl rfl rfl ?_
      refine fw_goto (tgt := 44) dX0_acquitted_111 (by decide) ?_
      refine fw_ls [2, 3, 1, 0] rfl ?_
      exact hk44 hg5 h
theorem w_X0_acquitted_L44 {g : fw_G} {f bc bs : Nat} {r0 : Nat} {i1 : Int32} {i2 : Int32} {i3 : Int32} {μ : fw_M} {Q : Int32 → fw_M → Prop} (hf : 826 ≤ f) (hx : m_K μ r0 = 1) (h : p_X0_acquitted_L44 r0 i1 i2 i3 μ Q) : fw_V g K_X0_acquitted f bc bs 44 [(0, fw_rv g r0), (1, Value.int i1), (2, Value.int i2), (3, Value.int i3)] [] μ (fw_Qi Q) fw_nX := by
  have key := fw_lp_out (R := fun (a : Int32 × fw_M) => m_K a.2 r0 = 1 → fw_V g K_X0_acquitted f bc bs 44 [(0, fw_rv g r0), (1, Value.int i1), (2, Value.int i2), (3, Value.int a.1)] [] a.2 (fw_Qi Q) fw_nX) (fun k hk9 a ha hx2 => w_X0_acquitted_L44b hf (fun {i3} {μ} hx3 h3 => hk9 (i3, μ) h3 hx3) hx2 ha) h
  exact key hx
def p_X0_acquitted (r0 : Nat) (i1 : Int32) (i2 : Int32) (μ : fw_M) (Q : Int32 → fw_M → Prop) : Prop :=
  (p_X0_isSide i1 μ (fun v1 μ2 =>
  (if v1 = 0 then
  (Q (-3 : Int32) μ2)
  else
  ((if (-2 : Int32) ≤ i2 then
   ((m_K μ2 (m_P μ2 r0 0) = 2 ∧ (m_K μ2 (m_P μ2 r0 9) = 103 ∧ (vp_in (0 : Int32) (m_N μ2 (m_P μ2 r0 9)) ∧ (m_K μ2 (m_P μ2 (m_P μ2 r0 0) 9) = 100 ∧ (m_K μ2 (m_P μ2 (m_P μ2 r0 9) (0 : Int32).toNatClampNeg) = 100 ∧ (¬ (0 : Int32) < 0 ∧ (¬ (0 : Int32) < 0 ∧ (¬ (25 : Int32) < 0 ∧ ((0 : Int32).toNatClampNeg + (25 : Int32).toNatClampNeg ≤ m_N μ2 (m_P μ2 (m_P μ2 r0 0) 9) ∧ ((0 : Int32).toNatClampNeg + (25 : Int32).toNatClampNeg ≤ m_N μ2 (m_P μ2 (m_P μ2 r0 9) (0 : Int32).toNatClampNeg) ∧ (∀ μ17, μ17 = m_cp μ2 (m_P μ2 (m_P μ2 r0 0) 9) (0 : Int32).toNatClampNeg (m_P μ2 (m_P μ2 r0 9) (0 : Int32).toNatClampNeg) (0 : Int32).toNatClampNeg (25 : Int32).toNatClampNeg →
    (∀ μ18, μ18 = m_uI μ17 r0 13 (2147483647 : Int32) →
    p_X0_acquitted_L44 r0 i1 i2 (0 : Int32) μ18 Q)))))))))))))
   else
   (Q (-3 : Int32) μ2))))))
set_option maxHeartbeats 4000000 in
theorem w_X0_acquitted {g : fw_G} {f bc bs : Nat} {r0 : Nat} {i1 : Int32} {i2 : Int32} {μ : fw_M} {Q : Int32 → fw_M → Prop} (hf : 826 ≤ f) (hx : m_K μ r0 = 1) (h : p_X0_acquitted r0 i1 i2 μ Q) : fw_C g f bc bs yX0_acquitted (ws_ yX0_acquitted cX0_acquitted 4 (some .int)) [fw_rv g r0, Value.int i1, Value.int i2] μ (fw_Qi Q) fw_nX := by
  unfold p_X0_acquitted at h
  refine fw_intro' (Ls := [(0, fw_rv g r0), (1, Value.int i1), (2, Value.int i2)]) (by decide +kernel) (by simp [lg_sl, fw_cat, fw_ci, fw_clo]) (by simp [lv_args, fw_cat, fw_ci, fw_clo]) ?_
  show fw_V g K_X0_acquitted f bc bs 0 [(0, fw_rv g r0), (1, Value.int i1), (2, Value.int i2)] [] μ (fw_Qi Q) fw_nX
  refine fw_iload_n dX0_acquitted_0 rfl rfl ?_
  refine fw_callS1z (f1 := f - 1) cl_X0_70 (by decide) (by omega) (fw_s4 (Nat.le_of_ble_eq_true rfl)) dX0_acquitted_1 (w_X0_isSide (f := f - 1) (by omega) h) (fun _ _ h9 _ _ => h9.elim) (fun v9 μ2 q9 hs3 => ?_)
  obtain ⟨v1, rfl, h⟩ := q9
  refine fw_ti ?_
  have hg4 := hs3.K hx (by decide)
  refine fw_if_eq (tgt := 13) dX0_acquitted_4 (by decide) (fun c5 => ?_) (fun c5 => ?_)
  · have h := fw_it h c5
    refine fw_bipush (v := -3) dX0_acquitted_13 (by decide) ?_
    exact fw_ireturn dX0_acquitted_15 rfl rfl ⟨_, rfl, h⟩
  · have h := fw_if h c5
    refine fw_iload_n dX0_acquitted_7 rfl rfl ?_
    refine fw_bipush (v := -2) dX0_acquitted_8 (by decide) ?_
    refine fw_icmp_ge (tgt := 16) dX0_acquitted_10 (by decide) (fun c6 => ?_) (fun c6 => ?_)
    · have h := fw_it h c6
      refine fw_aload_n dX0_acquitted_16 rfl rfl ?_
      refine fw_getfP fl_X0_12 rfl hg4 dX0_acquitted_17 ?_
      obtain ⟨hg7, h⟩ := h
      refine fw_getfP fl_X0_77 rfl hg7 dX0_acquitted_20 ?_
      refine fw_iconst (v := 0) dX0_acquitted_23 (by decide) ?_
      refine fw_aload_n dX0_acquitted_24 rfl rfl ?_
      refine fw_getfP fl_X0_50 rfl hg4 dX0_acquitted_25 ?_
      refine fw_iconst (v := 0) dX0_acquitted_28 (by decide) ?_
      obtain ⟨hg8, h⟩ := h
      obtain ⟨hc9, h⟩ := h
      refine fw_aald hg8 rfl rfl hc9 dX0_acquitted_29 ?_
      refine fw_iconst (v := 0) dX0_acquitted_30 (by decide) ?_
      refine fw_bipush (v := 25) dX0_acquitted_31 (by decide) ?_
      obtain ⟨hg10, h⟩ := h
      obtain ⟨hg11, h⟩ := h
      obtain ⟨hc12, h⟩ := h
      obtain ⟨hc13, h⟩ := h
      obtain ⟨hc14, h⟩ := h
      obtain ⟨hc15, h⟩ := h
      obtain ⟨hc16, h⟩ := h
      refine fw_copy q925 q311 q310 q80 hg10 hg11 hc12 hc13 hc14 hc15 hc16 (by omega) (fw_s4 (Nat.le_of_ble_eq_true rfl)) dX0_acquitted_33 ?_
      have h := h _ rfl
      refine fw_aload_n dX0_acquitted_36 rfl rfl ?_
      refine fw_ldc q926 dX0_acquitted_37 ?_
      refine fw_putfI fl_X0_243 (fun q hq => Or.inl (by cases hq; rfl)) rfl hg4 dX0_acquitted_39 ?_
      have h := h _ rfl
      refine fw_iconst (v := 0) dX0_acquitted_42 (by decide) ?_
      refine fw_istore_nN (Ls' := [(3, Value.int (0 : Int32)), (2, Value.int i2), (0, fw_rv g r0), (1, Value.int i1)]) [0, 1] dX0_acquitted_43 rfl (by decide) rfl rfl rfl rfl rfl ?_
      refine fw_ls [2, 3, 1, 0] rfl ?_
      exact w_X0_acquitted_L44 hf hg4 h
    · have h := fw_if h c6
      refine fw_bipush (v := -3) dX0_acquitted_13 (by decide) ?_
      exact fw_ireturn dX0_acquitted_15 rfl rfl ⟨_, rfl, h⟩
abbrev K_X0_leaves : fw_Kt := (RX0, "leaves", cX0_leaves, 7, some .boolean, [])
def p_X0_leaves_L27b (r0 : Nat) (i1 : Int32) (i2 : Int32) (i3 : Int32) (i4 : Int32) (r5 : Nat) (k27 : Int32 → fw_M → Prop) (i6 : Int32) (μ : fw_M) (Q : Int32 → fw_M → Prop) : Prop :=
  (m_K μ (m_P μ r0 0) = 2 ∧ (if (m_I μ (m_P μ r0 0) 0) ≤ i6 then
  ((m_K μ r5 = 100 ∧ (vp_in i3 (m_N μ r5) ∧ (if (m_I μ r5 i3.toNatClampNeg) = i4 then
   (Q (1 : Int32) μ)
   else
   (Q (0 : Int32) μ)))))
  else
  ((if ((i1 >>> (i6 &&& 31)) &&& (1 : Int32)) = (1 : Int32) then
   ((p_X0_eat r0 r5 i6 i2 μ (fun v9 μ10 =>
    (if v9 = 0 then
    (Q (0 : Int32) μ10)
    else
    ((∀ i6_14 : Int32, i6_14 = i6 + (1 : Int32) →
     k27 i6_14 μ10))))))
   else
   ((∀ i6_7 : Int32, i6_7 = i6 + (1 : Int32) →
    k27 i6_7 μ))))))
def p_X0_leaves_L27 (r0 : Nat) (i1 : Int32) (i2 : Int32) (i3 : Int32) (i4 : Int32) (r5 : Nat) (i6 : Int32) (μ : fw_M) (Q : Int32 → fw_M → Prop) : Prop := fw_lp (fun (k : Int32 × fw_M → Prop) (a : Int32 × fw_M) => p_X0_leaves_L27b r0 i1 i2 i3 i4 r5 (fun i6 μ => k (i6, μ)) a.1 a.2 Q) (i6, μ)
theorem r_X0_leaves_L27 {r0 : Nat} {i1 : Int32} {i2 : Int32} {i3 : Int32} {i4 : Int32} {r5 : Nat} {Q : Int32 → fw_M → Prop} (I : Int32 → fw_M → Prop) (v : Int32 → fw_M → Nat) (hs : ∀ (k : Int32 → fw_M → Prop) (i6 : Int32) (μ : fw_M), I i6 μ → (∀ (i6' : Int32) (ν : fw_M), I i6' ν → v i6' ν < v i6 μ → k i6' ν) → p_X0_leaves_L27b r0 i1 i2 i3 i4 r5 k i6 μ Q) (i6 : Int32) (μ : fw_M) (h : I i6 μ) : p_X0_leaves_L27 r0 i1 i2 i3 i4 r5 i6 μ Q :=
  fw_lp_in (A := Int32 × fw_M) (fun a => I a.1 a.2) (fun a => v a.1 a.2) (fun k a ha hk => hs (fun i6 μ => k (i6, μ)) a.1 a.2 ha (fun i6' ν hb hlt => hk (i6', ν) hb hlt)) (i6, μ) h
set_option maxHeartbeats 4000000 in
theorem w_X0_leaves_L27b {g : fw_G} {f bc bs : Nat} {r0 : Nat} {i1 : Int32} {i2 : Int32} {i3 : Int32} {i4 : Int32} {r5 : Nat} {k27 : Int32 → fw_M → Prop} {i6 : Int32} {μ : fw_M} {Q : Int32 → fw_M → Prop} (hf : 407 ≤ f) (hk27 : ∀ {i6 : Int32} {μ : fw_M}, m_K μ r0 = 1 → k27 i6 μ → fw_V g K_X0_leaves f bc bs 27 [(0, fw_rv g r0), (1, Value.int i1), (2, Value.int i2), (3, Value.int i3), (4, Value.int i4), (5, fw_rv g r5), (6, Value.int i6)] [] μ (fw_Qi Q) fw_nX) (hx : m_K μ r0 = 1) (h : p_X0_leaves_L27b r0 i1 i2 i3 i4 r5 k27 i6 μ Q) : fw_V g K_X0_leaves f bc bs 27 [(0, fw_rv g r0), (1, Value.int i1), (2, Value.int i2), (3, Value.int i3), (4, Value.int i4), (5, fw_rv g r5), (6, Value.int i6)] [] μ (fw_Qi Q) fw_nX := by
  unfold p_X0_leaves_L27b at h
  refine fw_iload dX0_leaves_27 rfl ?_
  refine fw_aload_n dX0_leaves_29 rfl rfl ?_
  refine fw_getfP fl_X0_12 rfl hx dX0_leaves_30 ?_
  obtain ⟨hg1, h⟩ := h
  refine fw_getfI fl_X0_63 rfl hg1 dX0_leaves_33 ?_
  refine fw_icmp_ge (tgt := 69) dX0_leaves_36 (by decide) (fun c2 => ?_) (fun c2 => ?_)
  · have h := fw_it h c2
    refine fw_aload dX0_leaves_69 rfl ?_
    refine fw_iload_n dX0_leaves_71 rfl rfl ?_
    obtain ⟨hg3, h⟩ := h
    obtain ⟨hc4, h⟩ := h
    refine fw_iald hg3 hc4 dX0_leaves_72 ?_
    refine fw_iload dX0_leaves_73 rfl ?_
    refine fw_icmp_ne (tgt := 82) dX0_leaves_75 (by decide) (fun c5 => ?_) (fun c5 => ?_)
    · have h := fw_if h c5
      refine fw_iconst (v := 0) dX0_leaves_82 (by decide) ?_
      exact fw_ireturn dX0_leaves_83 rfl (by decide +kernel) ⟨_, rfl, h⟩
    · have h := fw_it h c5
      refine fw_iconst (v := 1) dX0_leaves_78 (by decide) ?_
      refine fw_goto (tgt := 83) dX0_leaves_79 (by decide) ?_
      exact fw_ireturn dX0_leaves_83 rfl (by decide +kernel) ⟨_, rfl, h⟩
  · have h := fw_if h c2
    refine fw_iload_n dX0_leaves_39 rfl rfl ?_
    refine fw_iload dX0_leaves_40 rfl ?_
    refine fw_ishr dX0_leaves_42 ?_
    refine fw_iconst (v := 1) dX0_leaves_43 (by decide) ?_
    refine fw_iand dX0_leaves_44 ?_
    refine fw_iconst (v := 1) dX0_leaves_45 (by decide) ?_
    refine fw_icmp_ne (tgt := 63) dX0_leaves_46 (by decide) (fun c6 => ?_) (fun c6 => ?_)
    · have h := fw_if h c6
      obtain ⟨i6_7, e8⟩ : ∃ y : Int32, y = i6 + (1 : Int32) := ⟨_, rfl⟩
      have h := h i6_7 e8
      refine fw_iincN (k := 6) (v := i6_7) (Ls' := [(6, Value.int i6_7), (5, fw_rv g r5), (0, fw_rv g r0), (1, Value.int i1), (2, Value.int i2), (3, Value.int i3), (4, Value.int i4)]) [0, 1, 2, 3, 4] dX0_leaves_63 rfl (by rw [e8]; rfl) (by decide) rfl rfl rfl (fw_cat _) rfl ?_
      refine fw_goto (tgt := 27) dX0_leaves_66 (by decide) ?_
      refine fw_ls [2, 3, 4, 5, 6, 1, 0] rfl ?_
      exact hk27 hx h
    · have h := fw_it h c6
      refine fw_aload_n dX0_leaves_49 rfl rfl ?_
      refine fw_aload dX0_leaves_50 rfl ?_
      refine fw_iload dX0_leaves_52 rfl ?_
      refine fw_iload_n dX0_leaves_54 rfl rfl ?_
      refine fw_callV3z (f1 := f - 1) cl_X0_159 rfl hx (by decide) (by omega) (fw_s4 (Nat.le_of_ble_eq_true rfl)) dX0_leaves_55 (w_X0_eat (f := f - 1) (by omega) hx h) (fun _ _ h9 _ _ => h9.elim) (fun v9 μ10 q9 hs11 => ?_)
      obtain ⟨v9, rfl, h⟩ := q9
      refine fw_ti ?_
      have hg12 := hs11.K hx (by decide)
      refine fw_if_ne (tgt := 63) dX0_leaves_58 (by decide) (fun c13 => ?_) (fun c13 => ?_)
      · have h := fw_if h c13
        obtain ⟨i6_14, e15⟩ : ∃ y : Int32, y = i6 + (1 : Int32) := ⟨_, rfl⟩
        have h := h i6_14 e15
        refine fw_iincN (k := 6) (v := i6_14) (Ls' := [(6, Value.int i6_14), (5, fw_rv g r5), (0, fw_rv g r0), (1, Value.int i1), (2, Value.int i2), (3, Value.int i3), (4, Value.int i4)]) [0, 1, 2, 3, 4] dX0_leaves_63 rfl (by rw [e15]; rfl) (by decide) rfl rfl rfl (fw_cat _) rfl ?_
        refine fw_goto (tgt := 27) dX0_leaves_66 (by decide) ?_
        refine fw_ls [2, 3, 4, 5, 6, 1, 0] rfl ?_
        exact hk27 hg12 h
      · have h := fw_it h c13
        refine fw_iconst (v := 0) dX0_leaves_61 (by decide) ?_
        exact fw_ireturn dX0_leaves_62 rfl (by decide +kernel) ⟨_, rfl, h⟩
theorem w_X0_leaves_L27 {g : fw_G} {f bc bs : Nat} {r0 : Nat} {i1 : Int32} {i2 : Int32} {i3 : Int32} {i4 : Int32} {r5 : Nat} {i6 : Int32} {μ : fw_M} {Q : Int32 → fw_M → Prop} (hf : 407 ≤ f) (hx : m_K μ r0 = 1) (h : p_X0_leaves_L27 r0 i1 i2 i3 i4 r5 i6 μ Q) : fw_V g K_X0_leaves f bc bs 27 [(0, fw_rv g r0), (1, Value.int i1), (2, Value.int i2), (3, Value.int i3), (4, Value.int i4), (5, fw_rv g r5), (6, Value.int i6)] [] μ (fw_Qi Q) fw_nX := by
  have key := fw_lp_out (R := fun (a : Int32 × fw_M) => m_K a.2 r0 = 1 → fw_V g K_X0_leaves f bc bs 27 [(0, fw_rv g r0), (1, Value.int i1), (2, Value.int i2), (3, Value.int i3), (4, Value.int i4), (5, fw_rv g r5), (6, Value.int a.1)] [] a.2 (fw_Qi Q) fw_nX) (fun k hk9 a ha hx2 => w_X0_leaves_L27b hf (fun {i6} {μ} hx3 h3 => hk9 (i6, μ) h3 hx3) hx2 ha) h
  exact key hx
def p_X0_leaves (r0 : Nat) (i1 : Int32) (i2 : Int32) (i3 : Int32) (i4 : Int32) (μ : fw_M) (Q : Int32 → fw_M → Prop) : Prop :=
  (m_K μ (m_P μ r0 9) = 103 ∧ (vp_in (1 : Int32) (m_N μ (m_P μ r0 9)) ∧ (∀ r5_3 : Nat, r5_3 = (m_P μ (m_P μ r0 9) (1 : Int32).toNatClampNeg) →
  (m_K μ (m_P μ r0 0) = 2 ∧ (m_K μ (m_P μ (m_P μ r0 0) 9) = 100 ∧ (m_K μ r5_3 = 100 ∧ (¬ (0 : Int32) < 0 ∧ (¬ (0 : Int32) < 0 ∧ (¬ (25 : Int32) < 0 ∧ ((0 : Int32).toNatClampNeg + (25 : Int32).toNatClampNeg ≤ m_N μ (m_P μ (m_P μ r0 0) 9) ∧ ((0 : Int32).toNatClampNeg + (25 : Int32).toNatClampNeg ≤ m_N μ r5_3 ∧ (∀ μ13, μ13 = m_cp μ (m_P μ (m_P μ r0 0) 9) (0 : Int32).toNatClampNeg r5_3 (0 : Int32).toNatClampNeg (25 : Int32).toNatClampNeg →
  p_X0_leaves_L27 r0 i1 i2 i3 i4 r5_3 (0 : Int32) μ13 Q))))))))))))
set_option maxHeartbeats 4000000 in
theorem w_X0_leaves {g : fw_G} {f bc bs : Nat} {r0 : Nat} {i1 : Int32} {i2 : Int32} {i3 : Int32} {i4 : Int32} {μ : fw_M} {Q : Int32 → fw_M → Prop} (hf : 407 ≤ f) (hx : m_K μ r0 = 1) (h : p_X0_leaves r0 i1 i2 i3 i4 μ Q) : fw_C g f bc bs yX0_leaves (ws_ yX0_leaves cX0_leaves 7 (some .boolean)) [fw_rv g r0, Value.int i1, Value.int i2, Value.int i3, Value.int i4] μ (fw_Qi Q) fw_nX := by
  unfold p_X0_leaves at h
  refine fw_intro' (Ls := [(0, fw_rv g r0), (1, Value.int i1), (2, Value.int i2), (3, Value.int i3), (4, Value.int i4)]) (by decide +kernel) (by simp [lg_sl, fw_cat, fw_ci, fw_clo]) (by simp [lv_args, fw_cat, fw_ci, fw_clo]) ?_
  show fw_V g K_X0_leaves f bc bs 0 [(0, fw_rv g r0), (1, Value.int i1), (2, Value.int i2), (3, Value.int i3), (4, Value.int i4)] [] μ (fw_Qi Q) fw_nX
  refine fw_aload_n dX0_leaves_0 rfl rfl ?_
  refine fw_getfP fl_X0_50 rfl hx dX0_leaves_1 ?_
  refine fw_iconst (v := 1) dX0_leaves_4 (by decide) ?_
  obtain ⟨hg1, h⟩ := h
  obtain ⟨hc2, h⟩ := h
  refine fw_aald hg1 rfl rfl hc2 dX0_leaves_5 ?_
  refine fw_topr (fun r5_3 e4 => ?_)
  have h := h r5_3 e4
  refine fw_astoreN (Ls' := [(5, fw_rv g r5_3), (4, Value.int i4), (0, fw_rv g r0), (1, Value.int i1), (2, Value.int i2), (3, Value.int i3)]) [0, 1, 2, 3] dX0_leaves_6 (by decide) rfl rfl rfl rfl rfl ?_
  refine fw_aload_n dX0_leaves_8 rfl rfl ?_
  refine fw_getfP fl_X0_12 rfl hx dX0_leaves_9 ?_
  obtain ⟨hg5, h⟩ := h
  refine fw_getfP fl_X0_77 rfl hg5 dX0_leaves_12 ?_
  refine fw_iconst (v := 0) dX0_leaves_15 (by decide) ?_
  refine fw_aload dX0_leaves_16 rfl ?_
  refine fw_iconst (v := 0) dX0_leaves_18 (by decide) ?_
  refine fw_bipush (v := 25) dX0_leaves_19 (by decide) ?_
  obtain ⟨hg6, h⟩ := h
  obtain ⟨hg7, h⟩ := h
  obtain ⟨hc8, h⟩ := h
  obtain ⟨hc9, h⟩ := h
  obtain ⟨hc10, h⟩ := h
  obtain ⟨hc11, h⟩ := h
  obtain ⟨hc12, h⟩ := h
  refine fw_copy q925 q311 q310 q80 hg6 hg7 hc8 hc9 hc10 hc11 hc12 (by omega) (fw_s4 (Nat.le_of_ble_eq_true rfl)) dX0_leaves_21 ?_
  have h := h _ rfl
  refine fw_iconst (v := 0) dX0_leaves_24 (by decide) ?_
  refine fw_istoreN (Ls' := [(6, Value.int (0 : Int32)), (5, fw_rv g r5_3), (4, Value.int i4), (0, fw_rv g r0), (1, Value.int i1), (2, Value.int i2), (3, Value.int i3)]) [1, 2, 3, 4, 5] dX0_leaves_25 (by decide) rfl rfl rfl (fw_cat _) rfl ?_
  refine fw_ls [3, 4, 5, 6, 2, 1, 0] rfl ?_
  exact w_X0_leaves_L27 hf hx h
abbrev K_X0_sets : fw_Kt := (RX0, "sets", cX0_sets, 7, some .int, [])
def p_X0_sets_L39b (r0 : Nat) (i1 : Int32) (i2 : Int32) (i3 : Int32) (i4 : Int32) (k39 : Int32 → Int32 → fw_M → Prop) (i5 : Int32) (i6 : Int32) (μ : fw_M) (Q : Int32 → fw_M → Prop) : Prop :=
  (m_K μ (m_P μ r0 0) = 2 ∧ (if ((1 : Int32) <<< ((m_I μ (m_P μ r0 0) 0) &&& 31)) ≤ i6 then
  ((if i4 = (-1 : Int32) then
   (Q i5 μ)
   else
   (Q (-1 : Int32) μ)))
  else
  ((p_X0_leaves r0 i6 i2 (((0 : Int32) + ((2 : Int32) * i1)) + i2) i3 μ (fun v4 μ5 =>
   (if v4 = 0 then
   ((∀ i6_14 : Int32, i6_14 = i6 + (1 : Int32) →
    k39 i5 i6_14 μ5))
   else
   ((if i5 = i4 then
    (Q i6 μ5)
    else
    ((∀ i5_10 : Int32, i5_10 = i5 + (1 : Int32) →
     (∀ i6_12 : Int32, i6_12 = i6 + (1 : Int32) →
     k39 i5_10 i6_12 μ5)))))))))))
def p_X0_sets_L39 (r0 : Nat) (i1 : Int32) (i2 : Int32) (i3 : Int32) (i4 : Int32) (i5 : Int32) (i6 : Int32) (μ : fw_M) (Q : Int32 → fw_M → Prop) : Prop := fw_lp (fun (k : Int32 × Int32 × fw_M → Prop) (a : Int32 × Int32 × fw_M) => p_X0_sets_L39b r0 i1 i2 i3 i4 (fun i5 i6 μ => k (i5, i6, μ)) a.1 a.2.1 a.2.2 Q) (i5, i6, μ)
theorem r_X0_sets_L39 {r0 : Nat} {i1 : Int32} {i2 : Int32} {i3 : Int32} {i4 : Int32} {Q : Int32 → fw_M → Prop} (I : Int32 → Int32 → fw_M → Prop) (v : Int32 → Int32 → fw_M → Nat) (hs : ∀ (k : Int32 → Int32 → fw_M → Prop) (i5 : Int32) (i6 : Int32) (μ : fw_M), I i5 i6 μ → (∀ (i5' : Int32) (i6' : Int32) (ν : fw_M), I i5' i6' ν → v i5' i6' ν < v i5 i6 μ → k i5' i6' ν) → p_X0_sets_L39b r0 i1 i2 i3 i4 k i5 i6 μ Q) (i5 : Int32) (i6 : Int32) (μ : fw_M) (h : I i5 i6 μ) : p_X0_sets_L39 r0 i1 i2 i3 i4 i5 i6 μ Q :=
  fw_lp_in (A := Int32 × Int32 × fw_M) (fun a => I a.1 a.2.1 a.2.2) (fun a => v a.1 a.2.1 a.2.2) (fun k a ha hk => hs (fun i5 i6 μ => k (i5, i6, μ)) a.1 a.2.1 a.2.2 ha (fun i5' i6' ν hb hlt => hk (i5', i6', ν) hb hlt)) (i5, i6, μ) h
set_option maxHeartbeats 4000000 in
theorem w_X0_sets_L39b {g : fw_G} {f bc bs : Nat} {r0 : Nat} {i1 : Int32} {i2 : Int32} {i3 : Int32} {i4 : Int32} {k39 : Int32 → Int32 → fw_M → Prop} {i5 : Int32} {i6 : Int32} {μ : fw_M} {Q : Int32 → fw_M → Prop} (hf : 408 ≤ f) (hk39 : ∀ {i5 : Int32} {i6 : Int32} {μ : fw_M}, m_K μ r0 = 1 → k39 i5 i6 μ → fw_V g K_X0_sets f bc bs 39 [(0, fw_rv g r0), (1, Value.int i1), (2, Value.int i2), (3, Value.int i3), (4, Value.int i4), (5, Value.int i5), (6, Value.int i6)] [] μ (fw_Qi Q) fw_nX) (hx : m_K μ r0 = 1) (h : p_X0_sets_L39b r0 i1 i2 i3 i4 k39 i5 i6 μ Q) : fw_V g K_X0_sets f bc bs 39 [(0, fw_rv g r0), (1, Value.int i1), (2, Value.int i2), (3, Value.int i3), (4, Value.int i4), (5, Value.int i5), (6, Value.int i6)] [] μ (fw_Qi Q) fw_nX := by
  unfold p_X0_sets_L39b at h
  refine fw_iload dX0_sets_39 rfl ?_
  refine fw_iconst (v := 1) dX0_sets_41 (by decide) ?_
  refine fw_aload_n dX0_sets_42 rfl rfl ?_
  refine fw_getfP fl_X0_12 rfl hx dX0_sets_43 ?_
  obtain ⟨hg1, h⟩ := h
  refine fw_getfI fl_X0_63 rfl hg1 dX0_sets_46 ?_
  refine fw_ishl dX0_sets_49 ?_
  refine fw_icmp_ge (tgt := 93) dX0_sets_50 (by decide) (fun c2 => ?_) (fun c2 => ?_)
  · have h := fw_it h c2
    refine fw_iload dX0_sets_93 rfl ?_
    refine fw_iconst (v := -1) dX0_sets_95 (by decide) ?_
    refine fw_icmp_ne (tgt := 104) dX0_sets_96 (by decide) (fun c3 => ?_) (fun c3 => ?_)
    · have h := fw_if h c3
      refine fw_iconst (v := -1) dX0_sets_104 (by decide) ?_
      exact fw_ireturn dX0_sets_105 rfl rfl ⟨_, rfl, h⟩
    · have h := fw_it h c3
      refine fw_iload dX0_sets_99 rfl ?_
      refine fw_goto (tgt := 105) dX0_sets_101 (by decide) ?_
      exact fw_ireturn dX0_sets_105 rfl rfl ⟨_, rfl, h⟩
  · have h := fw_if h c2
    refine fw_aload_n dX0_sets_53 rfl rfl ?_
    refine fw_iload dX0_sets_54 rfl ?_
    refine fw_iload_n dX0_sets_56 rfl rfl ?_
    refine fw_iconst (v := 0) dX0_sets_57 (by decide) ?_
    refine fw_iconst (v := 2) dX0_sets_58 (by decide) ?_
    refine fw_iload_n dX0_sets_59 rfl rfl ?_
    refine fw_imul dX0_sets_60 ?_
    refine fw_iadd dX0_sets_61 ?_
    refine fw_iload_n dX0_sets_62 rfl rfl ?_
    refine fw_iadd dX0_sets_63 ?_
    refine fw_iload_n dX0_sets_64 rfl rfl ?_
    refine fw_callV4z (f1 := f - 1) cl_X0_250 rfl hx (by decide) (by omega) (fw_s4 (Nat.le_of_ble_eq_true rfl)) dX0_sets_65 (w_X0_leaves (f := f - 1) (by omega) hx h) (fun _ _ h9 _ _ => h9.elim) (fun v9 μ5 q9 hs6 => ?_)
    obtain ⟨v4, rfl, h⟩ := q9
    refine fw_ti ?_
    have hg7 := hs6.K hx (by decide)
    refine fw_if_ne (tgt := 74) dX0_sets_68 (by decide) (fun c8 => ?_) (fun c8 => ?_)
    · have h := fw_if h c8
      refine fw_iload dX0_sets_74 rfl ?_
      refine fw_iload dX0_sets_76 rfl ?_
      refine fw_icmp_ne (tgt := 84) dX0_sets_78 (by decide) (fun c9 => ?_) (fun c9 => ?_)
      · have h := fw_if h c9
        obtain ⟨i5_10, e11⟩ : ∃ y : Int32, y = i5 + (1 : Int32) := ⟨_, rfl⟩
        have h := h i5_10 e11
        refine fw_iincN (k := 5) (v := i5_10) (Ls' := [(5, Value.int i5_10), (4, Value.int i4), (0, fw_rv g r0), (1, Value.int i1), (2, Value.int i2), (3, Value.int i3), (6, Value.int i6)]) [0, 1, 2, 3, 6] dX0_sets_84 rfl (by rw [e11]; rfl) (by decide) rfl rfl rfl rfl rfl ?_
        obtain ⟨i6_12, e13⟩ : ∃ y : Int32, y = i6 + (1 : Int32) := ⟨_, rfl⟩
        have h := h i6_12 e13
        refine fw_iincN (k := 6) (v := i6_12) (Ls' := [(6, Value.int i6_12), (5, Value.int i5_10), (4, Value.int i4), (0, fw_rv g r0), (1, Value.int i1), (2, Value.int i2), (3, Value.int i3)]) [1, 2, 3, 4, 5] dX0_sets_87 rfl (by rw [e13]; rfl) (by decide) rfl rfl rfl rfl rfl ?_
        refine fw_goto (tgt := 39) dX0_sets_90 (by decide) ?_
        refine fw_ls [3, 4, 5, 6, 2, 1, 0] rfl ?_
        exact hk39 hg7 h
      · have h := fw_it h c9
        refine fw_iload dX0_sets_81 rfl ?_
        exact fw_ireturn dX0_sets_83 rfl rfl ⟨_, rfl, h⟩
    · have h := fw_it h c8
      refine fw_goto (tgt := 87) dX0_sets_71 (by decide) ?_
      obtain ⟨i6_14, e15⟩ : ∃ y : Int32, y = i6 + (1 : Int32) := ⟨_, rfl⟩
      have h := h i6_14 e15
      refine fw_iincN (k := 6) (v := i6_14) (Ls' := [(6, Value.int i6_14), (5, Value.int i5), (0, fw_rv g r0), (1, Value.int i1), (2, Value.int i2), (3, Value.int i3), (4, Value.int i4)]) [0, 1, 2, 3, 4] dX0_sets_87 rfl (by rw [e15]; rfl) (by decide) rfl rfl rfl rfl rfl ?_
      refine fw_goto (tgt := 39) dX0_sets_90 (by decide) ?_
      refine fw_ls [2, 3, 4, 5, 6, 1, 0] rfl ?_
      exact hk39 hg7 h
theorem w_X0_sets_L39 {g : fw_G} {f bc bs : Nat} {r0 : Nat} {i1 : Int32} {i2 : Int32} {i3 : Int32} {i4 : Int32} {i5 : Int32} {i6 : Int32} {μ : fw_M} {Q : Int32 → fw_M → Prop} (hf : 408 ≤ f) (hx : m_K μ r0 = 1) (h : p_X0_sets_L39 r0 i1 i2 i3 i4 i5 i6 μ Q) : fw_V g K_X0_sets f bc bs 39 [(0, fw_rv g r0), (1, Value.int i1), (2, Value.int i2), (3, Value.int i3), (4, Value.int i4), (5, Value.int i5), (6, Value.int i6)] [] μ (fw_Qi Q) fw_nX := by
  have key := fw_lp_out (R := fun (a : Int32 × Int32 × fw_M) => m_K a.2.2 r0 = 1 → fw_V g K_X0_sets f bc bs 39 [(0, fw_rv g r0), (1, Value.int i1), (2, Value.int i2), (3, Value.int i3), (4, Value.int i4), (5, Value.int a.1), (6, Value.int a.2.1)] [] a.2.2 (fw_Qi Q) fw_nX) (fun k hk9 a ha hx2 => w_X0_sets_L39b hf (fun {i5 i6} {μ} hx3 h3 => hk9 (i5, i6, μ) h3 hx3) hx2 ha) h
  exact key hx
def p_X0_sets (r0 : Nat) (i1 : Int32) (i2 : Int32) (i3 : Int32) (i4 : Int32) (μ : fw_M) (Q : Int32 → fw_M → Prop) : Prop :=
  (p_X0_isSide i1 μ (fun v1 μ2 =>
  (if v1 = 0 then
  (Q (-1 : Int32) μ2)
  else
  ((p_X0_isKind i2 μ2 (fun v6 μ7 =>
   (if v6 = 0 then
   (Q (-1 : Int32) μ7)
   else
   ((p_X0_in i3 (0 : Int32) (999 : Int32) μ7 (fun v11 μ12 =>
    (if v11 = 0 then
    (Q (-1 : Int32) μ12)
    else
    ((if (-1 : Int32) ≤ i4 then
     (p_X0_sets_L39 r0 i1 i2 i3 i4 (0 : Int32) (0 : Int32) μ12 Q)
     else
     (Q (-1 : Int32) μ12))))))))))))))
set_option maxHeartbeats 4000000 in
theorem w_X0_sets {g : fw_G} {f bc bs : Nat} {r0 : Nat} {i1 : Int32} {i2 : Int32} {i3 : Int32} {i4 : Int32} {μ : fw_M} {Q : Int32 → fw_M → Prop} (hf : 408 ≤ f) (hx : m_K μ r0 = 1) (h : p_X0_sets r0 i1 i2 i3 i4 μ Q) : fw_C g f bc bs yX0_sets (ws_ yX0_sets cX0_sets 7 (some .int)) [fw_rv g r0, Value.int i1, Value.int i2, Value.int i3, Value.int i4] μ (fw_Qi Q) fw_nX := by
  unfold p_X0_sets at h
  refine fw_intro' (Ls := [(0, fw_rv g r0), (1, Value.int i1), (2, Value.int i2), (3, Value.int i3), (4, Value.int i4)]) (by decide +kernel) (by simp [lg_sl, fw_cat, fw_ci, fw_clo]) (by simp [lv_args, fw_cat, fw_ci, fw_clo]) ?_
  show fw_V g K_X0_sets f bc bs 0 [(0, fw_rv g r0), (1, Value.int i1), (2, Value.int i2), (3, Value.int i3), (4, Value.int i4)] [] μ (fw_Qi Q) fw_nX
  refine fw_iload_n dX0_sets_0 rfl rfl ?_
  refine fw_callS1z (f1 := f - 1) cl_X0_70 (by decide) (by omega) (fw_s4 (Nat.le_of_ble_eq_true rfl)) dX0_sets_1 (w_X0_isSide (f := f - 1) (by omega) h) (fun _ _ h9 _ _ => h9.elim) (fun v9 μ2 q9 hs3 => ?_)
  obtain ⟨v1, rfl, h⟩ := q9
  refine fw_ti ?_
  have hg4 := hs3.K hx (by decide)
  refine fw_if_eq (tgt := 31) dX0_sets_4 (by decide) (fun c5 => ?_) (fun c5 => ?_)
  · have h := fw_it h c5
    refine fw_iconst (v := -1) dX0_sets_31 (by decide) ?_
    exact fw_ireturn dX0_sets_32 rfl rfl ⟨_, rfl, h⟩
  · have h := fw_if h c5
    refine fw_iload_n dX0_sets_7 rfl rfl ?_
    refine fw_callS1z (f1 := f - 1) cl_X0_74 (by decide) (by omega) (fw_s4 (Nat.le_of_ble_eq_true rfl)) dX0_sets_8 (w_X0_isKind (f := f - 1) (by omega) h) (fun _ _ h9 _ _ => h9.elim) (fun v9 μ7 q9 hs8 => ?_)
    obtain ⟨v6, rfl, h⟩ := q9
    refine fw_ti ?_
    have hg9 := hs8.K hg4 (by decide)
    refine fw_if_eq (tgt := 31) dX0_sets_11 (by decide) (fun c10 => ?_) (fun c10 => ?_)
    · have h := fw_it h c10
      refine fw_iconst (v := -1) dX0_sets_31 (by decide) ?_
      exact fw_ireturn dX0_sets_32 rfl rfl ⟨_, rfl, h⟩
    · have h := fw_if h c10
      refine fw_iload_n dX0_sets_14 rfl rfl ?_
      refine fw_iconst (v := 0) dX0_sets_15 (by decide) ?_
      refine fw_sipush (v := 999) dX0_sets_16 (by decide) ?_
      refine fw_callS3z (f1 := f - 1) cl_X0_66 (by decide) (by omega) (fw_s4 (Nat.le_of_ble_eq_true rfl)) dX0_sets_19 (w_X0_in (f := f - 1) (by omega) h) (fun _ _ h9 _ _ => h9.elim) (fun v9 μ12 q9 hs13 => ?_)
      obtain ⟨v11, rfl, h⟩ := q9
      refine fw_ti ?_
      have hg14 := hs13.K hg9 (by decide)
      refine fw_if_eq (tgt := 31) dX0_sets_22 (by decide) (fun c15 => ?_) (fun c15 => ?_)
      · have h := fw_it h c15
        refine fw_iconst (v := -1) dX0_sets_31 (by decide) ?_
        exact fw_ireturn dX0_sets_32 rfl rfl ⟨_, rfl, h⟩
      · have h := fw_if h c15
        refine fw_iload dX0_sets_25 rfl ?_
        refine fw_iconst (v := -1) dX0_sets_27 (by decide) ?_
        refine fw_icmp_ge (tgt := 33) dX0_sets_28 (by decide) (fun c16 => ?_) (fun c16 => ?_)
        · have h := fw_it h c16
          refine fw_iconst (v := 0) dX0_sets_33 (by decide) ?_
          refine fw_istoreN (Ls' := [(5, Value.int (0 : Int32)), (4, Value.int i4), (0, fw_rv g r0), (1, Value.int i1), (2, Value.int i2), (3, Value.int i3)]) [0, 1, 2, 3] dX0_sets_34 (by decide) rfl rfl rfl rfl rfl ?_
          refine fw_iconst (v := 0) dX0_sets_36 (by decide) ?_
          refine fw_istoreN (Ls' := [(6, Value.int (0 : Int32)), (5, Value.int (0 : Int32)), (4, Value.int i4), (0, fw_rv g r0), (1, Value.int i1), (2, Value.int i2), (3, Value.int i3)]) [1, 2, 3, 4, 5] dX0_sets_37 (by decide) rfl rfl rfl rfl rfl ?_
          refine fw_ls [3, 4, 5, 6, 2, 1, 0] rfl ?_
          exact w_X0_sets_L39 hf hg14 h
        · have h := fw_if h c16
          refine fw_iconst (v := -1) dX0_sets_31 (by decide) ?_
          exact fw_ireturn dX0_sets_32 rfl rfl ⟨_, rfl, h⟩
abbrev K_X0_tested : fw_Kt := (RX0, "tested", cX0_tested, 3, some .int, [])
def p_X0_tested (r0 : Nat) (i1 : Int32) (i2 : Int32) (μ : fw_M) (Q : Int32 → fw_M → Prop) : Prop :=
  (p_X0_in i1 (-20 : Int32) (20 : Int32) μ (fun v1 μ2 =>
  (if v1 = 0 then
  (Q (-1 : Int32) μ2)
  else
  ((p_X0_in i2 (-1 : Int32) (1 : Int32) μ2 (fun v6 μ7 =>
   (if v6 = 0 then
   (Q (-1 : Int32) μ7)
   else
   ((m_K μ7 (m_P μ7 r0 0) = 2 ∧ (if (m_I μ7 (m_P μ7 r0 0) 4) = (12 : Int32) then
    (Q (-1 : Int32) μ7)
    else
    ((m_K μ7 (m_P μ7 (m_P μ7 r0 0) 14) = 103 ∧ (vp_in (m_I μ7 (m_P μ7 r0 0) 4) (m_N μ7 (m_P μ7 (m_P μ7 r0 0) 14)) ∧ (m_K μ7 (m_P μ7 (m_P μ7 (m_P μ7 r0 0) 14) (m_I μ7 (m_P μ7 r0 0) 4).toNatClampNeg) = 100 ∧ (vp_in (0 : Int32) (m_N μ7 (m_P μ7 (m_P μ7 (m_P μ7 r0 0) 14) (m_I μ7 (m_P μ7 r0 0) 4).toNatClampNeg)) ∧ (∀ μ17, μ17 = m_uI μ7 (m_P μ7 (m_P μ7 (m_P μ7 r0 0) 14) (m_I μ7 (m_P μ7 r0 0) 4).toNatClampNeg) (0 : Int32).toNatClampNeg i1 →
     (m_K μ17 (m_P μ17 r0 0) = 2 ∧ (m_K μ17 (m_P μ17 (m_P μ17 r0 0) 14) = 103 ∧ (vp_in (m_I μ17 (m_P μ17 r0 0) 4) (m_N μ17 (m_P μ17 (m_P μ17 r0 0) 14)) ∧ (m_K μ17 (m_P μ17 (m_P μ17 (m_P μ17 r0 0) 14) (m_I μ17 (m_P μ17 r0 0) 4).toNatClampNeg) = 100 ∧ (vp_in (1 : Int32) (m_N μ17 (m_P μ17 (m_P μ17 (m_P μ17 r0 0) 14) (m_I μ17 (m_P μ17 r0 0) 4).toNatClampNeg)) ∧ (∀ μ23, μ23 = m_uI μ17 (m_P μ17 (m_P μ17 (m_P μ17 r0 0) 14) (m_I μ17 (m_P μ17 r0 0) 4).toNatClampNeg) (1 : Int32).toNatClampNeg i2 →
     (m_K μ23 (m_P μ23 r0 0) = 2 ∧ (∀ μ25, μ25 = m_uI μ23 (m_P μ23 r0 0) 4 ((m_I μ23 (m_P μ23 r0 0) 4) + (1 : Int32)) →
     Q ((m_I μ23 (m_P μ23 r0 0) 4) + (1 : Int32)) μ25))))))))))))))))))))))))
set_option maxHeartbeats 4000000 in
theorem w_X0_tested {g : fw_G} {f bc bs : Nat} {r0 : Nat} {i1 : Int32} {i2 : Int32} {μ : fw_M} {Q : Int32 → fw_M → Prop} (hf : 2 ≤ f) (hx : m_K μ r0 = 1) (h : p_X0_tested r0 i1 i2 μ Q) : fw_C g f bc bs yX0_tested (ws_ yX0_tested cX0_tested 3 (some .int)) [fw_rv g r0, Value.int i1, Value.int i2] μ (fw_Qi Q) fw_nX := by
  unfold p_X0_tested at h
  refine fw_intro' (Ls := [(0, fw_rv g r0), (1, Value.int i1), (2, Value.int i2)]) (by decide +kernel) (by simp [lg_sl, fw_cat, fw_ci, fw_clo]) (by simp [lv_args, fw_cat, fw_ci, fw_clo]) ?_
  show fw_V g K_X0_tested f bc bs 0 [(0, fw_rv g r0), (1, Value.int i1), (2, Value.int i2)] [] μ (fw_Qi Q) fw_nX
  refine fw_iload_n dX0_tested_0 rfl rfl ?_
  refine fw_bipush (v := -20) dX0_tested_1 (by decide) ?_
  refine fw_bipush (v := 20) dX0_tested_3 (by decide) ?_
  refine fw_callS3z (f1 := f - 1) cl_X0_66 (by decide) (by omega) (fw_s4 (Nat.le_of_ble_eq_true rfl)) dX0_tested_5 (w_X0_in (f := f - 1) (by omega) h) (fun _ _ h9 _ _ => h9.elim) (fun v9 μ2 q9 hs3 => ?_)
  obtain ⟨v1, rfl, h⟩ := q9
  refine fw_ti ?_
  have hg4 := hs3.K hx (by decide)
  refine fw_if_eq (tgt := 32) dX0_tested_8 (by decide) (fun c5 => ?_) (fun c5 => ?_)
  · have h := fw_it h c5
    refine fw_iconst (v := -1) dX0_tested_32 (by decide) ?_
    exact fw_ireturn dX0_tested_33 rfl rfl ⟨_, rfl, h⟩
  · have h := fw_if h c5
    refine fw_iload_n dX0_tested_11 rfl rfl ?_
    refine fw_iconst (v := -1) dX0_tested_12 (by decide) ?_
    refine fw_iconst (v := 1) dX0_tested_13 (by decide) ?_
    refine fw_callS3z (f1 := f - 1) cl_X0_66 (by decide) (by omega) (fw_s4 (Nat.le_of_ble_eq_true rfl)) dX0_tested_14 (w_X0_in (f := f - 1) (by omega) h) (fun _ _ h9 _ _ => h9.elim) (fun v9 μ7 q9 hs8 => ?_)
    obtain ⟨v6, rfl, h⟩ := q9
    refine fw_ti ?_
    have hg9 := hs8.K hg4 (by decide)
    refine fw_if_eq (tgt := 32) dX0_tested_17 (by decide) (fun c10 => ?_) (fun c10 => ?_)
    · have h := fw_it h c10
      refine fw_iconst (v := -1) dX0_tested_32 (by decide) ?_
      exact fw_ireturn dX0_tested_33 rfl rfl ⟨_, rfl, h⟩
    · have h := fw_if h c10
      refine fw_aload_n dX0_tested_20 rfl rfl ?_
      refine fw_getfP fl_X0_12 rfl hg9 dX0_tested_21 ?_
      obtain ⟨hg11, h⟩ := h
      refine fw_getfI fl_X0_254 rfl hg11 dX0_tested_24 ?_
      refine fw_bipush (v := 12) dX0_tested_27 (by decide) ?_
      refine fw_icmp_ne (tgt := 34) dX0_tested_29 (by decide) (fun c12 => ?_) (fun c12 => ?_)
      · have h := fw_if h c12
        refine fw_aload_n dX0_tested_34 rfl rfl ?_
        refine fw_getfP fl_X0_12 rfl hg9 dX0_tested_35 ?_
        refine fw_getfP fl_X0_257 rfl hg11 dX0_tested_38 ?_
        refine fw_aload_n dX0_tested_41 rfl rfl ?_
        refine fw_getfP fl_X0_12 rfl hg9 dX0_tested_42 ?_
        refine fw_getfI fl_X0_254 rfl hg11 dX0_tested_45 ?_
        obtain ⟨hg13, h⟩ := h
        obtain ⟨hc14, h⟩ := h
        refine fw_aald hg13 rfl rfl hc14 dX0_tested_48 ?_
        refine fw_iconst (v := 0) dX0_tested_49 (by decide) ?_
        refine fw_iload_n dX0_tested_50 rfl rfl ?_
        obtain ⟨hg15, h⟩ := h
        obtain ⟨hc16, h⟩ := h
        refine fw_iast hg15 hc16 dX0_tested_51 ?_
        have h := h _ rfl
        refine fw_aload_n dX0_tested_52 rfl rfl ?_
        refine fw_getfP fl_X0_12 rfl hg9 dX0_tested_53 ?_
        obtain ⟨hg18, h⟩ := h
        refine fw_getfP fl_X0_257 rfl hg18 dX0_tested_56 ?_
        refine fw_aload_n dX0_tested_59 rfl rfl ?_
        refine fw_getfP fl_X0_12 rfl hg9 dX0_tested_60 ?_
        refine fw_getfI fl_X0_254 rfl hg18 dX0_tested_63 ?_
        obtain ⟨hg19, h⟩ := h
        obtain ⟨hc20, h⟩ := h
        refine fw_aald hg19 rfl rfl hc20 dX0_tested_66 ?_
        refine fw_iconst (v := 1) dX0_tested_67 (by decide) ?_
        refine fw_iload_n dX0_tested_68 rfl rfl ?_
        obtain ⟨hg21, h⟩ := h
        obtain ⟨hc22, h⟩ := h
        refine fw_iast hg21 hc22 dX0_tested_69 ?_
        have h := h _ rfl
        refine fw_aload_n dX0_tested_70 rfl rfl ?_
        refine fw_getfP fl_X0_12 rfl hg9 dX0_tested_71 ?_
        refine fw_dup dX0_tested_74 (fw_cat _) ?_
        obtain ⟨hg24, h⟩ := h
        refine fw_getfI fl_X0_254 rfl hg24 dX0_tested_75 ?_
        refine fw_iconst (v := 1) dX0_tested_78 (by decide) ?_
        refine fw_iadd dX0_tested_79 ?_
        refine fw_dup_x1 dX0_tested_80 rfl (fw_cat _) ?_
        refine fw_putfI fl_X0_254 (fun q hq => Or.inl (by cases hq; rfl)) rfl hg24 dX0_tested_81 ?_
        have h := h _ rfl
        exact fw_ireturn dX0_tested_84 rfl rfl ⟨_, rfl, h⟩
      · have h := fw_it h c12
        refine fw_iconst (v := -1) dX0_tested_32 (by decide) ?_
        exact fw_ireturn dX0_tested_33 rfl rfl ⟨_, rfl, h⟩
abbrev K_X0_hangs : fw_Kt := (RX0, "hangs", cX0_hangs, 2, some .int, [])
def p_X0_hangs (i0 : Int32) (i1 : Int32) (μ : fw_M) (Q : Int32 → fw_M → Prop) : Prop :=
  (p_J8_compare (i0 + i1) (0 : Int32) μ (fun v1 μ2 =>
  Q v1 μ2))
set_option maxHeartbeats 4000000 in
theorem w_X0_hangs {g : fw_G} {f bc bs : Nat} {i0 : Int32} {i1 : Int32} {μ : fw_M} {Q : Int32 → fw_M → Prop} (hf : 2 ≤ f) (h : p_X0_hangs i0 i1 μ Q) : fw_C g f bc bs yX0_hangs (ws_ yX0_hangs cX0_hangs 2 (some .int)) [Value.int i0, Value.int i1] μ (fw_Qi Q) fw_nX := by
  unfold p_X0_hangs at h
  refine fw_intro' (Ls := [(0, Value.int i0), (1, Value.int i1)]) (by decide +kernel) (by simp [lg_sl, fw_cat, fw_ci, fw_clo]) (by simp [lv_args, fw_cat, fw_ci, fw_clo]) ?_
  show fw_V g K_X0_hangs f bc bs 0 [(0, Value.int i0), (1, Value.int i1)] [] μ (fw_Qi Q) fw_nX
  refine fw_iload_n dX0_hangs_0 rfl rfl ?_
  refine fw_iload_n dX0_hangs_1 rfl rfl ?_
  refine fw_iadd dX0_hangs_2 ?_
  refine fw_iconst (v := 0) dX0_hangs_3 (by decide) ?_
  refine fw_callS2z (f1 := f - 1) cl_X0_260 (by decide) (by omega) (fw_s4 (Nat.le_of_ble_eq_true rfl)) dX0_hangs_4 (w_J8_compare (f := f - 1) (by omega) h) (fun _ _ h9 _ _ => h9.elim) (fun v9 μ2 q9 hs3 => ?_)
  obtain ⟨v1, rfl, h⟩ := q9
  refine fw_ti ?_
  exact fw_ireturn dX0_hangs_7 rfl rfl ⟨_, rfl, h⟩
abbrev K_X0_isFit : fw_Kt := (RX0, "isFit", cX0_isFit, 3, some .boolean, [])
def p_X0_isFit_L2b (r0 : Nat) (i1 : Int32) (k2 : Int32 → fw_M → Prop) (i2 : Int32) (μ : fw_M) (Q : Int32 → fw_M → Prop) : Prop :=
  (m_K μ (m_P μ r0 0) = 2 ∧ (if (m_I μ (m_P μ r0 0) 4) ≤ i2 then
  (Q (1 : Int32) μ)
  else
  ((m_K μ (m_P μ (m_P μ r0 0) 14) = 103 ∧ (vp_in i2 (m_N μ (m_P μ (m_P μ r0 0) 14)) ∧ (m_K μ (m_P μ (m_P μ (m_P μ r0 0) 14) i2.toNatClampNeg) = 100 ∧ (vp_in (0 : Int32) (m_N μ (m_P μ (m_P μ (m_P μ r0 0) 14) i2.toNatClampNeg)) ∧ (p_X0_hangs (m_I μ (m_P μ (m_P μ (m_P μ r0 0) 14) i2.toNatClampNeg) (0 : Int32).toNatClampNeg) i1 μ (fun v7 μ8 =>
   (m_K μ8 (m_P μ8 r0 0) = 2 ∧ (m_K μ8 (m_P μ8 (m_P μ8 r0 0) 14) = 103 ∧ (vp_in i2 (m_N μ8 (m_P μ8 (m_P μ8 r0 0) 14)) ∧ (m_K μ8 (m_P μ8 (m_P μ8 (m_P μ8 r0 0) 14) i2.toNatClampNeg) = 100 ∧ (vp_in (1 : Int32) (m_N μ8 (m_P μ8 (m_P μ8 (m_P μ8 r0 0) 14) i2.toNatClampNeg)) ∧ (if v7 = (m_I μ8 (m_P μ8 (m_P μ8 (m_P μ8 r0 0) 14) i2.toNatClampNeg) (1 : Int32).toNatClampNeg) then
   ((∀ i2_17 : Int32, i2_17 = i2 + (1 : Int32) →
    k2 i2_17 μ8))
   else
   (Q (0 : Int32) μ8))))))))))))))))
def p_X0_isFit_L2 (r0 : Nat) (i1 : Int32) (i2 : Int32) (μ : fw_M) (Q : Int32 → fw_M → Prop) : Prop := fw_lp (fun (k : Int32 × fw_M → Prop) (a : Int32 × fw_M) => p_X0_isFit_L2b r0 i1 (fun i2 μ => k (i2, μ)) a.1 a.2 Q) (i2, μ)
theorem r_X0_isFit_L2 {r0 : Nat} {i1 : Int32} {Q : Int32 → fw_M → Prop} (I : Int32 → fw_M → Prop) (v : Int32 → fw_M → Nat) (hs : ∀ (k : Int32 → fw_M → Prop) (i2 : Int32) (μ : fw_M), I i2 μ → (∀ (i2' : Int32) (ν : fw_M), I i2' ν → v i2' ν < v i2 μ → k i2' ν) → p_X0_isFit_L2b r0 i1 k i2 μ Q) (i2 : Int32) (μ : fw_M) (h : I i2 μ) : p_X0_isFit_L2 r0 i1 i2 μ Q :=
  fw_lp_in (A := Int32 × fw_M) (fun a => I a.1 a.2) (fun a => v a.1 a.2) (fun k a ha hk => hs (fun i2 μ => k (i2, μ)) a.1 a.2 ha (fun i2' ν hb hlt => hk (i2', ν) hb hlt)) (i2, μ) h
set_option maxHeartbeats 4000000 in
theorem w_X0_isFit_L2b {g : fw_G} {f bc bs : Nat} {r0 : Nat} {i1 : Int32} {k2 : Int32 → fw_M → Prop} {i2 : Int32} {μ : fw_M} {Q : Int32 → fw_M → Prop} (hf : 3 ≤ f) (hk2 : ∀ {i2 : Int32} {μ : fw_M}, m_K μ r0 = 1 → k2 i2 μ → fw_V g K_X0_isFit f bc bs 2 [(0, fw_rv g r0), (1, Value.int i1), (2, Value.int i2)] [] μ (fw_Qi Q) fw_nX) (hx : m_K μ r0 = 1) (h : p_X0_isFit_L2b r0 i1 k2 i2 μ Q) : fw_V g K_X0_isFit f bc bs 2 [(0, fw_rv g r0), (1, Value.int i1), (2, Value.int i2)] [] μ (fw_Qi Q) fw_nX := by
  unfold p_X0_isFit_L2b at h
  refine fw_iload_n dX0_isFit_2 rfl rfl ?_
  refine fw_aload_n dX0_isFit_3 rfl rfl ?_
  refine fw_getfP fl_X0_12 rfl hx dX0_isFit_4 ?_
  obtain ⟨hg1, h⟩ := h
  refine fw_getfI fl_X0_254 rfl hg1 dX0_isFit_7 ?_
  refine fw_icmp_ge (tgt := 50) dX0_isFit_10 (by decide) (fun c2 => ?_) (fun c2 => ?_)
  · have h := fw_it h c2
    refine fw_iconst (v := 1) dX0_isFit_50 (by decide) ?_
    exact fw_ireturn dX0_isFit_51 rfl (by decide +kernel) ⟨_, rfl, h⟩
  · have h := fw_if h c2
    refine fw_aload_n dX0_isFit_13 rfl rfl ?_
    refine fw_getfP fl_X0_12 rfl hx dX0_isFit_14 ?_
    refine fw_getfP fl_X0_257 rfl hg1 dX0_isFit_17 ?_
    refine fw_iload_n dX0_isFit_20 rfl rfl ?_
    obtain ⟨hg3, h⟩ := h
    obtain ⟨hc4, h⟩ := h
    refine fw_aald hg3 rfl rfl hc4 dX0_isFit_21 ?_
    refine fw_iconst (v := 0) dX0_isFit_22 (by decide) ?_
    obtain ⟨hg5, h⟩ := h
    obtain ⟨hc6, h⟩ := h
    refine fw_iald hg5 hc6 dX0_isFit_23 ?_
    refine fw_iload_n dX0_isFit_24 rfl rfl ?_
    refine fw_callS2z (f1 := f - 1) cl_X0_263 (by decide) (by omega) (fw_s4 (Nat.le_of_ble_eq_true rfl)) dX0_isFit_25 (w_X0_hangs (f := f - 1) (by omega) h) (fun _ _ h9 _ _ => h9.elim) (fun v9 μ8 q9 hs9 => ?_)
    obtain ⟨v7, rfl, h⟩ := q9
    refine fw_ti ?_
    have hg10 := hs9.K hx (by decide)
    refine fw_aload_n dX0_isFit_28 rfl rfl ?_
    refine fw_getfP fl_X0_12 rfl hg10 dX0_isFit_29 ?_
    obtain ⟨hg11, h⟩ := h
    refine fw_getfP fl_X0_257 rfl hg11 dX0_isFit_32 ?_
    refine fw_iload_n dX0_isFit_35 rfl rfl ?_
    obtain ⟨hg12, h⟩ := h
    obtain ⟨hc13, h⟩ := h
    refine fw_aald hg12 rfl rfl hc13 dX0_isFit_36 ?_
    refine fw_iconst (v := 1) dX0_isFit_37 (by decide) ?_
    obtain ⟨hg14, h⟩ := h
    obtain ⟨hc15, h⟩ := h
    refine fw_iald hg14 hc15 dX0_isFit_38 ?_
    refine fw_icmp_eq (tgt := 44) dX0_isFit_39 (by decide) (fun c16 => ?_) (fun c16 => ?_)
    · have h := fw_it h c16
      obtain ⟨i2_17, e18⟩ : ∃ y : Int32, y = i2 + (1 : Int32) := ⟨_, rfl⟩
      have h := h i2_17 e18
      refine fw_iincN (k := 2) (v := i2_17) (Ls' := [(2, Value.int i2_17), (1, Value.int i1), (0, fw_rv g r0)]) [0] dX0_isFit_44 rfl (by rw [e18]; rfl) (by decide) rfl rfl rfl rfl rfl ?_
      refine fw_goto (tgt := 2) dX0_isFit_47 (by decide) ?_
      refine fw_ls [2, 1, 0] rfl ?_
      exact hk2 hg10 h
    · have h := fw_if h c16
      refine fw_iconst (v := 0) dX0_isFit_42 (by decide) ?_
      exact fw_ireturn dX0_isFit_43 rfl (by decide +kernel) ⟨_, rfl, h⟩
theorem w_X0_isFit_L2 {g : fw_G} {f bc bs : Nat} {r0 : Nat} {i1 : Int32} {i2 : Int32} {μ : fw_M} {Q : Int32 → fw_M → Prop} (hf : 3 ≤ f) (hx : m_K μ r0 = 1) (h : p_X0_isFit_L2 r0 i1 i2 μ Q) : fw_V g K_X0_isFit f bc bs 2 [(0, fw_rv g r0), (1, Value.int i1), (2, Value.int i2)] [] μ (fw_Qi Q) fw_nX := by
  have key := fw_lp_out (R := fun (a : Int32 × fw_M) => m_K a.2 r0 = 1 → fw_V g K_X0_isFit f bc bs 2 [(0, fw_rv g r0), (1, Value.int i1), (2, Value.int a.1)] [] a.2 (fw_Qi Q) fw_nX) (fun k hk9 a ha hx2 => w_X0_isFit_L2b hf (fun {i2} {μ} hx3 h3 => hk9 (i2, μ) h3 hx3) hx2 ha) h
  exact key hx
def p_X0_isFit (r0 : Nat) (i1 : Int32) (μ : fw_M) (Q : Int32 → fw_M → Prop) : Prop :=
  p_X0_isFit_L2 r0 i1 (0 : Int32) μ Q
set_option maxHeartbeats 4000000 in
theorem w_X0_isFit {g : fw_G} {f bc bs : Nat} {r0 : Nat} {i1 : Int32} {μ : fw_M} {Q : Int32 → fw_M → Prop} (hf : 3 ≤ f) (hx : m_K μ r0 = 1) (h : p_X0_isFit r0 i1 μ Q) : fw_C g f bc bs yX0_isFit (ws_ yX0_isFit cX0_isFit 3 (some .boolean)) [fw_rv g r0, Value.int i1] μ (fw_Qi Q) fw_nX := by
  unfold p_X0_isFit at h
  refine fw_intro' (Ls := [(0, fw_rv g r0), (1, Value.int i1)]) (by decide +kernel) (by simp [lg_sl, fw_cat, fw_ci, fw_clo]) (by simp [lv_args, fw_cat, fw_ci, fw_clo]) ?_
  show fw_V g K_X0_isFit f bc bs 0 [(0, fw_rv g r0), (1, Value.int i1)] [] μ (fw_Qi Q) fw_nX
  refine fw_iconst (v := 0) dX0_isFit_0 (by decide) ?_
  refine fw_istore_nN (Ls' := [(2, Value.int (0 : Int32)), (1, Value.int i1), (0, fw_rv g r0)]) [0] dX0_isFit_1 rfl (by decide) rfl rfl rfl rfl rfl ?_
  refine fw_ls [2, 1, 0] rfl ?_
  exact w_X0_isFit_L2 hf hx h
abbrev K_X0_fits : fw_Kt := (RX0, "fits", cX0_fits, 3, some .int, [])
def p_X0_fits_L4b (r0 : Nat) (k4 : Int32 → Int32 → fw_M → Prop) (i1 : Int32) (i2 : Int32) (μ : fw_M) (Q : Int32 → fw_M → Prop) : Prop :=
  (if (10 : Int32) ≤ i2 then
  (Q i1 μ)
  else
  ((p_X0_isFit r0 i2 μ (fun v2 μ3 =>
   (if v2 = 0 then
   ((∀ i1_7 : Int32, i1_7 = (i1 ||| (0 : Int32)) →
    (∀ i2_9 : Int32, i2_9 = i2 + (1 : Int32) →
    k4 i1_7 i2_9 μ3)))
   else
   ((∀ i1_11 : Int32, i1_11 = (i1 ||| ((1 : Int32) <<< (i2 &&& 31))) →
    (∀ i2_13 : Int32, i2_13 = i2 + (1 : Int32) →
    k4 i1_11 i2_13 μ3))))))))
def p_X0_fits_L4 (r0 : Nat) (i1 : Int32) (i2 : Int32) (μ : fw_M) (Q : Int32 → fw_M → Prop) : Prop := fw_lp (fun (k : Int32 × Int32 × fw_M → Prop) (a : Int32 × Int32 × fw_M) => p_X0_fits_L4b r0 (fun i1 i2 μ => k (i1, i2, μ)) a.1 a.2.1 a.2.2 Q) (i1, i2, μ)
theorem r_X0_fits_L4 {r0 : Nat} {Q : Int32 → fw_M → Prop} (I : Int32 → Int32 → fw_M → Prop) (v : Int32 → Int32 → fw_M → Nat) (hs : ∀ (k : Int32 → Int32 → fw_M → Prop) (i1 : Int32) (i2 : Int32) (μ : fw_M), I i1 i2 μ → (∀ (i1' : Int32) (i2' : Int32) (ν : fw_M), I i1' i2' ν → v i1' i2' ν < v i1 i2 μ → k i1' i2' ν) → p_X0_fits_L4b r0 k i1 i2 μ Q) (i1 : Int32) (i2 : Int32) (μ : fw_M) (h : I i1 i2 μ) : p_X0_fits_L4 r0 i1 i2 μ Q :=
  fw_lp_in (A := Int32 × Int32 × fw_M) (fun a => I a.1 a.2.1 a.2.2) (fun a => v a.1 a.2.1 a.2.2) (fun k a ha hk => hs (fun i1 i2 μ => k (i1, i2, μ)) a.1 a.2.1 a.2.2 ha (fun i1' i2' ν hb hlt => hk (i1', i2', ν) hb hlt)) (i1, i2, μ) h
set_option maxHeartbeats 4000000 in
theorem w_X0_fits_L4b {g : fw_G} {f bc bs : Nat} {r0 : Nat} {k4 : Int32 → Int32 → fw_M → Prop} {i1 : Int32} {i2 : Int32} {μ : fw_M} {Q : Int32 → fw_M → Prop} (hf : 4 ≤ f) (hk4 : ∀ {i1 : Int32} {i2 : Int32} {μ : fw_M}, m_K μ r0 = 1 → k4 i1 i2 μ → fw_V g K_X0_fits f bc bs 4 [(0, fw_rv g r0), (1, Value.int i1), (2, Value.int i2)] [] μ (fw_Qi Q) fw_nX) (hx : m_K μ r0 = 1) (h : p_X0_fits_L4b r0 k4 i1 i2 μ Q) : fw_V g K_X0_fits f bc bs 4 [(0, fw_rv g r0), (1, Value.int i1), (2, Value.int i2)] [] μ (fw_Qi Q) fw_nX := by
  unfold p_X0_fits_L4b at h
  refine fw_iload_n dX0_fits_4 rfl rfl ?_
  refine fw_bipush (v := 10) dX0_fits_5 (by decide) ?_
  refine fw_icmp_ge (tgt := 34) dX0_fits_7 (by decide) (fun c1 => ?_) (fun c1 => ?_)
  · have h := fw_it h c1
    refine fw_iload_n dX0_fits_34 rfl rfl ?_
    exact fw_ireturn dX0_fits_35 rfl rfl ⟨_, rfl, h⟩
  · have h := fw_if h c1
    refine fw_iload_n dX0_fits_10 rfl rfl ?_
    refine fw_aload_n dX0_fits_11 rfl rfl ?_
    refine fw_iload_n dX0_fits_12 rfl rfl ?_
    refine fw_callV1z (f1 := f - 1) cl_X0_266 rfl hx (by decide) (by omega) (fw_s4 (Nat.le_of_ble_eq_true rfl)) dX0_fits_13 (w_X0_isFit (f := f - 1) (by omega) hx h) (fun _ _ h9 _ _ => h9.elim) (fun v9 μ3 q9 hs4 => ?_)
    obtain ⟨v2, rfl, h⟩ := q9
    refine fw_ti ?_
    have hg5 := hs4.K hx (by decide)
    refine fw_if_eq (tgt := 25) dX0_fits_16 (by decide) (fun c6 => ?_) (fun c6 => ?_)
    · have h := fw_it h c6
      refine fw_iconst (v := 0) dX0_fits_25 (by decide) ?_
      refine fw_ior dX0_fits_26 ?_
      refine fw_topi (fun i1_7 e8 => ?_)
      have h := h i1_7 e8
      refine fw_istore_nN (Ls' := [(1, Value.int i1_7), (0, fw_rv g r0), (2, Value.int i2)]) [2] dX0_fits_27 rfl (by decide) rfl rfl rfl (fw_cat _) rfl ?_
      obtain ⟨i2_9, e10⟩ : ∃ y : Int32, y = i2 + (1 : Int32) := ⟨_, rfl⟩
      have h := h i2_9 e10
      refine fw_iincN (k := 2) (v := i2_9) (Ls' := [(2, Value.int i2_9), (1, Value.int i1_7), (0, fw_rv g r0)]) [1] dX0_fits_28 rfl (by rw [e10]; rfl) (by decide) rfl rfl rfl rfl rfl ?_
      refine fw_goto (tgt := 4) dX0_fits_31 (by decide) ?_
      refine fw_ls [2, 1, 0] rfl ?_
      exact hk4 hg5 h
    · have h := fw_if h c6
      refine fw_iconst (v := 1) dX0_fits_19 (by decide) ?_
      refine fw_iload_n dX0_fits_20 rfl rfl ?_
      refine fw_ishl dX0_fits_21 ?_
      refine fw_goto (tgt := 26) dX0_fits_22 (by decide) ?_
      refine fw_ior dX0_fits_26 ?_
      refine fw_topi (fun i1_11 e12 => ?_)
      have h := h i1_11 e12
      refine fw_istore_nN (Ls' := [(1, Value.int i1_11), (0, fw_rv g r0), (2, Value.int i2)]) [2] dX0_fits_27 rfl (by decide) rfl rfl rfl (fw_cat _) rfl ?_
      obtain ⟨i2_13, e14⟩ : ∃ y : Int32, y = i2 + (1 : Int32) := ⟨_, rfl⟩
      have h := h i2_13 e14
      refine fw_iincN (k := 2) (v := i2_13) (Ls' := [(2, Value.int i2_13), (1, Value.int i1_11), (0, fw_rv g r0)]) [1] dX0_fits_28 rfl (by rw [e14]; rfl) (by decide) rfl rfl rfl rfl rfl ?_
      refine fw_goto (tgt := 4) dX0_fits_31 (by decide) ?_
      refine fw_ls [2, 1, 0] rfl ?_
      exact hk4 hg5 h
theorem w_X0_fits_L4 {g : fw_G} {f bc bs : Nat} {r0 : Nat} {i1 : Int32} {i2 : Int32} {μ : fw_M} {Q : Int32 → fw_M → Prop} (hf : 4 ≤ f) (hx : m_K μ r0 = 1) (h : p_X0_fits_L4 r0 i1 i2 μ Q) : fw_V g K_X0_fits f bc bs 4 [(0, fw_rv g r0), (1, Value.int i1), (2, Value.int i2)] [] μ (fw_Qi Q) fw_nX := by
  have key := fw_lp_out (R := fun (a : Int32 × Int32 × fw_M) => m_K a.2.2 r0 = 1 → fw_V g K_X0_fits f bc bs 4 [(0, fw_rv g r0), (1, Value.int a.1), (2, Value.int a.2.1)] [] a.2.2 (fw_Qi Q) fw_nX) (fun k hk9 a ha hx2 => w_X0_fits_L4b hf (fun {i1 i2} {μ} hx3 h3 => hk9 (i1, i2, μ) h3 hx3) hx2 ha) h
  exact key hx
def p_X0_fits (r0 : Nat) (μ : fw_M) (Q : Int32 → fw_M → Prop) : Prop :=
  p_X0_fits_L4 r0 (0 : Int32) (0 : Int32) μ Q
set_option maxHeartbeats 4000000 in
theorem w_X0_fits {g : fw_G} {f bc bs : Nat} {r0 : Nat} {μ : fw_M} {Q : Int32 → fw_M → Prop} (hf : 4 ≤ f) (hx : m_K μ r0 = 1) (h : p_X0_fits r0 μ Q) : fw_C g f bc bs yX0_fits (ws_ yX0_fits cX0_fits 3 (some .int)) [fw_rv g r0] μ (fw_Qi Q) fw_nX := by
  unfold p_X0_fits at h
  refine fw_intro' (Ls := [(0, fw_rv g r0)]) (by decide +kernel) (by simp [lg_sl, fw_cat, fw_ci, fw_clo]) (by simp [lv_args, fw_cat, fw_ci, fw_clo]) ?_
  show fw_V g K_X0_fits f bc bs 0 [(0, fw_rv g r0)] [] μ (fw_Qi Q) fw_nX
  refine fw_iconst (v := 0) dX0_fits_0 (by decide) ?_
  refine fw_istore_nN (Ls' := [(1, Value.int (0 : Int32)), (0, fw_rv g r0)]) [] dX0_fits_1 rfl (by decide) rfl rfl rfl (fw_cat _) rfl ?_
  refine fw_iconst (v := 0) dX0_fits_2 (by decide) ?_
  refine fw_istore_nN (Ls' := [(2, Value.int (0 : Int32)), (1, Value.int (0 : Int32)), (0, fw_rv g r0)]) [1] dX0_fits_3 rfl (by decide) rfl rfl rfl rfl rfl ?_
  refine fw_ls [2, 1, 0] rfl ?_
  exact w_X0_fits_L4 hf hx h
abbrev K_X0_next : fw_Kt := (RX0, "next", cX0_next, 7, some .int, [])
def p_X0_next_L36b (k21 : Nat → Nat → Int32 → Int32 → Int32 → fw_M → Prop) (r0 : Nat) (i1 : Int32) (i2 : Int32) (i3 : Int32) (i4 : Int32) (r5 : Nat) (k36 : Nat → Nat → Int32 → fw_M → Prop) (bc : Nat) (bs : Nat) (i6 : Int32) (μ : fw_M) (Q : Int32 → fw_M → Prop) : Prop :=
  (if (10 : Int32) ≤ i6 then
  ((m_K μ r5 = 100 ∧ (vp_in (0 : Int32) (m_N μ r5) ∧ (vp_in (1 : Int32) (m_N μ r5) ∧ (vp_in (2 : Int32) (m_N μ r5) ∧ (p_J0_max_2 (m_I μ r5 (1 : Int32).toNatClampNeg) (m_I μ r5 (2 : Int32).toNatClampNeg) μ (fun v6 μ7 =>
   (p_J0_max_2 (m_I μ r5 (0 : Int32).toNatClampNeg) v6 μ7 (fun v11 μ12 =>
   (if v11 < i3 then
   ((∀ i4_17 : Int32, i4_17 = i4 + (1 : Int32) →
    k21 bc bs i4 v11 i4_17 μ12))
   else
   ((∀ i4_19 : Int32, i4_19 = i4 + (1 : Int32) →
    k21 bc bs i2 i3 i4_19 μ12))))))))))))
  else
  ((if ((i1 >>> (i6 &&& 31)) &&& (1 : Int32)) = (1 : Int32) then
   ((p_X0_hangs i4 i6 μ (fun v24 μ25 =>
    (m_K μ25 r5 = 100 ∧ (vp_in ((1 : Int32) + v24) (m_N μ25 r5) ∧ (vp_in ((1 : Int32) + v24) (m_N μ25 r5) ∧ (∀ μ31, μ31 = m_uI μ25 r5 ((1 : Int32) + v24).toNatClampNeg ((m_I μ25 r5 ((1 : Int32) + v24).toNatClampNeg) + (1 : Int32)) →
    (∀ i6_32 : Int32, i6_32 = i6 + (1 : Int32) →
    k36 bc bs i6_32 μ31))))))))
   else
   ((∀ i6_22 : Int32, i6_22 = i6 + (1 : Int32) →
    k36 bc bs i6_22 μ)))))
def p_X0_next_L36 (k21 : Nat → Nat → Int32 → Int32 → Int32 → fw_M → Prop) (r0 : Nat) (i1 : Int32) (i2 : Int32) (i3 : Int32) (i4 : Int32) (r5 : Nat) (bc : Nat) (bs : Nat) (i6 : Int32) (μ : fw_M) (Q : Int32 → fw_M → Prop) : Prop := fw_lp (fun (k : Nat × Nat × Int32 × fw_M → Prop) (a : Nat × Nat × Int32 × fw_M) => p_X0_next_L36b k21 r0 i1 i2 i3 i4 r5 (fun bc bs i6 μ => k (bc, bs, i6, μ)) a.1 a.2.1 a.2.2.1 a.2.2.2 Q) (bc, bs, i6, μ)
theorem r_X0_next_L36 {k21 : Nat → Nat → Int32 → Int32 → Int32 → fw_M → Prop} {r0 : Nat} {i1 : Int32} {i2 : Int32} {i3 : Int32} {i4 : Int32} {r5 : Nat} {Q : Int32 → fw_M → Prop} (I : Nat → Nat → Int32 → fw_M → Prop) (v : Nat → Nat → Int32 → fw_M → Nat) (hs : ∀ (k : Nat → Nat → Int32 → fw_M → Prop) (bc : Nat) (bs : Nat) (i6 : Int32) (μ : fw_M), I bc bs i6 μ → (∀ (bc' : Nat) (bs' : Nat) (i6' : Int32) (ν : fw_M), I bc' bs' i6' ν → v bc' bs' i6' ν < v bc bs i6 μ → k bc' bs' i6' ν) → p_X0_next_L36b k21 r0 i1 i2 i3 i4 r5 k bc bs i6 μ Q) (bc : Nat) (bs : Nat) (i6 : Int32) (μ : fw_M) (h : I bc bs i6 μ) : p_X0_next_L36 k21 r0 i1 i2 i3 i4 r5 bc bs i6 μ Q :=
  fw_lp_in (A := Nat × Nat × Int32 × fw_M) (fun a => I a.1 a.2.1 a.2.2.1 a.2.2.2) (fun a => v a.1 a.2.1 a.2.2.1 a.2.2.2) (fun k a ha hk => hs (fun bc bs i6 μ => k (bc, bs, i6, μ)) a.1 a.2.1 a.2.2.1 a.2.2.2 ha (fun bc' bs' i6' ν hb hlt => hk (bc', bs', i6', ν) hb hlt)) (bc, bs, i6, μ) h
set_option maxHeartbeats 4000000 in
theorem w_X0_next_L36b {g : fw_G} {f : Nat} {k21 : Nat → Nat → Int32 → Int32 → Int32 → fw_M → Prop} {r0 : Nat} {i1 : Int32} {i2 : Int32} {i3 : Int32} {i4 : Int32} {r5 : Nat} {k36 : Nat → Nat → Int32 → fw_M → Prop} {bc : Nat} {bs : Nat} {i6 : Int32} {μ : fw_M} {Q : Int32 → fw_M → Prop} (hf : 5 ≤ f) (hk21 : ∀ {bc : Nat} {bs : Nat} {i2 : Int32} {i3 : Int32} {i4 : Int32} {μ : fw_M}, m_K μ r0 = 1 → k21 bc bs i2 i3 i4 μ → fw_V g K_X0_next f bc bs 21 [(0, fw_rv g r0), (1, Value.int i1), (2, Value.int i2), (3, Value.int i3), (4, Value.int i4)] [] μ (fw_Qi Q) fw_nX) (hk36 : ∀ {bc : Nat} {bs : Nat} {i6 : Int32} {μ : fw_M}, m_K μ r0 = 1 → k36 bc bs i6 μ → fw_V g K_X0_next f bc bs 36 [(0, fw_rv g r0), (1, Value.int i1), (2, Value.int i2), (3, Value.int i3), (4, Value.int i4), (5, fw_rv g r5), (6, Value.int i6)] [] μ (fw_Qi Q) fw_nX) (hx : m_K μ r0 = 1) (h : p_X0_next_L36b k21 r0 i1 i2 i3 i4 r5 k36 bc bs i6 μ Q) : fw_V g K_X0_next f bc bs 36 [(0, fw_rv g r0), (1, Value.int i1), (2, Value.int i2), (3, Value.int i3), (4, Value.int i4), (5, fw_rv g r5), (6, Value.int i6)] [] μ (fw_Qi Q) fw_nX := by
  unfold p_X0_next_L36b at h
  refine fw_iload dX0_next_36 rfl ?_
  refine fw_bipush (v := 10) dX0_next_38 (by decide) ?_
  refine fw_icmp_ge (tgt := 75) dX0_next_40 (by decide) (fun c1 => ?_) (fun c1 => ?_)
  · have h := fw_it h c1
    refine fw_aload dX0_next_75 rfl ?_
    refine fw_iconst (v := 0) dX0_next_77 (by decide) ?_
    obtain ⟨hg2, h⟩ := h
    obtain ⟨hc3, h⟩ := h
    refine fw_iald hg2 hc3 dX0_next_78 ?_
    refine fw_aload dX0_next_79 rfl ?_
    refine fw_iconst (v := 1) dX0_next_81 (by decide) ?_
    obtain ⟨hc4, h⟩ := h
    refine fw_iald hg2 hc4 dX0_next_82 ?_
    refine fw_aload dX0_next_83 rfl ?_
    refine fw_iconst (v := 2) dX0_next_85 (by decide) ?_
    obtain ⟨hc5, h⟩ := h
    refine fw_iald hg2 hc5 dX0_next_86 ?_
    refine fw_callS2z (f1 := f - 1) cl_X0_123 (by decide) (by omega) (fw_s4 (Nat.le_of_ble_eq_true rfl)) dX0_next_87 (w_J0_max_2 (f := f - 1) (by omega) h) (fun _ _ h9 _ _ => h9.elim) (fun v9 μ7 q9 hs8 => ?_)
    obtain ⟨v6, rfl, h⟩ := q9
    refine fw_ti ?_
    have hg9 := hs8.K hx (by decide)
    have hg10 := hs8.K hg2 (by decide)
    refine fw_callS2z (f1 := f - 1) cl_X0_123 (by decide) (by omega) (fw_s4 (Nat.le_of_ble_eq_true rfl)) dX0_next_90 (w_J0_max_2 (f := f - 1) (by omega) h) (fun _ _ h9 _ _ => h9.elim) (fun v9 μ12 q9 hs13 => ?_)
    obtain ⟨v11, rfl, h⟩ := q9
    refine fw_ti ?_
    have hg14 := hs13.K hg9 (by decide)
    have hg15 := hs13.K hg10 (by decide)
    refine fw_istoreN (Ls' := [(6, Value.int v11), (5, fw_rv g r5), (0, fw_rv g r0), (1, Value.int i1), (2, Value.int i2), (3, Value.int i3), (4, Value.int i4)]) [0, 1, 2, 3, 4] dX0_next_93 (by decide) rfl rfl rfl (fw_cat _) rfl ?_
    refine fw_iload dX0_next_95 rfl ?_
    refine fw_iload_n dX0_next_97 rfl rfl ?_
    refine fw_icmp_lt (tgt := 104) dX0_next_98 (by decide) (fun c16 => ?_) (fun c16 => ?_)
    · have h := fw_it h c16
      refine fw_iload dX0_next_104 rfl ?_
      refine fw_istore_nN (Ls' := [(3, Value.int v11), (2, Value.int i2), (6, Value.int v11), (5, fw_rv g r5), (0, fw_rv g r0), (1, Value.int i1), (4, Value.int i4)]) [0, 1, 2, 3, 6] dX0_next_106 rfl (by decide) rfl rfl rfl rfl rfl ?_
      refine fw_iload dX0_next_107 rfl ?_
      refine fw_istore_nN (Ls' := [(2, Value.int i4), (1, Value.int i1), (3, Value.int v11), (6, Value.int v11), (5, fw_rv g r5), (0, fw_rv g r0), (4, Value.int i4)]) [0, 2, 3, 4, 6] dX0_next_109 rfl (by decide) rfl rfl rfl rfl rfl ?_
      obtain ⟨i4_17, e18⟩ : ∃ y : Int32, y = i4 + (1 : Int32) := ⟨_, rfl⟩
      have h := h i4_17 e18
      refine fw_iincN (k := 6) (v := i4_17) (Ls' := [(4, Value.int i4_17), (3, Value.int v11), (2, Value.int i4), (1, Value.int i1), (6, Value.int v11), (5, fw_rv g r5), (0, fw_rv g r0)]) [0, 1, 3, 4, 5] dX0_next_110 rfl (by rw [e18]; rfl) (by decide) rfl rfl rfl rfl rfl ?_
      refine fw_goto (tgt := 21) dX0_next_113 (by decide) ?_
      refine fw_ls [6, 3, 2, 1, 0] rfl ?_
      exact hk21 hg14 h
    · have h := fw_if h c16
      refine fw_goto (tgt := 110) dX0_next_101 (by decide) ?_
      obtain ⟨i4_19, e20⟩ : ∃ y : Int32, y = i4 + (1 : Int32) := ⟨_, rfl⟩
      have h := h i4_19 e20
      refine fw_iincN (k := 6) (v := i4_19) (Ls' := [(4, Value.int i4_19), (3, Value.int i3), (6, Value.int v11), (5, fw_rv g r5), (0, fw_rv g r0), (1, Value.int i1), (2, Value.int i2)]) [0, 1, 2, 3, 4] dX0_next_110 rfl (by rw [e20]; rfl) (by decide) rfl rfl rfl rfl rfl ?_
      refine fw_goto (tgt := 21) dX0_next_113 (by decide) ?_
      refine fw_ls [4, 5, 6, 1, 0] rfl ?_
      exact hk21 hg14 h
  · have h := fw_if h c1
    refine fw_iload_n dX0_next_43 rfl rfl ?_
    refine fw_iload dX0_next_44 rfl ?_
    refine fw_ishr dX0_next_46 ?_
    refine fw_iconst (v := 1) dX0_next_47 (by decide) ?_
    refine fw_iand dX0_next_48 ?_
    refine fw_iconst (v := 1) dX0_next_49 (by decide) ?_
    refine fw_icmp_ne (tgt := 69) dX0_next_50 (by decide) (fun c21 => ?_) (fun c21 => ?_)
    · have h := fw_if h c21
      obtain ⟨i6_22, e23⟩ : ∃ y : Int32, y = i6 + (1 : Int32) := ⟨_, rfl⟩
      have h := h i6_22 e23
      refine fw_iincN (k := 6) (v := i6_22) (Ls' := [(6, Value.int i6_22), (5, fw_rv g r5), (0, fw_rv g r0), (1, Value.int i1), (2, Value.int i2), (3, Value.int i3), (4, Value.int i4)]) [0, 1, 2, 3, 4] dX0_next_69 rfl (by rw [e23]; rfl) (by decide) rfl rfl rfl (fw_cat _) rfl ?_
      refine fw_goto (tgt := 36) dX0_next_72 (by decide) ?_
      refine fw_ls [2, 3, 4, 5, 6, 1, 0] rfl ?_
      exact hk36 hx h
    · have h := fw_it h c21
      refine fw_aload dX0_next_53 rfl ?_
      refine fw_iconst (v := 1) dX0_next_55 (by decide) ?_
      refine fw_iload dX0_next_56 rfl ?_
      refine fw_iload dX0_next_58 rfl ?_
      refine fw_callS2z (f1 := f - 1) cl_X0_263 (by decide) (by omega) (fw_s4 (Nat.le_of_ble_eq_true rfl)) dX0_next_60 (w_X0_hangs (f := f - 1) (by omega) h) (fun _ _ h9 _ _ => h9.elim) (fun v9 μ25 q9 hs26 => ?_)
      obtain ⟨v24, rfl, h⟩ := q9
      refine fw_ti ?_
      have hg27 := hs26.K hx (by decide)
      refine fw_iadd dX0_next_63 ?_
      refine fw_dup2 dX0_next_64 rfl (fw_cat _) ?_
      obtain ⟨hg28, h⟩ := h
      obtain ⟨hc29, h⟩ := h
      refine fw_iald hg28 hc29 dX0_next_65 ?_
      refine fw_iconst (v := 1) dX0_next_66 (by decide) ?_
      refine fw_iadd dX0_next_67 ?_
      obtain ⟨hc30, h⟩ := h
      refine fw_iast hg28 hc30 dX0_next_68 ?_
      have h := h _ rfl
      obtain ⟨i6_32, e33⟩ : ∃ y : Int32, y = i6 + (1 : Int32) := ⟨_, rfl⟩
      have h := h i6_32 e33
      refine fw_iincN (k := 6) (v := i6_32) (Ls' := [(6, Value.int i6_32), (5, fw_rv g r5), (0, fw_rv g r0), (1, Value.int i1), (2, Value.int i2), (3, Value.int i3), (4, Value.int i4)]) [0, 1, 2, 3, 4] dX0_next_69 rfl (by rw [e33]; rfl) (by decide) rfl rfl rfl (fw_cat _) rfl ?_
      refine fw_goto (tgt := 36) dX0_next_72 (by decide) ?_
      refine fw_ls [2, 3, 4, 5, 6, 1, 0] rfl ?_
      exact hk36 hg27 h
theorem w_X0_next_L36 {g : fw_G} {f : Nat} {k21 : Nat → Nat → Int32 → Int32 → Int32 → fw_M → Prop} {r0 : Nat} {i1 : Int32} {i2 : Int32} {i3 : Int32} {i4 : Int32} {r5 : Nat} {bc : Nat} {bs : Nat} {i6 : Int32} {μ : fw_M} {Q : Int32 → fw_M → Prop} (hf : 5 ≤ f) (hk21 : ∀ {bc : Nat} {bs : Nat} {i2 : Int32} {i3 : Int32} {i4 : Int32} {μ : fw_M}, m_K μ r0 = 1 → k21 bc bs i2 i3 i4 μ → fw_V g K_X0_next f bc bs 21 [(0, fw_rv g r0), (1, Value.int i1), (2, Value.int i2), (3, Value.int i3), (4, Value.int i4)] [] μ (fw_Qi Q) fw_nX) (hx : m_K μ r0 = 1) (h : p_X0_next_L36 k21 r0 i1 i2 i3 i4 r5 bc bs i6 μ Q) : fw_V g K_X0_next f bc bs 36 [(0, fw_rv g r0), (1, Value.int i1), (2, Value.int i2), (3, Value.int i3), (4, Value.int i4), (5, fw_rv g r5), (6, Value.int i6)] [] μ (fw_Qi Q) fw_nX := by
  have key := fw_lp_out (R := fun (a : Nat × Nat × Int32 × fw_M) => m_K a.2.2.2 r0 = 1 → fw_V g K_X0_next f a.1 a.2.1 36 [(0, fw_rv g r0), (1, Value.int i1), (2, Value.int i2), (3, Value.int i3), (4, Value.int i4), (5, fw_rv g r5), (6, Value.int a.2.2.1)] [] a.2.2.2 (fw_Qi Q) fw_nX) (fun k hk9 a ha hx2 => w_X0_next_L36b hf hk21 (fun {bc bs i6} {μ} hx3 h3 => hk9 (bc, bs, i6, μ) h3 hx3) hx2 ha) h
  exact key hx
def p_X0_next_L21b (r0 : Nat) (i1 : Int32) (k21 : Nat → Nat → Int32 → Int32 → Int32 → fw_M → Prop) (bc : Nat) (bs : Nat) (i2 : Int32) (i3 : Int32) (i4 : Int32) (μ : fw_M) (Q : Int32 → fw_M → Prop) : Prop :=
  (if (20 : Int32) < i4 then
  (Q i2 μ)
  else
  ((¬ (3 : Int32) < 0 ∧ ((3 : Int32).toNatClampNeg ≤ 60000 ∧ (1 ≤ bc ∧ ((3 : Int32).toNatClampNeg ≤ bs ∧ (∀ rn6 : Nat, rn6 = m_x μ →
   (∀ μ9, μ9 = m_al μ 100 (3 : Int32).toNatClampNeg →
   p_X0_next_L36 k21 r0 i1 i2 i3 i4 rn6 (bc - 1) (bs - (3 : Int32).toNatClampNeg) (0 : Int32) μ9 Q))))))))
def p_X0_next_L21 (r0 : Nat) (i1 : Int32) (bc : Nat) (bs : Nat) (i2 : Int32) (i3 : Int32) (i4 : Int32) (μ : fw_M) (Q : Int32 → fw_M → Prop) : Prop := fw_lp (fun (k : Nat × Nat × Int32 × Int32 × Int32 × fw_M → Prop) (a : Nat × Nat × Int32 × Int32 × Int32 × fw_M) => p_X0_next_L21b r0 i1 (fun bc bs i2 i3 i4 μ => k (bc, bs, i2, i3, i4, μ)) a.1 a.2.1 a.2.2.1 a.2.2.2.1 a.2.2.2.2.1 a.2.2.2.2.2 Q) (bc, bs, i2, i3, i4, μ)
theorem r_X0_next_L21 {r0 : Nat} {i1 : Int32} {Q : Int32 → fw_M → Prop} (I : Nat → Nat → Int32 → Int32 → Int32 → fw_M → Prop) (v : Nat → Nat → Int32 → Int32 → Int32 → fw_M → Nat) (hs : ∀ (k : Nat → Nat → Int32 → Int32 → Int32 → fw_M → Prop) (bc : Nat) (bs : Nat) (i2 : Int32) (i3 : Int32) (i4 : Int32) (μ : fw_M), I bc bs i2 i3 i4 μ → (∀ (bc' : Nat) (bs' : Nat) (i2' : Int32) (i3' : Int32) (i4' : Int32) (ν : fw_M), I bc' bs' i2' i3' i4' ν → v bc' bs' i2' i3' i4' ν < v bc bs i2 i3 i4 μ → k bc' bs' i2' i3' i4' ν) → p_X0_next_L21b r0 i1 k bc bs i2 i3 i4 μ Q) (bc : Nat) (bs : Nat) (i2 : Int32) (i3 : Int32) (i4 : Int32) (μ : fw_M) (h : I bc bs i2 i3 i4 μ) : p_X0_next_L21 r0 i1 bc bs i2 i3 i4 μ Q :=
  fw_lp_in (A := Nat × Nat × Int32 × Int32 × Int32 × fw_M) (fun a => I a.1 a.2.1 a.2.2.1 a.2.2.2.1 a.2.2.2.2.1 a.2.2.2.2.2) (fun a => v a.1 a.2.1 a.2.2.1 a.2.2.2.1 a.2.2.2.2.1 a.2.2.2.2.2) (fun k a ha hk => hs (fun bc bs i2 i3 i4 μ => k (bc, bs, i2, i3, i4, μ)) a.1 a.2.1 a.2.2.1 a.2.2.2.1 a.2.2.2.2.1 a.2.2.2.2.2 ha (fun bc' bs' i2' i3' i4' ν hb hlt => hk (bc', bs', i2', i3', i4', ν) hb hlt)) (bc, bs, i2, i3, i4, μ) h
set_option maxHeartbeats 4000000 in
theorem w_X0_next_L21b {g : fw_G} {f : Nat} {r0 : Nat} {i1 : Int32} {k21 : Nat → Nat → Int32 → Int32 → Int32 → fw_M → Prop} {bc : Nat} {bs : Nat} {i2 : Int32} {i3 : Int32} {i4 : Int32} {μ : fw_M} {Q : Int32 → fw_M → Prop} (hf : 5 ≤ f) (hk21 : ∀ {bc : Nat} {bs : Nat} {i2 : Int32} {i3 : Int32} {i4 : Int32} {μ : fw_M}, m_K μ r0 = 1 → k21 bc bs i2 i3 i4 μ → fw_V g K_X0_next f bc bs 21 [(0, fw_rv g r0), (1, Value.int i1), (2, Value.int i2), (3, Value.int i3), (4, Value.int i4)] [] μ (fw_Qi Q) fw_nX) (hx : m_K μ r0 = 1) (h : p_X0_next_L21b r0 i1 k21 bc bs i2 i3 i4 μ Q) : fw_V g K_X0_next f bc bs 21 [(0, fw_rv g r0), (1, Value.int i1), (2, Value.int i2), (3, Value.int i3), (4, Value.int i4)] [] μ (fw_Qi Q) fw_nX := by
  unfold p_X0_next_L21b at h
  refine fw_iload dX0_next_21 rfl ?_
  refine fw_bipush (v := 20) dX0_next_23 (by decide) ?_
  refine fw_icmp_gt (tgt := 116) dX0_next_25 (by decide) (fun c1 => ?_) (fun c1 => ?_)
  · have h := fw_it h c1
    refine fw_iload_n dX0_next_116 rfl rfl ?_
    exact fw_ireturn dX0_next_117 rfl rfl ⟨_, rfl, h⟩
  · have h := fw_if h c1
    refine fw_iconst (v := 3) dX0_next_28 (by decide) ?_
    refine fw_x (fun hX => ?_)
    obtain ⟨hc2, h⟩ := h
    obtain ⟨hc3, h⟩ := h
    obtain ⟨hc4, h⟩ := h
    obtain ⟨hc5, h⟩ := h
    refine fw_newa (k := 100) rfl rfl q183 hc2 (by show _ * 4 ≤ _; omega) hc4 hc5 dX0_next_29 ?_
    refine fw_topr (fun rn6 e7 => ?_)
    have h := h rn6 e7
    refine fw_topm (fun μ9 e10 => ?_)
    have hg11 := fw_al_sE e10 hx (by decide) hX
    have hg8 := fw_al_KE e10 e7
    have h := h μ9 e10
    refine fw_astoreN (Ls' := [(5, fw_rv g rn6), (4, Value.int i4), (0, fw_rv g r0), (1, Value.int i1), (2, Value.int i2), (3, Value.int i3)]) [0, 1, 2, 3] dX0_next_31 (by decide) rfl rfl rfl rfl rfl ?_
    refine fw_iconst (v := 0) dX0_next_33 (by decide) ?_
    refine fw_istoreN (Ls' := [(6, Value.int (0 : Int32)), (5, fw_rv g rn6), (4, Value.int i4), (0, fw_rv g r0), (1, Value.int i1), (2, Value.int i2), (3, Value.int i3)]) [1, 2, 3, 4, 5] dX0_next_34 (by decide) rfl rfl rfl (fw_cat _) rfl ?_
    refine fw_ls [3, 4, 5, 6, 2, 1, 0] rfl ?_
    exact w_X0_next_L36 hf hk21 hg11 h
theorem w_X0_next_L21 {g : fw_G} {f : Nat} {r0 : Nat} {i1 : Int32} {bc : Nat} {bs : Nat} {i2 : Int32} {i3 : Int32} {i4 : Int32} {μ : fw_M} {Q : Int32 → fw_M → Prop} (hf : 5 ≤ f) (hx : m_K μ r0 = 1) (h : p_X0_next_L21 r0 i1 bc bs i2 i3 i4 μ Q) : fw_V g K_X0_next f bc bs 21 [(0, fw_rv g r0), (1, Value.int i1), (2, Value.int i2), (3, Value.int i3), (4, Value.int i4)] [] μ (fw_Qi Q) fw_nX := by
  have key := fw_lp_out (R := fun (a : Nat × Nat × Int32 × Int32 × Int32 × fw_M) => m_K a.2.2.2.2.2 r0 = 1 → fw_V g K_X0_next f a.1 a.2.1 21 [(0, fw_rv g r0), (1, Value.int i1), (2, Value.int a.2.2.1), (3, Value.int a.2.2.2.1), (4, Value.int a.2.2.2.2.1)] [] a.2.2.2.2.2 (fw_Qi Q) fw_nX) (fun k hk9 a ha hx2 => w_X0_next_L21b hf (fun {bc bs i2 i3 i4} {μ} hx3 h3 => hk9 (bc, bs, i2, i3, i4, μ) h3 hx3) hx2 ha) h
  exact key hx
def p_X0_next (bc : Nat) (bs : Nat) (r0 : Nat) (μ : fw_M) (Q : Int32 → fw_M → Prop) : Prop :=
  (p_X0_fits r0 μ (fun v1 μ2 =>
  (if v1 = 0 then
  (Q (-99 : Int32) μ2)
  else
  (p_X0_next_L21 r0 v1 bc bs (0 : Int32) (11 : Int32) (-20 : Int32) μ2 Q))))
set_option maxHeartbeats 4000000 in
theorem w_X0_next {g : fw_G} {f bc bs : Nat} {r0 : Nat} {μ : fw_M} {Q : Int32 → fw_M → Prop} (hf : 5 ≤ f) (hx : m_K μ r0 = 1) (h : p_X0_next bc bs r0 μ Q) : fw_C g f bc bs yX0_next (ws_ yX0_next cX0_next 7 (some .int)) [fw_rv g r0] μ (fw_Qi Q) fw_nX := by
  unfold p_X0_next at h
  refine fw_intro' (Ls := [(0, fw_rv g r0)]) (by decide +kernel) (by simp [lg_sl, fw_cat, fw_ci, fw_clo]) (by simp [lv_args, fw_cat, fw_ci, fw_clo]) ?_
  show fw_V g K_X0_next f bc bs 0 [(0, fw_rv g r0)] [] μ (fw_Qi Q) fw_nX
  refine fw_aload_n dX0_next_0 rfl rfl ?_
  refine fw_callV0z (f1 := f - 1) cl_X0_269 rfl hx (by decide) (by omega) (fw_s4 (Nat.le_of_ble_eq_true rfl)) dX0_next_1 (w_X0_fits (f := f - 1) (by omega) hx h) (fun _ _ h9 _ _ => h9.elim) (fun v9 μ2 q9 hs3 => ?_)
  obtain ⟨v1, rfl, h⟩ := q9
  refine fw_ti ?_
  have hg4 := hs3.K hx (by decide)
  refine fw_istore_nN (Ls' := [(1, Value.int v1), (0, fw_rv g r0)]) [] dX0_next_4 rfl (by decide) rfl rfl rfl (fw_cat _) rfl ?_
  refine fw_iload_n dX0_next_5 rfl rfl ?_
  refine fw_if_ne (tgt := 12) dX0_next_6 (by decide) (fun c5 => ?_) (fun c5 => ?_)
  · have h := fw_if h c5
    refine fw_iconst (v := 0) dX0_next_12 (by decide) ?_
    refine fw_istore_nN (Ls' := [(2, Value.int (0 : Int32)), (1, Value.int v1), (0, fw_rv g r0)]) [1] dX0_next_13 rfl (by decide) rfl rfl rfl rfl rfl ?_
    refine fw_bipush (v := 11) dX0_next_14 (by decide) ?_
    refine fw_istore_nN (Ls' := [(3, Value.int (11 : Int32)), (2, Value.int (0 : Int32)), (1, Value.int v1), (0, fw_rv g r0)]) [1, 2] dX0_next_16 rfl (by decide) rfl rfl rfl rfl rfl ?_
    refine fw_bipush (v := -20) dX0_next_17 (by decide) ?_
    refine fw_istoreN (Ls' := [(4, Value.int (-20 : Int32)), (3, Value.int (11 : Int32)), (2, Value.int (0 : Int32)), (1, Value.int v1), (0, fw_rv g r0)]) [1, 2, 3] dX0_next_19 (by decide) rfl rfl rfl rfl rfl ?_
    refine fw_ls [4, 3, 2, 1, 0] rfl ?_
    exact w_X0_next_L21 hf hg4 h
  · have h := fw_it h c5
    refine fw_bipush (v := -99) dX0_next_9 (by decide) ?_
    exact fw_ireturn dX0_next_11 rfl rfl ⟨_, rfl, h⟩
