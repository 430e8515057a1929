def fw_nX : Nat → fw_M → Prop := fun _ _ => False
def fw_Qi (P : Int32 → fw_M → Prop) : Option Value → fw_M → Prop := fun v μ => ∃ r, v = some (.int r) ∧ P r μ
def fw_Ql (P : Int64 → fw_M → Prop) : Option Value → fw_M → Prop := fun v μ => ∃ r, v = some (.long r) ∧ P r μ
def fw_Qv (P : fw_M → Prop) : Option Value → fw_M → Prop := fun v μ => v = none ∧ P μ
def fw_Qr (g : fw_G) (P : Nat → fw_M → Prop) : Option Value → fw_M → Prop := fun v μ => ∃ r, v = some (fw_rv g r) ∧ P r μ
/-- what a call through an object asks of the tables -/
def fw_LV (own : String) (idx : Nat) (C : String) (y : MethodName) (cc : ByteArray) (nL : Nat) (ret : Option FieldType) (n : Nat) : Prop := GoodIn lw_all (wsV own idx C y (ws_ y cc nL ret)) ∧ y.cls = C ∧ y.cls ≠ "java/lang/invoke/MethodHandle" ∧ y.cls ≠ "java/lang/invoke/VarHandle" ∧ (parseMethodDescriptor y.desc).map (fun d => d.parameters.length) = some n
def fw_LVW (own : String) (idx : Nat) (C : String) (y : MethodName) (cc : ByteArray) (nL : Nat) (ret : Option FieldType) (hh : List (Nat × Nat × Nat × Nat)) (n : Nat) : Prop := GoodIn lw_all (wsV own idx C y (wsW_ y cc nL ret hh)) ∧ y.cls = C ∧ y.cls ≠ "java/lang/invoke/MethodHandle" ∧ y.cls ≠ "java/lang/invoke/VarHandle" ∧ (parseMethodDescriptor y.desc).map (fun d => d.parameters.length) = some n
def fw_LS (own : String) (idx : Nat) (y : MethodName) (cc : ByteArray) (nL : Nat) (ret : Option FieldType) (n : Nat) : Prop := GoodIn lw_all (va_wsS own idx y (ws_ y cc nL ret)) ∧ y.cls ≠ "java/lang/invoke/MethodHandle" ∧ y.cls ≠ "java/lang/invoke/VarHandle" ∧ (parseMethodDescriptor y.desc).map (fun d => d.parameters.length) = some n
def fw_LI (own : String) (idx : Nat) (y : MethodName) (cc : ByteArray) (nL : Nat) (n : Nat) : Prop := Cond.code y cc nL none ∈ lw_all ∧ Cond.initialized y.cls ∈ lw_all ∧ Cond.methodLink own idx y ∈ lw_all ∧ Cond.instanceMethod y ∈ lw_all ∧ y.name = "<init>" ∧ y.cls ≠ "java/lang/invoke/MethodHandle" ∧ y.cls ≠ "java/lang/invoke/VarHandle" ∧ (parseMethodDescriptor y.desc).map (fun d => d.parameters.length) = some n
def fw_LIN (own : String) (idx : Nat) (y : MethodName) (cc : ByteArray) (nL : Nat) (n : Nat) : Prop := Cond.code y cc nL none ∈ lw_all ∧ Cond.initialized y.cls ∈ lw_all ∧ (∃ host, (own, idx, y, host) ∈ fw_nM) ∧ Cond.instanceMethod y ∈ lw_all ∧ y.name = "<init>" ∧ y.cls ≠ "java/lang/invoke/MethodHandle" ∧ y.cls ≠ "java/lang/invoke/VarHandle" ∧ (parseMethodDescriptor y.desc).map (fun d => d.parameters.length) = some n
def fw_LSN (own : String) (idx : Nat) (y : MethodName) (cc : ByteArray) (nL : Nat) (ret : Option FieldType) (n : Nat) : Prop := Cond.code y cc nL ret ∈ lw_all ∧ Cond.initialized y.cls ∈ lw_all ∧ (∃ host, (own, idx, y, host) ∈ fw_nM) ∧ Cond.static y ∈ lw_all ∧ y.cls ≠ "java/lang/invoke/MethodHandle" ∧ y.cls ≠ "java/lang/invoke/VarHandle" ∧ (parseMethodDescriptor y.desc).map (fun d => d.parameters.length) = some n
def fw_LF (own : String) (idx : Nat) (C : String) (x y : MethodName) (cc : ByteArray) (nL : Nat) (ret : Option FieldType) (n : Nat) : Prop := GoodIn lw_all (va_wsF own idx C x y (ws_ y cc nL ret)) ∧ (C, x, y) ∈ fw_nI ∧ x.cls ≠ "java/lang/invoke/MethodHandle" ∧ x.cls ≠ "java/lang/invoke/VarHandle" ∧ (parseMethodDescriptor x.desc).map (fun d => d.parameters.length) = some n
def fw_LA (own : String) (idx : Nat) (C : String) (x y : MethodName) (cc : ByteArray) (nL : Nat) (ret : Option FieldType) (n : Nat) : Prop := GoodIn lw_all (va_wsU own idx C x.cls x y (ws_ y cc nL ret)) ∧ x ∈ fw_nD ∧ x.cls ≠ "java/lang/invoke/MethodHandle" ∧ x.cls ≠ "java/lang/invoke/VarHandle" ∧ (parseMethodDescriptor x.desc).map (fun d => d.parameters.length) = some n
section FW4
variable {g : fw_G} {K : fw_Kt} {f bc bs pc : Nat} {Ls : List (Nat × Value)} {st : List Value} {μ : fw_M} {Q : Option Value → fw_M → Prop} {X : Nat → fw_M → Prop}
theorem fw_ti {r : Int32} (h : fw_V g K f bc bs pc Ls (.int r :: st) μ Q X) : fw_V g K f bc bs pc Ls ((some (Value.int r)).toList ++ st) μ Q X := h
theorem fw_tl {r : Int64} (h : fw_V g K f bc bs pc Ls (.long r :: st) μ Q X) : fw_V g K f bc bs pc Ls ((some (Value.long r)).toList ++ st) μ Q X := h
theorem fw_tr {r : Nat} (h : fw_V g K f bc bs pc Ls (fw_rv g r :: st) μ Q X) : fw_V g K f bc bs pc Ls ((some (fw_rv g r)).toList ++ st) μ Q X := h
theorem fw_tv (h : fw_V g K f bc bs pc Ls st μ Q X) : fw_V g K f bc bs pc Ls ((none : Option Value).toList ++ st) μ Q X := h
theorem fw_obj {g : fw_G} {μ : fw_M} {H : Heap} {s : State} {r k : Nat} {q : vw_C} (hR : fw_R g μ H) (hSt : fw_St g s) (hq : fw_cl k = some q) (hk : m_K μ r = k) : fw_rv g r = .ref (fw_ad g r) ∧ ∃ cell : Cell, H[fw_ad g r]? = some cell ∧ cell.vm = .none ∧ s.vm.findClass q.1 = some cell.cls := by
  have hin : fw_in (m_K μ r) := by rw [hk]; exact fw_in_c hq
  obtain ⟨cell, q1, q2, q3, q4⟩ := (hR.2.2.2.2.2.2 r).1 q (by rw [hk]; exact hq)
  obtain ⟨hS, hfc, -⟩ := hSt.1 k q hq
  rw [hk] at q2
  exact ⟨fw_rv_in hR hin, cell, q1, q3, by rw [q2]; exact hfc⟩
theorem fw_callV {index f1 b1 b2 nL n : Nat} {y : MethodName} {cc : ByteArray} {ret : Option FieldType} {As : List Value} {Q1 : Option Value → fw_M → Prop} {X1 : Nat → fw_M → Prop} {r k : Nat} {q : vw_C} (hlk : fw_LV K.1 index q.1 y cc nL ret n) (hq : fw_cl k = some q) (hk : m_K μ r = k) (hn : As.length = n) (hnL : nL ≤ 21) (hf : f1 + 1 ≤ f) (hb1 : b1 ≤ bc) (hb2 : b2 ≤ bs) (hst : (st.map fun v => v.category).sum ≤ 8) (d : decode K.2.2.1 pc = .ok (.invokevirtual index, 3)) (hC : fw_C g f1 b1 b2 y (ws_ y cc nL ret) (fw_rv g r :: As) μ Q1 X1) (kx : ∀ r μ', X1 r μ' → m_K μ' r = 8 → fw_sub μ μ' → fw_VX g K f (bc - b1) (bs - b2) pc Ls r μ' Q X) (kk : ∀ v μ', Q1 v μ' → fw_sub μ μ' → fw_V g K f (bc - b1) (bs - b2) (pc + 3) Ls (v.toList ++ st) μ' Q X) : fw_V g K f bc bs pc Ls (As.reverse ++ fw_rv g r :: st) μ Q X := by
  intro p l e R s m args below meth c H locs cells slots ls μ0 hF hR0 hR hL h1 h2 hl hs
  have hts := hF.2.2.2.2.2.2.1
  have hSt := hF.2.2.2.2.2.2.2.1
  obtain ⟨er, cell, c1, c2, c3⟩ := fw_obj hR hSt hq hk
  rw [er] at hC ⊢
  intro T hT XX
  rcases fx_runV (As := As) (rest := st) ⟨hF.1, hF.2.1, hF.2.2.2.2.1, hF.2.2.2.2.2.1, hts⟩ (hC l) (cwV n hts hlk.1 rfl rfl rfl hlk.2 ⟨Nat.le_trans hf hF.2.2.2.2.2.2.2.2.1, by have h40 := hF.2.2.2.2.2.2.2.2.2.1; refine Nat.le_trans ?_ h40; show 8 + (nL + 11) + 40 * f1 ≤ _; omega⟩) ⟨fw_blind, ⟨cell, c1, by rw [c2]; rfl, c3⟩, fun U hU hW => ⟨rfl, by rw [hU]; exact hR, hSt.warm hW⟩⟩ rfl hn hl.1 rfl (lv_room hst) d ⟨by omega, by omega⟩ T hT XX with ⟨v9, st₀, t, T', L, h0, X', hL', e1, e2, ⟨r9, μ', hv9, hQ9, hs9, hR9⟩, st9⟩ | ⟨q9, st₀, t, T', L, E, ce, h0, X', hL', e1, e2, ⟨r9, μ', hq9, hE9, hk9, hX9, hs9, hR9⟩, hce, hcv, hcl, st9⟩
  · cases hv9
    obtain ⟨t2, a1, z1⟩ := kk _ μ' hQ9 hs9 p l e R s m args below meth c T'.heap (locs ++ L) (cells + b1) (slots + b2) ls μ0 hF hR0 (by rw [e1]; exact hR9) (fun z hz => by
      rcases List.mem_append.mp hz with h | h
      · exact hL z h
      · exact hL' z h) (by omega) (by omega) hl (hs.tr hs9) T' rfl X'
    exact ⟨t2, st9 t2 a1, z1⟩
  · subst hq9
    obtain ⟨t2, a1, z1⟩ := kx r9 μ' hX9 hk9 hs9 p l e R s m args below meth c T'.heap (locs ++ L) (cells + b1) (slots + b2) ls μ0 st hF hR0 (by rw [e1]; exact hR9) (fun z hz => by
      rcases List.mem_append.mp hz with h | h
      · exact hL z h
      · exact hL' z h) (by omega) (by omega) hl (hs.tr hs9) T' rfl X'
    exact ⟨t2, st9.trans a1, z1⟩
theorem fw_callVW {index f1 b1 b2 nL n : Nat} {y : MethodName} {cc : ByteArray} {ret : Option FieldType} {As : List Value} {Q1 : Option Value → fw_M → Prop} {X1 : Nat → fw_M → Prop} {hh : List (Nat × Nat × Nat × Nat)} {r k : Nat} {q : vw_C} (hlk : fw_LVW K.1 index q.1 y cc nL ret hh n) (hq : fw_cl k = some q) (hk : m_K μ r = k) (hn : As.length = n) (hnL : nL ≤ 21) (hf : f1 + 1 ≤ f) (hb1 : b1 ≤ bc) (hb2 : b2 ≤ bs) (hst : (st.map fun v => v.category).sum ≤ 8) (d : decode K.2.2.1 pc = .ok (.invokevirtual index, 3)) (hC : fw_C g f1 b1 b2 y (wsW_ y cc nL ret hh) (fw_rv g r :: As) μ Q1 X1) (kx : ∀ r μ', X1 r μ' → m_K μ' r = 8 → fw_sub μ μ' → fw_VX g K f (bc - b1) (bs - b2) pc Ls r μ' Q X) (kk : ∀ v μ', Q1 v μ' → fw_sub μ μ' → fw_V g K f (bc - b1) (bs - b2) (pc + 3) Ls (v.toList ++ st) μ' Q X) : fw_V g K f bc bs pc Ls (As.reverse ++ fw_rv g r :: st) μ Q X := by
  intro p l e R s m args below meth c H locs cells slots ls μ0 hF hR0 hR hL h1 h2 hl hs
  have hts := hF.2.2.2.2.2.2.1
  have hSt := hF.2.2.2.2.2.2.2.1
  obtain ⟨er, cell, c1, c2, c3⟩ := fw_obj hR hSt hq hk
  rw [er] at hC ⊢
  intro T hT XX
  rcases fx_runVX (hh := hh) (As := As) (rest := st) ⟨hF.1, hF.2.1, hF.2.2.2.2.1, hF.2.2.2.2.2.1, hts⟩ (hC l) (fx_cwVW n hts hlk.1 rfl rfl rfl hlk.2 ⟨Nat.le_trans hf hF.2.2.2.2.2.2.2.2.1, by have h40 := hF.2.2.2.2.2.2.2.2.2.1; refine Nat.le_trans ?_ h40; show 8 + (nL + 11) + 40 * f1 ≤ _; omega⟩) ⟨fw_blind, ⟨cell, c1, by rw [c2]; rfl, c3⟩, fun U hU hW => ⟨rfl, by rw [hU]; exact hR, hSt.warm hW⟩⟩ rfl hn hl.1 rfl (lv_room hst) d ⟨by omega, by omega⟩ T hT XX with ⟨v9, st₀, t, T', L, h0, X', hL', e1, e2, ⟨r9, μ', hv9, hQ9, hs9, hR9⟩, st9⟩ | ⟨q9, st₀, t, T', L, E, ce, h0, X', hL', e1, e2, ⟨r9, μ', hq9, hE9, hk9, hX9, hs9, hR9⟩, hce, hcv, hcl, st9⟩
  · cases hv9
    obtain ⟨t2, a1, z1⟩ := kk _ μ' hQ9 hs9 p l e R s m args below meth c T'.heap (locs ++ L) (cells + b1) (slots + b2) ls μ0 hF hR0 (by rw [e1]; exact hR9) (fun z hz => by
      rcases List.mem_append.mp hz with h | h
      · exact hL z h
      · exact hL' z h) (by omega) (by omega) hl (hs.tr hs9) T' rfl X'
    exact ⟨t2, st9 t2 a1, z1⟩
  · subst hq9
    obtain ⟨t2, a1, z1⟩ := kx r9 μ' hX9 hk9 hs9 p l e R s m args below meth c T'.heap (locs ++ L) (cells + b1) (slots + b2) ls μ0 st hF hR0 (by rw [e1]; exact hR9) (fun z hz => by
      rcases List.mem_append.mp hz with h | h
      · exact hL z h
      · exact hL' z h) (by omega) (by omega) hl (hs.tr hs9) T' rfl X'
    exact ⟨t2, st9.trans a1, z1⟩
theorem fw_callA {index f1 b1 b2 nL n : Nat} {y : MethodName} {cc : ByteArray} {ret : Option FieldType} {As : List Value} {Q1 : Option Value → fw_M → Prop} {X1 : Nat → fw_M → Prop} {r k : Nat} {q : vw_C} {x : MethodName} (hlk : fw_LA K.1 index q.1 x y cc nL ret n) (hq : fw_cl k = some q) (hk : m_K μ r = k) (hn : As.length = n) (hnL : nL ≤ 21) (hf : f1 + 1 ≤ f) (hb1 : b1 ≤ bc) (hb2 : b2 ≤ bs) (hst : (st.map fun v => v.category).sum ≤ 8) (d : decode K.2.2.1 pc = .ok (.invokevirtual index, 3)) (hC : fw_C g f1 b1 b2 y (ws_ y cc nL ret) (fw_rv g r :: As) μ Q1 X1) (kx : ∀ r μ', X1 r μ' → m_K μ' r = 8 → fw_sub μ μ' → fw_VX g K f (bc - b1) (bs - b2) pc Ls r μ' Q X) (kk : ∀ v μ', Q1 v μ' → fw_sub μ μ' → fw_V g K f (bc - b1) (bs - b2) (pc + 3) Ls (v.toList ++ st) μ' Q X) : fw_V g K f bc bs pc Ls (As.reverse ++ fw_rv g r :: st) μ Q X := by
  intro p l e R s m args below meth c H locs cells slots ls μ0 hF hR0 hR hL h1 h2 hl hs
  have hts := hF.2.2.2.2.2.2.1
  have hSt := hF.2.2.2.2.2.2.2.1
  obtain ⟨er, cell, c1, c2, c3⟩ := fw_obj hR hSt hq hk
  rw [er] at hC ⊢
  intro T hT XX
  rcases fx_runU (As := As) (rest := st) ⟨hF.1, hF.2.1, hF.2.2.2.2.1, hF.2.2.2.2.2.1, hts⟩ (hC l) (va_cwA n hts hlk.1 rfl rfl rfl (hSt.2.2.2.2.2.2.1 _ hlk.2.1) hlk.2.2 ⟨Nat.le_trans hf hF.2.2.2.2.2.2.2.2.1, by have h40 := hF.2.2.2.2.2.2.2.2.2.1; refine Nat.le_trans ?_ h40; show 8 + (nL + 11) + 40 * f1 ≤ _; omega⟩) ⟨fw_blind, ⟨cell, c1, by rw [c2]; rfl, c3⟩, fun U hU hW => ⟨rfl, by rw [hU]; exact hR, hSt.warm hW⟩⟩ rfl hn hl.1 rfl (lv_room hst) d ⟨by omega, by omega⟩ T hT XX with ⟨v9, st₀, t, T', L, h0, X', hL', e1, e2, ⟨r9, μ', hv9, hQ9, hs9, hR9⟩, st9⟩ | ⟨q9, st₀, t, T', L, E, ce, h0, X', hL', e1, e2, ⟨r9, μ', hq9, hE9, hk9, hX9, hs9, hR9⟩, hce, hcv, hcl, st9⟩
  · cases hv9
    obtain ⟨t2, a1, z1⟩ := kk _ μ' hQ9 hs9 p l e R s m args below meth c T'.heap (locs ++ L) (cells + b1) (slots + b2) ls μ0 hF hR0 (by rw [e1]; exact hR9) (fun z hz => by
      rcases List.mem_append.mp hz with h | h
      · exact hL z h
      · exact hL' z h) (by omega) (by omega) hl (hs.tr hs9) T' rfl X'
    exact ⟨t2, st9 t2 a1, z1⟩
  · subst hq9
    obtain ⟨t2, a1, z1⟩ := kx r9 μ' hX9 hk9 hs9 p l e R s m args below meth c T'.heap (locs ++ L) (cells + b1) (slots + b2) ls μ0 st hF hR0 (by rw [e1]; exact hR9) (fun z hz => by
      rcases List.mem_append.mp hz with h | h
      · exact hL z h
      · exact hL' z h) (by omega) (by omega) hl (hs.tr hs9) T' rfl X'
    exact ⟨t2, st9.trans a1, z1⟩
theorem fw_callF {index f1 b1 b2 nL n : Nat} {y : MethodName} {cc : ByteArray} {ret : Option FieldType} {As : List Value} {Q1 : Option Value → fw_M → Prop} {X1 : Nat → fw_M → Prop} {r k count : Nat} {q : vw_C} {x : MethodName} (hlk : fw_LF K.1 index q.1 x y cc nL ret n) (hq : fw_cl k = some q) (hk : m_K μ r = k) (hn : As.length = n) (hnL : nL ≤ 21) (hf : f1 + 1 ≤ f) (hb1 : b1 ≤ bc) (hb2 : b2 ≤ bs) (hst : (st.map fun v => v.category).sum ≤ 8) (d : decode K.2.2.1 pc = .ok (.invokeinterface index count, 5)) (hC : fw_C g f1 b1 b2 y (ws_ y cc nL ret) (fw_rv g r :: As) μ Q1 X1) (kx : ∀ r μ', X1 r μ' → m_K μ' r = 8 → fw_sub μ μ' → fw_VX g K f (bc - b1) (bs - b2) pc Ls r μ' Q X) (kk : ∀ v μ', Q1 v μ' → fw_sub μ μ' → fw_V g K f (bc - b1) (bs - b2) (pc + 5) Ls (v.toList ++ st) μ' Q X) : fw_V g K f bc bs pc Ls (As.reverse ++ fw_rv g r :: st) μ Q X := by
  intro p l e R s m args below meth c H locs cells slots ls μ0 hF hR0 hR hL h1 h2 hl hs
  have hts := hF.2.2.2.2.2.2.1
  have hSt := hF.2.2.2.2.2.2.2.1
  obtain ⟨er, cell, c1, c2, c3⟩ := fw_obj hR hSt hq hk
  rw [er] at hC ⊢
  intro T hT XX
  rcases fx_runF (As := As) (rest := st) (hSt.1 k q hq).2 ⟨hF.1, hF.2.1, hF.2.2.2.2.1, hF.2.2.2.2.2.1, hts⟩ (hC l) (va_cwF n hts hlk.1 rfl rfl rfl (hSt.2.2.2.2.1 _ hlk.2.1) hlk.2.2 ⟨Nat.le_trans hf hF.2.2.2.2.2.2.2.2.1, by have h40 := hF.2.2.2.2.2.2.2.2.2.1; refine Nat.le_trans ?_ h40; show 8 + (nL + 11) + 40 * f1 ≤ _; omega⟩) ⟨fw_blind, ⟨cell, c1, by rw [c2]; rfl, c3⟩, fun U hU hW => ⟨rfl, by rw [hU]; exact hR, hSt.warm hW⟩⟩ rfl hn hl.1 rfl (lv_room hst) d ⟨by omega, by omega⟩ T hT XX with ⟨v9, st₀, t, T', L, h0, X', hL', e1, e2, ⟨r9, μ', hv9, hQ9, hs9, hR9⟩, st9⟩ | ⟨q9, st₀, t, T', L, E, ce, h0, X', hL', e1, e2, ⟨r9, μ', hq9, hE9, hk9, hX9, hs9, hR9⟩, hce, hcv, hcl, st9⟩
  · cases hv9
    obtain ⟨t2, a1, z1⟩ := kk _ μ' hQ9 hs9 p l e R s m args below meth c T'.heap (locs ++ L) (cells + b1) (slots + b2) ls μ0 hF hR0 (by rw [e1]; exact hR9) (fun z hz => by
      rcases List.mem_append.mp hz with h | h
      · exact hL z h
      · exact hL' z h) (by omega) (by omega) hl (hs.tr hs9) T' rfl X'
    exact ⟨t2, st9 t2 a1, z1⟩
  · subst hq9
    obtain ⟨t2, a1, z1⟩ := kx r9 μ' hX9 hk9 hs9 p l e R s m args below meth c T'.heap (locs ++ L) (cells + b1) (slots + b2) ls μ0 st hF hR0 (by rw [e1]; exact hR9) (fun z hz => by
      rcases List.mem_append.mp hz with h | h
      · exact hL z h
      · exact hL' z h) (by omega) (by omega) hl (hs.tr hs9) T' rfl X'
    exact ⟨t2, st9.trans a1, z1⟩
theorem fw_callS {index f1 b1 b2 nL n : Nat} {y : MethodName} {cc : ByteArray} {ret : Option FieldType} {As : List Value} {Q1 : Option Value → fw_M → Prop} {X1 : Nat → fw_M → Prop} (hlk : fw_LS K.1 index y cc nL ret n) (hn : As.length = n) (hnL : nL ≤ 21) (hf : f1 + 1 ≤ f) (hb1 : b1 ≤ bc) (hb2 : b2 ≤ bs) (hst : (st.map fun v => v.category).sum ≤ 8) (d : decode K.2.2.1 pc = .ok (.invokestatic index, 3)) (hC : fw_C g f1 b1 b2 y (ws_ y cc nL ret) As μ Q1 X1) (kx : ∀ r μ', X1 r μ' → m_K μ' r = 8 → fw_sub μ μ' → fw_VX g K f (bc - b1) (bs - b2) pc Ls r μ' Q X) (kk : ∀ v μ', Q1 v μ' → fw_sub μ μ' → fw_V g K f (bc - b1) (bs - b2) (pc + 3) Ls (v.toList ++ st) μ' Q X) : fw_V g K f bc bs pc Ls (As.reverse ++ st) μ Q X := by
  intro p l e R s m args below meth c H locs cells slots ls μ0 hF hR0 hR hL h1 h2 hl hs
  have hts := hF.2.2.2.2.2.2.1
  have hSt := hF.2.2.2.2.2.2.2.1
  intro T hT XX
  rcases fx_runS (As := As) (rest := st) ⟨hF.1, hF.2.1, hF.2.2.2.2.1, hF.2.2.2.2.2.1, hts⟩ (hC l) (va_cwS n hts hlk.1 rfl rfl rfl hlk.2 ⟨Nat.le_trans hf hF.2.2.2.2.2.2.2.2.1, by have h40 := hF.2.2.2.2.2.2.2.2.2.1; refine Nat.le_trans ?_ h40; show 8 + (nL + 11) + 40 * f1 ≤ _; omega⟩) ⟨fw_blind, fun U hU hW => ⟨rfl, by rw [hU]; exact hR, hSt.warm hW⟩⟩ rfl hn hl.1 rfl (lv_room hst) d ⟨by omega, by omega⟩ T hT XX with ⟨v9, st₀, t, T', L, h0, X', hL', e1, e2, ⟨r9, μ', hv9, hQ9, hs9, hR9⟩, st9⟩ | ⟨q9, st₀, t, T', L, E, ce, h0, X', hL', e1, e2, ⟨r9, μ', hq9, hE9, hk9, hX9, hs9, hR9⟩, hce, hcv, hcl, st9⟩
  · cases hv9
    obtain ⟨t2, a1, z1⟩ := kk _ μ' hQ9 hs9 p l e R s m args below meth c T'.heap (locs ++ L) (cells + b1) (slots + b2) ls μ0 hF hR0 (by rw [e1]; exact hR9) (fun z hz => by
      rcases List.mem_append.mp hz with h | h
      · exact hL z h
      · exact hL' z h) (by omega) (by omega) hl (hs.tr hs9) T' rfl X'
    exact ⟨t2, st9 t2 a1, z1⟩
  · subst hq9
    obtain ⟨t2, a1, z1⟩ := kx r9 μ' hX9 hk9 hs9 p l e R s m args below meth c T'.heap (locs ++ L) (cells + b1) (slots + b2) ls μ0 st hF hR0 (by rw [e1]; exact hR9) (fun z hz => by
      rcases List.mem_append.mp hz with h | h
      · exact hL z h
      · exact hL' z h) (by omega) (by omega) hl (hs.tr hs9) T' rfl X'
    exact ⟨t2, st9.trans a1, z1⟩
theorem fw_callSN {index f1 b1 b2 nL n : Nat} {y : MethodName} {cc : ByteArray} {ret : Option FieldType} {As : List Value} {Q1 : Option Value → fw_M → Prop} {X1 : Nat → fw_M → Prop} (hlk : fw_LSN K.1 index y cc nL ret n) (hn : As.length = n) (hnL : nL ≤ 21) (hf : f1 + 1 ≤ f) (hb1 : b1 ≤ bc) (hb2 : b2 ≤ bs) (hst : (st.map fun v => v.category).sum ≤ 8) (d : decode K.2.2.1 pc = .ok (.invokestatic index, 3)) (hC : fw_C g f1 b1 b2 y (ws_ y cc nL ret) As μ Q1 X1) (kx : ∀ r μ', X1 r μ' → m_K μ' r = 8 → fw_sub μ μ' → fw_VX g K f (bc - b1) (bs - b2) pc Ls r μ' Q X) (kk : ∀ v μ', Q1 v μ' → fw_sub μ μ' → fw_V g K f (bc - b1) (bs - b2) (pc + 3) Ls (v.toList ++ st) μ' Q X) : fw_V g K f bc bs pc Ls (As.reverse ++ st) μ Q X := by
  intro p l e R s m args below meth c H locs cells slots ls μ0 hF hR0 hR hL h1 h2 hl hs
  have hts := hF.2.2.2.2.2.2.1
  have hSt := hF.2.2.2.2.2.2.2.1
  obtain ⟨host, hM⟩ := hlk.2.2.1
  intro T hT XX
  rcases fx_runSN (As := As) (rest := st) ⟨hF.1, hF.2.1, hF.2.2.2.2.1, hF.2.2.2.2.2.1, hts⟩ (hC l) ⟨va_cnB n hts (lw_meth hlk.1) rfl rfl rfl (hSt.2.2.2.1 _ hM) (hts _ hlk.2.1) hlk.2.2.2.2 ⟨Nat.le_trans hf hF.2.2.2.2.2.2.2.2.1, by have h40 := hF.2.2.2.2.2.2.2.2.2.1; refine Nat.le_trans ?_ h40; show 8 + (nL + 11) + 40 * f1 ≤ _; omega⟩, hts _ hlk.2.2.2.1, trivial⟩ ⟨fw_blind, fun U hU hW => ⟨rfl, by rw [hU]; exact hR, hSt.warm hW⟩⟩ rfl hn hl.1 rfl (lv_room hst) d ⟨by omega, by omega⟩ T hT XX with ⟨v9, st₀, t, T', L, h0, X', hL', e1, e2, ⟨r9, μ', hv9, hQ9, hs9, hR9⟩, st9⟩ | ⟨q9, st₀, t, T', L, E, ce, h0, X', hL', e1, e2, ⟨r9, μ', hq9, hE9, hk9, hX9, hs9, hR9⟩, hce, hcv, hcl, st9⟩
  · cases hv9
    obtain ⟨t2, a1, z1⟩ := kk _ μ' hQ9 hs9 p l e R s m args below meth c T'.heap (locs ++ L) (cells + b1) (slots + b2) ls μ0 hF hR0 (by rw [e1]; exact hR9) (fun z hz => by
      rcases List.mem_append.mp hz with h | h
      · exact hL z h
      · exact hL' z h) (by omega) (by omega) hl (hs.tr hs9) T' rfl X'
    exact ⟨t2, st9 t2 a1, z1⟩
  · subst hq9
    obtain ⟨t2, a1, z1⟩ := kx r9 μ' hX9 hk9 hs9 p l e R s m args below meth c T'.heap (locs ++ L) (cells + b1) (slots + b2) ls μ0 st hF hR0 (by rw [e1]; exact hR9) (fun z hz => by
      rcases List.mem_append.mp hz with h | h
      · exact hL z h
      · exact hL' z h) (by omega) (by omega) hl (hs.tr hs9) T' rfl X'
    exact ⟨t2, st9.trans a1, z1⟩
theorem fw_callI {index f1 b1 b2 nL n : Nat} {y : MethodName} {cc : ByteArray} {As : List Value} {Q1 : Option Value → fw_M → Prop} {X1 : Nat → fw_M → Prop} {r k : Nat} {q : vw_C} (hlk : fw_LI K.1 index y cc nL n) (hq : fw_cl k = some q) (hk : m_K μ r = k) (hn : As.length = n) (hnL : nL ≤ 21) (hf : f1 + 1 ≤ f) (hb1 : b1 ≤ bc) (hb2 : b2 ≤ bs) (hst : (st.map fun v => v.category).sum ≤ 8) (d : decode K.2.2.1 pc = .ok (.invokespecial index, 3)) (hC : fw_C g f1 b1 b2 y (ws_ y cc nL none) (fw_rv g r :: As) μ Q1 X1) (kx : ∀ r μ', X1 r μ' → m_K μ' r = 8 → fw_sub μ μ' → fw_VX g K f (bc - b1) (bs - b2) pc Ls r μ' Q X) (kk : ∀ v μ', Q1 v μ' → fw_sub μ μ' → fw_V g K f (bc - b1) (bs - b2) (pc + 3) Ls (v.toList ++ st) μ' Q X) : fw_V g K f bc bs pc Ls (As.reverse ++ fw_rv g r :: st) μ Q X := by
  intro p l e R s m args below meth c H locs cells slots ls μ0 hF hR0 hR hL h1 h2 hl hs
  have hts := hF.2.2.2.2.2.2.1
  have hSt := hF.2.2.2.2.2.2.2.1
  have er : fw_rv g r = .ref (fw_ad g r) := fw_rv_in hR (by rw [hk]; exact fw_in_c hq)
  rw [er] at hC ⊢
  intro T hT XX
  rcases fx_runI (As := As) (rest := st) ⟨hF.1, hF.2.1, hF.2.2.2.2.1, hF.2.2.2.2.2.1, hts⟩ (hC l) (cwI n hts (lw_meth hlk.1) rfl rfl rfl (hts _ hlk.2.1) (hts _ hlk.2.2.1) (hts _ hlk.2.2.2.1) hlk.2.2.2.2.1 hlk.2.2.2.2.2 ⟨Nat.le_trans hf hF.2.2.2.2.2.2.2.2.1, by have h40 := hF.2.2.2.2.2.2.2.2.2.1; refine Nat.le_trans ?_ h40; show 8 + (nL + 11) + 40 * f1 ≤ _; omega⟩) ⟨fw_blind, fun U hU hW => ⟨rfl, by rw [hU]; exact hR, hSt.warm hW⟩⟩ rfl hn hl.1 rfl (lv_room hst) d ⟨by omega, by omega⟩ T hT XX with ⟨v9, st₀, t, T', L, h0, X', hL', e1, e2, ⟨r9, μ', hv9, hQ9, hs9, hR9⟩, st9⟩ | ⟨q9, st₀, t, T', L, E, ce, h0, X', hL', e1, e2, ⟨r9, μ', hq9, hE9, hk9, hX9, hs9, hR9⟩, hce, hcv, hcl, st9⟩
  · cases hv9
    obtain ⟨t2, a1, z1⟩ := kk _ μ' hQ9 hs9 p l e R s m args below meth c T'.heap (locs ++ L) (cells + b1) (slots + b2) ls μ0 hF hR0 (by rw [e1]; exact hR9) (fun z hz => by
      rcases List.mem_append.mp hz with h | h
      · exact hL z h
      · exact hL' z h) (by omega) (by omega) hl (hs.tr hs9) T' rfl X'
    exact ⟨t2, st9 t2 a1, z1⟩
  · subst hq9
    obtain ⟨t2, a1, z1⟩ := kx r9 μ' hX9 hk9 hs9 p l e R s m args below meth c T'.heap (locs ++ L) (cells + b1) (slots + b2) ls μ0 st hF hR0 (by rw [e1]; exact hR9) (fun z hz => by
      rcases List.mem_append.mp hz with h | h
      · exact hL z h
      · exact hL' z h) (by omega) (by omega) hl (hs.tr hs9) T' rfl X'
    exact ⟨t2, st9.trans a1, z1⟩
theorem fw_callIN {index f1 b1 b2 nL n : Nat} {y : MethodName} {cc : ByteArray} {As : List Value} {Q1 : Option Value → fw_M → Prop} {X1 : Nat → fw_M → Prop} {r k : Nat} {q : vw_C} (hlk : fw_LIN K.1 index y cc nL n) (hq : fw_cl k = some q) (hk : m_K μ r = k) (hn : As.length = n) (hnL : nL ≤ 21) (hf : f1 + 1 ≤ f) (hb1 : b1 ≤ bc) (hb2 : b2 ≤ bs) (hst : (st.map fun v => v.category).sum ≤ 8) (d : decode K.2.2.1 pc = .ok (.invokespecial index, 3)) (hC : fw_C g f1 b1 b2 y (ws_ y cc nL none) (fw_rv g r :: As) μ Q1 X1) (kx : ∀ r μ', X1 r μ' → m_K μ' r = 8 → fw_sub μ μ' → fw_VX g K f (bc - b1) (bs - b2) pc Ls r μ' Q X) (kk : ∀ v μ', Q1 v μ' → fw_sub μ μ' → fw_V g K f (bc - b1) (bs - b2) (pc + 3) Ls (v.toList ++ st) μ' Q X) : fw_V g K f bc bs pc Ls (As.reverse ++ fw_rv g r :: st) μ Q X := by
  intro p l e R s m args below meth c H locs cells slots ls μ0 hF hR0 hR hL h1 h2 hl hs
  have hts := hF.2.2.2.2.2.2.1
  have hSt := hF.2.2.2.2.2.2.2.1
  obtain ⟨host, hM⟩ := hlk.2.2.1
  have er : fw_rv g r = .ref (fw_ad g r) := fw_rv_in hR (by rw [hk]; exact fw_in_c hq)
  rw [er] at hC ⊢
  intro T hT XX
  rcases fx_runIN (As := As) (rest := st) ⟨hF.1, hF.2.1, hF.2.2.2.2.1, hF.2.2.2.2.2.1, hts⟩ (hC l) ⟨va_cnB n hts (lw_meth hlk.1) rfl rfl rfl (hSt.2.2.2.1 _ hM) (hts _ hlk.2.1) hlk.2.2.2.2.2 ⟨Nat.le_trans hf hF.2.2.2.2.2.2.2.2.1, by have h40 := hF.2.2.2.2.2.2.2.2.2.1; refine Nat.le_trans ?_ h40; show 8 + (nL + 11) + 40 * f1 ≤ _; omega⟩, hlk.2.2.2.2.1, hts _ hlk.2.2.2.1⟩ ⟨fw_blind, fun U hU hW => ⟨rfl, by rw [hU]; exact hR, hSt.warm hW⟩⟩ rfl hn hl.1 rfl (lv_room hst) d ⟨by omega, by omega⟩ T hT XX with ⟨v9, st₀, t, T', L, h0, X', hL', e1, e2, ⟨r9, μ', hv9, hQ9, hs9, hR9⟩, st9⟩ | ⟨q9, st₀, t, T', L, E, ce, h0, X', hL', e1, e2, ⟨r9, μ', hq9, hE9, hk9, hX9, hs9, hR9⟩, hce, hcv, hcl, st9⟩
  · cases hv9
    obtain ⟨t2, a1, z1⟩ := kk _ μ' hQ9 hs9 p l e R s m args below meth c T'.heap (locs ++ L) (cells + b1) (slots + b2) ls μ0 hF hR0 (by rw [e1]; exact hR9) (fun z hz => by
      rcases List.mem_append.mp hz with h | h
      · exact hL z h
      · exact hL' z h) (by omega) (by omega) hl (hs.tr hs9) T' rfl X'
    exact ⟨t2, st9 t2 a1, z1⟩
  · subst hq9
    obtain ⟨t2, a1, z1⟩ := kx r9 μ' hX9 hk9 hs9 p l e R s m args below meth c T'.heap (locs ++ L) (cells + b1) (slots + b2) ls μ0 st hF hR0 (by rw [e1]; exact hR9) (fun z hz => by
      rcases List.mem_append.mp hz with h | h
      · exact hL z h
      · exact hL' z h) (by omega) (by omega) hl (hs.tr hs9) T' rfl X'
    exact ⟨t2, st9.trans a1, z1⟩
def fw_LD (own : String) (idx : Nat) (cc : ByteArray) (nL : Nat) (ret : Option FieldType) (n : Nat) : Prop := own = "SpoonScales$Two" ∧ idx = 26 ∧ Cond.code fw_yB cc nL ret ∈ lw_all ∧ Cond.instanceMethod fw_yB ∈ lw_all ∧ Cond.initialized "SpoonScales$Sum" ∈ lw_all ∧ (parseMethodDescriptor "(J)J").map (fun d => d.parameters.length) = some n
theorem fw_callD {index f1 b1 b2 nL n : Nat} {cc : ByteArray} {ret : Option FieldType} {As : List Value} {Q1 : Option Value → fw_M → Prop} {X1 : Nat → fw_M → Prop} {r : Nat} (hlk : fw_LD K.1 index cc nL ret n) (hk : m_K μ r = 12) (hn : As.length = n) (hnL : nL ≤ 21) (hf : f1 + 1 ≤ f) (hb1 : b1 ≤ bc) (hb2 : b2 ≤ bs) (hst : (st.map fun v => v.category).sum ≤ 8) (d : decode K.2.2.1 pc = .ok (.invokevirtual index, 3)) (hC : fw_C g f1 b1 b2 fw_yB (ws_ fw_yB cc nL ret) (fw_rv g r :: As) μ Q1 X1) (kx : ∀ r μ', X1 r μ' → m_K μ' r = 8 → fw_sub μ μ' → fw_VX g K f (bc - b1) (bs - b2) pc Ls r μ' Q X) (kk : ∀ v μ', Q1 v μ' → fw_sub μ μ' → fw_V g K f (bc - b1) (bs - b2) (pc + 3) Ls (v.toList ++ st) μ' Q X) : fw_V g K f bc bs pc Ls (As.reverse ++ fw_rv g r :: st) μ Q X := by
  intro p l e R s m args below meth c H locs cells slots ls μ0 hF hR0 hR hL h1 h2 hl hs
  have hts := hF.2.2.2.2.2.2.1
  have hSt := hF.2.2.2.2.2.2.2.1
  obtain ⟨er, cell, c1, c2, c3⟩ := fw_obj hR hSt (k := 12) rfl hk
  rw [er] at hC ⊢
  obtain ⟨hown, rfl, hcd, hin, hini, hd⟩ := hlk
  obtain ⟨w1, w2, w3⟩ := hSt.2.2.2.2.2.2.2.2.2.2
  have ownF : s.vm.findClass "SpoonScales$Two" = some m.cls := by rw [← hown]; exact hF.2.2.2.2.2.1
  have hlen : ∀ sig, parseMethodDescriptor "(J)J" = some sig → n = sig.parameters.length := fun sig h => by
    rw [h] at hd
    exact (Option.some.inj hd).symm
  intro T hT XX
  have run : fx_Run p l e R s m args below meth c H locs cells slots b1 b2 (F0 m pc ls (As.reverse ++ .ref (fw_ad g r) :: st)) st (fw_Qc g μ Q1 (Value.ref (fw_ad g r) :: As).toArray) (fw_XC g μ X1) (fw_fr g) := by
    have hK : fx_Back l R p e below s args fw_yB 3 8 (PreOf R b1 b2 (fw_Pc g (.ref (fw_ad g r) :: As) μ)) (PostOf (fw_Qc g μ Q1) b1 b2 (fw_fr g)) (fx_Post (fw_XC g μ X1) b1 b2 (fw_fr g)) :=
      fx_back (bytes := cc) (maxL := nL) (ret := ret) (hC l) fw_blind rfl rfl (Nat.le_trans hf hF.2.2.2.2.2.2.2.2.1) (by have h40 := hF.2.2.2.2.2.2.2.2.2.1; refine Nat.le_trans ?_ h40; show 8 + (nL + 11) + 40 * f1 ≤ _; omega) (pay_in hts (lw_meth hcd)) List.mem_cons_self (fun a' U hW => word_at hW (Or.inl rfl) (hts _ hini))
    intro T hT XX
    obtain ⟨r0, rm0, hn0, hrm, hstR, hsigR⟩ := Cond.declares_spec (hSt.2.2.2.2.2.2.1 ⟨"SpoonScales$Sum", "bound", "(J)J"⟩ (by decide +kernel))
    have w2' : (Cond.sameMethod fw_xB.cls "SpoonScales$Sum" fw_xB.name fw_xB.desc).before args s = true := va_Nw.use rfl w2
    obtain ⟨cn, ck, r1, hcn, hck, hni, hff, hn1⟩ := Cond.sameMethod_found w2'
    cases hn0.symm.trans hn1
    obtain ⟨mk, methM, hnamed, hmethM, -, habM⟩ := Cond.instanceMethod_spec (hts _ hin)
    obtain ⟨c2', r2, m2, rm, q1, q2, q3, q5, q4, ⟨kP, hkP, hkPi⟩, -, q7⟩ := Cond.landsInDefault_spec (fw_lid (A' := args) rfl w3)
    cases c3.symm.trans q1
    cases hff.symm.trans q2
    cases hnamed.symm.trans q3
    cases hrm.symm.trans q5
    have hselP : selectMethod e.platform s.vm cell.cls r0 = .method mk := by rw [Launch.admits_selectMethod XX.admits]; exact q4
    obtain ⟨vm₁, X₁, hstep₁⟩ := XX.invokevirtualUpD hF.1 ownF (va_Nw.use rfl w1) w2' ⟨by decide +kernel, by decide +kernel⟩ hn0 hrm hstR (a := fw_ad g r) (cell := cell) (by rw [hT]; exact c1)
      (fun z h => by rw [c2] at h; cases h) hselP hmethM habM hkP hkPi q7 (g := F0 m pc ls (As.reverse ++ .ref (fw_ad g r) :: st)) rfl (argsL := As) (rest := st) (hn.trans (hlen _ hsigR)) rfl (by rw [hF.2.1]; exact d)
    rcases hK m meth c ⟨T.setVm vm₁, locs, cells, slots⟩ (F0 m pc ls st) (.invokevirtual 26) mk (Value.ref (fw_ad g r) :: As).toArray X₁ rfl (by rw [hF.2.2.2.2.1]; exact hl.1) (by rw [hF.2.1]; exact d) (lv_room hst) (X₁.named hnamed) ⟨by show cells + b1 ≤ _; omega, by show slots + b2 ≤ _; omega, rfl, by show fw_R g μ (T.setVm vm₁).heap; rw [show (T.setVm vm₁).heap = T.heap from rfl, hT]; exact hR, hSt.warm X₁.warmed⟩ with ⟨v, B, X', hpost, hsteps⟩ | ⟨q, B, X', hpost, hsteps⟩
    · obtain ⟨U', l2, c9, s9⟩ := B
      obtain ⟨g', mk', t, L, e1, e2, hq, h1', hL', h2', h3'⟩ := hpost
      dsimp only [Pt.U, Pt.locs, Pt.cells, Pt.slots] at X' e1 e2 h1' h2' h3' hsteps
      subst h1'; subst h2'; subst h3'
      exact Or.inl ⟨v, (T.setVm vm₁).calling g' mk' (Value.ref (fw_ad g r) :: As).toArray, t, U', L, hT, X', hL', e1, e2, hq, fun target h => hstep₁ _ fun acts => by rw [doInvoke_state]; exact hsteps.trans h⟩
    · obtain ⟨U', l2, c9, s9⟩ := B
      obtain ⟨g', mk', t, L, E, ce, e1, e2, hq, hce, hcv, hcl, h1', hL', h2', h3'⟩ := hpost
      dsimp only [Pt.U, Pt.locs, Pt.cells, Pt.slots] at X' e1 e2 h1' h2' h3' hsteps hcl
      subst h1'; subst h2'; subst h3'
      exact Or.inr ⟨q, (T.setVm vm₁).calling g' mk' (Value.ref (fw_ad g r) :: As).toArray, t, U', L, E, ce, hT, X', hL', e1, e2, hq, hce, hcv, fx_cls X₁.warmed hcl, hstep₁ _ fun acts => by rw [doInvoke_state]; exact hsteps⟩
  rcases run T hT XX with ⟨v9, st₀, t, T', L, h0, X', hL', e1, e2, ⟨r9, μ', hv9, hQ9, hs9, hR9⟩, st9⟩ | ⟨q9, st₀, t, T', L, E, ce, h0, X', hL', e1, e2, ⟨r9, μ', hq9, hE9, hk9, hX9, hs9, hR9⟩, hce, hcv, hcl, st9⟩
  · cases hv9
    obtain ⟨t2, a1, z1⟩ := kk _ μ' hQ9 hs9 p l e R s m args below meth c T'.heap (locs ++ L) (cells + b1) (slots + b2) ls μ0 hF hR0 (by rw [e1]; exact hR9) (fun z hz => by
      rcases List.mem_append.mp hz with h | h
      · exact hL z h
      · exact hL' z h) (by omega) (by omega) hl (hs.tr hs9) T' rfl X'
    exact ⟨t2, st9 t2 a1, z1⟩
  · subst hq9
    obtain ⟨t2, a1, z1⟩ := kx r9 μ' hX9 hk9 hs9 p l e R s m args below meth c T'.heap (locs ++ L) (cells + b1) (slots + b2) ls μ0 st hF hR0 (by rw [e1]; exact hR9) (fun z hz => by
      rcases List.mem_append.mp hz with h | h
      · exact hL z h
      · exact hL' z h) (by omega) (by omega) hl (hs.tr hs9) T' rfl X'
    exact ⟨t2, st9.trans a1, z1⟩
theorem fw_out {r : Nat} (hh : K.2.2.2.2.2 = []) (hk : m_K μ r = 8) (hX : X r μ) : fw_VX g K f bc bs pc Ls r μ Q X := by
  intro p l e R s m args below meth c H locs cells slots ls μ0 rest hF hR0 hR hL h1 h2 hl hs
  obtain ⟨er, cell, c1, c2, c3⟩ := fw_obj hR hF.2.2.2.2.2.2.2.1 (k := 8) rfl hk
  refine fx_widen (k := R.cells) (n := R.slots) (by omega) (by omega) (fx_out (E := "SpoonScales$Wrong") ?_ hF.2.2.2.1 c1 c2 c3 ?_ hL (Nat.le_refl _) (Nat.le_refl _))
  · intro x hx
    rw [hF.2.2.2.2.2.2.2.2.2.2.2, hh] at hx
    cases hx
  · intro t ht hv
    exact ⟨r, μ, rfl, rfl, hk, hX, hs, by rw [ht]; exact hR⟩
theorem fw_athrow {r : Nat} (hk : m_K μ r = 8) (d : decode K.2.2.1 pc = .ok (.athrow, 1)) (kk : fw_VX g K f bc bs pc Ls r μ Q X) : fw_V g K f bc bs pc Ls (fw_rv g r :: st) μ Q X := by
  intro p l e R s m args below meth c H locs cells slots ls μ0 hF hR0 hR hL h1 h2 hl hs
  have er : fw_rv g r = .ref (fw_ad g r) := fw_rv_in hR (by rw [hk]; exact fw_in_c (k := 8) rfl)
  rw [er]
  exact fx_athrow hF.1 hF.2.1 d (kk p l e R s m args below meth c H locs cells slots ls μ0 st hF hR0 hR hL h1 h2 hl hs)
theorem fw_catch {r a b h ct : Nat} (hh : K.2.2.2.2.2 = [(a, b, h, ct)]) (hp : covers ⟨a, b, h, ct⟩ pc = true) (hct : ct ≠ 0) (hlink : Cond.classLink K.1 ct "SpoonScales$Wrong" ∈ lw_all) (hk : m_K μ r = 8) (kk : fw_V g K f bc bs h Ls [fw_rv g r] μ Q X) : fw_VX g K f bc bs pc Ls r μ Q X := by
  intro p l e R s m args below meth c H locs cells slots ls μ0 rest hF hR0 hR hL h1 h2 hl hs
  obtain ⟨er, cell, c1, c2, c3⟩ := fw_obj hR hF.2.2.2.2.2.2.2.1 (k := 8) rfl hk
  rw [er] at kk
  refine fx_catch hF.2.2.2.2.2.1 [] ⟨a, b, h, ct⟩ [] (by rw [hF.2.2.2.2.2.2.2.2.2.2.2, hh]; rfl) (fun z hz => by cases hz) hp hct (hF.2.2.2.2.2.2.1 _ hlink) (va_Nw.use rfl hF.2.2.2.2.2.2.2.1.2.2.2.2.2.2.2.2.1) c1 c2 c3 ?_
  exact kk p l e R s m args below meth c H locs cells slots ls μ0 hF hR0 hR hL h1 h2 hl hs
theorem fw_gets {index : Nat} {t : String × String × String × Nat} (ht : t ∈ fw_Zs) (hlink : Cond.fieldLink K.1 index t.1 t.2.1 t.2.2.1 ∈ lw_all) (d : decode K.2.2.1 pc = .ok (.getstatic index, 3)) (kk : fw_V g K f bc bs (pc + 3) Ls (fw_rv g t.2.2.2 :: st) μ Q X) : fw_V g K f bc bs pc Ls st μ Q X := by
  intro p l e R s m args below meth c H locs cells slots ls μ0 hF hR0 hR hL h1 h2 hl hs
  have hZ := hF.2.2.2.2.2.2.2.1.2.2.2.2.2.2.2.2.2.1.1 t ht
  obtain ⟨cf, kf, fi, fl, a, cell, z1, z2, z3, z4, z5, z6, z7, z8⟩ := hZ
  exact W.gets hF.1 hF.2.1 hF.2.2.2.2.2.1 (hF.2.2.2.2.2.2.1 _ hlink) z1 z2 z3 z4 (by rw [hR.2.2.1 a (Nat.not_le.mp z8)]; exact z5) (fun e => by rw [e] at z6; cases z6) z7 rfl d (kk p l e R s m args below meth c H locs cells slots ls μ0 hF hR0 hR hL h1 h2 hl hs)
theorem fw_getz {index : Nat} {t : String × String × String × Nat} (ht : t ∈ fw_Zz) (hlink : Cond.fieldLink K.1 index t.1 t.2.1 t.2.2.1 ∈ lw_all) (d : decode K.2.2.1 pc = .ok (.getstatic index, 3)) (kk : fw_V g K f bc bs (pc + 3) Ls (fw_rv g (m_P μ 63 t.2.2.2) :: st) μ Q X) : fw_V g K f bc bs pc Ls st μ Q X := by
  intro p l e R s m args below meth c H locs cells slots ls μ0 hF hR0 hR hL h1 h2 hl hs
  have hZ := hF.2.2.2.2.2.2.2.1.2.2.2.2.2.2.2.2.2.1.2.1 t ht
  rw [← (hR.2.2.2.2.2.1 63 (by decide)).2.2 t.2.2.2] at hZ
  obtain ⟨cf, kf, fi, fl, a, cell, z1, z2, z3, z4, z5, z6, z7, z8⟩ := hZ
  exact W.gets hF.1 hF.2.1 hF.2.2.2.2.2.1 (hF.2.2.2.2.2.2.1 _ hlink) z1 z2 z3 z4 (by rw [hR.2.2.1 a (Nat.not_le.mp z8)]; exact z5) (fun e => by rw [e] at z6; cases z6) z7 rfl d (kk p l e R s m args below meth c H locs cells slots ls μ0 hF hR0 hR hL h1 h2 hl hs)
theorem fw_getc {index : Nat} (hlink : Cond.fieldLink K.1 index "java/lang/String" "COMPACT_STRINGS" "Z" ∈ lw_all) (d : decode K.2.2.1 pc = .ok (.getstatic index, 3)) (kk : fw_V g K f bc bs (pc + 3) Ls (.int 1 :: st) μ Q X) : fw_V g K f bc bs pc Ls st μ Q X := by
  intro p l e R s m args below meth c H locs cells slots ls μ0 hF hR0 hR hL h1 h2 hl hs
  have hZ := hF.2.2.2.2.2.2.2.1.2.2.2.2.2.2.2.2.2.1.2.2.1
  obtain ⟨cf, kf, fi, fl, a, cell, z1, z2, z3, z4, z5, z6, z7, z8⟩ := hZ
  exact W.gets hF.1 hF.2.1 hF.2.2.2.2.2.1 (hF.2.2.2.2.2.2.1 _ hlink) z1 z2 z3 z4 (by rw [hR.2.2.1 a (Nat.not_le.mp z8)]; exact z5) (fun e => by rw [e] at z6; cases z6) z7 rfl d (kk p l e R s m args below meth c H locs cells slots ls μ0 hF hR0 hR hL h1 h2 hl hs)
theorem fw_xs {g : fw_G} {μ : fw_M} {H : Heap} {p k : Nat} (hR : fw_R g μ H) (hp : 0 < p ∧ p < 64) (hk : m_K μ p = k) : g.2.2.2.2.2.2 p = (k, m_N μ p) ∧ (∀ j, g.2.2.2.2.1 p j = m_I μ p j) ∧ (∀ j, g.2.2.2.2.2.1 p j = m_P μ p j) ∧ fw_rv g p = .ref (fw_ad g p) := by
  obtain ⟨h1, h2, h3⟩ := hR.2.2.2.2.2.1 p hp.2
  refine ⟨?_, fun j => (h2 j).symm, fun j => (h3 j).symm, ?_⟩
  · rw [← h1, ← hk]
    rfl
  · unfold fw_rv
    rw [if_neg (by omega)]
theorem fw_xa {g : fw_G} {μ : fw_M} {H : Heap} {s : State} {ty : FieldType} {p n : Nat} {F : Nat → Value} (hR : fw_R g μ H) (h : va_T ty p n F (fun q => g.1.size ≤ q) s g.1) : ∃ cell : Cell, H[p]? = some cell ∧ s.isArrayOf cell ty ∧ cell.vm ≠ .unknown ∧ n ≤ cell.slots.size ∧ cell.slots.size.toInt32 = Int32.ofNat n ∧ ∀ j : Nat, j < n → cell.slots[j]? = some (F j) := by
  obtain ⟨cell, h1, h2, h3, h4, h5, h6, h7⟩ := h
  exact ⟨cell, by rw [hR.2.2.1 p (Nat.not_le.mp h7)]; exact h1, h2, h3, h4, h5, h6⟩
theorem fw_xin {i : Int32} {n m : Nat} (h : vp_in i n) (hm : n ≤ m) : ¬ (i < 0 ∨ m ≤ i.toNatClampNeg) := by
  intro q
  have := fw_lt h
  rcases q with q | q
  · exact h (Or.inl q)
  · omega
theorem fw_xiald {a : Nat} {i : Int32} (hp : 0 < a ∧ a < 64) (hk : m_K μ a = 150) (hin : vp_in i (m_N μ a)) (d : decode K.2.2.1 pc = .ok (.iaload, 1)) (kk : fw_V g K f bc bs (pc + 1) Ls (.int (m_I μ a i.toNatClampNeg) :: st) μ Q X) : fw_V g K f bc bs pc Ls (.int i :: fw_rv g a :: st) μ Q X := by
  intro p l e R s m args below meth c H locs cells slots ls μ0 hF hR0 hR hL h1 h2 hl hs
  obtain ⟨e1, e2, e3, e4⟩ := fw_xs hR hp hk
  rw [e4]
  have hT := (hF.2.2.2.2.2.2.2.1.2.2.2.2.2.2.2.2.2.1.2.2.2 a hp).1 (by rw [e1])
  obtain ⟨cell, hc1, hc2, hc3, hc4, hc5, hc6⟩ := fw_xa hR hT
  rw [e1] at hc4 hc6
  exact W.iald (v := .int (m_I μ a i.toNatClampNeg)) hF.1 hF.2.1 hc1 hc2 hc3 (fw_xin hin hc4) (by rw [hc6 _ (fw_lt hin), e2]) rfl rfl d (kk p l e R s m args below meth c H locs cells slots ls μ0 hF hR0 hR hL h1 h2 hl hs)
theorem fw_xaald {a : Nat} {i : Int32} (hp : 0 < a ∧ a < 64) (hk : m_K μ a = 151) (hin : vp_in i (m_N μ a)) (d : decode K.2.2.1 pc = .ok (.aaload, 1)) (kk : fw_V g K f bc bs (pc + 1) Ls (fw_rv g (m_P μ a i.toNatClampNeg) :: st) μ Q X) : fw_V g K f bc bs pc Ls (.int i :: fw_rv g a :: st) μ Q X := by
  intro p l e R s m args below meth c H locs cells slots ls μ0 hF hR0 hR hL h1 h2 hl hs
  obtain ⟨e1, e2, e3, e4⟩ := fw_xs hR hp hk
  rw [e4]
  have hT := (hF.2.2.2.2.2.2.2.1.2.2.2.2.2.2.2.2.2.1.2.2.2 a hp).2.1 (by rw [e1])
  obtain ⟨cell, hc1, hc2, hc3, hc4, hc5, hc6⟩ := fw_xa hR hT
  rw [e1] at hc4 hc6
  exact W.aald (ty := .object "java/lang/String") (v := fw_rv g (m_P μ a i.toNatClampNeg)) hF.1 hF.2.1 hc1 hc2 rfl hc3 (fw_xin hin hc4) (by rw [hc6 _ (fw_lt hin), e3]) rfl rfl d (kk p l e R s m args below meth c H locs cells slots ls μ0 hF hR0 hR hL h1 h2 hl hs)
theorem fw_xbald {a : Nat} {i : Int32} (hp : 0 < a ∧ a < 64) (hk : m_K μ a = 153) (hin : vp_in i (m_N μ a)) (d : decode K.2.2.1 pc = .ok (.baload, 1)) (kk : fw_V g K f bc bs (pc + 1) Ls (.int (m_I μ a i.toNatClampNeg) :: st) μ Q X) : fw_V g K f bc bs pc Ls (.int i :: fw_rv g a :: st) μ Q X := by
  intro p l e R s m args below meth c H locs cells slots ls μ0 hF hR0 hR hL h1 h2 hl hs
  obtain ⟨e1, e2, e3, e4⟩ := fw_xs hR hp hk
  rw [e4]
  have hT := (hF.2.2.2.2.2.2.2.1.2.2.2.2.2.2.2.2.2.1.2.2.2 a hp).2.2.2 (by rw [e1])
  obtain ⟨cell, hc1, hc2, hc3, hc4, hc5, hc6⟩ := fw_xa hR hT
  rw [e1] at hc4 hc6
  exact W.bald (v := .int (m_I μ a i.toNatClampNeg)) hF.1 hF.2.1 hc1 hc2 hc3 (fw_xin hin hc4) (by rw [hc6 _ (fw_lt hin), e2]) rfl rfl d (kk p l e R s m args below meth c H locs cells slots ls μ0 hF hR0 hR hL h1 h2 hl hs)
theorem fw_xlen150 {a : Nat} (hp : 0 < a ∧ a < 64) (hk : m_K μ a = 150) (d : decode K.2.2.1 pc = .ok (.arraylength, 1)) (kk : fw_V g K f bc bs (pc + 1) Ls (.int (Int32.ofNat (m_N μ a)) :: st) μ Q X) : fw_V g K f bc bs pc Ls (fw_rv g a :: st) μ Q X := by
  intro p l e R s m args below meth c H locs cells slots ls μ0 hF hR0 hR hL h1 h2 hl hs
  obtain ⟨e1, e2, e3, e4⟩ := fw_xs hR hp hk
  rw [e4]
  have hT := (hF.2.2.2.2.2.2.2.1.2.2.2.2.2.2.2.2.2.1.2.2.2 a hp).1 (by rw [e1])
  obtain ⟨cell, hc1, hc2, hc3, hc4, hc5, hc6⟩ := fw_xa hR hT
  rw [e1] at hc5
  exact W.alen (n := Int32.ofNat (m_N μ a)) hF.1 hF.2.1 hc1 hc2 hc5 rfl rfl d (kk p l e R s m args below meth c H locs cells slots ls μ0 hF hR0 hR hL h1 h2 hl hs)
theorem fw_xlen151 {a : Nat} (hp : 0 < a ∧ a < 64) (hk : m_K μ a = 151) (d : decode K.2.2.1 pc = .ok (.arraylength, 1)) (kk : fw_V g K f bc bs (pc + 1) Ls (.int (Int32.ofNat (m_N μ a)) :: st) μ Q X) : fw_V g K f bc bs pc Ls (fw_rv g a :: st) μ Q X := by
  intro p l e R s m args below meth c H locs cells slots ls μ0 hF hR0 hR hL h1 h2 hl hs
  obtain ⟨e1, e2, e3, e4⟩ := fw_xs hR hp hk
  rw [e4]
  have hT := (hF.2.2.2.2.2.2.2.1.2.2.2.2.2.2.2.2.2.1.2.2.2 a hp).2.1 (by rw [e1])
  obtain ⟨cell, hc1, hc2, hc3, hc4, hc5, hc6⟩ := fw_xa hR hT
  rw [e1] at hc5
  exact W.alen (n := Int32.ofNat (m_N μ a)) hF.1 hF.2.1 hc1 hc2 hc5 rfl rfl d (kk p l e R s m args below meth c H locs cells slots ls μ0 hF hR0 hR hL h1 h2 hl hs)
theorem fw_xlen153 {a : Nat} (hp : 0 < a ∧ a < 64) (hk : m_K μ a = 153) (d : decode K.2.2.1 pc = .ok (.arraylength, 1)) (kk : fw_V g K f bc bs (pc + 1) Ls (.int (Int32.ofNat (m_N μ a)) :: st) μ Q X) : fw_V g K f bc bs pc Ls (fw_rv g a :: st) μ Q X := by
  intro p l e R s m args below meth c H locs cells slots ls μ0 hF hR0 hR hL h1 h2 hl hs
  obtain ⟨e1, e2, e3, e4⟩ := fw_xs hR hp hk
  rw [e4]
  have hT := (hF.2.2.2.2.2.2.2.1.2.2.2.2.2.2.2.2.2.1.2.2.2 a hp).2.2.2 (by rw [e1])
  obtain ⟨cell, hc1, hc2, hc3, hc4, hc5, hc6⟩ := fw_xa hR hT
  rw [e1] at hc5
  exact W.alen (n := Int32.ofNat (m_N μ a)) hF.1 hF.2.1 hc1 hc2 hc5 rfl rfl d (kk p l e R s m args below meth c H locs cells slots ls μ0 hF hR0 hR hL h1 h2 hl hs)
theorem fw_xval {a index : Nat} (hp : 0 < a ∧ a < 64) (hk : m_K μ a = 152) (hlink : Cond.fieldLink K.1 index "java/lang/String" "value" "[B" ∈ lw_all) (d : decode K.2.2.1 pc = .ok (.getfield index, 3)) (kk : fw_V g K f bc bs (pc + 3) Ls (fw_rv g (m_P μ a 0) :: st) μ Q X) : fw_V g K f bc bs pc Ls (fw_rv g a :: st) μ Q X := by
  intro p l e R s m args below meth c H locs cells slots ls μ0 hF hR0 hR hL h1 h2 hl hs
  obtain ⟨e1, e2, e3, e4⟩ := fw_xs hR hp hk
  rw [e4]
  obtain ⟨cf, k9, i9, f9, cell, hc1, hc2, hc3, hc4, hc5, hc6⟩ := ((hF.2.2.2.2.2.2.2.1.2.2.2.2.2.2.2.2.2.1.2.2.2 a hp).2.2.1 (by rw [e1])).2.2
  exact W.getf hF.1 hF.2.1 hF.2.2.2.2.2.1 (hF.2.2.2.2.2.2.1 _ hlink) hc1 hc2 (by rw [hR.2.2.1 _ (Nat.not_le.mp hc6)]; exact hc3) hc4 (v := fw_rv g (m_P μ a 0)) (by rw [hc5]; rw [e3]) rfl rfl d (kk p l e R s m args below meth c H locs cells slots ls μ0 hF hR0 hR hL h1 h2 hl hs)
theorem fw_xcod {a index : Nat} (hp : 0 < a ∧ a < 64) (hk : m_K μ a = 152) (hlink : Cond.fieldLink K.1 index "java/lang/String" "coder" "B" ∈ lw_all) (d : decode K.2.2.1 pc = .ok (.getfield index, 3)) (kk : fw_V g K f bc bs (pc + 3) Ls (.int 0 :: st) μ Q X) : fw_V g K f bc bs pc Ls (fw_rv g a :: st) μ Q X := by
  intro p l e R s m args below meth c H locs cells slots ls μ0 hF hR0 hR hL h1 h2 hl hs
  obtain ⟨e1, e2, e3, e4⟩ := fw_xs hR hp hk
  rw [e4]
  obtain ⟨cf, k9, i9, f9, cell, hc1, hc2, hc3, hc4, hc5, hc6⟩ := ((hF.2.2.2.2.2.2.2.1.2.2.2.2.2.2.2.2.2.1.2.2.2 a hp).2.2.1 (by rw [e1])).2.1
  exact W.getf hF.1 hF.2.1 hF.2.2.2.2.2.1 (hF.2.2.2.2.2.2.1 _ hlink) hc1 hc2 (by rw [hR.2.2.1 _ (Nat.not_le.mp hc6)]; exact hc3) hc4 (v := .int 0) (by rw [hc5]) rfl rfl d (kk p l e R s m args below meth c H locs cells slots ls μ0 hF hR0 hR hL h1 h2 hl hs)
theorem fw_callX {index f1 b1 b2 nL n : Nat} {y : MethodName} {cc : ByteArray} {ret : Option FieldType} {As : List Value} {Q1 : Option Value → fw_M → Prop} {X1 : Nat → fw_M → Prop} {r : Nat} (hlk : fw_LV K.1 index "java/lang/String" y cc nL ret n) (hp : 0 < r ∧ r < 64) (hk : m_K μ r = 152) (hn : As.length = n) (hnL : nL ≤ 21) (hf : f1 + 1 ≤ f) (hb1 : b1 ≤ bc) (hb2 : b2 ≤ bs) (hst : (st.map fun v => v.category).sum ≤ 8) (d : decode K.2.2.1 pc = .ok (.invokevirtual index, 3)) (hC : fw_C g f1 b1 b2 y (ws_ y cc nL ret) (fw_rv g r :: As) μ Q1 X1) (kx : ∀ r μ', X1 r μ' → m_K μ' r = 8 → fw_sub μ μ' → fw_VX g K f (bc - b1) (bs - b2) pc Ls r μ' Q X) (kk : ∀ v μ', Q1 v μ' → fw_sub μ μ' → fw_V g K f (bc - b1) (bs - b2) (pc + 3) Ls (v.toList ++ st) μ' Q X) : fw_V g K f bc bs pc Ls (As.reverse ++ fw_rv g r :: st) μ Q X := by
  intro p l e R s m args below meth c H locs cells slots ls μ0 hF hR0 hR hL h1 h2 hl hs
  have hts := hF.2.2.2.2.2.2.1
  have hSt := hF.2.2.2.2.2.2.2.1
  obtain ⟨e1, e2, e3, er⟩ := fw_xs hR hp hk
  obtain ⟨cell, c1, c2, c3, c4⟩ := ((hF.2.2.2.2.2.2.2.1.2.2.2.2.2.2.2.2.2.1.2.2.2 r hp).2.2.1 (by rw [e1])).1
  rw [← hR.2.2.1 _ (Nat.not_le.mp c4)] at c1
  rw [er] at hC ⊢
  intro T hT XX
  rcases fx_runV (As := As) (rest := st) ⟨hF.1, hF.2.1, hF.2.2.2.2.1, hF.2.2.2.2.2.1, hts⟩ (hC l) (cwV n hts hlk.1 rfl rfl rfl hlk.2 ⟨Nat.le_trans hf hF.2.2.2.2.2.2.2.2.1, by have h40 := hF.2.2.2.2.2.2.2.2.2.1; refine Nat.le_trans ?_ h40; show 8 + (nL + 11) + 40 * f1 ≤ _; omega⟩) ⟨fw_blind, ⟨cell, c1, c2, c3⟩, fun U hU hW => ⟨rfl, by rw [hU]; exact hR, hSt.warm hW⟩⟩ rfl hn hl.1 rfl (lv_room hst) d ⟨by omega, by omega⟩ T hT XX with ⟨v9, st₀, t, T', L, h0, X', hL', e1, e2, ⟨r9, μ', hv9, hQ9, hs9, hR9⟩, st9⟩ | ⟨q9, st₀, t, T', L, E, ce, h0, X', hL', e1, e2, ⟨r9, μ', hq9, hE9, hk9, hX9, hs9, hR9⟩, hce, hcv, hcl, st9⟩
  · cases hv9
    obtain ⟨t2, a1, z1⟩ := kk _ μ' hQ9 hs9 p l e R s m args below meth c T'.heap (locs ++ L) (cells + b1) (slots + b2) ls μ0 hF hR0 (by rw [e1]; exact hR9) (fun z hz => by
      rcases List.mem_append.mp hz with h | h
      · exact hL z h
      · exact hL' z h) (by omega) (by omega) hl (hs.tr hs9) T' rfl X'
    exact ⟨t2, st9 t2 a1, z1⟩
  · subst hq9
    obtain ⟨t2, a1, z1⟩ := kx r9 μ' hX9 hk9 hs9 p l e R s m args below meth c T'.heap (locs ++ L) (cells + b1) (slots + b2) ls μ0 st hF hR0 (by rw [e1]; exact hR9) (fun z hz => by
      rcases List.mem_append.mp hz with h | h
      · exact hL z h
      · exact hL' z h) (by omega) (by omega) hl (hs.tr hs9) T' rfl X'
    exact ⟨t2, st9.trans a1, z1⟩
end FW4
