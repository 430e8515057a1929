section FW3
variable {g : fw_G} {K : fw_Kt} {f bc bs pc : Nat} {Ls : List (Nat × Value)} {st : List Value} {μ : fw_M} {Q : Option Value → fw_M → Prop} {X : Nat → fw_M → Prop}
theorem fw_arr {g : fw_G} {μ : fw_M} {H : Heap} {a k : Nat} {ty : FieldType} (hR : fw_R g μ H) (hk : m_K μ a = k) (ht : fw_aty k = some ty) : 64 ≤ a ∧ fw_rv g a = .ref (fw_ad g a) ∧ H[fw_ad g a]? = some (arrV (g.2.2.1 k) (m_N μ a) (fw_val g μ a)) := by
  have hin : fw_in (m_K μ a) := by rw [hk]; exact fw_in_a ht
  exact ⟨hR.2.2.2.1 a hin, fw_rv_in hR hin, by rw [← hk]; exact (hR.2.2.2.2.2.2 a).2 ty (by rw [hk]; exact ht)⟩
theorem fw_lt {i : Int32} {n : Nat} (h : vp_in i n) : i.toNatClampNeg < n := Nat.not_le.mp fun q => h (Or.inr q)
theorem fw_iald {a : Nat} {i : Int32} (hk : m_K μ a = 100) (hin : vp_in i (m_N μ a)) (d : decode K.2.2.1 pc = .ok (.iaload, 1)) (kk : fw_V g K f bc bs (pc + 1) Ls (.int (m_I μ a i.toNatClampNeg) :: st) μ Q X) : fw_V g K f bc bs pc Ls (.int i :: fw_rv g a :: st) μ Q X := by
  intro p l e R s m args below meth c H locs cells slots ls μ0 hF hR0 hR hL h1 h2 hl hs
  obtain ⟨-, e1, e2⟩ := fw_arr hR hk (ty := .int) rfl
  rw [e1]
  have hA := (hF.2.2.2.2.2.2.2.1.2.1 100 .int rfl).1
  refine W.iald (v := .int (m_I μ a i.toNatClampNeg)) hF.1 hF.2.1 e2 (hA _ _) (fun q => by cases q) (by rw [arrV_size]; exact hin) ?_ rfl rfl d (kk p l e R s m args below meth c H locs cells slots ls μ0 hF hR0 hR hL h1 h2 hl hs)
  rw [arrV_read _ _ (fw_lt hin)]
  unfold fw_val
  rw [hk]
  rfl
theorem fw_bald {a : Nat} {i : Int32} (hk : m_K μ a = 101) (hin : vp_in i (m_N μ a)) (d : decode K.2.2.1 pc = .ok (.baload, 1)) (kk : fw_V g K f bc bs (pc + 1) Ls (.int (m_I μ a i.toNatClampNeg) :: st) μ Q X) : fw_V g K f bc bs pc Ls (.int i :: fw_rv g a :: st) μ Q X := by
  intro p l e R s m args below meth c H locs cells slots ls μ0 hF hR0 hR hL h1 h2 hl hs
  obtain ⟨-, e1, e2⟩ := fw_arr hR hk (ty := .byte) rfl
  rw [e1]
  have hA := (hF.2.2.2.2.2.2.2.1.2.1 101 .byte rfl).1
  refine W.bald (v := .int (m_I μ a i.toNatClampNeg)) hF.1 hF.2.1 e2 (hA _ _) (fun q => by cases q) (by rw [arrV_size]; exact hin) ?_ rfl rfl d (kk p l e R s m args below meth c H locs cells slots ls μ0 hF hR0 hR hL h1 h2 hl hs)
  rw [arrV_read _ _ (fw_lt hin)]
  unfold fw_val
  rw [hk]
  rfl
theorem fw_lald {a : Nat} {i : Int32} (hk : m_K μ a = 102) (hin : vp_in i (m_N μ a)) (d : decode K.2.2.1 pc = .ok (.laload, 1)) (kk : fw_V g K f bc bs (pc + 1) Ls (.long (m_L μ a i.toNatClampNeg) :: st) μ Q X) : fw_V g K f bc bs pc Ls (.int i :: fw_rv g a :: st) μ Q X := by
  intro p l e R s m args below meth c H locs cells slots ls μ0 hF hR0 hR hL h1 h2 hl hs
  obtain ⟨-, e1, e2⟩ := fw_arr hR hk (ty := .long) rfl
  rw [e1]
  have hA := (hF.2.2.2.2.2.2.2.1.2.1 102 .long rfl).1
  refine W.lald (v := .long (m_L μ a i.toNatClampNeg)) hF.1 hF.2.1 e2 (hA _ _) (fun q => by cases q) (by rw [arrV_size]; exact hin) ?_ rfl rfl d (kk p l e R s m args below meth c H locs cells slots ls μ0 hF hR0 hR hL h1 h2 hl hs)
  rw [arrV_read _ _ (fw_lt hin)]
  unfold fw_val
  rw [hk]
  rfl
theorem fw_aald {a k : Nat} {ty : FieldType} {i : Int32} (hk : m_K μ a = k) (ht : fw_aty k = some ty) (hr : ty.isReference = true) (hin : vp_in i (m_N μ a)) (d : decode K.2.2.1 pc = .ok (.aaload, 1)) (kk : fw_V g K f bc bs (pc + 1) Ls (fw_rv g (m_P μ a i.toNatClampNeg) :: st) μ Q X) : fw_V g K f bc bs pc Ls (.int i :: fw_rv g a :: st) μ Q X := by
  intro p l e R s m args below meth c H locs cells slots ls μ0 hF hR0 hR hL h1 h2 hl hs
  obtain ⟨-, e1, e2⟩ := fw_arr hR hk ht
  rw [e1]
  have hA := (hF.2.2.2.2.2.2.2.1.2.1 k ty ht).1
  refine W.aald (v := fw_rv g (m_P μ a i.toNatClampNeg)) (ty := ty) hF.1 hF.2.1 e2 (hA _ _) hr (fun q => by cases q) (by rw [arrV_size]; exact hin) ?_ rfl rfl d (kk p l e R s m args below meth c H locs cells slots ls μ0 hF hR0 hR hL h1 h2 hl hs)
  rw [arrV_read _ _ (fw_lt hin)]
  unfold fw_val
  rw [hk, (fw_aty_ok k ty ht).1, fw_v2]
  cases ty <;> first | rfl | cases hr
theorem fw_alen {a k : Nat} {ty : FieldType} (hk : m_K μ a = k) (ht : fw_aty k = some ty) (d : decode K.2.2.1 pc = .ok (.arraylength, 1)) (kk : fw_V g K f bc bs (pc + 1) Ls (.int (Int32.ofNat (m_N μ a)) :: st) μ Q X) : fw_V g K f bc bs pc Ls (fw_rv g a :: st) μ Q X := by
  intro p l e R s m args below meth c H locs cells slots ls μ0 hF hR0 hR hL h1 h2 hl hs
  obtain ⟨-, e1, e2⟩ := fw_arr hR hk ht
  rw [e1]
  have hA := (hF.2.2.2.2.2.2.2.1.2.1 k ty ht).1
  exact W.alen hF.1 hF.2.1 e2 (hA _ _) (by rw [arrV_size]) rfl rfl d (kk p l e R s m args below meth c H locs cells slots ls μ0 hF hR0 hR hL h1 h2 hl hs)
theorem fw_iast {a : Nat} {i : Int32} {x : Int32} (hk : m_K μ a = 100) (hin : vp_in i (m_N μ a)) (d : decode K.2.2.1 pc = .ok (.iastore, 1)) (kk : fw_V g K f bc bs (pc + 1) Ls st (m_uI μ a i.toNatClampNeg x) Q X) : fw_V g K f bc bs pc Ls (.int x :: .int i :: fw_rv g a :: st) μ Q X := by
  intro p l e R s m args below meth c H locs cells slots ls μ0 hF hR0 hR hL h1 h2 hl hs
  obtain ⟨h64, e1, e2⟩ := fw_arr hR hk (ty := .int) rfl
  rw [e1]
  have hA := (hF.2.2.2.2.2.2.2.1.2.1 100 .int rfl).1
  refine W.iast hF.1 hF.2.1 e2 (hA _ _) (fun q => by cases q) (by rw [arrV_size]; exact hin) rfl rfl d fun H1 z1 z2 z3 => ?_
  rw [arrV_store] at z1
  have hat : fw_at g (m_K μ a) (m_N μ a) (fw_val g (m_uI μ a i.toNatClampNeg x) a) (fw_ad g a) H1 := by
    rw [hk]
    refine ⟨fun q hq => (by cases hq), fun ty hty => ?_⟩
    rw [fw_val_I (by rw [hk]; rfl)]
    exact z1
  obtain ⟨hR', hs'⟩ := hR.put (μ' := m_uI μ a i.toNatClampNeg x) (by rw [hk]; exact fw_in_a (t := .int) rfl) rfl fw_ofI hat z2 z3
  exact kk p l e R s m args below meth c H1 _ cells slots ls μ0 hF hR0 hR' (fun z hz => by
    rcases List.mem_append.mp hz with h | h
    · exact hL z h
    · cases List.mem_singleton.mp h
      exact fw_ad_ge h64) h1 h2 hl (hs.tr hs')
theorem fw_bast {a : Nat} {i : Int32} {x : Int32} (hk : m_K μ a = 101) (hin : vp_in i (m_N μ a)) (d : decode K.2.2.1 pc = .ok (.bastore, 1)) (kk : fw_V g K f bc bs (pc + 1) Ls st (m_uI μ a i.toNatClampNeg x.toInt8.toInt32) Q X) : fw_V g K f bc bs pc Ls (.int x :: .int i :: fw_rv g a :: st) μ Q X := by
  intro p l e R s m args below meth c H locs cells slots ls μ0 hF hR0 hR hL h1 h2 hl hs
  obtain ⟨h64, e1, e2⟩ := fw_arr hR hk (ty := .byte) rfl
  rw [e1]
  have hA := (hF.2.2.2.2.2.2.2.1.2.1 101 .byte rfl).1
  refine W.bast hF.1 hF.2.1 e2 (hA _ _) (fun q => by cases q) (by rw [arrV_size]; exact hin) rfl rfl d fun H1 z1 z2 z3 => ?_
  rw [arrV_store] at z1
  have hat : fw_at g (m_K μ a) (m_N μ a) (fw_val g (m_uI μ a i.toNatClampNeg x.toInt8.toInt32) a) (fw_ad g a) H1 := by
    rw [hk]
    refine ⟨fun q hq => (by cases hq), fun ty hty => ?_⟩
    rw [fw_val_I (by rw [hk]; rfl)]
    exact z1
  obtain ⟨hR', hs'⟩ := hR.put (μ' := m_uI μ a i.toNatClampNeg x.toInt8.toInt32) (by rw [hk]; exact fw_in_a (t := .byte) rfl) rfl fw_ofI hat z2 z3
  exact kk p l e R s m args below meth c H1 _ cells slots ls μ0 hF hR0 hR' (fun z hz => by
    rcases List.mem_append.mp hz with h | h
    · exact hL z h
    · cases List.mem_singleton.mp h
      exact fw_ad_ge h64) h1 h2 hl (hs.tr hs')
theorem fw_last {a : Nat} {i : Int32} {x : Int64} (hk : m_K μ a = 102) (hin : vp_in i (m_N μ a)) (d : decode K.2.2.1 pc = .ok (.lastore, 1)) (kk : fw_V g K f bc bs (pc + 1) Ls st (m_uL μ a i.toNatClampNeg x) Q X) : fw_V g K f bc bs pc Ls (.long x :: .int i :: fw_rv g a :: st) μ Q X := by
  intro p l e R s m args below meth c H locs cells slots ls μ0 hF hR0 hR hL h1 h2 hl hs
  obtain ⟨h64, e1, e2⟩ := fw_arr hR hk (ty := .long) rfl
  rw [e1]
  have hA := (hF.2.2.2.2.2.2.2.1.2.1 102 .long rfl).1
  refine W.last hF.1 hF.2.1 e2 (hA _ _) (fun q => by cases q) (by rw [arrV_size]; exact hin) rfl rfl d fun H1 z1 z2 z3 => ?_
  rw [arrV_store] at z1
  have hat : fw_at g (m_K μ a) (m_N μ a) (fw_val g (m_uL μ a i.toNatClampNeg x) a) (fw_ad g a) H1 := by
    rw [hk]
    refine ⟨fun q hq => (by cases hq), fun ty hty => ?_⟩
    rw [fw_val_L (by rw [hk]; rfl)]
    exact z1
  obtain ⟨hR', hs'⟩ := hR.put (μ' := m_uL μ a i.toNatClampNeg x) (by rw [hk]; exact fw_in_a (t := .long) rfl) rfl fw_ofL hat z2 z3
  exact kk p l e R s m args below meth c H1 _ cells slots ls μ0 hF hR0 hR' (fun z hz => by
    rcases List.mem_append.mp hz with h | h
    · exact hL z h
    · cases List.mem_singleton.mp h
      exact fw_ad_ge h64) h1 h2 hl (hs.tr hs')
/-- what may be stored in an array of references of kind k: a cell of kind j -/
def fw_As (k j : Nat) : Prop := (k = 103 ∧ j = 100) ∨ ∃ q x y, fw_cl j = some q ∧ (q.1, x, y) ∈ fw_nI ∧ fw_aty k = some (.object x.cls)
theorem fw_aast {a v k j : Nat} {ty : FieldType} {i : Int32} (hk : m_K μ a = k) (ht : fw_aty k = some ty) (hr : ty.isReference = true) (hj : m_K μ v = j) (has : fw_As k j ∨ ∃ q, fw_cl j = some q ∧ ty = .object q.1) (hin : vp_in i (m_N μ a)) (d : decode K.2.2.1 pc = .ok (.aastore, 1)) (kk : fw_V g K f bc bs (pc + 1) Ls st (m_uP μ a i.toNatClampNeg v) Q X) : fw_V g K f bc bs pc Ls (fw_rv g v :: .int i :: fw_rv g a :: st) μ Q X := by
  intro p l e R s m args below meth c H locs cells slots ls μ0 hF hR0 hR hL h1 h2 hl hs
  obtain ⟨h64, e1, e2⟩ := fw_arr hR hk ht
  rw [e1]
  have hSt := hF.2.2.2.2.2.2.2.1
  have hc2 : fw_code ty = 2 := by cases ty <;> first | rfl | cases hr
  have hlt : i.toNatClampNeg < m_N μ a := fw_lt hin
  have h0 : ¬ i < 0 := fun q => hin (Or.inl q)
  -- the class of the array, the class of what is stored
  have key : ∃ (kA kv kcomp : Class) (comp : ClassId) (cv : Cell), s.vm.classes[g.2.2.1 k]? = some kA ∧ kA.kind = .array comp ty ∧ s.vm.classes[comp]? = some kcomp ∧ fw_rv g v = .ref (fw_ad g v) ∧ H[fw_ad g v]? = some cv ∧ cv.vm = .none ∧ s.vm.classes[cv.cls]? = some kv ∧ s.vm.assignable cv.cls comp = true := by
    have obj : ∀ q, fw_cl j = some q → fw_rv g v = .ref (fw_ad g v) ∧ ∃ cv, H[fw_ad g v]? = some cv ∧ cv.vm = .none ∧ s.vm.findClass q.1 = some cv.cls ∧ ∃ kv, s.vm.classes[cv.cls]? = some kv := by
      intro q hq
      have hin2 : fw_in (m_K μ v) := by rw [hj]; exact fw_in_c hq
      obtain ⟨cell, q1, q2, q3, q4⟩ := (hR.2.2.2.2.2.2 v).1 q (by rw [hj]; exact hq)
      obtain ⟨hS, hfc, kC, hkC, hkind⟩ := hSt.1 j q hq
      rw [hj] at q2
      exact ⟨fw_rv_in hR hin2, cell, q1, q3, by rw [q2]; exact hfc, kC, by rw [q2]; exact hkC⟩
    rcases has with (⟨rfl, rfl⟩ | ⟨q, x, y, hq, hm, hty⟩) | ⟨q, hq, rfl⟩
    · cases ht
      obtain ⟨kA, comp, a1, a2, a3⟩ := hSt.2.2.2.2.2.2.2.1.1
      obtain ⟨-, b1, b2⟩ := fw_arr hR hj (ty := .int) rfl
      have hn := (hSt.2.1 100 .int rfl).2.1
      have hcomp : comp = g.2.2.1 100 := Option.some.inj (a3.symm.trans hn)
      obtain ⟨kc, hkc, -⟩ := Vm.findClass_spec a3
      refine ⟨kA, kc, kc, comp, _, a1, a2, hkc, b1, b2, rfl, ?_, ?_⟩
      · rw [← hcomp]; exact hkc
      · show s.vm.assignable (g.2.2.1 100) comp = true
        rw [hcomp]
        exact va_asg _ _
    · obtain ⟨b1, cv, b2, b3, b4, kv, b5⟩ := obj q hq
      cases ht.symm.trans hty
      obtain ⟨kA, comp, a1, a2, a3, -⟩ := (hSt.2.1 k _ hty).2.2 _ rfl
      obtain ⟨kc, hkc, -⟩ := Vm.findClass_spec a3
      obtain ⟨-, -, -, -, hcast⟩ := hSt.2.2.2.2.1 _ hm
      obtain ⟨c3, t3, w1, w2, w3⟩ := Cond.castable_spec hcast
      cases Option.some.inj (b4.symm.trans w1)
      cases Option.some.inj (a3.symm.trans w2)
      exact ⟨kA, kv, kc, comp, cv, a1, a2, hkc, b1, b2, b3, b5, w3⟩
    · obtain ⟨b1, cv, b2, b3, b4, kv, b5⟩ := obj q hq
      obtain ⟨kA, comp, a1, a2, a3, -⟩ := (hSt.2.1 k _ ht).2.2 _ rfl
      cases Option.some.inj (a3.symm.trans b4)
      exact ⟨kA, kv, kv, cv.cls, cv, a1, a2, b5, b1, b2, b3, b5, va_asg _ _⟩
  obtain ⟨kA, kv, kcomp, comp, cv, a1, a2, a3, b1, b2, b3, b4, b5⟩ := key
  rw [b1]
  refine W.aast hF.1 hF.2.1 e2 (fun q h => by cases h) (fun h => by cases h) a1 a2 hr a3 ⟨h0, by rw [arrV_size]; exact hlt⟩ b2 (fun q h => by rw [b3] at h; cases h) b4 b5 rfl rfl d fun H1 z1 z2 z3 => ?_
  rw [arrV_store, ← b1] at z1
  have hat : fw_at g (m_K μ a) (m_N μ a) (fw_val g (m_uP μ a i.toNatClampNeg v) a) (fw_ad g a) H1 := by
    rw [hk]
    refine ⟨fun q hq => ?_, fun ty' hty => ?_⟩
    · rw [(fw_aty_ok k ty ht).2.2] at hq
      cases hq
    · rw [fw_val_P (by rw [hk, (fw_aty_ok k ty ht).1]; exact hc2)]
      exact z1
  obtain ⟨hR', hs'⟩ := hR.put (μ' := m_uP μ a i.toNatClampNeg v) (by rw [hk]; exact fw_in_a ht) rfl fw_ofP hat z2 z3
  exact kk p l e R s m args below meth c H1 _ cells slots ls μ0 hF hR0 hR' (fun z hz => by
    rcases List.mem_append.mp hz with h | h
    · exact hL z h
    · cases List.mem_singleton.mp h
      exact fw_ad_ge h64) h1 h2 hl (hs.tr hs')
theorem fw_new_eq {α : Type} (f : Nat → Nat → α) (p j : Nat) (d : α) : fw_new f p d p j = d := by simp [fw_new]
theorem fw_new_ne {α : Type} (f : Nat → Nat → α) {p q : Nat} (j : Nat) (d : α) (h : q ≠ p) : fw_new f p d q j = f q j := by simp [fw_new, h]
theorem fw_R.al {g : fw_G} {μ : fw_M} {H H1 : Heap} {k n : Nat} (hR : fw_R g μ H) (hk : fw_in k) (hz : H1.size = H.size + 1) (ho : ∀ q : Nat, q < H.size → H1[q]? = H[q]?) (hat : fw_at g k n (fun j => fw_v g (fw_code (fw_ty k j)) 0 0 0) H.size H1) : fw_R g (m_al μ k n) H1 ∧ fw_sub μ (m_al μ k n) ∧ fw_ad g (m_x μ) = H.size ∧ fw_rv g (m_x μ) = .ref H.size := by
  obtain ⟨r1, r2, r3, r4, r5, r6, r7⟩ := hR
  have hx : m_x (m_al μ k n) = m_x μ + 1 := rfl
  have hS : ∀ q, m_S (m_al μ k n) q = if q = m_x μ then (k, n) else m_S μ q := fun q => rfl
  have hK1 : m_K (m_al μ k n) (m_x μ) = k := by
    show (m_S (m_al μ k n) (m_x μ)).1 = k
    rw [hS, if_pos rfl]
  have hN1 : m_N (m_al μ k n) (m_x μ) = n := by
    show (m_S (m_al μ k n) (m_x μ)).2 = n
    rw [hS, if_pos rfl]
  have hK2 : ∀ q, q ≠ m_x μ → m_K (m_al μ k n) q = m_K μ q := fun q hq => by
    show (m_S (m_al μ k n) q).1 = (m_S μ q).1
    rw [hS, if_neg hq]
  have hN2 : ∀ q, q ≠ m_x μ → m_N (m_al μ k n) q = m_N μ q := fun q hq => by
    show (m_S (m_al μ k n) q).2 = (m_S μ q).2
    rw [hS, if_neg hq]
  have hI2 : ∀ q j, q ≠ m_x μ → m_I (m_al μ k n) q j = m_I μ q j := fun q j hq => fw_new_ne _ _ _ hq
  have hL2 : ∀ q j, q ≠ m_x μ → m_L (m_al μ k n) q j = m_L μ q j := fun q j hq => fw_new_ne _ _ _ hq
  have hP2 : ∀ q j, q ≠ m_x μ → m_P (m_al μ k n) q j = m_P μ q j := fun q j hq => fw_new_ne _ _ _ hq
  have had : fw_ad g (m_x μ) = H.size := by
    unfold fw_ad
    rw [if_neg (by omega)]
    exact r1
  refine ⟨⟨by rw [hx, hz]; omega, by rw [hx]; omega, fun a ha => ?_, fun q hq => ?_, fun q hq => ?_, fun q hq => ?_, fun q => ?_⟩, ⟨by rw [hx]; omega, fun q hq => ?_⟩, had, ?_⟩
  · rw [ho a (by omega)]
    exact r3 a ha
  · by_cases e : q = m_x μ
    · omega
    · exact r4 q (by rw [← hK2 q e]; exact hq)
  · by_cases e : q = m_x μ
    · omega
    · have := r5 q (by rw [← hK2 q e]; exact hq)
      omega
  · have e : q ≠ m_x μ := by omega
    refine ⟨by rw [hS, if_neg e]; exact (r6 q hq).1, fun j => by rw [hI2 q j e]; exact (r6 q hq).2.1 j, fun j => by rw [hP2 q j e]; exact (r6 q hq).2.2 j⟩
  · by_cases e : q = m_x μ
    · subst e
      rw [hK1, hN1, had]
      have ev : fw_val g (m_al μ k n) (m_x μ) = fun j => fw_v g (fw_code (fw_ty k j)) 0 0 0 := by
        funext j
        unfold fw_val
        rw [hK1]
        show fw_v g _ (fw_new μ.1 μ.2.2.2.2 0 μ.2.2.2.2 j) (fw_new μ.2.1 μ.2.2.2.2 0 μ.2.2.2.2 j) (fw_new μ.2.2.1 μ.2.2.2.2 0 μ.2.2.2.2 j) = _
        rw [fw_new_eq, fw_new_eq, fw_new_eq]
      rw [ev]
      exact hat
    · rw [hK2 q e, hN2 q e]
      have ev : fw_val g (m_al μ k n) q = fw_val g μ q := by
        funext j
        unfold fw_val
        rw [hK2 q e, hI2 q j e, hL2 q j e, hP2 q j e]
      rw [ev]
      by_cases hi : fw_in (m_K μ q)
      · have h64 := r4 q hi
        have hlt := r5 q (fw_in_0 hi)
        refine (r7 q).kept (ho _ ?_)
        rw [← had]
        unfold fw_ad
        rw [if_neg (by omega), if_neg (by omega)]
        omega
      · exact fw_at.out hi
  · by_cases e : q = m_x μ
    · subst e
      have := r5 _ hq
      omega
    · rw [hS, if_neg e]
  · unfold fw_rv
    rw [if_neg (by omega), had]
theorem fw_newo {index k : Nat} {q : vw_C} (hq : fw_cl k = some q) (hcl : Cond.classLink K.1 index q.1 ∈ lw_all) (hins : Cond.instantiable q.1 q.2.2 ∈ lw_all) (hini : Cond.initialized q.1 ∈ lw_all) (hbc : 1 ≤ bc) (hbs : q.2.2 ≤ bs) (d : decode K.2.2.1 pc = .ok (.new index, 3)) (kk : fw_V g K f (bc - 1) (bs - q.2.2) (pc + 3) Ls (fw_rv g (m_x μ) :: st) (m_al μ k q.2.2) Q X) : fw_V g K f bc bs pc Ls st μ Q X := by
  intro p l e R s m args below meth c H locs cells slots ls μ0 hF hR0 hR hL h1 h2 hl hs
  have hts := hF.2.2.2.2.2.2.1
  have hSt := hF.2.2.2.2.2.2.2.1
  obtain ⟨ok1, ok2, ok3, ok4⟩ := fw_cl_ok k q hq
  have hKn := hSt.1 k q hq
  refine W.newcK hF.1 hF.2.1 hF.2.2.2.2.2.1 (hts _ hcl) (hts _ hins) (hts _ hini) rfl d (by omega) (by omega) hKn.2.1 rfl fun H1 kC hkC e1 z1 o1 => ?_
  obtain ⟨hR', hs', had, hrv⟩ := hR.al (k := k) (n := q.2.2) (fw_in_c hq) z1 o1 (by
    refine ⟨fun q' e => ?_, fun ty e => ?_⟩
    · cases hq.symm.trans e
      exact (u_born (fw_ty k) hts ok1 hKn hkC e1 ok2).to (fun j hj => fw_dflt g _ (ok4 j hj))
    · rw [(fw_aty_ok k ty e).2.2] at hq
      cases hq)
  have k2 := kk p l e R s m args below meth c H1 locs (cells + 1) (slots + q.2.2) ls μ0 hF hR0 hR' hL (by omega) (by omega) hl (hs.tr hs')
  rw [hrv] at k2
  exact k2
theorem fw_newa {k : Nat} {ty : FieldType} {atype : ArrayType} {n : Int32} (ht : fw_aty k = some ty) (hty : newarray.typeOf atype = ty) (harr : Cond.arrayClass ty ∈ lw_all) (hn : ¬ n < 0) (hb : n.toNatClampNeg * componentBytes ty ≤ 536870912) (hbc : 1 ≤ bc) (hbs : n.toNatClampNeg ≤ bs) (d : decode K.2.2.1 pc = .ok (.newarray atype, 2)) (kk : fw_V g K f (bc - 1) (bs - n.toNatClampNeg) (pc + 2) Ls (fw_rv g (m_x μ) :: st) (m_al μ k n.toNatClampNeg) Q X) : fw_V g K f bc bs pc Ls (.int n :: st) μ Q X := by
  intro p l e R s m args below meth c H locs cells slots ls μ0 hF hR0 hR hL h1 h2 hl hs
  have hts := hF.2.2.2.2.2.2.1
  have hSt := hF.2.2.2.2.2.2.2.1
  subst hty
  refine va_newaK hF.1 hF.2.1 (hts _ harr) rfl d rfl hn rfl hb (by omega) (by omega) rfl fun H1 cA e1 z1 o1 hAr hNm => ?_
  cases Option.some.inj (hNm.symm.trans (hSt.2.1 k _ ht).2.1)
  obtain ⟨hR', hs', had, hrv⟩ := hR.al (k := k) (n := n.toNatClampNeg) (fw_in_a ht) z1 o1 (by
    refine ⟨fun q' e => ?_, fun ty e => ?_⟩
    · rw [(fw_aty_ok k _ ht).2.2] at e
      cases e
    · rw [e1]
      have : (fun j => fw_v g (fw_code (fw_ty k j)) 0 0 0) = fun _ => defaultValue (newarray.typeOf atype) := by
        funext j
        rw [(fw_aty_ok k _ ht).1, fw_dflt g _ (fw_aty_ok k _ ht).2.1]
      rw [this])
  have k2 := kk p l e R s m args below meth c H1 locs (cells + 1) (slots + n.toNatClampNeg) ls μ0 hF hR0 hR' hL (by omega) (by omega) hl (hs.tr hs')
  rw [hrv] at k2
  exact k2
theorem fw_newq {k index : Nat} {C : String} {n : Int32} (ht : fw_aty k = some (.object C)) (hcl : Cond.classLink K.1 index C ∈ lw_all) (hover : C ∈ fw_nA) (hn : ¬ n < 0) (hb : n.toNatClampNeg * 4 ≤ 536870912) (hbc : 1 ≤ bc) (hbs : n.toNatClampNeg ≤ bs) (d : decode K.2.2.1 pc = .ok (.anewarray index, 3)) (kk : fw_V g K f (bc - 1) (bs - n.toNatClampNeg) (pc + 3) Ls (fw_rv g (m_x μ) :: st) (m_al μ k n.toNatClampNeg) Q X) : fw_V g K f bc bs pc Ls (.int n :: st) μ Q X := by
  intro p l e R s m args below meth c H locs cells slots ls μ0 hF hR0 hR hL h1 h2 hl hs
  have hts := hF.2.2.2.2.2.2.1
  have hSt := hF.2.2.2.2.2.2.2.1
  refine W.anew hF.1 hF.2.1 hF.2.2.2.2.2.1 (hts _ hcl) (va_AO.use (hSt.2.2.2.2.2.1 _ hover)) rfl d rfl hn hb (by omega) (by omega) fun cA kA comp f1 f2 f3 f4 => ?_
  cases Option.some.inj (f1.symm.trans (hSt.2.1 k _ ht).2.1)
  generalize hH1 : H.push ({ cls := g.2.2.1 k, slots := Array.replicate n.toNatClampNeg .null, vm := .none } : Cell) = H1
  have z1 : H1.size = H.size + 1 := by rw [← hH1, Array.size_push]
  have e1 : H1[H.size]? = some (arrV (g.2.2.1 k) n.toNatClampNeg (fun _ => .null)) := by rw [← hH1, Array.getElem?_push_size, ← arrV_new]
  have o1 : ∀ q : Nat, q < H.size → H1[q]? = H[q]? := fun q hq => by rw [← hH1, Array.getElem?_push, if_neg (Nat.ne_of_lt hq)]
  obtain ⟨hR', hs', had, hrv⟩ := hR.al (k := k) (n := n.toNatClampNeg) (fw_in_a ht) z1 o1 (by
    refine ⟨fun q' e => ?_, fun ty e => ?_⟩
    · rw [(fw_aty_ok k _ ht).2.2] at e
      cases e
    · rw [e1]
      have : (fun j => fw_v g (fw_code (fw_ty k j)) 0 0 0) = fun _ => Value.null := by
        funext j
        rw [(fw_aty_ok k _ ht).1]
        rfl
      rw [this])
  have k2 := kk p l e R s m args below meth c H1 locs (cells + 1) (slots + n.toNatClampNeg) ls μ0 hF hR0 hR' hL (by omega) (by omega) hl (hs.tr hs')
  rw [hrv] at k2
  exact k2
theorem fw_objInit {index r k : Nat} {q : vw_C} (hq : fw_cl k = some q) (hk : m_K μ r = k) (hlk : Cond.methodLink K.1 index Lib.objectInit ∈ lw_all) (hin : Cond.instanceMethod Lib.objectInit ∈ lw_all) (hcd : Cond.code Lib.objectInit ⟨#[0xb1]⟩ 1 none ∈ lw_all) (hf : 1 ≤ f) (hst : (st.map fun v => v.category).sum ≤ 8) (d : decode K.2.2.1 pc = .ok (.invokespecial index, 3)) (kk : fw_V g K f bc bs (pc + 3) Ls st μ Q X) : fw_V g K f bc bs pc Ls (fw_rv g r :: st) μ Q X := by
  intro p l e R s m args below meth c H locs cells slots ls μ0 hF hR0 hR hL h1 h2 hl hs
  have hts := hF.2.2.2.2.2.2.1
  have e9 : fw_rv g r = .ref (fw_ad g r) := fw_rv_in hR (by rw [hk]; exact fw_in_c hq)
  rw [e9]
  exact W.objInit hF.1 hF.2.1 hF.2.2.2.2.2.1 (hts _ hlk) (hts _ hin) (hts _ hcd) rfl (by rw [hF.2.2.2.2.1]; exact hl.1) rfl d (Nat.le_trans hf hF.2.2.2.2.2.2.2.2.1) (by have h40 := hF.2.2.2.2.2.2.2.2.2.1; refine Nat.le_trans ?_ h40; show 2 * 0 + _ + 12 ≤ _; omega) (kk p l e R s m args below meth c H locs cells slots ls μ0 hF hR0 hR hL h1 h2 hl hs)
theorem fw_R.cp {g : fw_G} {μ : fw_M} {p sp q dp n : Nat} : ∀ r, r ≠ q → (∀ j, m_I (m_cp μ p sp q dp n) r j = m_I μ r j) ∧ (∀ j, m_L (m_cp μ p sp q dp n) r j = m_L μ r j) ∧ ∀ j, m_P (m_cp μ p sp q dp n) r j = m_P μ r j := by
  intro r hr
  refine ⟨fun j => ?_, fun _ => rfl, fun _ => rfl⟩
  show (if r = q ∧ dp ≤ j ∧ j < dp + n then μ.1 p (sp + (j - dp)) else μ.1 r j) = μ.1 r j
  rw [if_neg (fun h => hr h.1)]
theorem fw_copy {index a b : Nat} {sp dp n : Int32} (hlk : Cond.methodLink K.1 index arraycopyName ∈ lw_all) (hnat : Cond.native arraycopyName ∈ lw_all) (hstat : Cond.static arraycopyName ∈ lw_all) (hini : Cond.initialized "java/lang/System" ∈ lw_all) (ha : m_K μ a = 100) (hb : m_K μ b = 100) (n1 : ¬ sp < 0) (n2 : ¬ dp < 0) (n3 : ¬ n < 0) (n4 : sp.toNatClampNeg + n.toNatClampNeg ≤ m_N μ a) (n5 : dp.toNatClampNeg + n.toNatClampNeg ≤ m_N μ b) (hf : 1 ≤ f) (hst : (st.map fun v => v.category).sum ≤ 8) (d : decode K.2.2.1 pc = .ok (.invokestatic index, 3)) (kk : fw_V g K f bc bs (pc + 3) Ls st (m_cp μ a sp.toNatClampNeg b dp.toNatClampNeg n.toNatClampNeg) Q X) : fw_V g K f bc bs pc Ls (.int n :: .int dp :: fw_rv g b :: .int sp :: fw_rv g a :: st) μ Q X := by
  intro p l e R s m args below meth c H locs cells slots ls μ0 hF hR0 hR hL h1 h2 hl hs
  have hts := hF.2.2.2.2.2.2.1
  obtain ⟨a64, ea, ha2⟩ := fw_arr hR ha (ty := .int) rfl
  obtain ⟨b64, eb, hb2⟩ := fw_arr hR hb (ty := .int) rfl
  rw [ea, eb]
  have hA := (hF.2.2.2.2.2.2.2.1.2.1 100 .int rfl).1
  have va : fw_val g μ a = fun j => .int (m_I μ a j) := by
    funext j
    unfold fw_val
    rw [ha]
    rfl
  have vb : fw_val g μ b = fun j => .int (m_I μ b j) := by
    funext j
    unfold fw_val
    rw [hb]
    rfl
  rw [va] at ha2
  rw [vb] at hb2
  have nn : ∀ z : Int32, ¬ z < 0 → z.toInt = (z.toNatClampNeg : Int) := by
    intro z hz
    have hz0 : (0 : Int) ≤ z.toInt := by
      have := Int32.not_lt.mp hz
      simpa using Int32.le_iff_toInt_le.mp this
    show z.toInt = ((z.toInt.toNat : Nat) : Int)
    omega
  intro T hT XX
  obtain ⟨-, k0, hk0, cm0, hkk0⟩ := hA (m_N μ a) (fun j => .int (m_I μ a j))
  obtain ⟨-, k1, hk1, cm1, hkk1⟩ := hA (m_N μ b) (fun j => .int (m_I μ b j))
  obtain ⟨vm', X', step⟩ := XX.arraycopy hF.1 hF.2.2.2.2.2.1 (hts _ hlk) (hts _ hnat) (hts _ hstat) (hts _ hini) (src := fw_ad g a) (dst := fw_ad g b) (cs := arrV (g.2.2.1 100) (m_N μ a) (fun j => .int (m_I μ a j))) (cd := arrV (g.2.2.1 100) (m_N μ b) (fun j => .int (m_I μ b j))) (srcPos := sp) (destPos := dp) (n := n) (by rw [hT]; exact ha2) (by rw [hT]; exact hb2)
    (fun _ h => by cases h) (fun _ h => by cases h) (fun h => by cases h) (fun h => by cases h) hk0 hk1 hkk0 hkk1 (by decide) n1 n2 n3
    (by rw [nn sp n1, nn n n3, arrV_size]; omega)
    (by rw [nn dp n2, nn n n3, arrV_size]; omega)
    (fun vm₁ _ i hi => by
      have e : (arrV (g.2.2.1 100) (m_N μ a) (fun j => .int (m_I μ a j))).slots.getD (sp.toNatClampNeg + i) .null = .int (m_I μ a (sp.toNatClampNeg + i)) := by
        rw [Array.getD_eq_getD_getElem?, arrV_read _ _ (by omega)]
        rfl
      refine ⟨?_, ?_⟩
      · rw [e]
        rfl
      · rw [e]
        exact trivial)
    (g := F0 m pc ls (.int n :: .int dp :: .ref (fw_ad g b) :: .int sp :: .ref (fw_ad g a) :: st)) rfl (by rw [hF.2.2.2.2.1]; exact hl.1) (rest := st) rfl (by rw [hF.2.1]; exact d) (Nat.le_trans hf hF.2.2.2.2.2.2.2.2.1) (by have h40 := hF.2.2.2.2.2.2.2.2.2.1; refine Nat.le_trans ?_ h40; show 2 * 0 + _ + (nativeFrameWords "java/lang/System" "arraycopy" 5 + 11) ≤ _; have : nativeFrameWords "java/lang/System" "arraycopy" 5 ≤ 20 := (by decide +kernel); omega)
  have e1 : copied (arrV (g.2.2.1 100) (m_N μ a) (fun j => .int (m_I μ a j))) (arrV (g.2.2.1 100) (m_N μ b) (fun j => .int (m_I μ b j))) sp dp n = arrV (g.2.2.1 100) (m_N μ b) (fun j => .int (va_cpy (m_I μ a) (m_I μ b) sp.toNatClampNeg dp.toNatClampNeg n.toNatClampNeg j)) := va_copied (fun z => .int z) _ _ _ _ n4
  rw [e1] at X' step
  have hlb : fw_ad g b < H.size := (Array.getElem?_eq_some_iff.mp hb2).1
  generalize hce : arrV (g.2.2.1 100) (m_N μ b) (fun j => .int (va_cpy (m_I μ a) (m_I μ b) sp.toNatClampNeg dp.toNatClampNeg n.toNatClampNeg j)) = ce at X' step
  have hheap : ((T.setVm vm').setCell (fw_ad g b) ce).heap = H.setIfInBounds (fw_ad g b) ce := by rw [← hT]; rfl
  have oq : ∀ q : Nat, q ≠ fw_ad g b → (H.setIfInBounds (fw_ad g b) ce)[q]? = H[q]? := fun q hq => by simp [Array.getElem?_setIfInBounds, Ne.symm hq]
  have hat : fw_at g (m_K μ b) (m_N μ b) (fw_val g (m_cp μ a sp.toNatClampNeg b dp.toNatClampNeg n.toNatClampNeg) b) (fw_ad g b) (H.setIfInBounds (fw_ad g b) ce) := by
    rw [hb]
    refine ⟨fun q hq => (by cases hq), fun ty hty => ?_⟩
    rw [Array.getElem?_setIfInBounds, if_pos rfl, if_pos hlb, ← hce]
    congr 2
    funext j
    unfold fw_val
    have : m_K (m_cp μ a sp.toNatClampNeg b dp.toNatClampNeg n.toNatClampNeg) b = 100 := hb
    rw [this]
    show Value.int (va_cpy (m_I μ a) (m_I μ b) _ _ _ j) = .int (if b = b ∧ _ ≤ j ∧ j < _ + _ then μ.1 a (_ + (j - _)) else μ.1 b j)
    unfold va_cpy
    simp only [true_and]
    rfl
  obtain ⟨hR', hs'⟩ := hR.put (μ' := m_cp μ a sp.toNatClampNeg b dp.toNatClampNeg n.toNatClampNeg) (by rw [hb]; exact fw_in_a (t := .int) rfl) rfl (fw_R.cp (g := g)) hat (by simp) oq
  obtain ⟨t, a1, b1⟩ := kk p l e R s m args below meth c _ _ cells slots ls μ0 hF hR0 hR' (fun z hz => by
    rcases List.mem_append.mp hz with h | h
    · exact hL z h
    · obtain ⟨y, -, hy⟩ := List.mem_map.mp h
      rw [← hy]
      exact fw_ad_ge b64) h1 h2 hl (hs.tr hs') _ hheap X'
  exact ⟨t, step t a1, b1⟩
theorem fw_outer (c : ClassId) (N h0 : Nat) : ∀ i, (Jvm.Free.Multi.outerC c N h0 i).monitor = ({ cls := c, slots := #[], vm := .none } : Cell).monitor ∧ (Jvm.Free.Multi.outerC c N h0 i).hash = ({ cls := c, slots := #[], vm := .none } : Cell).hash
  | 0 => ⟨rfl, rfl⟩
  | i + 1 => fw_outer c N h0 i
theorem fw_R.al2 {g : fw_G} {μ : fw_M} {H H1 : Heap} {ko ki n m : Nat} {to ti : FieldType} (hR : fw_R g μ H) (ho : fw_aty ko = some to) (hi : fw_aty ki = some ti) (hto : to.isReference = true) (hti : fw_code ti = 0) (hz : H1.size = H.size + 1 + n) (hold : ∀ q : Nat, q < H.size → H1[q]? = H[q]?)
    (hout : H1[H.size]? = some (arrV (g.2.2.1 ko) n (fun j => .ref (H.size + 1 + j)))) (hinn : ∀ j, j < n → H1[H.size + 1 + j]? = some (arrV (g.2.2.1 ki) m (fun _ => .int 0))) : fw_R g (m_al2 μ ko ki n m) H1 ∧ fw_sub μ (m_al2 μ ko ki n m) ∧ fw_rv g (m_x μ) = .ref H.size := by
  obtain ⟨r1, r2, r3, r4, r5, r6, r7⟩ := hR
  have hx : m_x (m_al2 μ ko ki n m) = m_x μ + 1 + n := rfl
  have hS : ∀ q, m_S (m_al2 μ ko ki n m) q = if q = m_x μ then (ko, n) else if m_x μ < q ∧ q ≤ m_x μ + n then (ki, m) else m_S μ q := fun q => rfl
  have hI : ∀ q j, m_I (m_al2 μ ko ki n m) q j = if m_x μ ≤ q ∧ q ≤ m_x μ + n then 0 else m_I μ q j := fun q j => rfl
  have hLL : ∀ q j, m_L (m_al2 μ ko ki n m) q j = if m_x μ ≤ q ∧ q ≤ m_x μ + n then 0 else m_L μ q j := fun q j => rfl
  have hP : ∀ q j, m_P (m_al2 μ ko ki n m) q j = if q = m_x μ then m_x μ + 1 + j else if m_x μ ≤ q ∧ q ≤ m_x μ + n then 0 else m_P μ q j := fun q j => rfl
  have hKd : ∀ ν : fw_M, ∀ q, m_K ν q = (m_S ν q).1 := fun _ _ => rfl
  have hNd : ∀ ν : fw_M, ∀ q, m_N ν q = (m_S ν q).2 := fun _ _ => rfl
  have had : ∀ j, fw_ad g (m_x μ + j) = H.size + j := fun j => by
    unfold fw_ad
    rw [if_neg (by omega)]
    omega
  refine ⟨⟨by rw [hx, hz]; omega, by rw [hx]; omega, fun a ha => ?_, fun q hq => ?_, fun q hq => ?_, fun q hq => ?_, fun q => ?_⟩, ⟨by rw [hx]; omega, fun q hq => ?_⟩, ?_⟩
  · rw [hold a (by omega)]
    exact r3 a ha
  · by_cases e : m_x μ ≤ q
    · omega
    · refine r4 q ?_
      rw [hKd, hS, if_neg (by omega), if_neg (by omega)] at hq
      exact hq
  · by_cases e : m_x μ ≤ q ∧ q ≤ m_x μ + n
    · rw [hx]; omega
    · rw [hKd, hS, if_neg (by omega), if_neg (by omega)] at hq
      have := r5 q hq
      rw [hx]; omega
  · refine ⟨by rw [hS, if_neg (by omega), if_neg (by omega)]; exact (r6 q hq).1, fun j => by rw [hI, if_neg (by omega)]; exact (r6 q hq).2.1 j, fun j => by rw [hP, if_neg (by omega), if_neg (by omega)]; exact (r6 q hq).2.2 j⟩
  · by_cases e : q = m_x μ
    · subst e
      have hK : m_K (m_al2 μ ko ki n m) (m_x μ) = ko := by rw [hKd, hS, if_pos rfl]
      have hN : m_N (m_al2 μ ko ki n m) (m_x μ) = n := by rw [hNd, hS, if_pos rfl]
      rw [hK, hN]
      refine ⟨fun q' e => ?_, fun ty e => ?_⟩
      · rw [(fw_aty_ok ko _ ho).2.2] at e
        cases e
      · have h0 := had 0
        rw [Nat.add_zero, Nat.add_zero] at h0
        rw [h0, hout]
        congr 2
        funext j
        unfold fw_val
        rw [hK, (fw_aty_ok ko _ ho).1, fw_v2 (by cases to <;> first | rfl | cases hto), hP, if_pos rfl]
        unfold fw_rv
        rw [if_neg (by omega), show m_x μ + 1 + j = m_x μ + (1 + j) by omega, had, show H.size + 1 + j = H.size + (1 + j) by omega]
    · by_cases e2 : m_x μ ≤ q ∧ q ≤ m_x μ + n
      · obtain ⟨j, rfl⟩ : ∃ j, q = m_x μ + 1 + j := ⟨q - m_x μ - 1, by omega⟩
        have hK : m_K (m_al2 μ ko ki n m) (m_x μ + 1 + j) = ki := by rw [hKd, hS, if_neg e, if_pos (by omega)]
        have hN : m_N (m_al2 μ ko ki n m) (m_x μ + 1 + j) = m := by rw [hNd, hS, if_neg e, if_pos (by omega)]
        rw [hK, hN]
        refine ⟨fun q' e => ?_, fun ty e => ?_⟩
        · rw [(fw_aty_ok ki _ hi).2.2] at e
          cases e
        · rw [show m_x μ + 1 + j = m_x μ + (1 + j) by omega, had, show H.size + (1 + j) = H.size + 1 + j by omega, hinn j (by omega)]
          congr 2
          funext i
          unfold fw_val
          rw [show m_x μ + (1 + j) = m_x μ + 1 + j by omega, hK, (fw_aty_ok ki _ hi).1, fw_v0 hti, hI, if_pos e2]
      · have hK : m_K (m_al2 μ ko ki n m) q = m_K μ q := by rw [hKd, hS, if_neg e, if_neg (by omega)]; rfl
        have hN : m_N (m_al2 μ ko ki n m) q = m_N μ q := by rw [hNd, hS, if_neg e, if_neg (by omega)]; rfl
        have ev : fw_val g (m_al2 μ ko ki n m) q = fw_val g μ q := by
          funext j
          unfold fw_val
          rw [hK, hI, hLL, hP, if_neg e2, if_neg e2, if_neg e, if_neg e2]
        rw [hK, hN, ev]
        by_cases hii : fw_in (m_K μ q)
        · have h64 := r4 q hii
          have hlt := r5 q (fw_in_0 hii)
          refine (r7 q).kept (hold _ ?_)
          have h0 := had 0
          rw [Nat.add_zero, Nat.add_zero] at h0
          rw [← h0]
          unfold fw_ad
          rw [if_neg (by omega), if_neg (by omega)]
          omega
        · exact fw_at.out hii
  · have := r5 q hq
    rw [hS, if_neg (by omega), if_neg (by omega)]
  · have h0 := had 0
    rw [Nat.add_zero, Nat.add_zero] at h0
    unfold fw_rv
    rw [if_neg (by omega), h0]
theorem fw_newm {index : Nat} {n k : Int32} (hcl : Cond.classLink K.1 index "[[I" ∈ lw_all) (harr : Cond.arrayClass .int ∈ lw_all) (hn : ¬ n < 0) (hk : ¬ k < 0) (hb1 : n.toNatClampNeg ≤ 1000) (hb2 : k.toNatClampNeg ≤ 1000) (hbc : 1 + n.toNatClampNeg ≤ bc) (hbs : n.toNatClampNeg + n.toNatClampNeg * k.toNatClampNeg ≤ bs) (d : decode K.2.2.1 pc = .ok (.multianewarray index 2, 4)) (kk : fw_V g K f (bc - (1 + n.toNatClampNeg)) (bs - (n.toNatClampNeg + n.toNatClampNeg * k.toNatClampNeg)) (pc + 4) Ls (fw_rv g (m_x μ) :: st) (m_al2 μ 103 100 n.toNatClampNeg k.toNatClampNeg) Q X) : fw_V g K f bc bs pc Ls (.int k :: .int n :: st) μ Q X := by
  intro p l e R s m args below meth c H locs cells slots ls μ0 hF hR0 hR hL h1 h2 hl hs
  have hts := hF.2.2.2.2.2.2.1
  have hSt := hF.2.2.2.2.2.2.2.1
  intro T hT XX
  have hov : (Cond.arrayOver (.array .int)).before args s = true := by
    have e2 : (Cond.arrayOver (.array .int)).before args s = (Cond.arrayOver (.array .int)).before #[] s := by
      unfold Cond.before Cond.holds
      simp only [Cond.value]
    rw [e2]
    exact hSt.2.2.2.2.2.2.2.1.2
  obtain ⟨vm₁, cA, comp, hW1, hfA, hfC, -, -, X1, step⟩ := XX.multianewarray2F hF.1 (ty := .int) hF.2.2.2.2.2.1 (hts _ hcl) hov (hts _ harr) (g := F0 m pc ls (.int k :: .int n :: st)) rfl (by rw [hF.2.1]; exact d) (n := n) (k := k) (rest := st) rfl hn hk (by omega) (by show _ * 4 ≤ _; omega) (by omega) rfl rfl (by omega) (by omega)
  obtain ⟨f1, f2, f3, f4⟩ := Jvm.Free.Multi.fill_facts (T.setVm vm₁) cA comp n.toNatClampNeg k.toNatClampNeg (defaultValue .int) n.toNatClampNeg
  obtain ⟨o1, o2, o3⟩ := Jvm.Free.Multi.outerC_facts cA n.toNatClampNeg (T.setVm vm₁).heap.size n.toNatClampNeg
  have hsz : (T.setVm vm₁).heap.size = H.size := by show T.heap.size = _; rw [hT]
  have eA : cA = g.2.2.1 103 := Option.some.inj (hfA.symm.trans (hSt.2.1 103 _ rfl).2.1)
  have eC : comp = g.2.2.1 100 := Option.some.inj (hfC.symm.trans (hSt.2.1 100 _ rfl).2.1)
  obtain ⟨hR', hs', hrv⟩ := hR.al2 (H1 := (Jvm.Free.Multi.fill (T.setVm vm₁) cA comp n.toNatClampNeg k.toNatClampNeg (defaultValue .int) n.toNatClampNeg).heap) (ko := 103) (ki := 100) (n := n.toNatClampNeg) (m := k.toNatClampNeg) (to := .array .int) (ti := .int) rfl rfl rfl rfl (by rw [f1, hsz]) (fun x hx => by
      rw [Jvm.Free.Multi.fill_old (T.setVm vm₁) cA comp _ _ _ (by rw [hsz]; exact hx)]
      show T.heap[x]? = _
      rw [hT]) (by
      rw [← hsz, f2]
      congr 1
      have o4 : (Jvm.Free.Multi.outerC cA n.toNatClampNeg (T.setVm vm₁).heap.size n.toNatClampNeg).slots = (arrV (g.2.2.1 103) n.toNatClampNeg (fun j => .ref ((T.setVm vm₁).heap.size + 1 + j))).slots := by
        refine Array.ext_getElem? fun i => ?_
        by_cases hi : i < n.toNatClampNeg
        · rw [Jvm.Free.Multi.outerC_slot cA _ _ _ i hi, if_pos hi, arrV_read _ _ hi]
        · rw [Array.getElem?_eq_none (by rw [o3]; omega), Array.getElem?_eq_none (by rw [arrV_size]; omega)]
      obtain ⟨o5, o6⟩ := fw_outer cA n.toNatClampNeg (T.setVm vm₁).heap.size n.toNatClampNeg
      generalize Jvm.Free.Multi.outerC cA n.toNatClampNeg (T.setVm vm₁).heap.size n.toNatClampNeg = oc at o1 o2 o4 o5 o6
      cases oc
      simp only at o1 o2 o4 o5 o6
      rw [o1, o2, o4, o5, o6, eA]
      rfl) (fun j hj => by
      rw [← hsz, Jvm.Free.Multi.fill_inner (T.setVm vm₁) cA comp _ _ _ _ j hj, eC]
      congr 1
      exact arrV_new _ _ _)
  have k2 := kk p l e R s m args below meth c _ locs (cells + 1 + n.toNatClampNeg) (slots + n.toNatClampNeg + n.toNatClampNeg * k.toNatClampNeg) ls μ0 hF hR0 hR' hL (by omega) (by omega) hl (hs.tr hs')
  rw [hrv] at k2
  obtain ⟨t, a1, b1⟩ := k2 _ rfl X1
  rw [← hT] at a1
  exact ⟨t, step t a1, b1⟩
end FW3
