theorem fw_at.kept {g : fw_G} {k n : Nat} {V : Nat → Value} {a : Nat} {H H1 : Heap} (h : fw_at g k n V a H) (hq : H1[a]? = H[a]?) : fw_at g k n V a H1 := ⟨fun q e => (h.1 q e).kept hq, fun ty e => hq.trans (h.2 ty e)⟩
theorem fw_at.out {g : fw_G} {k n : Nat} {V : Nat → Value} {a : Nat} {H : Heap} (h : ¬ fw_in k) : fw_at g k n V a H := by
  refine ⟨fun q e => absurd (Or.inl ?_) h, fun ty e => absurd (Or.inr ?_) h⟩
  · rw [e]; exact fun z => by cases z
  · rw [e]; exact fun z => by cases z
theorem fw_ad_ne {g : fw_G} {p q : Nat} (hp : 64 ≤ p) (hq : 64 ≤ q) (h : p ≠ q) : fw_ad g p ≠ fw_ad g q := by
  unfold fw_ad
  rw [if_neg (by omega), if_neg (by omega)]
  omega
theorem fw_ad_ge {g : fw_G} {p : Nat} (hp : 64 ≤ p) : g.1.size ≤ fw_ad g p := by
  unfold fw_ad
  rw [if_neg (by omega)]
  omega
theorem fw_in_c {k : Nat} {q : vw_C} (h : fw_cl k = some q) : fw_in k := Or.inl (by rw [h]; exact fun z => by cases z)
theorem fw_in_a {k : Nat} {t : FieldType} (h : fw_aty k = some t) : fw_in k := Or.inr (by rw [h]; exact fun z => by cases z)
theorem fw_in_0 {k : Nat} (h : fw_in k) : k ≠ 0 := by
  intro e
  subst e
  rcases h with h | h
  · exact h rfl
  · exact h rfl
/-- one cell of the memory is written -/
theorem fw_R.put {g : fw_G} {μ μ' : fw_M} {H H1 : Heap} {p : Nat} (hR : fw_R g μ H) (hp : fw_in (m_K μ p)) (hS : μ'.2.2.2 = μ.2.2.2) (hV : ∀ q, q ≠ p → (∀ j, m_I μ' q j = m_I μ q j) ∧ (∀ j, m_L μ' q j = m_L μ q j) ∧ ∀ j, m_P μ' q j = m_P μ q j)
    (hat : fw_at g (m_K μ p) (m_N μ p) (fw_val g μ' p) (fw_ad g p) H1) (hz : H1.size = H.size) (ho : ∀ q : Nat, q ≠ fw_ad g p → H1[q]? = H[q]?) : fw_R g μ' H1 ∧ fw_sub μ μ' := by
  obtain ⟨r1, r2, r3, r4, r5, r6, r7⟩ := hR
  have hp64 := r4 p hp
  have eK : ∀ q, m_K μ' q = m_K μ q := fun q => by unfold m_K; rw [hS]
  have eN : ∀ q, m_N μ' q = m_N μ q := fun q => by unfold m_N; rw [hS]
  have eS : ∀ q, m_S μ' q = m_S μ q := fun q => by unfold m_S; rw [hS]
  have eX : m_x μ' = m_x μ := by unfold m_x; rw [hS]
  have eV : ∀ q, q ≠ p → fw_val g μ' q = fw_val g μ q := fun q hq => by
    funext j
    unfold fw_val
    rw [eK, (hV q hq).1, (hV q hq).2.1, (hV q hq).2.2]
  refine ⟨⟨by rw [eX, hz]; exact r1, by rw [eX]; exact r2, fun a ha => ?_, fun q hq => r4 q (by rw [← eK]; exact hq), fun q hq => by rw [eX]; exact r5 q (by rw [← eK]; exact hq), fun q hq => ?_, fun q => ?_⟩, ⟨by rw [eX]; exact Nat.le_refl _, fun q _ => eS q⟩⟩
  · have := fw_ad_ge (g := g) hp64
    rw [ho a (by omega)]
    exact r3 a ha
  · have hne : q ≠ p := by omega
    refine ⟨by rw [eS]; exact (r6 q hq).1, fun j => by rw [(hV q hne).1]; exact (r6 q hq).2.1 j, fun j => by rw [(hV q hne).2.2]; exact (r6 q hq).2.2 j⟩
  · rw [eK, eN]
    by_cases hq : q = p
    · rw [hq]; exact hat
    · rw [eV q hq]
      by_cases hi : fw_in (m_K μ q)
      · exact (r7 q).kept (ho _ (fw_ad_ne (r4 q hi) hp64 hq))
      · exact fw_at.out hi
theorem fw_v0 {g : fw_G} {c : Nat} (h : c = 0) (i : Int32) (l : Int64) (r : Nat) : fw_v g c i l r = .int i := by rw [h]; rfl
theorem fw_v1 {g : fw_G} {c : Nat} (h : c = 1) (i : Int32) (l : Int64) (r : Nat) : fw_v g c i l r = .long l := by rw [h]; rfl
theorem fw_v2 {g : fw_G} {c : Nat} (h : c = 2) (i : Int32) (l : Int64) (r : Nat) : fw_v g c i l r = fw_rv g r := by rw [h]; rfl
theorem fw_up_eq {α : Type} (f : Nat → Nat → α) (p i : Nat) (v : α) : fw_up f p i v p i = v := by simp [fw_up]
theorem fw_up_p {α : Type} (f : Nat → Nat → α) {p i q j : Nat} (v : α) (h : q ≠ p) : fw_up f p i v q j = f q j := by simp [fw_up, h]
theorem fw_up_i {α : Type} (f : Nat → Nat → α) {p i q j : Nat} (v : α) (h : j ≠ i) : fw_up f p i v q j = f q j := by simp [fw_up, h]
theorem fw_val_I {g : fw_G} {μ : fw_M} {p i : Nat} {v : Int32} (hc : fw_code (fw_ty (m_K μ p) i) = 0) : fw_val g (m_uI μ p i v) p = updV (fw_val g μ p) i (.int v) := by
  funext j
  unfold updV
  by_cases h : j = i
  · subst h
    rw [if_pos rfl]
    show fw_v g (fw_code (fw_ty (m_K μ p) j)) (fw_up μ.1 p j v p j) _ _ = _
    rw [fw_v0 hc, fw_up_eq]
  · rw [if_neg h]
    show fw_v g _ (fw_up μ.1 p i v p j) _ _ = fw_v g _ (μ.1 p j) _ _
    rw [fw_up_i _ _ h]
    rfl
theorem fw_val_L {g : fw_G} {μ : fw_M} {p i : Nat} {v : Int64} (hc : fw_code (fw_ty (m_K μ p) i) = 1) : fw_val g (m_uL μ p i v) p = updV (fw_val g μ p) i (.long v) := by
  funext j
  unfold updV
  by_cases h : j = i
  · subst h
    rw [if_pos rfl]
    show fw_v g (fw_code (fw_ty (m_K μ p) j)) _ (fw_up μ.2.1 p j v p j) _ = _
    rw [fw_v1 hc, fw_up_eq]
  · rw [if_neg h]
    show fw_v g _ _ (fw_up μ.2.1 p i v p j) _ = fw_v g _ _ (μ.2.1 p j) _
    rw [fw_up_i _ _ h]
    rfl
theorem fw_val_P {g : fw_G} {μ : fw_M} {p i v : Nat} (hc : fw_code (fw_ty (m_K μ p) i) = 2) : fw_val g (m_uP μ p i v) p = updV (fw_val g μ p) i (fw_rv g v) := by
  funext j
  unfold updV
  by_cases h : j = i
  · subst h
    rw [if_pos rfl]
    show fw_v g (fw_code (fw_ty (m_K μ p) j)) _ _ (fw_up μ.2.2.1 p j v p j) = _
    rw [fw_v2 hc, fw_up_eq]
  · rw [if_neg h]
    show fw_v g _ _ _ (fw_up μ.2.2.1 p i v p j) = fw_v g _ _ _ (μ.2.2.1 p j)
    rw [fw_up_i _ _ h]
    rfl
theorem fw_ofI {μ : fw_M} {p i : Nat} {v : Int32} : ∀ q, q ≠ p → (∀ j, m_I (m_uI μ p i v) q j = m_I μ q j) ∧ (∀ j, m_L (m_uI μ p i v) q j = m_L μ q j) ∧ ∀ j, m_P (m_uI μ p i v) q j = m_P μ q j := fun q hq => ⟨fun j => fw_up_p _ _ hq, fun _ => rfl, fun _ => rfl⟩
theorem fw_ofL {μ : fw_M} {p i : Nat} {v : Int64} : ∀ q, q ≠ p → (∀ j, m_I (m_uL μ p i v) q j = m_I μ q j) ∧ (∀ j, m_L (m_uL μ p i v) q j = m_L μ q j) ∧ ∀ j, m_P (m_uL μ p i v) q j = m_P μ q j := fun q hq => ⟨fun _ => rfl, fun j => fw_up_p _ _ hq, fun _ => rfl⟩
theorem fw_ofP {μ : fw_M} {p i v : Nat} : ∀ q, q ≠ p → (∀ j, m_I (m_uP μ p i v) q j = m_I μ q j) ∧ (∀ j, m_L (m_uP μ p i v) q j = m_L μ q j) ∧ ∀ j, m_P (m_uP μ p i v) q j = m_P μ q j := fun q hq => ⟨fun _ => rfl, fun _ => rfl, fun j => fw_up_p _ _ hq⟩
theorem fw_rv_in {g : fw_G} {μ : fw_M} {H : Heap} {r : Nat} (hR : fw_R g μ H) (h : fw_in (m_K μ r)) : fw_rv g r = .ref (fw_ad g r) := by
  have := hR.2.2.2.1 r h
  unfold fw_rv
  rw [if_neg (by omega)]
/-- a field of a class of the tables, as this class's pool names it -/
def fw_Lk (own : String) (idx k j : Nat) : Prop := ∃ q, fw_cl k = some q ∧ j < q.2.2 ∧ (Cond.fieldLink own idx (q.2.1 j).1 (q.2.1 j).2.1 (q.2.1 j).2.2.1 ∈ lw_all ∨ ∃ host, (own, idx, (q.2.1 j).1, (q.2.1 j).2.1, (q.2.1 j).2.2.1, host) ∈ fw_nF)
section FW2
variable {g : fw_G} {K : fw_Kt} {f bc bs pc : Nat} {Ls : List (Nat × Value)} {st : List Value} {μ : fw_M} {Q : Option Value → fw_M → Prop} {X : Nat → fw_M → Prop}
theorem fw_getf {index k j r : Nat} {v : Value} (hlk : fw_Lk K.1 index k j) (hk : m_K μ r = k) (hv : fw_val g μ r j = v) (d : decode K.2.2.1 pc = .ok (.getfield index, 3)) (kk : fw_V g K f bc bs (pc + 3) Ls (v :: st) μ Q X) : fw_V g K f bc bs pc Ls (fw_rv g r :: st) μ Q X := by
  intro p l e R s m args below meth c H locs cells slots ls μ0 hF hR0 hR hL h1 h2 hl hs
  obtain ⟨q, hq, hj, hlink⟩ := hlk
  have hin : fw_in (m_K μ r) := by rw [hk]; exact fw_in_c hq
  rw [fw_rv_in hR hin]
  obtain ⟨cell, q1, q2, q3, q4⟩ := (hR.2.2.2.2.2.2 r).1 q (by rw [hk]; exact hq)
  have hSt := hF.2.2.2.2.2.2.2.1
  obtain ⟨hS, hfc, kC, hkC, hkind⟩ := hSt.1 k q hq
  obtain ⟨cf, kf, fi, fl, hi, hsl⟩ := hS j hj
  have hst := (u_facts hfc hkC (u_lays hF.2.2.2.2.2.2.1 (fw_cl_ok k q hq).1 hj) hi).1
  have hslot : cell.slots[fl.slot]? = some v := by
    rw [hk] at q4
    rw [hsl, q4 j hj, hv]
  rcases hlink with hlink | ⟨host, hlink⟩
  · exact W.getf hF.1 hF.2.1 hF.2.2.2.2.2.1 (hF.2.2.2.2.2.2.1 _ hlink) hi hst q1 (by rw [q3]; exact fun h => by cases h) hslot rfl rfl d (kk p l e R s m args below meth c H locs cells slots ls μ0 hF hR0 hR hL h1 h2 hl hs)
  · exact va_Wgetf hF.1 hF.2.1 hF.2.2.2.2.2.1 (va_Nw.use rfl (hSt.2.2.1 _ hlink)) hi hst q1 (by rw [q3]; exact fun h => by cases h) hslot rfl rfl d (kk p l e R s m args below meth c H locs cells slots ls μ0 hF hR0 hR hL h1 h2 hl hs)
theorem fw_getfI {index k j r : Nat} (hlk : fw_Lk K.1 index k j) (hc : fw_code (fw_ty k j) = 0) (hk : m_K μ r = k) (d : decode K.2.2.1 pc = .ok (.getfield index, 3)) (kk : fw_V g K f bc bs (pc + 3) Ls (.int (m_I μ r j) :: st) μ Q X) : fw_V g K f bc bs pc Ls (fw_rv g r :: st) μ Q X :=
  fw_getf hlk hk (by unfold fw_val; exact fw_v0 (by rw [hk]; exact hc) _ _ _) d kk
theorem fw_getfP {index k j r : Nat} (hlk : fw_Lk K.1 index k j) (hc : fw_code (fw_ty k j) = 2) (hk : m_K μ r = k) (d : decode K.2.2.1 pc = .ok (.getfield index, 3)) (kk : fw_V g K f bc bs (pc + 3) Ls (fw_rv g (m_P μ r j) :: st) μ Q X) : fw_V g K f bc bs pc Ls (fw_rv g r :: st) μ Q X :=
  fw_getf hlk hk (by unfold fw_val; exact fw_v2 (by rw [hk]; exact hc) _ _ _) d kk
theorem fw_putf {index k j r : Nat} {v : Value} {μ' : fw_M} (hlk : fw_Lk K.1 index k j) (hk : m_K μ r = k) (hn : narrow (fw_ty k j) v = v) (hfit : fits (fw_ty k j) v = true) (hw : ∀ q, fw_cl k = some q → (q.2.1 j).2.2.2 = false ∨ (K.2.1 = "<init>" ∧ (q.2.1 j).1 = K.1))
    (hS' : μ'.2.2.2 = μ.2.2.2) (hV : ∀ q, q ≠ r → (∀ j, m_I μ' q j = m_I μ q j) ∧ (∀ j, m_L μ' q j = m_L μ q j) ∧ ∀ j, m_P μ' q j = m_P μ q j) (hval : fw_val g μ' r = updV (fw_val g μ r) j v)
    (d : decode K.2.2.1 pc = .ok (.putfield index, 3)) (kk : fw_V g K f bc bs (pc + 3) Ls st μ' Q X) : fw_V g K f bc bs pc Ls (v :: fw_rv g r :: st) μ Q X := by
  intro p l e R s m args below meth c H locs cells slots ls μ0 hF hR0 hR hL h1 h2 hl hs
  obtain ⟨q, hq, hj, hlink⟩ := hlk
  have hin : fw_in (m_K μ r) := by rw [hk]; exact fw_in_c hq
  have h64 := hR.2.2.2.1 r hin
  rw [fw_rv_in hR hin]
  obtain ⟨cell, q1, q2, q3, q4⟩ := (hR.2.2.2.2.2.2 r).1 q (by rw [hk]; exact hq)
  rw [hk] at q2 q4
  have hSt := hF.2.2.2.2.2.2.2.1
  obtain ⟨ok1, ok2, ok3, -⟩ := fw_cl_ok k q hq
  have hts := hF.2.2.2.2.2.2.1
  obtain ⟨hS, hfc, kC, hkC, hkind⟩ := hSt.1 k q hq
  obtain ⟨cf, kf, fi, fl, hi, hsl⟩ := hS j hj
  have hst := (u_facts hfc hkC (u_lays hts ok1 hj) hi).1
  have hd := ok2 j hj
  have hap : ∀ x y, x < q.2.2 → y < q.2.2 → x ≠ y → g.2.1.2 k x ≠ g.2.1.2 k y := by
    intro x y hx hy hne
    obtain ⟨_, _, _, fa, hia, ea⟩ := hS x hx
    obtain ⟨_, _, _, fb, hib, eb⟩ := hS y hy
    rw [← ea, ← eb]
    refine u_apart (u_lays hts ok1 hx) (u_lays hts ok1 hy) hia hib ?_
    rw [(State.fieldFound?_type hia (ok2 x hx)).1, (State.fieldFound?_type hib (ok2 y hy)).1]
    exact ok3 x hx y hy hne
  have hlt : fl.slot < cell.slots.size := by rw [hsl]; exact k2_hasslot (q4 j hj)
  have hlay := hts _ (ok1 _ (u_in_lay hj))
  unfold u_lay at hlay
  have fin : ∀ H' : Heap, H'[fw_ad g r]? = some (cell.setSlot fl.slot v) → H'.size = H.size → (∀ q, q ≠ fw_ad g r → H'[q]? = H[q]?) → W p l e R s m args below meth c H' (locs ++ [⟨fw_ad g r, fl.slot⟩]) cells slots (fx_MQ below (fw_Qc g μ0 Q) (fw_XC g μ0 X) args s R.cells R.slots (fw_fr g)) (F0 m (pc + 3) ls st) := by
    intro H' e1 e2 e3
    have hat : fw_at g (m_K μ r) (m_N μ r) (fw_val g μ' r) (fw_ad g r) H' := by
      rw [hk, hval]
      refine ⟨fun q' e => ?_, fun ty e => ?_⟩
      · cases hq.symm.trans e
        rw [hsl] at e1
        exact ⟨_, e1, q2, q3, t_set q4 hap hj v⟩
      · have := (fw_aty_ok k ty e).2.2
        rw [hq] at this
        cases this
    obtain ⟨hR', hs'⟩ := hR.put hin hS' hV hat e2 e3
    exact kk p l e R s m args below meth c H' _ cells slots ls μ0 hF hR0 hR' (fun z hz => by
      rcases List.mem_append.mp hz with h | h
      · exact hL z h
      · cases List.mem_singleton.mp h
        exact fw_ad_ge h64) h1 h2 hl (hs.tr hs')
  rcases hw q hq with hnf | ⟨hinit, hdecl⟩
  · rw [if_neg (by rw [hnf]; decide)] at hlay
    have h6 := u_store hfc hkC hkind hlay hi hd hn hfit
    rcases hlink with hlink | ⟨host, hlink⟩
    · exact W.putK hF.1 hF.2.1 (f := fl) ⟨hF.2.2.2.2.2.1, hts _ hlink, ⟨_, _, _, hi⟩, hst⟩ (by rw [q2]; exact h6) q1 q3 hlt rfl rfl d fin
    · exact va_WputK hF.1 hF.2.1 (f := fl) hF.2.2.2.2.2.1 (va_Nw.use rfl (hSt.2.2.1 _ hlink)) hi hst (by rw [q2]; exact h6) q1 q3 hlt rfl rfl d fin
  · rcases hlink with hlink | ⟨host, hlink⟩
    · by_cases hff : (q.2.1 j).2.2.2 = true
      · rw [if_pos hff] at hlay
        have hcf : m.cls = cf := by
          obtain ⟨_, _, c', _, _, _, -, -, hf', -, -, -, hown2, -⟩ := Cond.laysFinal_spec hlay
          have e1 : c' = cf := by have := hi.symm.trans hf'; simp at this; exact this.1.symm
          rw [hdecl] at hown2
          rw [← e1]; exact Option.some.inj (hF.2.2.2.2.2.1.symm.trans hown2)
        have h6 := u_fits hfc hkC hkind (Or.inr hlay) hi hd hn hfit
        exact W.putFinK hF.1 hF.2.1 hF.2.2.2.2.2.1 (hts _ hlink) hi hst hcf (hF.2.2.2.2.2.2.2.2.2.2.1.trans hinit) (by rw [q2]; exact h6) q1 q3 hlt rfl rfl d fin
      · rw [if_neg hff] at hlay
        have h6 := u_store hfc hkC hkind hlay hi hd hn hfit
        exact W.putK hF.1 hF.2.1 (f := fl) ⟨hF.2.2.2.2.2.1, hts _ hlink, ⟨_, _, _, hi⟩, hst⟩ (by rw [q2]; exact h6) q1 q3 hlt rfl rfl d fin
    · by_cases hff : (q.2.1 j).2.2.2 = true
      · exfalso
        have hno : ∀ t ∈ fw_nF, t.1 ≠ t.2.2.1 := by decide +kernel
        exact hno _ hlink hdecl.symm
      · rw [if_neg hff] at hlay
        have h6 := u_store hfc hkC hkind hlay hi hd hn hfit
        exact va_WputK hF.1 hF.2.1 (f := fl) hF.2.2.2.2.2.1 (va_Nw.use rfl (hSt.2.2.1 _ hlink)) hi hst (by rw [q2]; exact h6) q1 q3 hlt rfl rfl d fin
/-- may this method write this field: it isn't final, or this is its class's constructor -/
def fw_Wr (own name : String) (k j : Nat) : Prop := ∀ q, fw_cl k = some q → (q.2.1 j).2.2.2 = false ∨ (name = "<init>" ∧ (q.2.1 j).1 = own)
theorem fw_putfI {index k j r : Nat} {v : Int32} (hlk : fw_Lk K.1 index k j) (hwr : fw_Wr K.1 K.2.1 k j) (hc : fw_ty k j = .int) (hk : m_K μ r = k) (d : decode K.2.2.1 pc = .ok (.putfield index, 3)) (kk : fw_V g K f bc bs (pc + 3) Ls st (m_uI μ r j v) Q X) : fw_V g K f bc bs pc Ls (.int v :: fw_rv g r :: st) μ Q X :=
  fw_putf (μ' := m_uI μ r j v) hlk hk (by rw [hc]; rfl) (by rw [hc]; rfl) hwr rfl fw_ofI (fw_val_I (by rw [hk, hc]; rfl)) d kk
theorem fw_putfZ {index k j r : Nat} {v : Int32} (hlk : fw_Lk K.1 index k j) (hwr : fw_Wr K.1 K.2.1 k j) (hc : fw_ty k j = .boolean) (hk : m_K μ r = k) (hz : v = 0 ∨ v = 1) (d : decode K.2.2.1 pc = .ok (.putfield index, 3)) (kk : fw_V g K f bc bs (pc + 3) Ls st (m_uI μ r j v) Q X) : fw_V g K f bc bs pc Ls (.int v :: fw_rv g r :: st) μ Q X :=
  fw_putf (μ' := m_uI μ r j v) hlk hk (by rw [hc]; rcases hz with e | e <;> rw [e] <;> decide +kernel) (by rw [hc]; rcases hz with e | e <;> rw [e] <;> decide +kernel) hwr rfl fw_ofI (fw_val_I (by rw [hk, hc]; rfl)) d kk
theorem fw_putfP {index k j r v : Nat} (hlk : fw_Lk K.1 index k j) (hwr : fw_Wr K.1 K.2.1 k j) (hc : fw_code (fw_ty k j) = 2) (hk : m_K μ r = k) (d : decode K.2.2.1 pc = .ok (.putfield index, 3)) (kk : fw_V g K f bc bs (pc + 3) Ls st (m_uP μ r j v) Q X) : fw_V g K f bc bs pc Ls (fw_rv g v :: fw_rv g r :: st) μ Q X := by
  refine fw_putf (μ' := m_uP μ r j v) hlk hk ?_ ?_ hwr rfl fw_ofP (fw_val_P (by rw [hk, hc])) d kk
  · cases hty : fw_ty k j <;> rw [hty] at hc <;> first | (unfold fw_rv; split <;> rfl) | cases hc
  · cases hty : fw_ty k j <;> rw [hty] at hc <;> first | (unfold fw_rv; split <;> rfl) | cases hc
end FW2
