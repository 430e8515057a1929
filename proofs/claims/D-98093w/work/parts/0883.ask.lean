/-! plain law: what is only asked -/
theorem sk_of {μ μ' : fw_M} (h : sk_m μ) (hx : m_x μ ≤ m_x μ') (hS : ∀ p, p < 441 → m_S μ' p = m_S μ p) (hP : ∀ p, p < 441 → m_P μ' p = m_P μ p) : sk_m μ' := by
  obtain ⟨h1, h2, h3, h4, h5⟩ := h
  refine ⟨fun p p1 p2 => (hS p p2).trans (h1 p p1 p2), Nat.le_trans h2 hx, ?_, ?_, ?_⟩
  · rw [hP 64 (by decide), hP 65 (by decide), hP 228 (by decide), hP 392 (by decide), hP 393 (by decide), hP 395 (by decide), hP 411 (by decide)]
    exact h3
  · rw [hP 102 (by decide), hP 163 (by decide), hP 194 (by decide), hP 207 (by decide), hP 265 (by decide), hP 326 (by decide), hP 357 (by decide), hP 370 (by decide), hP 398 (by decide)]
    exact h4
  · rw [hP 71 (by decide), hP 234 (by decide)]
    exact h5
/-- nothing that lasts changes; new cells may come -/
def qs (μ μ' : fw_M) : Prop := m_x μ ≤ m_x μ' ∧ (∀ p, p < m_x μ → m_S μ' p = m_S μ p) ∧ (∀ p, p < m_x μ → m_P μ' p = m_P μ p) ∧ ∀ p, p < m_x μ → ∀ j, ¬ (sc_p p ∨ (p = 64 ∧ 9 ≤ j) ∨ (p = 411 ∧ 6 ≤ j)) → m_I μ' p j = m_I μ p j
theorem qs.rf {μ : fw_M} : qs μ μ := ⟨Nat.le_refl _, fun _ _ => rfl, fun _ _ => rfl, fun _ _ _ _ => rfl⟩
theorem qs.tr {a b c : fw_M} (h : qs a b) (g : qs b c) : qs a c :=
  ⟨Nat.le_trans h.1 g.1, fun p hp => (g.2.1 p (Nat.lt_of_lt_of_le hp h.1)).trans (h.2.1 p hp), fun p hp => (g.2.2.1 p (Nat.lt_of_lt_of_le hp h.1)).trans (h.2.2.1 p hp), fun p hp j hj => (g.2.2.2 p (Nat.lt_of_lt_of_le hp h.1) j hj).trans (h.2.2.2 p hp j hj)⟩
theorem qs.sk {μ μ' : fw_M} (h : qs μ μ') (hs : sk_m μ) : sk_m μ' := sk_of hs h.1 (fun p hp => h.2.1 p (Nat.lt_of_lt_of_le hp hs.2.1)) (fun p hp => h.2.2.1 p (Nat.lt_of_lt_of_le hp hs.2.1))
theorem qs.I {μ μ' : fw_M} (h : qs μ μ') {p : Nat} (hp : p < m_x μ) (h1 : p ≠ 64) (h2 : p ≠ 411) (h3 : ¬ sc_p p) : m_I μ' p = m_I μ p :=
  funext fun j => h.2.2.2 p hp j fun q => by
    rcases q with q | ⟨q, -⟩ | ⟨q, -⟩
    · exact h3 q
    · exact h1 q
    · exact h2 q
theorem kp_qs {L : Nat} {xs : Nat → Int32} {z : Nat → Nat} {μ μ' : fw_M} (hI : iv_inv L xs z μ) (h : qs μ μ') : iv_inv L xs z μ' := by
  have hs' := h.sk hI.1
  have hx : 441 ≤ m_x μ := hI.1.2.1
  obtain ⟨hs, ho, h3, n, tx, st, te, tl, ns, nd, n', tx', st', te', tl', ns', nd', tp, c1, c2, hT, t0, t1, t2, t3, t4, t5, t6⟩ := hI
  have i : ∀ p, p < m_x μ → p ≠ 64 → p ≠ 411 → ¬ sc_p p → m_I μ' p = m_I μ p := fun p p1 p2 p3 p4 => h.I p1 p2 p3 p4
  have gx : iv_ext μ μ' := ⟨hs', h.1, fun p p1 p2 _ _ => ⟨h.2.1 p p2, i p p2 (by omega) (by omega) (by unfold sc_p; omega), h.2.2.1 p p2⟩⟩
  refine ⟨hs', fun p hp => ?_, by rw [i 392 (by omega) (by decide) (by decide) (by unfold sc_p; decide)]; exact h3, n, tx, st, te, tl, ns, nd, n', tx', st', te', tl', ns', nd', tp, ?_, ?_, fun t ht => ?_, ?_⟩
  · obtain ⟨a1, a2, a3⟩ := ho p hp
    exact ⟨(h.2.1 p (by omega)).trans a1, (i p (by omega) (by omega) (by omega) (by unfold sc_p; omega)).trans a2, (h.2.2.1 p (by omega)).trans a3⟩
  · rw [i 412 (by omega) (by decide) (by decide) (by unfold sc_p; decide)]
    exact kp_C c1 (fun k hk => sk_s65 hs hk) (fun p p1 p2 => i p (by omega) (by omega) (by omega) (by unfold sc_p; omega)) (h.2.2.1 71 (by omega))
  · rw [i 413 (by omega) (by decide) (by decide) (by unfold sc_p; decide)]
    exact kp_C c2 (fun k hk => sk_s228 hs hk) (fun p p1 p2 => i p (by omega) (by omega) (by omega) (by unfold sc_p; omega)) (h.2.2.1 234 (by omega))
  · exact kp_law (hT t ht) ⟨hs', h.1, h.2.2.1 391 (by omega), fun p p1 p2 => ⟨h.2.1 p p2, i p p2 (by omega) (by omega) (by unfold sc_p; omega), h.2.2.1 p p2⟩, fun q q1 q2 => i q (by omega) (by omega) (by omega) (by unfold sc_p; omega)⟩ gx
  · have j64 : ∀ j, j < 9 → m_I μ' 64 j = m_I μ 64 j := fun j hj => h.2.2.2 64 (by omega) j (by unfold sc_p; omega)
    have j411 : ∀ j, j < 6 → m_I μ' 411 j = m_I μ 411 j := fun j hj => h.2.2.2 411 (by omega) j (by unfold sc_p; omega)
    unfold iv_tape
    rw [j64 6 (by decide), j64 7 (by decide), j64 8 (by decide), j411 3 (by decide), j411 4 (by decide), j411 5 (by decide), i 397 (by omega) (by decide) (by decide) (by unfold sc_p; decide), i 414 (by omega) (by decide) (by decide) (by unfold sc_p; decide)]
    exact ⟨t0, t1, t2, t3, t4, t5, t6⟩
theorem qs.scr {μ μ' : fw_M} (h : qs μ μ') (hs : sk_m μ) : iv_scr μ μ' := by
  have hx : 441 ≤ m_x μ := hs.2.1
  exact ⟨h.2.1 1 (by omega), h.I (by omega) (by decide) (by decide) (by unfold sc_p; decide), sk_k64 (h.sk hs), sk_k411 (h.sk hs)⟩
/-- an operation that only asks -/
theorem op_q {α : Type} {A B : fw_M → (α → fw_M → Prop) → Prop} (h : ∀ (L : Nat) (xs : Nat → Int32) (z : Nat → Nat) (μ : fw_M), iv_inv L xs z μ → ∃ v : α, (∀ Q : α → fw_M → Prop, (∀ μ1, qs μ μ1 → Q v μ1) → A μ Q) ∧ ∀ μ1, qs μ μ1 → iv_inv L xs z μ1 → ∀ Q : α → fw_M → Prop, (∀ μ2, qs μ1 μ2 → Q v μ2) → B μ1 Q) : iv_op2 A B := by
  intro L xs z μ hI Qs H
  obtain ⟨v, ha, hb⟩ := h L xs z μ hI
  refine ha Qs fun μ1 h1 => H v μ1 (h1.scr hI.1) fun Qm hQ => ?_
  have hI1 := kp_qs hI h1
  exact hb μ1 h1 hI1 Qm fun μ2 h2 => hQ μ2 (kp_qs hI1 h2) ((h1.tr h2).scr hI.1)
/-- ints change at D alone -/
def eqD (D : Nat → Nat → Prop) (μ μ' : fw_M) : Prop := m_S μ' = m_S μ ∧ m_P μ' = m_P μ ∧ m_x μ' = m_x μ ∧ ∀ p j, ¬ D p j → m_I μ' p j = m_I μ p j
theorem eqD.rf {D : Nat → Nat → Prop} {μ : fw_M} : eqD D μ μ := ⟨rfl, rfl, rfl, fun _ _ _ => rfl⟩
theorem eqD.tr {D : Nat → Nat → Prop} {a b c : fw_M} (h : eqD D a b) (g : eqD D b c) : eqD D a c := ⟨g.1.trans h.1, g.2.1.trans h.2.1, g.2.2.1.trans h.2.2.1, fun p j q => (g.2.2.2 p j q).trans (h.2.2.2 p j q)⟩
theorem eqD.mono {D E : Nat → Nat → Prop} {a b : fw_M} (h : eqD D a b) (g : ∀ p j, D p j → E p j) : eqD E a b := ⟨h.1, h.2.1, h.2.2.1, fun p j q => h.2.2.2 p j fun d => q (g p j d)⟩
theorem eqD.sk {D : Nat → Nat → Prop} {a b : fw_M} (h : eqD D a b) (hs : sk_m a) : sk_m b := sk_of hs (Nat.le_of_eq h.2.2.1.symm) (fun p _ => by rw [h.1]) (fun p _ => by rw [h.2.1])
theorem eqD.K {D : Nat → Nat → Prop} {a b : fw_M} (h : eqD D a b) : m_K b = m_K a := funext fun p => congrArg (fun s : Nat → Nat × Nat => (s p).1) h.1
theorem eqD.N {D : Nat → Nat → Prop} {a b : fw_M} (h : eqD D a b) : m_N b = m_N a := funext fun p => congrArg (fun s : Nat → Nat × Nat => (s p).2) h.1
theorem eqD.I {D : Nat → Nat → Prop} {a b : fw_M} (h : eqD D a b) {p : Nat} (hp : ∀ j, ¬ D p j) : m_I b p = m_I a p := funext fun j => h.2.2.2 p j (hp j)
theorem eqD.qs {D : Nat → Nat → Prop} {a b : fw_M} (h : eqD D a b) (g : ∀ p j, D p j → sc_p p ∨ (p = 64 ∧ 9 ≤ j) ∨ (p = 411 ∧ 6 ≤ j)) : qs a b :=
  ⟨Nat.le_of_eq h.2.2.1.symm, fun p _ => by rw [h.1], fun p _ => by rw [h.2.1], fun p _ j hj => h.2.2.2 p j fun d => hj (g p j d)⟩
theorem eqD.sI {D : Nat → Nat → Prop} {μ : fw_M} {p : Nat} {f : Nat → Int32} (h : ∀ j, ¬ D p j → f j = m_I μ p j) : eqD D μ (m_sI μ p f) := by
  refine ⟨rfl, rfl, rfl, fun q j hq => ?_⟩
  by_cases e : q = p
  · subst e
    rw [ml_Is]
    exact h j hq
  · rw [ml_In e]
theorem eqD.sL {D : Nat → Nat → Prop} {μ : fw_M} {p : Nat} {f : Nat → Int64} : eqD D μ (m_sL μ p f) := ⟨rfl, rfl, rfl, fun _ _ _ => rfl⟩
theorem op_ro2 {α : Type} {A B : fw_M → (α → fw_M → Prop) → Prop} (h : ∀ (L : Nat) (xs : Nat → Int32) (z : Nat → Nat) (μ : fw_M), iv_inv L xs z μ → ∃ v : α, (∀ Q : α → fw_M → Prop, Q v μ → A μ Q) ∧ ∀ Q : α → fw_M → Prop, Q v μ → B μ Q) : iv_op2 A B := op_ro h
