/-! plain law: text, the reference's machine: what a memory holds, what its small steps do -/
theorem gx_lt {α : Type} {d : α} : ∀ (l r : List α) (j : Nat), j < l.length → (l ++ r).getD j d = l.getD j d := by
  intro l
  induction l with
  | nil => intro r j h; exact absurd h (Nat.not_lt_zero _)
  | cons x l ih =>
    intro r j h
    cases j with
    | zero => rfl
    | succ j => exact ih r j (Nat.lt_of_succ_lt_succ h)
theorem gx_eq {α : Type} {d : α} : ∀ (l : List α) (x : α), (l ++ [x]).getD l.length d = x := by
  intro l
  induction l with
  | nil => intro x; rfl
  | cons y l ih => intro x; exact ih x
def frM (ν : fw_M) : List (Nat × Nat) → Prop
  | [] => True
  | x :: r => m_I ν 422 r.length = nI x.1 ∧ x.1 < 10 ∧ (x.1 = 5 → x.2 < 400 ∧ m_I ν 423 (r.length + 1) = nI x.2) ∧ frM ν r
def wsM (ν : fw_M) : List (Nat × Nat) → Prop
  | [] => True
  | x :: r => m_I ν 424 r.length = nI x.1 ∧ x.1 < 500 ∧ m_I ν 425 r.length = nI x.2 ∧ x.2 < 100 ∧ wsM ν r
abbrev DT (p j : Nat) : Prop := (p = 411 ∧ 13 ≤ j ∧ j ≤ 34) ∨ (422 ≤ p ∧ p ≤ 431)
def tkM (b : Nat → Nat) (N : Nat) (l : List Tok) (ν : fw_M) : Prop := ∃ s t pl a' r, l = (s, t, pl) :: r ∧ mT s t pl a' ν ∧ pl ≤ N ∧ a' ≤ N ∧ s ≤ 4 ∧ (s = 0 → r = []) ∧ (s ≠ 0 → lexes b N r a')
abbrev CE : Type := Nat × Nat × Int32 × Int32
def mc (b : Nat → Nat) (N : Nat) (ν0 ν : fw_M) (l : List Tok) (st : Nat) (fr ws : List (Nat × Nat)) (os : List PO) (cl : List CE) (nc kd op : Nat) : Prop :=
  tpM b N ν ∧ eqD DT ν0 ν ∧ m_I ν 411 18 = 0 ∧ tkM b N l ν ∧ (m_I ν 411 27 = nI st ∧ st < 5) ∧
  (m_I ν 411 21 = nI fr.length ∧ frM ν fr) ∧ (m_I ν 411 24 = nI ws.length ∧ wsM ν ws) ∧
  (m_I ν 411 34 = nI os.length ∧ ∀ i, i < os.length → m_I ν 430 i = (os.getD i (0, 0)).1 ∧ m_I ν 431 i = (os.getD i (0, 0)).2) ∧
  (m_I ν 411 28 = nI nc ∧ ∀ i, i < cl.length → m_I ν 426 i = nI (cl.getD i (0, 0, 0, 0)).1 ∧ m_I ν 427 i = nI (cl.getD i (0, 0, 0, 0)).2.1 ∧ m_I ν 428 i = (cl.getD i (0, 0, 0, 0)).2.2.1 ∧ m_I ν 429 i = (cl.getD i (0, 0, 0, 0)).2.2.2) ∧
  (m_I ν 411 29 = nI kd ∧ kd < 7) ∧ (m_I ν 411 20 = nI op ∧ op ≤ 8)
theorem frM.eq {ν ν' : fw_M} : ∀ {l : List (Nat × Nat)}, frM ν l → (∀ i, i < l.length → m_I ν' 422 i = m_I ν 422 i) → (∀ i, i ≤ l.length → m_I ν' 423 i = m_I ν 423 i) → frM ν' l := by
  intro l
  induction l with
  | nil => intro _ _ _; trivial
  | cons x r ih =>
    intro h g k
    obtain ⟨h1, h2, h3, h4⟩ := h
    exact ⟨(g r.length (Nat.lt_succ_self _)).trans h1, h2, fun e => ⟨(h3 e).1, (k _ (Nat.le_refl _)).trans (h3 e).2⟩, ih h4 (fun i hi => g i (Nat.lt_succ_of_lt hi)) fun i hi => k i (Nat.le_succ_of_le hi)⟩
theorem wsM.eq {ν ν' : fw_M} : ∀ {l : List (Nat × Nat)}, wsM ν l → (∀ i, i < l.length → m_I ν' 424 i = m_I ν 424 i ∧ m_I ν' 425 i = m_I ν 425 i) → wsM ν' l := by
  intro l
  induction l with
  | nil => intro _ _; trivial
  | cons x r ih =>
    intro h g
    obtain ⟨h1, h2, h3, h5, h4⟩ := h
    have q := g r.length (Nat.lt_succ_self _)
    exact ⟨q.1.trans h1, h2, q.2.trans h3, h5, ih h4 fun i hi => g i (Nat.lt_succ_of_lt hi)⟩
section MC
variable {b : Nat → Nat} {N : Nat} {ν0 ν : fw_M} {l : List Tok} {st : Nat} {fr ws : List (Nat × Nat)} {os : List PO} {cl : List CE} {nc kd op : Nat}
theorem mT.eq {s t pl a' : Nat} {ν' : fw_M} (h : mT s t pl a' ν) (g : ∀ j, 14 ≤ j → j ≤ 17 → m_I ν' 411 j = m_I ν 411 j) : mT s t pl a' ν' := by
  unfold mT at h ⊢
  rw [g 14 (by decide) (by decide), g 15 (by decide) (by decide), g 16 (by decide) (by decide), g 17 (by decide) (by decide)]
  exact h
theorem tkM.eq {l : List Tok} {ν' : fw_M} (h : tkM b N l ν) (g : ∀ j, 14 ≤ j → j ≤ 17 → m_I ν' 411 j = m_I ν 411 j) : tkM b N l ν' := by
  obtain ⟨s, t, pl, a', r, h1, h2, h3⟩ := h
  exact ⟨s, t, pl, a', r, h1, h2.eq g, h3⟩
/-- one small int of the machine changes -/
theorem mc_set (h : mc b N ν0 ν l st fr ws os cl nc kd op) {D : Nat → Nat → Prop} {ν' : fw_M} (g : eqD D ν ν') (hD : ∀ p j, D p j → DT p j ∧ ¬ (p = 411 ∧ (j = 13 ∨ j = 18))) {l' : List Tok} {st' : Nat} {fr' ws' : List (Nat × Nat)} {os' : List PO} {cl' : List CE} {nc' kd' op' : Nat}
    (t : tkM b N l' ν') (s : m_I ν' 411 27 = nI st' ∧ st' < 5) (f : m_I ν' 411 21 = nI fr'.length ∧ frM ν' fr') (w : m_I ν' 411 24 = nI ws'.length ∧ wsM ν' ws')
    (o : m_I ν' 411 34 = nI os'.length ∧ ∀ i, i < os'.length → m_I ν' 430 i = (os'.getD i (0, 0)).1 ∧ m_I ν' 431 i = (os'.getD i (0, 0)).2)
    (lc : m_I ν' 411 28 = nI nc' ∧ ∀ i, i < cl'.length → m_I ν' 426 i = nI (cl'.getD i (0, 0, 0, 0)).1 ∧ m_I ν' 427 i = nI (cl'.getD i (0, 0, 0, 0)).2.1 ∧ m_I ν' 428 i = (cl'.getD i (0, 0, 0, 0)).2.2.1 ∧ m_I ν' 429 i = (cl'.getD i (0, 0, 0, 0)).2.2.2)
    (k : m_I ν' 411 29 = nI kd' ∧ kd' < 7) (p : m_I ν' 411 20 = nI op' ∧ op' ≤ 8) : mc b N ν0 ν' l' st' fr' ws' os' cl' nc' kd' op' := by
  obtain ⟨h1, h2, h3, -⟩ := h
  refine ⟨h1.eq g (fun j q => ?_) (fun q => (hD _ _ q).2 ⟨rfl, Or.inl rfl⟩), h2.tr (g.mono fun p j q => (hD p j q).1), (g.2.2.2 411 18 fun q => (hD _ _ q).2 ⟨rfl, Or.inr rfl⟩).trans h3, t, s, f, w, o, lc, k, p⟩
  rcases (hD _ _ q).1 with e | e
  · exact absurd e.1 (by decide)
  · exact absurd e.1 (by decide)
theorem mc_sk (h : mc b N ν0 ν l st fr ws os cl nc kd op) : sk_m ν := h.1.2.1
/-- the rest of the machine keeps -/
theorem mc_next (h : mc b N ν0 ν l st fr ws os cl nc kd op) {x : Tok} {r : List Tok} (hl : l = x :: r) (hx : x.1 ≠ 0) {Q : fw_M → Prop} (hQ : ∀ ν', mc b N ν0 ν' r st fr ws os cl nc kd op → Q ν') : p_X5_nextToken 411 ν Q := by
  obtain ⟨h1, h2, h3, ⟨s, t, pl, a', r', e, t1, t2, t3, t4, t5, t6⟩, h5, h6, h7, h8, h9, h10, h11⟩ := id h
  rw [hl] at e
  cases e
  have lx1 := t6 hx
  cases r with
  | nil => cases lx1
  | cons y r2 =>
    obtain ⟨a2, q1, q2, q3, q4, q5, q6⟩ := lx1
    refine m_next h1 t1.2.2.2.2.2.2 t3 q1 fun ν' g T => ?_
    have i : ∀ p j, ¬ DN p j → m_I ν' p j = m_I ν p j := fun p j q => g.2.2.2 p j q
    refine hQ ν' (mc_set h g (fun p j q => ⟨Or.inl ⟨q.1, by omega, by omega⟩, fun z => by omega⟩) ⟨y.1, y.2.1, y.2.2, a2, r2, rfl, T, q2, q3, q4, q5, fun z => (q6 z).2⟩ ?_ ?_ ?_ ?_ ?_ ?_ ?_)
    · exact ⟨(i 411 27 (by unfold DN; omega)).trans h5.1, h5.2⟩
    · exact ⟨(i 411 21 (by unfold DN; omega)).trans h6.1, h6.2.eq (fun j _ => i 422 j (by unfold DN; omega)) fun j _ => i 423 j (by unfold DN; omega)⟩
    · exact ⟨(i 411 24 (by unfold DN; omega)).trans h7.1, h7.2.eq fun j _ => ⟨i 424 j (by unfold DN; omega), i 425 j (by unfold DN; omega)⟩⟩
    · exact ⟨(i 411 34 (by unfold DN; omega)).trans h8.1, fun j hj => ⟨(i 430 j (by unfold DN; omega)).trans (h8.2 j hj).1, (i 431 j (by unfold DN; omega)).trans (h8.2 j hj).2⟩⟩
    · refine ⟨(i 411 28 (by unfold DN; omega)).trans h9.1, fun j hj => ?_⟩
      rw [i 426 j (by unfold DN; omega), i 427 j (by unfold DN; omega), i 428 j (by unfold DN; omega), i 429 j (by unfold DN; omega)]
      exact h9.2 j hj
    · exact ⟨(i 411 29 (by unfold DN; omega)).trans h10.1, h10.2⟩
    · exact ⟨(i 411 20 (by unfold DN; omega)).trans h11.1, h11.2⟩
/-- the other parts, when only D changes -/
theorem mc_f (h : m_I ν 411 21 = nI fr.length ∧ frM ν fr) {D : Nat → Nat → Prop} {ν' : fw_M} (g : eqD D ν ν') (hD : ∀ p j, D p j → ¬ (p = 411 ∧ j = 21) ∧ p ≠ 422 ∧ p ≠ 423) : m_I ν' 411 21 = nI fr.length ∧ frM ν' fr :=
  ⟨(g.2.2.2 411 21 fun q => (hD _ _ q).1 ⟨rfl, rfl⟩).trans h.1, h.2.eq (fun j _ => g.2.2.2 422 j fun q => (hD _ _ q).2.1 rfl) fun j _ => g.2.2.2 423 j fun q => (hD _ _ q).2.2 rfl⟩
theorem mc_w (h : m_I ν 411 24 = nI ws.length ∧ wsM ν ws) {D : Nat → Nat → Prop} {ν' : fw_M} (g : eqD D ν ν') (hD : ∀ p j, D p j → ¬ (p = 411 ∧ j = 24) ∧ p ≠ 424 ∧ p ≠ 425) : m_I ν' 411 24 = nI ws.length ∧ wsM ν' ws :=
  ⟨(g.2.2.2 411 24 fun q => (hD _ _ q).1 ⟨rfl, rfl⟩).trans h.1, h.2.eq fun j _ => ⟨g.2.2.2 424 j fun q => (hD _ _ q).2.1 rfl, g.2.2.2 425 j fun q => (hD _ _ q).2.2 rfl⟩⟩
theorem mc_o (h : m_I ν 411 34 = nI os.length ∧ ∀ i, i < os.length → m_I ν 430 i = (os.getD i (0, 0)).1 ∧ m_I ν 431 i = (os.getD i (0, 0)).2) {D : Nat → Nat → Prop} {ν' : fw_M} (g : eqD D ν ν') (hD : ∀ p j, D p j → ¬ (p = 411 ∧ j = 34) ∧ p ≠ 430 ∧ p ≠ 431) : m_I ν' 411 34 = nI os.length ∧ ∀ i, i < os.length → m_I ν' 430 i = (os.getD i (0, 0)).1 ∧ m_I ν' 431 i = (os.getD i (0, 0)).2 :=
  ⟨(g.2.2.2 411 34 fun q => (hD _ _ q).1 ⟨rfl, rfl⟩).trans h.1, fun i hi => ⟨(g.2.2.2 430 i fun q => (hD _ _ q).2.1 rfl).trans (h.2 i hi).1, (g.2.2.2 431 i fun q => (hD _ _ q).2.2 rfl).trans (h.2 i hi).2⟩⟩
theorem mc_c (h : m_I ν 411 28 = nI nc ∧ ∀ i, i < cl.length → m_I ν 426 i = nI (cl.getD i (0, 0, 0, 0)).1 ∧ m_I ν 427 i = nI (cl.getD i (0, 0, 0, 0)).2.1 ∧ m_I ν 428 i = (cl.getD i (0, 0, 0, 0)).2.2.1 ∧ m_I ν 429 i = (cl.getD i (0, 0, 0, 0)).2.2.2) {D : Nat → Nat → Prop} {ν' : fw_M} (g : eqD D ν ν') (hD : ∀ p j, D p j → ¬ (p = 411 ∧ j = 28) ∧ ¬ (426 ≤ p ∧ p ≤ 429)) : m_I ν' 411 28 = nI nc ∧ ∀ i, i < cl.length → m_I ν' 426 i = nI (cl.getD i (0, 0, 0, 0)).1 ∧ m_I ν' 427 i = nI (cl.getD i (0, 0, 0, 0)).2.1 ∧ m_I ν' 428 i = (cl.getD i (0, 0, 0, 0)).2.2.1 ∧ m_I ν' 429 i = (cl.getD i (0, 0, 0, 0)).2.2.2 := by
  refine ⟨(g.2.2.2 411 28 fun q => (hD _ _ q).1 ⟨rfl, rfl⟩).trans h.1, fun i hi => ?_⟩
  rw [g.2.2.2 426 i fun q => (hD _ _ q).2 (by decide), g.2.2.2 427 i fun q => (hD _ _ q).2 (by decide), g.2.2.2 428 i fun q => (hD _ _ q).2 (by decide), g.2.2.2 429 i fun q => (hD _ _ q).2 (by decide)]
  exact h.2 i hi
theorem mc_1 {j k : Nat} (h : m_I ν 411 j = nI k) {D : Nat → Nat → Prop} {ν' : fw_M} (g : eqD D ν ν') (hD : ¬ D 411 j) : m_I ν' 411 j = nI k := (g.2.2.2 411 j hD).trans h
theorem mc_t {l : List Tok} (h : tkM b N l ν) {D : Nat → Nat → Prop} {ν' : fw_M} (g : eqD D ν ν') (hD : ∀ p j, D p j → ¬ (p = 411 ∧ 14 ≤ j ∧ j ≤ 17)) : tkM b N l ν' := h.eq fun j j1 j2 => g.2.2.2 411 j fun q => hD _ _ q ⟨rfl, j1, j2⟩
theorem mc_emits (h : mc b N ν0 ν l st fr ws os cl nc kd op) {o v : Int32} (hb : os.length < 400) {Q : fw_M → Prop} (hQ : ∀ ν', mc b N ν0 ν' l st fr ws (os ++ [(o, v)]) cl nc kd op → Q ν') : p_X5_emits 411 o v ν Q := by
  obtain ⟨h1, h2, h3, h4, h5, h6, h7, h8, h9, h10, h11⟩ := id h
  have gs := mc_sk h
  have h34 := h8.1
  unfold p_X5_emits
  simp (disch := omega) only [sk_p411_0 gs, sk_p411_1 gs, sk_p411_2 gs, sk_p411_6 gs, sk_p411_7 gs, sk_p411_8 gs, sk_p411_9 gs, sk_p411_10 gs, sk_p411_11 gs, sk_p411_12 gs, sk_p411_22 gs, sk_p411_23 gs, sk_p411_25 gs, sk_p411_26 gs, sk_p411_30 gs, sk_p411_31 gs, sk_p411_32 gs, sk_p411_33 gs, sk_p411_35 gs, sk_p411_36 gs, sk_p411_37 gs, sk_p411_38 gs, sk_p411_39 gs, sk_p411_40 gs, sk_p411_42 gs, sk_p411_43 gs, sk_p411_44 gs, sk_p411_45 gs, sk_p411_46 gs, sk_k411 gs, sk_n411 gs, sk_k430 gs, sk_n430 gs, sk_k431 gs, sk_n431 gs, h34, nI_clamp, vp_t, true_and, forall_eq, ml_uI, ml_KI, ml_PI, ml_NI, ml_SI, ml_xI, ml_Is, ml_In, ml_us, ml_un, ml_cp, ml_ss, nI_1]
  have hK : m_K (m_sI ν 430 (ml_u (m_I ν 430) os.length o)) = m_K ν := rfl
  have g : eqD (fun p j => p = 430 ∨ p = 431 ∨ (p = 411 ∧ j = 34)) ν (m_sI (m_sI (m_sI ν 430 (ml_u (m_I ν 430) os.length o)) 431 (ml_u (m_I ν 431) os.length v)) 411 (ml_u (m_I ν 411) 34 (nI (os.length + 1)))) := by
    refine ((eqD.sI fun j hj => absurd (Or.inl rfl) hj).tr (eqD.sI fun j hj => absurd (Or.inr (Or.inl rfl)) hj)).tr (eqD.sI fun j hj => ?_)
    rw [ml_un fun e => hj (Or.inr (Or.inr ⟨rfl, e⟩)), ml_In (by decide), ml_In (by decide)]
  refine hQ _ (mc_set h g (fun p j q => by unfold DT; omega) (mc_t h4 g fun p j q => by omega) ⟨mc_1 h5.1 g (by omega), h5.2⟩ (mc_f h6 g fun p j q => by omega) (mc_w h7 g fun p j q => by omega) ⟨?_, fun i hi => ?_⟩ (mc_c h9 g fun p j q => by omega) ⟨mc_1 h10.1 g (by omega), h10.2⟩ ⟨mc_1 h11.1 g (by omega), h11.2⟩)
  · rw [ml_Is, ml_us, List.length_append]; rfl
  · rw [ml_In (by decide), ml_In (by decide), ml_Is, ml_In (by decide), ml_Is]
    by_cases e : i = os.length
    · subst e
      rw [ml_us, ml_us, gx_eq]
      exact ⟨rfl, rfl⟩
    · have hi' : i < os.length := by
        have : (os ++ [(o, v)]).length = os.length + 1 := by rw [List.length_append]; rfl
        omega
      rw [ml_un e, ml_un e, gx_lt _ _ _ hi']
      exact h8.2 i hi'
end MC
