/-! plain law: bits; hired -/
set_option maxRecDepth 100000 in
theorem bt_S : ∀ s, s < 512 → ∀ e, e < 10 → ((nI s >>> (nI e &&& 31)) &&& 1) = nI (s / 2 ^ e % 2) := by decide +kernel
theorem p2_S : ∀ n, n < 10 → ((1 : Int32) <<< (nI n &&& 31)) = nI (2 ^ n) := by decide +kernel
def hSm (f : Nat → Nat) (s : Nat) : Nat → Nat
  | 0 => 0
  | k + 1 => hSm f s k + (if s / 2 ^ k % 2 = 1 then f k else 0)
theorem hSm_le {f : Nat → Nat} {s b : Nat} : ∀ {k : Nat}, (∀ e, e < k → f e ≤ b) → hSm f s k ≤ b * k := by
  intro k
  induction k with
  | zero => intro _; exact Nat.zero_le _
  | succ k ih =>
    intro h
    have h1 := ih fun e he => h e (by omega)
    have h2 := h k (by omega)
    unfold hSm
    rw [Nat.mul_succ]
    split <;> omega
def pcN (s k : Nat) : Nat := hSm (fun _ => 1) s k
theorem pcN_le {s k : Nat} : pcN s k ≤ k := by
  have := hSm_le (f := fun _ => 1) (s := s) (b := 1) (k := k) fun _ _ => Nat.le_refl _
  unfold pcN
  omega
def bc1 (x : Int32) : Int32 := x - ((x.toUInt32 >>> ((1 : Int32).toUInt32 &&& Int32.toUInt32 31)).toInt32 &&& (1431655765 : Int32))
def bc2 (x : Int32) : Int32 := (x &&& (858993459 : Int32)) + ((x.toUInt32 >>> ((2 : Int32).toUInt32 &&& Int32.toUInt32 31)).toInt32 &&& (858993459 : Int32))
def bc3 (x : Int32) : Int32 := (x + (x.toUInt32 >>> ((4 : Int32).toUInt32 &&& Int32.toUInt32 31)).toInt32) &&& (252645135 : Int32)
def bc4 (x : Int32) : Int32 := x + (x.toUInt32 >>> ((8 : Int32).toUInt32 &&& Int32.toUInt32 31)).toInt32
def bc5 (x : Int32) : Int32 := x + (x.toUInt32 >>> ((16 : Int32).toUInt32 &&& Int32.toUInt32 31)).toInt32
theorem s_bc {x : Int32} {μ : fw_M} {Q : Int32 → fw_M → Prop} (hQ : Q (bc5 (bc4 (bc3 (bc2 (bc1 x)))) &&& 63) μ) : p_J8_bitCount x μ Q := by
  unfold p_J8_bitCount
  rintro _ rfl _ rfl _ rfl _ rfl _ rfl
  exact hQ
set_option maxRecDepth 100000 in
theorem bc_e : ∀ s, s < 512 → bc5 (bc4 (bc3 (bc2 (bc1 (nI s))))) &&& 63 = nI (pcN s 9) := by decide +kernel
set_option maxRecDepth 100000 in
theorem pc_n : ∀ n, n < 10 → ∀ s, s < 2 ^ n → pcN s 9 = pcN s n := by decide +kernel
theorem p2_le : ∀ n, n < 10 → 2 ^ n ≤ 512 := by decide
def hiB (need : Nat) (hN pr : Nat → Nat) (n s : Nat) (st : Option Nat × Nat) : Bool := decide (need ≤ hSm hN s n) && (match st.1 with
  | none => true
  | some f => decide (hSm pr s n < st.2) || (decide (hSm pr s n = st.2) && decide (pcN s n < pcN f n)))
def hiT (need : Nat) (hN pr : Nat → Nat) (n : Nat) : Nat → Option Nat × Nat
  | 0 => (none, 0)
  | s + 1 => if hiB need hN pr n s (hiT need hN pr n s) = true then (some s, hSm pr s n) else hiT need hN pr n s
theorem hiT_ok {need : Nat} {hN pr : Nat → Nat} {n : Nat} (hp : ∀ e, e < n → pr e ≤ 99) : ∀ s, (∀ f, (hiT need hN pr n s).1 = some f → f < s) ∧ (hiT need hN pr n s).2 ≤ 99 * n := by
  intro s
  induction s with
  | zero => exact ⟨(fun f h => by cases h), Nat.zero_le _⟩
  | succ s ih =>
    unfold hiT
    split
    · exact ⟨(fun f h => by cases h; exact Nat.lt_succ_self _), hSm_le hp⟩
    · exact ⟨fun f h => Nat.lt_succ_of_lt (ih.1 f h), ih.2⟩
def oI (o : Option Nat) : Int32 := match o with
  | none => -1
  | some f => nI f
theorem oI_nm1 {o : Option Nat} (h : ∀ f, o = some f → f < 512) : oI o = -1 ↔ o = none := by
  cases o with
  | none => exact ⟨fun _ => rfl, fun _ => rfl⟩
  | some f => exact ⟨fun q => absurd q (nI_nm1 (by have := h f rfl; omega)), fun q => by cases q⟩
section HS
variable {n : Nat} {hun sto wh : Nat → Nat} {lv : LV} {nd : Nat} {μ ν : fw_M} {w : WW} {pr : Nat → Nat} {need : Nat}
theorem s_hired (c : cxS n hun sto lv μ) (R : rS n wh nd (m_I μ 69) w) (ok : okW n w) (hp : ∀ e, e < n → m_I μ 68 e = nI (pr e) ∧ pr e ≤ 99) (h1 : 1 ≤ need) (h2 : need ≤ 9999) {Q : Int32 → fw_M → Prop} (hQ : ∀ μ', eqD (fun p _ => p = 396) μ μ' → Q (oI (hiT need (holdsN lv hun sto w) pr n (2 ^ n)).1) μ') : p_X0_hired_L20 64 (nI need) (-1) 0 0 μ Q := by
  obtain ⟨hs, h9, e0, hE, -⟩ := id c
  have hT := hiT_ok (need := need) (hN := holdsN lv hun sto w) (pr := pr) (n := n) fun e he => (hp e he).2
  have hH : ∀ e, e < n → holdsN lv hun sto w e ≤ 9999 := fun e he => Nat.le_trans (Nat.sub_le _ _) (holdsH_le (hE e he).2.2)
  have p512 := p2_le n (by omega)
  unfold p_X0_hired_L20
  refine lp_to (2 ^ n) (fun s (a : Int32 × Int32 × Int32 × fw_M) => a.1 = oI (hiT need (holdsN lv hun sto w) pr n s).1 ∧ a.2.1 = nI (hiT need (holdsN lv hun sto w) pr n s).2 ∧ a.2.2.1 = nI s ∧ eqD (fun p _ => p = 396) μ a.2.2.2) (fun s a hs2 hI K hK => ?_) (fun a hI K => ?_) ⟨rfl, rfl, rfl, eqD.rf⟩
  · obtain ⟨i2, i3, i4, μ1⟩ := a
    obtain ⟨a1, a2, a3, a4⟩ := hI
    dsimp only at a1 a2 a3 a4
    subst a1 a2 a3
    show p_X0_hired_L20b 64 (nI need) (fun i2 i3 i4 μ => K (i2, i3, i4, μ)) (oI (hiT need (holdsN lv hun sto w) pr n s).1) (nI (hiT need (holdsN lv hun sto w) pr n s).2) (nI s) μ1 Q
    have g1 := a4.sk hs
    have e0' : m_I μ1 65 0 = nI n := (a4.2.2.2 65 0 (by decide)).trans e0
    obtain ⟨hf, hb⟩ := hT s
    unfold p_X0_hired_L20b
    simp (disch := omega) only [sk_p64_0 g1, sk_p64_1 g1, sk_p64_2 g1, sk_p64_3 g1, sk_p64_4 g1, sk_p64_5 g1, sk_p64_9 g1, sk_p64_10 g1, sk_p64_11 g1, sk_p65_6 g1, sk_p65_7 g1, sk_p65_8 g1, sk_p65_9 g1, sk_p65_10 g1, sk_p65_11 g1, sk_p65_12 g1, sk_p65_13 g1, sk_p65_14 g1, sk_p65_15 g1, sk_k64 g1, sk_n64 g1, sk_k65 g1, sk_n65 g1, e0', p2_S n (by omega), true_and, nI_leI, Nat.not_le.mpr hs2, if_false]
    have hK' : ∀ μ2, eqD (fun p _ => p = 396) μ μ2 → K (oI (hiT need (holdsN lv hun sto w) pr n (s + 1)).1, nI (hiT need (holdsN lv hun sto w) pr n (s + 1)).2, nI (s + 1), μ2) := fun μ2 d => hK _ ⟨rfl, rfl, rfl, d⟩
    unfold p_X0_hired_L43
    refine lp_to n (fun k (b : Int32 × Int32 × Int32 × fw_M) => b.1 = nI (hSm (holdsN lv hun sto w) s k) ∧ b.2.1 = nI (hSm pr s k) ∧ b.2.2.1 = nI k ∧ eqD (fun p _ => p = 396) μ b.2.2.2) (fun k b hk hI2 K2 hK2 => ?_) (fun b hI2 K2 => ?_) ⟨rfl, rfl, rfl, a4⟩
    · obtain ⟨i5, i6, i7, μ2⟩ := b
      obtain ⟨b1, b2, b3, b4⟩ := hI2
      dsimp only at b1 b2 b3 b4
      subst b1 b2 b3
      show p_X0_hired_L43b _ 64 (nI need) _ _ (nI s) (fun i5 i6 i7 μ => K2 (i5, i6, i7, μ)) (nI (hSm (holdsN lv hun sto w) s k)) (nI (hSm pr s k)) (nI k) μ2 Q
      have c2 := c.eq b4 fun p j q => by subst q; exact Or.inl ⟨by decide, by decide⟩
      have g2 := c2.1
      have e0'' := c2.2.2.1
      have hK3 : ∀ μ3, eqD (fun p _ => p = 396) μ μ3 → K2 (nI (hSm (holdsN lv hun sto w) s (k + 1)), nI (hSm pr s (k + 1)), nI (k + 1), μ3) := fun μ3 d => hK2 _ ⟨rfl, rfl, rfl, d⟩
      unfold p_X0_hired_L43b
      simp (disch := omega) only [sk_p64_0 g2, sk_p64_1 g2, sk_p64_2 g2, sk_p64_3 g2, sk_p64_4 g2, sk_p64_5 g2, sk_p64_9 g2, sk_p64_10 g2, sk_p64_11 g2, sk_p65_6 g2, sk_p65_7 g2, sk_p65_8 g2, sk_p65_9 g2, sk_p65_10 g2, sk_p65_11 g2, sk_p65_12 g2, sk_p65_13 g2, sk_p65_14 g2, sk_p65_15 g2, sk_k64 g2, sk_n64 g2, sk_k65 g2, sk_n65 g2, e0'', true_and, nI_leI, Nat.not_le.mpr hk, if_false, bt_S s (by omega) k (by omega), nI_1]
      have bit : s / 2 ^ k % 2 = 0 ∨ s / 2 ^ k % 2 = 1 := by omega
      rcases bit with b0 | b0
      · rw [b0, if_pos (show nI 0 = 0 from rfl)]
        simp only [forall_eq]
        have := hK3 μ2 b4
        unfold hSm at this
        rw [b0, if_neg (by decide), if_neg (by decide), Nat.add_zero, Nat.add_zero] at this
        exact this
      · rw [b0, if_neg (show ¬ nI 1 = 0 by decide)]
        have e69 : m_I μ2 69 = m_I μ 69 := b4.I fun j => by decide
        refine s_holds c2 (by rw [e69]; exact R) ok hk (sk_k69 g2) (sk_n69 g2) (by decide) (by decide) fun μ3 d3 => ?_
        have d := b4.tr d3
        have g3 := d.sk hs
        have e68 : m_I μ3 68 k = nI (pr k) := (d.2.2.2 68 k (show ¬ (68 = 396) by decide)).trans (hp k hk).1
        simp (disch := omega) only [sk_p64_0 g3, sk_p64_1 g3, sk_p64_2 g3, sk_p64_3 g3, sk_p64_4 g3, sk_p64_5 g3, sk_p64_9 g3, sk_p64_10 g3, sk_p64_11 g3, sk_p65_6 g3, sk_p65_7 g3, sk_p65_8 g3, sk_p65_9 g3, sk_p65_10 g3, sk_p65_11 g3, sk_p65_12 g3, sk_p65_13 g3, sk_p65_14 g3, sk_p65_15 g3, sk_k64 g3, sk_n64 g3, sk_k65 g3, sk_n65 g3, sk_k68 g3, sk_n68 g3, e68, nI_clamp, vp_t, true_and, forall_eq, nI_add]
        have := hK3 μ3 d
        unfold hSm at this
        rw [b0, if_pos rfl, if_pos rfl] at this
        exact this
    · obtain ⟨i5, i6, i7, μ2⟩ := b
      obtain ⟨b1, b2, b3, b4⟩ := hI2
      dsimp only at b1 b2 b3 b4
      subst b1 b2 b3
      show p_X0_hired_L43b (fun i2 i3 i4 μ => K (i2, i3, i4, μ)) 64 (nI need) (oI (hiT need (holdsN lv hun sto w) pr n s).1) (nI (hiT need (holdsN lv hun sto w) pr n s).2) (nI s) _ (nI (hSm (holdsN lv hun sto w) s n)) (nI (hSm pr s n)) (nI n) μ2 Q
      have g2 := b4.sk hs
      have e0'' : m_I μ2 65 0 = nI n := (b4.2.2.2 65 0 (by decide)).trans e0
      have hh := hSm_le (s := s) hH
      have hpp := hSm_le (s := s) fun e he => (hp e he).2
      have hK4 := hK' μ2 b4
      have yes : hiB need (holdsN lv hun sto w) pr n s (hiT need (holdsN lv hun sto w) pr n s) = true → p_X0_hired_L136 (fun i2 i3 i4 μ => K (i2, i3, i4, μ)) 64 (nI need) (oI (hiT need (holdsN lv hun sto w) pr n s).1) (nI (hiT need (holdsN lv hun sto w) pr n s).2) (nI s) (nI (hSm (holdsN lv hun sto w) s n)) (nI (hSm pr s n)) μ2 Q := by
        intro hy
        unfold hiT at hK4
        rw [if_pos hy] at hK4
        have hnd : need ≤ hSm (holdsN lv hun sto w) s n := by
          unfold hiB at hy
          rw [Bool.and_eq_true] at hy
          exact of_decide_eq_true hy.1
        unfold p_X0_hired_L136 p_X0_hired_L141
        rw [if_neg (nI_nlt hnd (by omega)), if_neg (by decide)]
        simp only [forall_eq, nI_1]
        exact hK4
      have noH : hSm (holdsN lv hun sto w) s n < need → ∀ x, p_X0_hired_L141 (fun i2 i3 i4 μ => K (i2, i3, i4, μ)) 64 (nI need) (oI (hiT need (holdsN lv hun sto w) pr n s).1) (nI (hiT need (holdsN lv hun sto w) pr n s).2) (nI s) (nI (hSm (holdsN lv hun sto w) s n)) (nI (hSm pr s n)) x μ2 Q := by
        intro hl x
        have hy : ¬ hiB need (holdsN lv hun sto w) pr n s (hiT need (holdsN lv hun sto w) pr n s) = true := by
          unfold hiB
          rw [decide_eq_false (by omega), Bool.false_and]
          decide
        unfold hiT at hK4
        rw [if_neg hy] at hK4
        unfold p_X0_hired_L141
        rw [if_pos (nI_lt hl (by omega))]
        simp only [forall_eq, nI_1]
        exact hK4
      have no : ¬ hiB need (holdsN lv hun sto w) pr n s (hiT need (holdsN lv hun sto w) pr n s) = true → p_X0_hired_L140 (fun i2 i3 i4 μ => K (i2, i3, i4, μ)) 64 (nI need) (oI (hiT need (holdsN lv hun sto w) pr n s).1) (nI (hiT need (holdsN lv hun sto w) pr n s).2) (nI s) (nI (hSm (holdsN lv hun sto w) s n)) (nI (hSm pr s n)) μ2 Q := by
        intro hy
        unfold hiT at hK4
        rw [if_neg hy] at hK4
        unfold p_X0_hired_L140 p_X0_hired_L141
        by_cases hl : hSm (holdsN lv hun sto w) s n < need
        · rw [if_pos (nI_lt hl (by omega))]
          simp only [forall_eq, nI_1]
          exact hK4
        · rw [if_neg (nI_nlt (by omega) (by omega)), if_pos rfl]
          simp only [forall_eq, nI_1]
          exact hK4
      -- what is better, as a truth of its own
      have go : ∀ b : Bool, (match (hiT need (holdsN lv hun sto w) pr n s).1 with | none => true | some f => decide (hSm pr s n < (hiT need (holdsN lv hun sto w) pr n s).2) || (decide (hSm pr s n = (hiT need (holdsN lv hun sto w) pr n s).2) && decide (pcN s n < pcN f n))) = b → (if b = true then p_X0_hired_L136 (fun i2 i3 i4 μ => K (i2, i3, i4, μ)) 64 (nI need) (oI (hiT need (holdsN lv hun sto w) pr n s).1) (nI (hiT need (holdsN lv hun sto w) pr n s).2) (nI s) (nI (hSm (holdsN lv hun sto w) s n)) (nI (hSm pr s n)) μ2 Q else p_X0_hired_L140 (fun i2 i3 i4 μ => K (i2, i3, i4, μ)) 64 (nI need) (oI (hiT need (holdsN lv hun sto w) pr n s).1) (nI (hiT need (holdsN lv hun sto w) pr n s).2) (nI s) (nI (hSm (holdsN lv hun sto w) s n)) (nI (hSm pr s n)) μ2 Q) := by
        intro b hb
        cases b with
        | true =>
          rw [if_pos rfl]
          by_cases hl : hSm (holdsN lv hun sto w) s n < need
          · exact noH hl 1
          · exact yes (by unfold hiB; rw [hb, decide_eq_true (by omega)]; rfl)
        | false =>
          rw [if_neg (by decide)]
          exact no (by unfold hiB; rw [hb, Bool.and_false]; decide)
      unfold p_X0_hired_L43b
      simp (disch := omega) only [sk_p64_0 g2, sk_p64_1 g2, sk_p64_2 g2, sk_p64_3 g2, sk_p64_4 g2, sk_p64_5 g2, sk_p64_9 g2, sk_p64_10 g2, sk_p64_11 g2, sk_p65_6 g2, sk_p65_7 g2, sk_p65_8 g2, sk_p65_9 g2, sk_p65_10 g2, sk_p65_11 g2, sk_p65_12 g2, sk_p65_13 g2, sk_p65_14 g2, sk_p65_15 g2, sk_k64 g2, sk_n64 g2, sk_k65 g2, sk_n65 g2, e0'', true_and, nI_leI, Nat.le_refl, if_true]
      cases hF : (hiT need (holdsN lv hun sto w) pr n s).1 with
      | none =>
        rw [hF] at go
        rw [if_pos (show oI none = -1 from rfl)]
        exact go true rfl
      | some f =>
        rw [hF] at go
        have hf' := hf f hF
        rw [if_neg (show ¬ oI (some f) = -1 from nI_nm1 (by omega))]
        dsimp only at go
        by_cases q1 : hSm pr s n < (hiT need (holdsN lv hun sto w) pr n s).2
        · rw [if_pos (nI_lt q1 (by omega))]
          exact go true (by rw [decide_eq_true q1]; rfl)
        · rw [if_neg (nI_nlt (by omega) (by omega))]
          by_cases q2 : hSm pr s n = (hiT need (holdsN lv hun sto w) pr n s).2
          · rw [if_pos (by rw [q2])]
            refine s_bc ?_
            refine s_bc ?_
            rw [bc_e s (by omega)]
            rw [show oI (some f) = nI f from rfl, bc_e f (by omega), pc_n n (by omega) s hs2, pc_n n (by omega) f (by omega)]
            have hc1 := pcN_le (s := s) (k := n)
            have hc2 := pcN_le (s := f) (k := n)
            by_cases q3 : pcN s n < pcN f n
            · rw [if_neg (nI_ge q3 (by omega))]
              exact go true (by rw [decide_eq_true q2, decide_eq_true q3, Bool.and_self, Bool.or_true])
            · rw [if_pos (nI_le (by omega) (by omega))]
              exact go false (by rw [decide_eq_false q1, decide_eq_false q3, Bool.and_false]; rfl)
          · rw [if_neg (fun h => q2 ((nI_eq (by omega) (by omega)).mp h))]
            exact go false (by rw [decide_eq_false q1, decide_eq_false q2, Bool.false_and]; rfl)
  · obtain ⟨i2, i3, i4, μ1⟩ := a
    obtain ⟨a1, a2, a3, a4⟩ := hI
    dsimp only at a1 a2 a3 a4
    subst a1 a2 a3
    show p_X0_hired_L20b 64 (nI need) (fun i2 i3 i4 μ => K (i2, i3, i4, μ)) (oI (hiT need (holdsN lv hun sto w) pr n (2 ^ n)).1) (nI (hiT need (holdsN lv hun sto w) pr n (2 ^ n)).2) (nI (2 ^ n)) μ1 Q
    have g1 := a4.sk hs
    have e0' : m_I μ1 65 0 = nI n := (a4.2.2.2 65 0 (by decide)).trans e0
    unfold p_X0_hired_L20b
    simp (disch := omega) only [sk_p64_0 g1, sk_p64_1 g1, sk_p64_2 g1, sk_p64_3 g1, sk_p64_4 g1, sk_p64_5 g1, sk_p64_9 g1, sk_p64_10 g1, sk_p64_11 g1, sk_p65_6 g1, sk_p65_7 g1, sk_p65_8 g1, sk_p65_9 g1, sk_p65_10 g1, sk_p65_11 g1, sk_p65_12 g1, sk_p65_13 g1, sk_p65_14 g1, sk_p65_15 g1, sk_k64 g1, sk_n64 g1, sk_k65 g1, sk_n65 g1, e0', p2_S n (by omega), true_and, nI_leI, Nat.le_refl, if_true]
    exact hQ μ1 a4
def fwN (n : Nat) (o : Option Nat) : Nat := match o with
  | none => 0
  | some f => pcN f n
theorem m_hired (c : cxM n hun sto wh nd lv ν) (R : rM n ν w) (ok : okW n w) (hp : ∀ e, e < n → m_I ν 412 (12 + 3 * e) = nI (pr e) ∧ pr e ≤ 99) (h1 : 1 ≤ need) (h2 : need ≤ 9999) {Q : Int32 → fw_M → Prop} (hQ : ∀ ν', eqD (fun p _ => p = 432) ν ν' → Q (oI (hiT need (holdsN lv hun sto w) pr n (2 ^ n)).1) ν') : p_X5_hired_L27 411 (nI need) (-1) 0 0 1 ν Q := by
  obtain ⟨hs, h9, e0, hE, -⟩ := id c
  have hT := hiT_ok (need := need) (hN := holdsN lv hun sto w) (pr := pr) (n := n) fun e he => (hp e he).2
  have hH : ∀ e, e < n → holdsN lv hun sto w e ≤ 9999 := fun e he => Nat.le_trans (Nat.sub_le _ _) (holdsH_le (hE e he).2.1.2)
  have p512 := p2_le n (by omega)
  have p1 : 1 ≤ 2 ^ n := Nat.one_le_two_pow
  have z0 : ∀ (f : Nat → Nat) (k : Nat), hSm f 0 k = 0 := by
    intro f k
    induction k with
    | zero => rfl
    | succ k ih =>
      unfold hSm
      rw [ih, Nat.zero_div, if_neg (by decide)]
  have t1 : hiT need (holdsN lv hun sto w) pr n 1 = (none, 0) := by
    show (if hiB need (holdsN lv hun sto w) pr n 0 (none, 0) = true then _ else (none, 0)) = _
    rw [if_neg]
    unfold hiB
    rw [z0, decide_eq_false (by omega), Bool.false_and]
    decide
  unfold p_X5_hired_L27
  refine lp_to (2 ^ n - 1) (fun s (a : Int32 × Int32 × Int32 × Int32 × fw_M) => a.1 = oI (hiT need (holdsN lv hun sto w) pr n (s + 1)).1 ∧ a.2.1 = nI (hiT need (holdsN lv hun sto w) pr n (s + 1)).2 ∧ a.2.2.1 = nI (fwN n (hiT need (holdsN lv hun sto w) pr n (s + 1)).1) ∧ a.2.2.2.1 = nI (s + 1) ∧ eqD (fun p _ => p = 432) ν a.2.2.2.2) (fun s a hs2 hI K hK => ?_) (fun a hI K => ?_) (by rw [t1]; exact ⟨rfl, rfl, rfl, rfl, eqD.rf⟩)
  · obtain ⟨i2, i3, i4, i5, ν1⟩ := a
    obtain ⟨a1, a2, a3, a5, a4⟩ := hI
    dsimp only at a1 a2 a3 a4 a5
    subst a1 a2 a3 a5
    show p_X5_hired_L27b 411 (nI need) (fun i2 i3 i4 i5 μ => K (i2, i3, i4, i5, μ)) (oI (hiT need (holdsN lv hun sto w) pr n (s + 1)).1) (nI (hiT need (holdsN lv hun sto w) pr n (s + 1)).2) (nI (fwN n (hiT need (holdsN lv hun sto w) pr n (s + 1)).1)) (nI (s + 1)) ν1 Q
    have hK' : ∀ μ2, eqD (fun p _ => p = 432) ν μ2 → K (oI (hiT need (holdsN lv hun sto w) pr n (s + 1 + 1)).1, nI (hiT need (holdsN lv hun sto w) pr n (s + 1 + 1)).2, nI (fwN n (hiT need (holdsN lv hun sto w) pr n (s + 1 + 1)).1), nI (s + 1 + 1), μ2) := fun μ2 d => hK _ ⟨rfl, rfl, rfl, rfl, d⟩
    have hs3 : s + 1 < 2 ^ n := by omega
    generalize s + 1 = s at hK' hs3
    have g1 := a4.sk hs
    have e0' : m_I ν1 412 0 = nI n := (a4.2.2.2 412 0 (by decide)).trans e0
    obtain ⟨hf, hb⟩ := hT s
    unfold p_X5_hired_L27b
    simp (disch := omega) only [sk_p411_0 g1, sk_p411_1 g1, sk_p411_2 g1, sk_p411_6 g1, sk_p411_7 g1, sk_p411_8 g1, sk_p411_9 g1, sk_p411_10 g1, sk_p411_11 g1, sk_p411_12 g1, sk_p411_22 g1, sk_p411_23 g1, sk_p411_25 g1, sk_p411_26 g1, sk_p411_30 g1, sk_p411_31 g1, sk_p411_32 g1, sk_p411_33 g1, sk_p411_35 g1, sk_p411_36 g1, sk_p411_37 g1, sk_p411_38 g1, sk_p411_39 g1, sk_p411_40 g1, sk_p411_42 g1, sk_p411_43 g1, sk_p411_44 g1, sk_p411_45 g1, sk_p411_46 g1, sk_k411 g1, sk_n411 g1, sk_k412 g1, sk_n412 g1, cl0, vp0_11120, e0', p2_S n (by omega), true_and, nI_leI, Nat.not_le.mpr hs3, if_false]
    unfold p_X5_hired_L52
    refine lp_to n (fun k (b : Int32 × Int32 × Int32 × Int32 × fw_M) => b.1 = nI (hSm (holdsN lv hun sto w) s k) ∧ b.2.1 = nI (hSm pr s k) ∧ b.2.2.1 = nI (pcN s k) ∧ b.2.2.2.1 = nI k ∧ eqD (fun p _ => p = 432) ν b.2.2.2.2) (fun k b hk hI2 K2 hK2 => ?_) (fun b hI2 K2 => ?_) ⟨rfl, rfl, rfl, rfl, a4⟩
    · obtain ⟨i6, i7, i8, i9, ν2⟩ := b
      obtain ⟨b1, b2, b3, b5, b4⟩ := hI2
      dsimp only at b1 b2 b3 b4 b5
      subst b1 b2 b3 b5
      show p_X5_hired_L52b _ 411 (nI need) _ _ _ (nI s) (fun i6 i7 i8 i9 μ => K2 (i6, i7, i8, i9, μ)) (nI (hSm (holdsN lv hun sto w) s k)) (nI (hSm pr s k)) (nI (pcN s k)) (nI k) ν2 Q
      have c2 := c.eq b4 fun p j q => by subst q; exact Or.inl (by decide)
      have R2 := R.eq b4 fun p j q => by subst q; exact ⟨by decide, by decide, by omega⟩
      have g2 := c2.1
      have e0'' := c2.2.2.1
      have hK3 : ∀ μ3, eqD (fun p _ => p = 432) ν μ3 → K2 (nI (hSm (holdsN lv hun sto w) s (k + 1)), nI (hSm pr s (k + 1)), nI (pcN s (k + 1)), nI (k + 1), μ3) := fun μ3 d => hK2 _ ⟨rfl, rfl, rfl, rfl, d⟩
      unfold p_X5_hired_L52b
      simp (disch := omega) only [sk_p411_0 g2, sk_p411_1 g2, sk_p411_2 g2, sk_p411_6 g2, sk_p411_7 g2, sk_p411_8 g2, sk_p411_9 g2, sk_p411_10 g2, sk_p411_11 g2, sk_p411_12 g2, sk_p411_22 g2, sk_p411_23 g2, sk_p411_25 g2, sk_p411_26 g2, sk_p411_30 g2, sk_p411_31 g2, sk_p411_32 g2, sk_p411_33 g2, sk_p411_35 g2, sk_p411_36 g2, sk_p411_37 g2, sk_p411_38 g2, sk_p411_39 g2, sk_p411_40 g2, sk_p411_42 g2, sk_p411_43 g2, sk_p411_44 g2, sk_p411_45 g2, sk_p411_46 g2, sk_k411 g2, sk_n411 g2, sk_k412 g2, sk_n412 g2, cl0, vp0_11120, e0'', true_and, nI_leI, Nat.not_le.mpr hk, if_false, bt_S s (by omega) k (by omega)]
      have bit : s / 2 ^ k % 2 = 0 ∨ s / 2 ^ k % 2 = 1 := by omega
      rcases bit with b0 | b0
      · rw [b0, if_neg (show ¬ nI 0 = 1 by decide)]
        simp only [forall_eq, nI_1]
        have := hK3 ν2 b4
        unfold pcN hSm at this
        rw [b0, if_neg (by decide), if_neg (by decide), if_neg (by decide), Nat.add_zero, Nat.add_zero, Nat.add_zero] at this
        exact this
      · rw [b0, if_pos (show nI 1 = 1 from rfl)]
        refine m_stillHolds c2 R2 ok hk fun ν3 d3 => ?_
        have d := b4.tr d3
        have g3 := d.sk hs
        have e68 : m_I ν3 412 (10 + 3 * k + 2) = nI (pr k) := by
          rw [show 10 + 3 * k + 2 = 12 + 3 * k by omega, d.2.2.2 412 (12 + 3 * k) (show ¬ (412 = 432) by decide)]
          exact (hp k hk).1
        simp (disch := omega) only [sk_p411_0 g3, sk_p411_1 g3, sk_p411_2 g3, sk_p411_6 g3, sk_p411_7 g3, sk_p411_8 g3, sk_p411_9 g3, sk_p411_10 g3, sk_p411_11 g3, sk_p411_12 g3, sk_p411_22 g3, sk_p411_23 g3, sk_p411_25 g3, sk_p411_26 g3, sk_p411_30 g3, sk_p411_31 g3, sk_p411_32 g3, sk_p411_33 g3, sk_p411_35 g3, sk_p411_36 g3, sk_p411_37 g3, sk_p411_38 g3, sk_p411_39 g3, sk_p411_40 g3, sk_p411_42 g3, sk_p411_43 g3, sk_p411_44 g3, sk_p411_45 g3, sk_p411_46 g3, sk_k411 g3, sk_n411 g3, sk_k412 g3, sk_n412 g3, e68, li_10, li_3, li_2, pk_mul, nI_add, nI_clamp, vp_t, true_and, forall_eq, nI_1]
        have := hK3 ν3 d
        unfold pcN hSm at this
        rw [b0, if_pos rfl, if_pos rfl, if_pos rfl] at this
        exact this
    · obtain ⟨i6, i7, i8, i9, ν2⟩ := b
      obtain ⟨b1, b2, b3, b5, b4⟩ := hI2
      dsimp only at b1 b2 b3 b4 b5
      subst b1 b2 b3 b5
      show p_X5_hired_L52b (fun i2 i3 i4 i5 μ => K (i2, i3, i4, i5, μ)) 411 (nI need) (oI (hiT need (holdsN lv hun sto w) pr n s).1) (nI (hiT need (holdsN lv hun sto w) pr n s).2) (nI (fwN n (hiT need (holdsN lv hun sto w) pr n s).1)) (nI s) _ (nI (hSm (holdsN lv hun sto w) s n)) (nI (hSm pr s n)) (nI (pcN s n)) (nI n) ν2 Q
      have g2 := b4.sk hs
      have e0'' : m_I ν2 412 0 = nI n := (b4.2.2.2 412 0 (by decide)).trans e0
      have hh := hSm_le (s := s) hH
      have hpp := hSm_le (s := s) fun e he => (hp e he).2
      have hK4 := hK' ν2 b4
      have hc1 := pcN_le (s := s) (k := n)
      have take : hiB need (holdsN lv hun sto w) pr n s (hiT need (holdsN lv hun sto w) pr n s) = true → p_X5_hired_L143 (fun i2 i3 i4 i5 μ => K (i2, i3, i4, i5, μ)) 411 (nI need) (nI s) (nI (hSm pr s n)) (nI (pcN s n)) ν2 Q := by
        intro hy
        unfold hiT at hK4
        rw [if_pos hy] at hK4
        unfold p_X5_hired_L143
        simp only [forall_eq, nI_1]
        exact hK4
      have skip : ¬ hiB need (holdsN lv hun sto w) pr n s (hiT need (holdsN lv hun sto w) pr n s) = true → K (oI (hiT need (holdsN lv hun sto w) pr n s).1, nI (hiT need (holdsN lv hun sto w) pr n s).2, nI (fwN n (hiT need (holdsN lv hun sto w) pr n s).1), nI (s + 1), ν2) := by
        intro hy
        unfold hiT at hK4
        rw [if_neg hy] at hK4
        exact hK4
      unfold hiB at take skip
      unfold p_X5_hired_L52b
      simp (disch := omega) only [sk_p411_0 g2, sk_p411_1 g2, sk_p411_2 g2, sk_p411_6 g2, sk_p411_7 g2, sk_p411_8 g2, sk_p411_9 g2, sk_p411_10 g2, sk_p411_11 g2, sk_p411_12 g2, sk_p411_22 g2, sk_p411_23 g2, sk_p411_25 g2, sk_p411_26 g2, sk_p411_30 g2, sk_p411_31 g2, sk_p411_32 g2, sk_p411_33 g2, sk_p411_35 g2, sk_p411_36 g2, sk_p411_37 g2, sk_p411_38 g2, sk_p411_39 g2, sk_p411_40 g2, sk_p411_42 g2, sk_p411_43 g2, sk_p411_44 g2, sk_p411_45 g2, sk_p411_46 g2, sk_k411 g2, sk_n411 g2, sk_k412 g2, sk_n412 g2, cl0, vp0_11120, e0'', true_and, nI_leI, Nat.le_refl, if_true, forall_eq, nI_1]
      by_cases hl : hSm (holdsN lv hun sto w) s n < need
      · rw [if_pos (nI_lt hl (by omega))]
        exact skip (by rw [decide_eq_false (by omega), Bool.false_and]; decide)
      rw [if_neg (nI_nlt (by omega) (by omega))]
      rw [decide_eq_true (show need ≤ hSm (holdsN lv hun sto w) s n by omega), Bool.true_and] at take skip
      cases hF : (hiT need (holdsN lv hun sto w) pr n s).1 with
      | none =>
        rw [hF] at take
        rw [if_pos (show oI none = -1 from rfl)]
        exact take rfl
      | some f =>
        rw [hF] at take skip
        have hf' := hf f hF
        have hc2 := pcN_le (s := f) (k := n)
        rw [if_neg (show ¬ oI (some f) = -1 from nI_nm1 (by omega))]
        dsimp only at take skip
        by_cases q1 : hSm pr s n < (hiT need (holdsN lv hun sto w) pr n s).2
        · rw [if_pos (nI_lt q1 (by omega))]
          exact take (by rw [decide_eq_true q1]; rfl)
        · rw [if_neg (nI_nlt (by omega) (by omega))]
          by_cases q2 : hSm pr s n = (hiT need (holdsN lv hun sto w) pr n s).2
          · rw [if_pos (by rw [q2])]
            have ef : fwN n (some f) = pcN f n := rfl
            rw [ef] at skip ⊢
            by_cases q3 : pcN s n < pcN f n
            · rw [if_neg (nI_ge (show pcN s n < pcN f n from q3) (by omega))]
              exact take (by rw [decide_eq_true q2, decide_eq_true q3, Bool.and_self, Bool.or_true])
            · rw [if_pos (nI_le (show pcN f n ≤ pcN s n by omega) (by omega))]
              exact skip (by rw [decide_eq_false q1, decide_eq_false q3, Bool.and_false]; decide)
          · rw [if_neg (fun h => q2 ((nI_eq (by omega) (by omega)).mp h))]
            exact skip (by rw [decide_eq_false q1, decide_eq_false q2, Bool.false_and]; decide)
  · obtain ⟨i2, i3, i4, i5, ν1⟩ := a
    obtain ⟨a1, a2, a3, a5, a4⟩ := hI
    dsimp only at a1 a2 a3 a4 a5
    subst a1 a2 a3 a5
    rw [show 2 ^ n - 1 + 1 = 2 ^ n by omega]
    show p_X5_hired_L27b 411 (nI need) (fun i2 i3 i4 i5 μ => K (i2, i3, i4, i5, μ)) (oI (hiT need (holdsN lv hun sto w) pr n (2 ^ n)).1) (nI (hiT need (holdsN lv hun sto w) pr n (2 ^ n)).2) (nI (fwN n (hiT need (holdsN lv hun sto w) pr n (2 ^ n)).1)) (nI (2 ^ n)) ν1 Q
    have g1 := a4.sk hs
    have e0' : m_I ν1 412 0 = nI n := (a4.2.2.2 412 0 (by decide)).trans e0
    unfold p_X5_hired_L27b
    simp (disch := omega) only [sk_p411_0 g1, sk_p411_1 g1, sk_p411_2 g1, sk_p411_6 g1, sk_p411_7 g1, sk_p411_8 g1, sk_p411_9 g1, sk_p411_10 g1, sk_p411_11 g1, sk_p411_12 g1, sk_p411_22 g1, sk_p411_23 g1, sk_p411_25 g1, sk_p411_26 g1, sk_p411_30 g1, sk_p411_31 g1, sk_p411_32 g1, sk_p411_33 g1, sk_p411_35 g1, sk_p411_36 g1, sk_p411_37 g1, sk_p411_38 g1, sk_p411_39 g1, sk_p411_40 g1, sk_p411_42 g1, sk_p411_43 g1, sk_p411_44 g1, sk_p411_45 g1, sk_p411_46 g1, sk_k411 g1, sk_n411 g1, sk_k412 g1, sk_n412 g1, cl0, vp0_11120, e0', p2_S n (by omega), true_and, nI_leI, Nat.le_refl, if_true]
    exact hQ ν1 a4
end HS
def priA (a : Nat → Int32) (e : Nat) : Nat := (a (12 + 3 * e)).toNatClampNeg
theorem op_hired (a0 : Int32) : iv_op2 (α := Int32) (fun μ Q => p_X0_hired 64 a0 μ Q) (fun μ Q => p_X5_hired 411 a0 μ Q) := by
  refine op_q fun L xs z μ hI => ?_
  obtain ⟨lv, l1, l2, l3⟩ := lv_of hI
  obtain ⟨hs, -, -, n, tx, st, te, tl, ns, nd, n', tx', st', te', tl', ns', nd', tp, C, -⟩ := id hI
  obtain ⟨c, R, ok⟩ := cxS_of hs C l1 l3
  have hp : ∀ e, e < n → m_I μ 68 e = nI (priA (m_I μ 412) e) ∧ m_I μ 412 (12 + 3 * e) = nI (priA (m_I μ 412) e) ∧ priA (m_I μ 412) e ≤ 99 := by
    intro e he
    obtain ⟨-, -, h3, -, -, x, x1, x2⟩ := C.2.2.2.2.1 e he
    have u := cl_of (by omega) (h3.symm.trans x2)
    exact ⟨h3.trans u.1, u.1, by unfold priA; omega⟩
  by_cases g : inB a0 1 9999
  rotate_left
  · refine ⟨-1, fun Q hQ => ?_, fun μ1 h1 hI1 Q hQ => ?_⟩
    · simp only [p_X0_hired, s_in, if_neg g, e00, if_true]
      exact hQ μ qs.rf
    · simp only [p_X5_hired, m_in, if_neg g, e00, if_true]
      exact hQ μ1 qs.rf
  obtain ⟨need, g1, g2, rfl⟩ := inB_nI (lo := 1) (hi := 9999) g (by decide) (by decide)
  refine ⟨oI (hiT need (holdsN lv (hunA (m_I μ 412)) (stoA (m_I μ 412)) (wA (m_I μ 412))) (priA (m_I μ 412)) n (2 ^ n)).1, fun Q hQ => ?_, fun μ1 h1 hI1 Q hQ => ?_⟩
  · simp only [p_X0_hired, s_in, if_pos g, e10, if_false]
    exact s_hired c R ok (pr := priA (m_I μ 412)) (fun e he => ⟨(hp e he).1, (hp e he).2.2⟩) g1 g2 fun μ' d => hQ μ' (d.qs fun p j q => Or.inl (by unfold sc_p; omega))
  · simp only [p_X5_hired, m_in, if_pos g, e10, if_false]
    have gs := h1.sk hs
    have w := h1.I (p := 412) (by have := hs.2.1; omega) (by decide) (by decide) (by unfold sc_p; decide)
    have c1 := cxM_of gs w C (l2.eq (by rw [w]) fun p p1 p2 => h1.I (by have := hs.2.1; omega) (by omega) (by omega) (by unfold sc_p; omega)) l3
    refine m_laysA gs w C fun μ2 d R2 => ?_
    have c2 := c1.eq d fun p j q => by omega
    have w2 : m_I μ2 412 = m_I μ 412 := (d.I fun j => by omega).trans w
    exact m_hired c2 R2 ok (pr := priA (m_I μ 412)) (fun e he => by rw [w2]; exact (hp e he).2) g1 g2 fun μ' d' => hQ μ' ((d.qs fun p j q => by unfold sc_p; omega).tr (d'.qs fun p j q => Or.inl (by unfold sc_p; omega)))
