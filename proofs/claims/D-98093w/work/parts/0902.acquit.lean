/-! plain law: acquitted, the plain part and the class -/
def faN {β : Type} (f : Nat → β → β) (b : β) : Nat → β
  | 0 => b
  | i + 1 => f i (faN f b i)
theorem faN_add {β : Type} {f : Nat → β → β} {b : β} {a : Nat} : ∀ c, faN f b (a + c) = faN (fun j x => f (a + j) x) (faN f b a) c := by
  intro c
  induction c with
  | zero => rfl
  | succ c ih =>
    show f (a + c) (faN f b (a + c)) = _
    rw [ih]
    rfl
theorem faN_mul {β : Type} {f : Nat → β → β} {b : β} {c : Nat} : ∀ a, faN f b (a * c) = faN (fun d x => faN (fun j y => f (d * c + j) y) x c) b a := by
  intro a
  induction a with
  | zero => rw [Nat.zero_mul]; rfl
  | succ a ih =>
    rw [Nat.succ_mul, faN_add, ih]
    rfl
theorem faN_cong {β : Type} {f g : Nat → β → β} {b : β} : ∀ {n : Nat}, (∀ i, i < n → ∀ x, f i x = g i x) → faN f b n = faN g b n := by
  intro n
  induction n with
  | zero => intro _; rfl
  | succ n ih =>
    intro h
    show f n (faN f b n) = g n (faN g b n)
    rw [ih fun i hi => h i (by omega), h n (by omega)]
abbrev BB : Type := Option (Nat × List Nat)
def btr (h : Nat) (b : BB) : Bool := match b with
  | none => true
  | some x => decide (h < x.1)
section ACP
variable (lv : LV) (hun sto wh : Nat → Nat) (nd side many : Nat)
def acL (o : Option (Nat × WW)) (l : List Nat) (b : BB) : BB := match o with
  | none => b
  | some x => if btr x.1 b = true ∧ guB lv x.2 nd side = false then some (x.1, l) else b
def acF : Nat → WW → Nat → List Nat → BB → BB
  | 0, w, h, pre, b => acL lv nd side (some (h, w)) pre b
  | m + 1, w, h, pre, b => faN (fun d b => if spoonN lv hun sto wh w (d / 2) (d % 2) = 0 then b else acF m (eatW wh w (d / 2) (d % 2) (spoonN lv hun sto wh w (d / 2) (d % 2))) (h + if d % 2 = 0 then spoonN lv hun sto wh w (d / 2) (d % 2) else 0) (pre ++ [d]) b) b many
def uR : WW → Nat → List Nat → Option (Nat × WW)
  | w, h, [] => some (h, w)
  | w, h, d :: ds => if spoonN lv hun sto wh w (d / 2) (d % 2) = 0 then none else uR (eatW wh w (d / 2) (d % 2) (spoonN lv hun sto wh w (d / 2) (d % 2))) (h + if d % 2 = 0 then spoonN lv hun sto wh w (d / 2) (d % 2) else 0) ds
def dgL : Nat → Nat → List Nat
  | 0, _ => []
  | m + 1, way => (way / many ^ m % many) :: dgL m (way % many ^ m)
theorem ac_eq (hm : 0 < many) : ∀ (m : Nat) (w : WW) (h : Nat) (pre : List Nat) (b : BB), acF lv hun sto wh nd side many m w h pre b = faN (fun way b => acL lv nd side (uR lv hun sto wh w h (dgL many m way)) (pre ++ dgL many m way) b) b (many ^ m) := by
  intro m
  induction m with
  | zero =>
    intro w h pre b
    show acL lv nd side (some (h, w)) pre b = acL lv nd side (some (h, w)) (pre ++ []) b
    rw [List.append_nil]
  | succ m ih =>
    intro w h pre b
    rw [Nat.pow_succ, Nat.mul_comm, faN_mul]
    show faN _ b many = _
    refine faN_cong fun d hd x => ?_
    have pm : 0 < many ^ m := Nat.pow_pos hm
    have e : ∀ j, j < many ^ m → dgL many (m + 1) (d * many ^ m + j) = d :: dgL many m j := by
      intro j hj
      show ((d * many ^ m + j) / many ^ m % many) :: dgL many m ((d * many ^ m + j) % many ^ m) = _
      rw [show (d * many ^ m + j) / many ^ m = d by rw [Nat.mul_comm, Nat.mul_add_div pm, Nat.div_eq_of_lt hj, Nat.add_zero], Nat.mod_eq_of_lt hd, Nat.mul_add_mod_self_right, Nat.mod_eq_of_lt hj]
    by_cases c : spoonN lv hun sto wh w (d / 2) (d % 2) = 0
    · rw [if_pos c]
      have z : faN (fun (j : Nat) (y : BB) => y) x (many ^ m) = x := by
        generalize many ^ m = k
        induction k with
        | zero => rfl
        | succ k ih2 => exact ih2
      refine z.symm.trans (faN_cong fun j hj y => ?_)
      rw [e j hj]
      show y = acL lv nd side (if _ then none else _) _ y
      rw [if_pos c]
      rfl
    · rw [if_neg c, ih]
      refine faN_cong fun j hj y => ?_
      rw [e j hj, List.append_assoc]
      show _ = acL lv nd side (if _ then none else _) _ y
      rw [if_neg c]
      rfl
theorem dgL_len : ∀ m way, (dgL many m way).length = m := by
  intro m
  induction m with
  | zero => intro _; rfl
  | succ m ih =>
    intro way
    show (dgL many m (way % many ^ m)).length + 1 = m + 1
    rw [ih]
theorem dgL_get (hm : 0 < many) : ∀ m way k, k < m → (dgL many m way).getD k 0 = way / many ^ (m - 1 - k) % many := by
  intro m
  induction m with
  | zero => intro way k h; exact absurd h (Nat.not_lt_zero _)
  | succ m ih =>
    intro way k hk
    cases k with
    | zero => rfl
    | succ k =>
      show (dgL many m (way % many ^ m)).getD k 0 = _
      rw [ih _ k (by omega)]
      have e : many ^ m = many ^ (m - 1 - k) * (many * many ^ k) := by
        rw [← Nat.pow_succ', ← Nat.pow_add]
        congr 1
        omega
      rw [e, Nat.mod_mul_right_div_self, Nat.mod_mul_right_mod, show m + 1 - 1 - (k + 1) = m - 1 - k by omega]
end ACP
theorem gd_lt : ∀ (l r : List Nat) (j : Nat), j < l.length → (l ++ r).getD j 0 = l.getD j 0 := by
  intro l
  induction l with
  | nil => intro r j h; exact absurd h (Nat.not_lt_zero _)
  | cons x l ih =>
    intro r j h
    cases j with
    | zero => rfl
    | succ j => exact ih r j (Nat.lt_of_succ_lt_succ h)
theorem gd_eq : ∀ (l : List Nat) (x : Nat), (l ++ [x]).getD l.length 0 = x := by
  intro l
  induction l with
  | nil => intro x; rfl
  | cons y l ih => intro x; exact ih x
/-- the class's best so far -/
def bS (μ : fw_M) (k : Nat) (b : BB) : Prop := m_I μ 64 13 = (match b with | none => 2147483647 | some x => nI x.1) ∧ ∀ x, b = some x → x.1 ≤ 100000 ∧ x.2.length = k ∧ ∀ j, j < k → m_I μ 410 j = nI (x.2.getD j 0)
section ACS
variable {n : Nat} {hun sto wh : Nat → Nat} {lv : LV} {nd side : Nat}
theorem s_acquits (hsd : side < 2) : ∀ (m k dp : Nat) (μ : fw_M) (w : WW) (h : Nat) (pre : List Nat) (b : BB) (Q : fw_M → Prop), m + k ≤ 4 → m < dp → cxS n hun sto lv μ → rS n wh nd (m_I μ (399 + k)) w → okW n w → h ≤ 10000 * k → pre.length = k → (∀ j, j < k → m_I μ 409 j = nI (pre.getD j 0)) → bS μ (m + k) b →
    (∀ μ', eqD (fun p j => p = 396 ∨ (399 + k < p ∧ p ≤ 408) ∨ p = 410 ∨ (p = 409 ∧ k ≤ j) ∨ (p = 64 ∧ j = 13)) μ μ' → bS μ' (m + k) (acF lv hun sto wh nd side (2 * n) m w h pre b) → Q μ') → p_X0_acquits_d dp 64 (nI side) (nI m) (nI k) (nI h) μ Q := by
  intro m
  induction m with
  | zero =>
    intro k dp μ w h pre b Q hmk hdp c R ok hh hl hc hb hQ
    obtain ⟨dp, rfl⟩ : ∃ x, dp = x + 1 := ⟨dp - 1, by omega⟩
    obtain ⟨gs, h9, e0, hE, -⟩ := id c
    rw [Nat.zero_add] at hb hQ
    have rp : m_P μ 398 k = 399 + k := sk_r398 gs (by omega)
    have q := sk_q399 gs (p := 399 + k) (by omega) (by omega)
    show p_X0_acquits _ 64 (nI side) (nI 0) (nI k) (nI h) μ Q
    unfold p_X0_acquits
    rw [if_pos (show nI 0 = 0 from rfl)]
    have aF : acF lv hun sto wh nd side (2 * n) 0 w h pre b = if btr h b = true ∧ guB lv w nd side = false then some (h, pre) else b := rfl
    rw [aF] at hQ
    have bt : btr h b = true ↔ ¬ m_I μ 64 13 ≤ nI h := by
      unfold btr
      rw [hb.1]
      cases b with
      | none =>
        refine ⟨fun _ => ?_, fun _ => rfl⟩
        show ¬ (2147483647 : Int32) ≤ nI h
        rw [Int32.le_iff_toInt_le, nI_toInt (by omega), show (2147483647 : Int32).toInt = 2147483647 by decide]
        omega
      | some x =>
        have := (hb.2 x rfl).1
        show decide (h < x.1) = true ↔ ¬ nI x.1 ≤ nI h
        rw [nI_leI (by omega) (by omega), decide_eq_true_eq]
        omega
    by_cases c1 : m_I μ 64 13 ≤ nI h
    · rw [if_pos c1]
      rw [if_neg (fun q => (bt.mp q.1) c1)] at hQ
      exact hQ μ eqD.rf hb
    · rw [if_neg c1]
      simp (disch := omega) only [sk_p64_0 gs, sk_p64_1 gs, sk_p64_2 gs, sk_p64_3 gs, sk_p64_4 gs, sk_p64_5 gs, sk_p64_9 gs, sk_p64_10 gs, sk_p64_11 gs, sk_k64 gs, sk_n64 gs, sk_k398 gs, sk_n398 gs, nI_clamp, vp_t, true_and, rp]
      refine s_isGuilty c R hsd q.1 q.2 (by omega) (by omega) fun μ1 d1 => ?_
      have g1 := d1.sk gs
      by_cases c2 : guB lv w nd side = true
      · rw [if_pos c2, if_neg (by decide)]
        rw [if_neg (fun q => by rw [c2] at q; exact absurd q.2 (by decide))] at hQ
        refine hQ μ1 (d1.mono fun p j q => Or.inl q) ⟨?_, fun x hx => ?_⟩
        · rw [d1.2.2.2 64 13 (by decide)]; exact hb.1
        · obtain ⟨a1, a2, a3⟩ := hb.2 x hx
          exact ⟨a1, a2, fun j hj => by rw [d1.2.2.2 410 j (show ¬ (410 = 396) by decide)]; exact a3 j hj⟩
      · rw [if_neg c2, if_pos (by decide)]
        rw [if_pos ⟨bt.mpr c1, eq_false_of_ne_true c2⟩] at hQ
        have z0 : (0 : Int32).toNatClampNeg + k ≤ 9 := by show 0 + k ≤ 9; omega
        rintro μ10 rfl
        rw [ml_uI]
        simp only [ml_KI, ml_NI, ml_PI, sk_p64_0 g1, sk_p64_1 g1, sk_p64_2 g1, sk_p64_3 g1, sk_p64_4 g1, sk_p64_5 g1, sk_p64_9 g1, sk_p64_10 g1, sk_p64_11 g1, sk_k64 g1, sk_n64 g1, sk_k409 g1, sk_n409 g1, sk_k410 g1, sk_n410 g1]
        refine ⟨trivial, trivial, by decide, by decide, nI_pos (by omega), z0, z0, ?_⟩
        rintro μ18 rfl
        rw [ml_cp]
        have d2 : eqD (fun p j => p = 396 ∨ (399 + k < p ∧ p ≤ 408) ∨ p = 410 ∨ (p = 409 ∧ k ≤ j) ∨ (p = 64 ∧ j = 13)) μ μ1 := d1.mono fun p j q => Or.inl q
        refine hQ _ ((d2.tr (eqD.sI fun j hj => ml_un fun q => hj (Or.inr (Or.inr (Or.inr (Or.inr ⟨rfl, q⟩)))))).tr (eqD.sI fun j hj => absurd (Or.inr (Or.inr (Or.inl rfl))) hj)) ⟨?_, fun x hx => ?_⟩
        · rw [ml_In (by decide), ml_Is, ml_us]
        · cases hx
          refine ⟨by omega, hl, fun j hj => ?_⟩
          rw [ml_Is]
          show (if 0 ≤ j ∧ j < 0 + k then m_I (m_sI μ1 64 _) 409 (0 + (j - 0)) else _) = _
          rw [if_pos (by omega), ml_In (by decide), Nat.zero_add, Nat.sub_zero, d1.2.2.2 409 j (show ¬ (409 = 396) by decide)]
          exact hc j hj
  | succ m ih =>
    intro k dp μ w h pre b Q hmk hdp c R ok hh hl hc hb hQ
    obtain ⟨dp, rfl⟩ : ∃ x, dp = x + 1 := ⟨dp - 1, by omega⟩
    obtain ⟨gs, h9, e0, hE, -⟩ := id c
    show p_X0_acquits _ 64 (nI side) (nI (m + 1)) (nI k) (nI h) μ Q
    unfold p_X0_acquits
    rw [if_neg (nI_ne0 (by omega) (by omega))]
    have aF : acF lv hun sto wh nd side (2 * n) (m + 1) w h pre b = faN (fun d b => if spoonN lv hun sto wh w (d / 2) (d % 2) = 0 then b else acF lv hun sto wh nd side (2 * n) m (eatW wh w (d / 2) (d % 2) (spoonN lv hun sto wh w (d / 2) (d % 2))) (h + if d % 2 = 0 then spoonN lv hun sto wh w (d / 2) (d % 2) else 0) (pre ++ [d]) b) b (2 * n) := rfl
    rw [aF] at hQ
    generalize hF : (fun d b => if spoonN lv hun sto wh w (d / 2) (d % 2) = 0 then b else acF lv hun sto wh nd side (2 * n) m (eatW wh w (d / 2) (d % 2) (spoonN lv hun sto wh w (d / 2) (d % 2))) (h + if d % 2 = 0 then spoonN lv hun sto wh w (d / 2) (d % 2) else 0) (pre ++ [d]) b) = F at hQ
    unfold p_X0_acquits_L52
    refine lp_to n (fun e (a : Int32 × fw_M) => a.1 = nI e ∧ eqD (fun p j => p = 396 ∨ (399 + k < p ∧ p ≤ 408) ∨ p = 410 ∨ (p = 409 ∧ k ≤ j) ∨ (p = 64 ∧ j = 13)) μ a.2 ∧ bS a.2 (m + 1 + k) (faN F b (2 * e))) (fun e a he hI K hK => ?_) (fun a hI K => ?_) ⟨rfl, eqD.rf, hb⟩
    · obtain ⟨i5, μ1⟩ := a
      obtain ⟨a1, a2, a3⟩ := hI
      dsimp only at a1 a2 a3
      subst a1
      show p_X0_acquits_L52b (p_X0_acquits_d dp) 64 (nI side) (nI (m + 1)) (nI k) (nI h) (fun i5 μ => K (i5, μ)) (nI e) μ1 Q
      have c1 := c.eq a2 fun p j q => by omega
      have g1 := c1.1
      have e0' := c1.2.2.1
      unfold p_X0_acquits_L52b
      simp (disch := omega) only [sk_p64_0 g1, sk_p64_1 g1, sk_p64_2 g1, sk_p64_3 g1, sk_p64_4 g1, sk_p64_5 g1, sk_p64_9 g1, sk_p64_10 g1, sk_p64_11 g1, sk_p65_6 g1, sk_p65_7 g1, sk_p65_8 g1, sk_p65_9 g1, sk_p65_10 g1, sk_p65_11 g1, sk_p65_12 g1, sk_p65_13 g1, sk_p65_14 g1, sk_p65_15 g1, sk_k64 g1, sk_n64 g1, sk_k65 g1, sk_n65 g1, e0', true_and, nI_leI, Nat.not_le.mpr he, if_false]
      unfold p_X0_acquits_L67
      refine lp_to 2 (fun kd (a : Int32 × fw_M) => a.1 = nI kd ∧ eqD (fun p j => p = 396 ∨ (399 + k < p ∧ p ≤ 408) ∨ p = 410 ∨ (p = 409 ∧ k ≤ j) ∨ (p = 64 ∧ j = 13)) μ a.2 ∧ bS a.2 (m + 1 + k) (faN F b (2 * e + kd))) (fun kd a hkd hI2 K2 hK2 => ?_) (fun a hI2 K2 => ?_) ⟨rfl, a2, a3⟩
      · obtain ⟨i6, μ2⟩ := a
        obtain ⟨b1, b2, b3⟩ := hI2
        dsimp only at b1 b2 b3
        subst b1
        show p_X0_acquits_L67b (p_X0_acquits_d dp) _ 64 (nI side) (nI (m + 1)) (nI k) (nI h) (nI e) (fun i6 μ => K2 (i6, μ)) (nI kd) μ2 Q
        have c2 := c.eq b2 fun p j q => by omega
        have g2 := c2.1
        have rp : m_P μ2 398 k = 399 + k := sk_r398 g2 (by omega)
        have rp1 : m_P μ2 398 (k + 1) = 399 + (k + 1) := sk_r398 g2 (by omega)
        have qk := sk_q399 g2 (p := 399 + k) (by omega) (by omega)
        have qk1 := sk_q399 g2 (p := 399 + (k + 1)) (by omega) (by omega)
        have cl25' : (25 : Int32).toNatClampNeg = 25 := rfl
        have zz : (0 : Int32).toNatClampNeg + (25 : Int32).toNatClampNeg ≤ 25 := by decide
        have Rk : rS n wh nd (m_I μ2 (399 + k)) w := by rw [b2.I fun j => by omega]; exact R
        unfold p_X0_acquits_L67b
        rw [show (2 : Int32) = nI 2 from rfl, if_neg (nI_ge (b := 2) hkd (by decide))]
        simp (disch := omega) only [sk_p64_0 g2, sk_p64_1 g2, sk_p64_2 g2, sk_p64_3 g2, sk_p64_4 g2, sk_p64_5 g2, sk_p64_9 g2, sk_p64_10 g2, sk_p64_11 g2, sk_k64 g2, sk_n64 g2, sk_k398 g2, sk_n398 g2, li_1, nI_add, nI_clamp, vp_t, true_and, rp, rp1, qk.1, qk.2, qk1.1, qk1.2, ml_cp, forall_eq]
        refine ⟨by decide, by decide, by decide, zz, zz, ?_⟩
        simp (disch := omega) only [ml_KI, ml_NI, ml_PI, sk_p64_0 g2, sk_p64_1 g2, sk_p64_2 g2, sk_p64_3 g2, sk_p64_4 g2, sk_p64_5 g2, sk_p64_9 g2, sk_p64_10 g2, sk_p64_11 g2, sk_k64 g2, sk_n64 g2, sk_k398 g2, sk_n398 g2, nI_clamp, vp_t, true_and, rp1]
        rw [cl0, show (25 : Int32).toNatClampNeg = 25 from rfl]
        have d3 : eqD (fun p j => p = 396 ∨ (399 + k < p ∧ p ≤ 408) ∨ p = 410 ∨ (p = 409 ∧ k ≤ j) ∨ (p = 64 ∧ j = 13)) μ (m_sI μ2 (399 + (k + 1)) (ml_c (m_I μ2 (399 + k)) (m_I μ2 (399 + (k + 1))) 0 0 25)) := b2.tr (eqD.sI fun j hj => absurd (Or.inr (Or.inl ⟨by omega, by omega⟩)) hj)
        have R3 : rS n wh nd (m_I (m_sI μ2 (399 + (k + 1)) (ml_c (m_I μ2 (399 + k)) (m_I μ2 (399 + (k + 1))) 0 0 25)) (399 + (k + 1))) w := by rw [ml_Is]; exact rS_c Rk h9
        have b3' : bS (m_sI μ2 (399 + (k + 1)) (ml_c (m_I μ2 (399 + k)) (m_I μ2 (399 + (k + 1))) 0 0 25)) (m + 1 + k) (faN F b (2 * e + kd)) := by
          refine ⟨?_, fun x hx => ?_⟩
          · rw [ml_In (by omega)]; exact b3.1
          · rw [ml_In (by omega)]; exact b3.2 x hx
        generalize m_sI μ2 (399 + (k + 1)) (ml_c (m_I μ2 (399 + k)) (m_I μ2 (399 + (k + 1))) 0 0 25) = μ3 at d3 R3 b3'
        have c3 := c.eq d3 fun p j q => by omega
        have g3 := c3.1
        have q3 := sk_q399 g3 (p := 399 + (k + 1)) (by omega) (by omega)
        refine s_eat c3 R3 ok he hkd q3.1 q3.2 (by omega) (by omega) fun μ4 d4 R4 => ?_
        have d5 : eqD (fun p j => p = 396 ∨ (399 + k < p ∧ p ≤ 408) ∨ p = 410 ∨ (p = 409 ∧ k ≤ j) ∨ (p = 64 ∧ j = 13)) μ μ4 := d3.tr (d4.mono fun p j q => by omega)
        have b4 : bS μ4 (m + 1 + k) (faN F b (2 * e + kd)) := by
          refine ⟨?_, fun x hx => ?_⟩
          · rw [d4.2.2.2 64 13 (by omega)]; exact b3'.1
          · obtain ⟨a1, a2, a3⟩ := b3'.2 x hx
            exact ⟨a1, a2, fun j hj => by rw [d4.2.2.2 410 j (by omega)]; exact a3 j hj⟩
        have g4 := d5.sk gs
        have fs : faN F b (2 * e + kd + 1) = F (2 * e + kd) (faN F b (2 * e + kd)) := rfl
        have de : (2 * e + kd) / 2 = e := by omega
        have dm : (2 * e + kd) % 2 = kd := by omega
        have Fd : ∀ x, F (2 * e + kd) x = if spoonN lv hun sto wh w e kd = 0 then x else acF lv hun sto wh nd side (2 * n) m (eatW wh w e kd (spoonN lv hun sto wh w e kd)) (h + if kd = 0 then spoonN lv hun sto wh w e kd else 0) (pre ++ [2 * e + kd]) x := by
          intro x
          rw [← hF]
          dsimp only
          rw [de, dm]
        rw [Fd] at fs
        by_cases z : spoonN lv hun sto wh w e kd = 0
        · rw [z, if_pos (show nI 0 = 0 from rfl)]
          rw [if_pos z] at fs
          exact hK2 _ ⟨rfl, d5, by rw [show 2 * e + (kd + 1) = 2 * e + kd + 1 by omega, fs]; exact b4⟩
        · rw [if_neg z] at fs
          have sl := spoonN_le (lv := lv) (hun := hun) (sto := sto) (wh := wh) (w := w) (e := e) (kind := kd)
          have hg : spoonN lv hun sto wh w e kd ≤ 9999 := Nat.le_trans sl.2.1 (Nat.le_trans (Nat.sub_le _ _) (holdsH_le (hE e he).2.2))
          rw [if_neg (nI_ne0 (by omega) (by omega))]
          unfold eatN at R4
          rw [if_neg z] at R4
          have ok4 : okW n (eatW wh w e kd (spoonN lv hun sto wh w e kd)) := by
            have := eatN_ok (lv := lv) (hun := hun) (wh := wh) (kind := kd) ok (hE e he).2.2
            unfold eatN at this
            rw [if_neg z] at this
            exact this
          have mp : (nI (m + 1) - nI 1 : Int32) = nI m := nI_pred m
          have hkd2 : kd = 0 ∨ kd = 1 := by omega
          simp (disch := omega) only [sk_p64_0 g4, sk_p64_1 g4, sk_p64_2 g4, sk_p64_3 g4, sk_p64_4 g4, sk_p64_5 g4, sk_p64_9 g4, sk_p64_10 g4, sk_p64_11 g4, sk_k64 g4, sk_n64 g4, sk_k409 g4, sk_n409 g4, li_2, li_1, pk_mul, nI_add, nI_clamp, vp_t, true_and, forall_eq, ml_uI]
          have d6 : eqD (fun p j => p = 396 ∨ (399 + k < p ∧ p ≤ 408) ∨ p = 410 ∨ (p = 409 ∧ k ≤ j) ∨ (p = 64 ∧ j = 13)) μ (m_sI μ4 409 (ml_u (m_I μ4 409) k (nI (2 * e + kd)))) := d5.tr (eqD.sI fun j hj => ml_un fun q => hj (by omega))
          have i9 : ∀ j, j < k + 1 → m_I (m_sI μ4 409 (ml_u (m_I μ4 409) k (nI (2 * e + kd)))) 409 j = nI ((pre ++ [2 * e + kd]).getD j 0) := by
            intro j hj
            rw [ml_Is]
            by_cases q : j = k
            · subst q
              rw [ml_us, ← hl, gd_eq]
            · rw [ml_un q, gd_lt _ _ _ (by omega), d5.2.2.2 409 j (by omega)]
              exact hc j (by omega)
          have b5 : bS (m_sI μ4 409 (ml_u (m_I μ4 409) k (nI (2 * e + kd)))) (m + (k + 1)) (faN F b (2 * e + kd)) := by
            rw [show m + (k + 1) = m + 1 + k by omega]
            refine ⟨?_, fun x hx => ?_⟩
            · rw [ml_In (by decide)]; exact b4.1
            · rw [ml_In (by decide)]; exact b4.2 x hx
          have R6 : rS n wh nd (m_I (m_sI μ4 409 (ml_u (m_I μ4 409) k (nI (2 * e + kd)))) (399 + (k + 1))) (eatW wh w e kd (spoonN lv hun sto wh w e kd)) := by rw [ml_In (by omega)]; exact R4
          generalize m_sI μ4 409 (ml_u (m_I μ4 409) k (nI (2 * e + kd))) = μ5 at d6 i9 b5 R6
          have c5 := c.eq d6 fun p j q => by omega
          have g5 := c5.1
          have rcr : ∀ x : Nat, x = (h + if kd = 0 then spoonN lv hun sto wh w e kd else 0) → p_X0_acquits_d dp 64 (nI side) (nI m) (nI (k + 1)) (nI x) μ5 (fun μ3 => ∀ i6_7 : Int32, i6_7 = nI kd + nI 1 → K2 (i6_7, μ3)) := by
            intro x hx
            refine ih (k + 1) dp μ5 _ x (pre ++ [2 * e + kd]) (faN F b (2 * e + kd)) _ (by omega) (by omega) c5 R6 ok4 (by rw [hx]; split <;> omega) (by rw [List.length_append, hl]; rfl) i9 b5 fun μ6 d7 b6 => ?_
            rintro _ rfl
            rw [nI_add]
            refine hK2 _ ⟨rfl, d6.tr (d7.mono fun p j q => by omega), ?_⟩
            rw [show 2 * e + (kd + 1) = 2 * e + kd + 1 by omega, fs, ← hx]
            rw [show m + 1 + k = m + (k + 1) by omega]
            exact b6
          rcases hkd2 with rfl | rfl
          · rw [if_pos (show nI 0 = 0 from rfl)]
            unfold p_X0_acquits_L154
            refine ⟨sk_k64 g5, ?_⟩
            rw [mp, nI_add]
            have := rcr (h + spoonN lv hun sto wh w e 0) rfl
            exact this
          · rw [if_neg (show ¬ nI 1 = 0 by decide)]
            unfold p_X0_acquits_L154
            refine ⟨sk_k64 g5, ?_⟩
            rw [mp, Int32.add_zero]
            have := rcr h rfl
            exact this
      · obtain ⟨i6, μ2⟩ := a
        obtain ⟨b1, b2, b3⟩ := hI2
        dsimp only at b1 b2 b3
        subst b1
        show p_X0_acquits_L67b (p_X0_acquits_d dp) (fun i5 μ => K (i5, μ)) 64 (nI side) (nI (m + 1)) (nI k) (nI h) (nI e) (fun i6 μ => K2 (i6, μ)) (nI 2) μ2 Q
        unfold p_X0_acquits_L67b
        rw [if_pos (show (2 : Int32) ≤ nI 2 by decide)]
        simp only [forall_eq, nI_1]
        exact hK _ ⟨rfl, b2, b3⟩
    · obtain ⟨i5, μ1⟩ := a
      obtain ⟨a1, a2, a3⟩ := hI
      dsimp only at a1 a2 a3
      subst a1
      show p_X0_acquits_L52b (p_X0_acquits_d dp) 64 (nI side) (nI (m + 1)) (nI k) (nI h) (fun i5 μ => K (i5, μ)) (nI n) μ1 Q
      have g1 := a2.sk gs
      have e0' : m_I μ1 65 0 = nI n := (a2.2.2.2 65 0 (by omega)).trans e0
      unfold p_X0_acquits_L52b
      simp (disch := omega) only [sk_p64_0 g1, sk_p64_1 g1, sk_p64_2 g1, sk_p64_3 g1, sk_p64_4 g1, sk_p64_5 g1, sk_p64_9 g1, sk_p64_10 g1, sk_p64_11 g1, sk_p65_6 g1, sk_p65_7 g1, sk_p65_8 g1, sk_p65_9 g1, sk_p65_10 g1, sk_p65_11 g1, sk_p65_12 g1, sk_p65_13 g1, sk_p65_14 g1, sk_p65_15 g1, sk_k64 g1, sk_n64 g1, sk_k65 g1, sk_n65 g1, e0', true_and, nI_leI, Nat.le_refl, if_true]
      exact hQ μ1 a2 a3
end ACS
