/-! plain law: odds -/
def tlP (p : Nat → Nat) : Int32 := nI (p 0) + nI (p 1) - nI (p 2) - nI (p 3)
def dcP (p : Nat → Nat) (d : Nat) : Nat → Nat := fun k => if k = d then p k - 1 else p k
def wyN (t : Int32) : Nat → (Nat → Nat) → Nat
  | 0, p => if tlP p = t then 1 else 0
  | m + 1, p => wyN t m (dcP p 0) + wyN t m (dcP p 1) + wyN t m (dcP p 2) + wyN t m (dcP p 3)
def wyS (t : Int32) (m : Nat) (p : Nat → Nat) : Nat → Nat
  | 0 => 0
  | i + 1 => wyS t m p i + wyN t m (dcP p i)
theorem wyN_S {t : Int32} {m : Nat} {p : Nat → Nat} : wyN t (m + 1) p = wyS t m p 4 := by
  show wyN t m (dcP p 0) + wyN t m (dcP p 1) + wyN t m (dcP p 2) + wyN t m (dcP p 3) = 0 + wyN t m (dcP p 0) + wyN t m (dcP p 1) + wyN t m (dcP p 2) + wyN t m (dcP p 3)
  rw [Nat.zero_add]
theorem wyN_cong {t : Int32} : ∀ {m : Nat} {p q : Nat → Nat}, (∀ k, k < 4 → p k = q k) → wyN t m p = wyN t m q := by
  intro m
  induction m with
  | zero =>
    intro p q h
    unfold wyN tlP
    rw [h 0 (by decide), h 1 (by decide), h 2 (by decide), h 3 (by decide)]
  | succ m ih =>
    intro p q h
    have e : ∀ d k, k < 4 → dcP p d k = dcP q d k := fun d k hk => by unfold dcP; rw [h k hk]
    unfold wyN
    rw [ih (e 0), ih (e 1), ih (e 2), ih (e 3)]
theorem wyN_le {t : Int32} : ∀ {m : Nat} {p : Nat → Nat}, wyN t m p ≤ 4 ^ m := by
  intro m
  induction m with
  | zero => intro p; unfold wyN; split <;> decide
  | succ m ih =>
    intro p
    have h0 := ih (p := dcP p 0)
    have h1 := ih (p := dcP p 1)
    have h2 := ih (p := dcP p 2)
    have h3 := ih (p := dcP p 3)
    unfold wyN
    rw [Nat.pow_succ]
    omega
theorem s_ways {t : Int32} {q : Nat} : ∀ (m : Nat) (d : Nat) (μ : fw_M) (p : Nat → Nat) (Q : Int64 → fw_M → Prop), m < d → m ≤ 6 → m_K μ q = 100 → m_N μ q = 4 → (∀ k, k < 4 → m_I μ q k = nI (p k) ∧ p k ≤ 999) → (∀ μ', eqD (fun p _ => p = q) μ μ' → (∀ k, k < 4 → m_I μ' q k = nI (p k)) → Q (lN (wyN t m p)) μ') → p_X0_ways_d d q t (nI m) μ Q := by
  intro m
  induction m with
  | zero =>
    intro d μ p Q hd _ k1 n1 hp hQ
    obtain ⟨d, rfl⟩ : ∃ x, d = x + 1 := ⟨d - 1, by omega⟩
    show p_X0_ways _ q t (nI 0) μ Q
    unfold p_X0_ways
    rw [if_pos (show nI 0 = 0 from rfl)]
    have := hQ μ eqD.rf fun k hk => (hp k hk).1
    simp (disch := omega) only [k1, n1, li_0, li_1, li_2, li_3, nI_clamp, vp_t, true_and, (hp 0 (by decide)).1, (hp 1 (by decide)).1, (hp 2 (by decide)).1, (hp 3 (by decide)).1]
    unfold wyN tlP at this
    by_cases c : nI (p 0) + nI (p 1) - nI (p 2) - nI (p 3) = t
    · rw [if_pos c] at this ⊢
      exact this
    · rw [if_neg c] at this ⊢
      exact this
  | succ m ih =>
    intro d μ p Q hd hm k1 n1 hp hQ
    obtain ⟨d, rfl⟩ : ∃ x, d = x + 1 := ⟨d - 1, by omega⟩
    show p_X0_ways _ q t (nI (m + 1)) μ Q
    unfold p_X0_ways
    rw [if_neg (nI_ne0 (by omega) (by omega))]
    unfold p_X0_ways_L34
    refine lp_to 4 (fun i (a : Int64 × Int32 × fw_M) => a.1 = lN (wyS t m p i) ∧ a.2.1 = nI i ∧ eqD (fun p _ => p = q) μ a.2.2 ∧ ∀ k, k < 4 → m_I a.2.2 q k = nI (p k)) (fun i a hi hI K hK => ?_) (fun a hI K => ?_) ⟨rfl, rfl, eqD.rf, fun k hk => (hp k hk).1⟩
    · obtain ⟨l3, i5, μ1⟩ := a
      obtain ⟨a1, a2, a3, a4⟩ := hI
      dsimp only at a1 a2 a3 a4
      subst a1 a2
      show p_X0_ways_L34b (p_X0_ways_d d) q t (nI (m + 1)) (fun l3 i5 μ => K (l3, i5, μ)) (lN (wyS t m p i)) (nI i) μ1 Q
      have kk : m_K μ1 q = 100 := by rw [a3.K]; exact k1
      have nn : m_N μ1 q = 4 := by rw [a3.N]; exact n1
      have pi := hp i hi
      have K2 : ∀ μ2, eqD (fun p _ => p = q) μ μ2 → (∀ k, k < 4 → m_I μ2 q k = nI (p k)) → K (lN (wyS t m p (i + 1)), nI (i + 1), μ2) := fun μ2 d h => hK _ ⟨rfl, rfl, d, h⟩
      have ws : wyS t m p (i + 1) = wyS t m p i + wyN t m (dcP p i) := rfl
      have mp : (nI (m + 1) - 1 : Int32) = nI m := nI_pred m
      unfold p_X0_ways_L34b
      rw [show (4 : Int32) = nI 4 from rfl, if_neg (nI_ge (b := 4) hi (by decide))]
      simp (disch := omega) only [kk, nn, nI_clamp, vp_t, true_and, a4 i hi]
      by_cases z : p i = 0
      · rw [z, if_pos (show nI 0 ≤ 0 by decide)]
        unfold p_X0_ways_L52 p_X0_ways_L67
        rw [if_pos rfl, mp]
        have same : ∀ k, k < 4 → p k = dcP p i k := by
          intro k hk
          unfold dcP
          split
          · rename_i e; subst e; omega
          · rfl
        refine ih d μ1 p _ (by omega) (by omega) kk nn (fun k hk => ⟨a4 k hk, (hp k hk).2⟩) fun μ2 d2 h2 => ?_
        rw [ws, ← wyN_cong same] at K2
        simp only [if_true, forall_eq, nI_1, lN_add]
        exact K2 μ2 (a3.tr d2) h2
      · rw [if_neg (nI_nle (by omega) (by omega))]
        unfold p_X0_ways_L52
        rw [if_neg (by decide)]
        have ds : nI (p i) - 1 = nI (p i - 1) := pk_sub (b := 1) (by omega)
        simp (disch := omega) only [kk, nn, nI_clamp, vp_t, true_and, a4 i hi, forall_eq, ml_uI, ds]
        unfold p_X0_ways_L67
        rw [mp]
        have dd : eqD (fun p _ => p = q) μ1 (m_sI μ1 q (ml_u (m_I μ1 q) i (nI (p i - 1)))) := eqD.sI fun j hj => absurd rfl hj
        refine ih d _ (dcP p i) _ (by omega) (by omega) kk nn (fun k hk => ?_) fun μ2 d2 h2 => ?_
        · rw [ml_Is]
          unfold dcP
          by_cases e : k = i
          · subst e; rw [ml_us, if_pos rfl]; exact ⟨rfl, by omega⟩
          · rw [ml_un e, if_neg e]; exact ⟨a4 k hk, (hp k hk).2⟩
        · have D := (a3.tr dd).tr d2
          have kk2 : m_K μ2 q = 100 := by rw [D.K]; exact k1
          have nn2 : m_N μ2 q = 4 := by rw [D.N]; exact n1
          have hi2 : m_I μ2 q i = nI (p i - 1) := by
            rw [h2 i hi]; unfold dcP; rw [if_pos rfl]
          have e10' : ((1 : Int32) = 0) = False := eq_false (by decide)
          simp (disch := omega) only [e10', if_false, kk2, nn2, nI_clamp, vp_t, true_and, forall_eq, ml_uI, hi2, nI_1, lN_add, Nat.sub_add_cancel (show 1 ≤ p i by omega)]
          rw [ws] at K2
          refine K2 _ (D.tr (eqD.sI fun j hj => absurd rfl hj)) fun k hk => ?_
          rw [ml_Is]
          by_cases e : k = i
          · subst e; rw [ml_us]
          · rw [ml_un e, h2 k hk]; unfold dcP; rw [if_neg e]
    · obtain ⟨l3, i5, μ1⟩ := a
      obtain ⟨a1, a2, a3, a4⟩ := hI
      dsimp only at a1 a2 a3 a4
      subst a1 a2
      show p_X0_ways_L34b (p_X0_ways_d d) q t (nI (m + 1)) (fun l3 i5 μ => K (l3, i5, μ)) (lN (wyS t m p 4)) (nI 4) μ1 Q
      unfold p_X0_ways_L34b
      rw [if_pos (show (4 : Int32) ≤ nI 4 by decide)]
      have := hQ μ1 a3 a4
      rw [wyN_S] at this
      exact this
theorem s_common : ∀ (k : Nat) (d a b : Nat) (μ : fw_M) (Q : Int64 → fw_M → Prop), 2 * k < d → b < 2 ^ k → a < 2 ^ 40 → k ≤ 20 → Q (lN (Nat.gcd a b)) μ → p_X0_common_d d (lN a) (lN b) μ Q := by
  have step : ∀ (d a b : Nat) (μ : fw_M) (Q : Int64 → fw_M → Prop), a < 2 ^ 40 → b < 2 ^ 40 → b ≠ 0 → p_X0_common_d d (lN b) (lN (a % b)) μ (fun w3 μ4 => Q w3 μ4) → p_X0_common_d (d + 1) (lN a) (lN b) μ Q := by
    intro d a b μ Q ha hb hb0 h
    show p_X0_common _ (lN a) (lN b) μ Q
    unfold p_X0_common
    have nz : ¬ lN b = 0 := fun e => hb0 ((pk_lEQ (b := 0) (by omega) (by decide)).mp e)
    rw [if_neg nz, pk_lRem (by omega) (by omega) (by omega)]
    exact ⟨nz, h⟩
  have zero : ∀ (d a : Nat) (μ : fw_M) (Q : Int64 → fw_M → Prop), Q (lN a) μ → p_X0_common_d (d + 1) (lN a) (lN 0) μ Q := by
    intro d a μ Q h
    show p_X0_common _ (lN a) (lN 0) μ Q
    unfold p_X0_common
    rw [if_pos (show lN 0 = 0 from rfl)]
    exact h
  intro k
  induction k with
  | zero =>
    intro d a b μ Q hd hb ha hk hQ
    have : b = 0 := by omega
    subst this
    obtain ⟨d, rfl⟩ : ∃ x, d = x + 1 := ⟨d - 1, by omega⟩
    rw [Nat.gcd_zero_right] at hQ
    exact zero d a μ Q hQ
  | succ k ih =>
    intro d a b μ Q hd hb ha hk hQ
    obtain ⟨d, rfl⟩ : ∃ x, d = x + 1 := ⟨d - 1, by omega⟩
    have p40 : 2 ^ (k + 1) ≤ 2 ^ 40 := Nat.pow_le_pow_right (by decide) (by omega)
    by_cases b0 : b = 0
    · subst b0
      rw [Nat.gcd_zero_right] at hQ
      exact zero d a μ Q hQ
    refine step d a b μ Q ha (by omega) b0 ?_
    have g1 : Nat.gcd a b = Nat.gcd b (a % b) := by
      rw [Nat.gcd_comm a b, Nat.gcd_rec b a, Nat.gcd_comm]
    have rb : a % b < b := Nat.mod_lt _ (by omega)
    obtain ⟨d, rfl⟩ : ∃ x, d = x + 1 := ⟨d - 1, by omega⟩
    by_cases r0 : a % b = 0
    · rw [r0]
      rw [g1, r0, Nat.gcd_zero_right] at hQ
      exact zero d b μ _ hQ
    refine step d b (a % b) μ _ (by omega) (by omega) r0 ?_
    have g2 : Nat.gcd b (a % b) = Nat.gcd (a % b) (b % (a % b)) := by
      rw [Nat.gcd_comm b (a % b), Nat.gcd_rec (a % b) b, Nat.gcd_comm]
    rw [g1, g2] at hQ
    refine ih d (a % b) (b % (a % b)) μ _ (by omega) ?_ (by omega) (by omega) hQ
    have r1 : b % (a % b) < a % b := Nat.mod_lt _ (by omega)
    have r2 : b % (a % b) ≤ b - a % b := by
      rw [Nat.mod_eq_sub_mod (by omega)]
      exact Nat.mod_le _ _
    rw [Nat.pow_succ] at hb
    omega
theorem m_common {a b : Nat} {μ : fw_M} {Q : Int64 → fw_M → Prop} (ha : a < 2 ^ 40) (hb : b < 2 ^ 40) (hQ : Q (lN (Nat.gcd a b)) μ) : p_X5_common (lN a) (lN b) μ Q := by
  unfold p_X5_common p_X5_common_L6
  refine fw_lp_in (fun (x : Int64 × Int64 × fw_M) => ∃ c d, c < 2 ^ 40 ∧ d < 2 ^ 40 ∧ x.1 = lN c ∧ x.2.1 = lN d ∧ x.2.2 = μ ∧ Nat.gcd c d = Nat.gcd a b) (fun x => x.2.1.toInt.toNat) (fun K x hI hK => ?_) _ ⟨a, b, ha, hb, rfl, rfl, rfl, rfl⟩
  obtain ⟨l4, l6, μ1⟩ := x
  obtain ⟨c, d, h1, h2, h3, h4, h5, h6⟩ := hI
  dsimp only at h3 h4 h5
  subst h3 h4 h5
  show p_X5_common_L6b (fun l4 l6 μ => K (l4, l6, μ)) (lN c) (lN d) μ1 Q
  unfold p_X5_common_L6b
  by_cases d0 : d = 0
  · subst d0
    rw [if_pos (show lN 0 = 0 from rfl)]
    rw [Nat.gcd_zero_right] at h6
    rw [h6]
    exact hQ
  · have nz : ¬ lN d = 0 := fun e => d0 ((pk_lEQ (b := 0) (by omega) (by decide)).mp e)
    rw [if_neg nz, pk_lRem (by omega) (by omega) (by omega)]
    refine ⟨nz, ?_⟩
    simp only [forall_eq]
    have rb : c % d < d := Nat.mod_lt _ (by omega)
    refine hK _ ⟨d, c % d, h2, by omega, rfl, rfl, rfl, ?_⟩ ?_
    · rw [← h6, Nat.gcd_comm c d, Nat.gcd_rec d c, Nat.gcd_comm]
    · show (lN (c % d)).toInt.toNat < (lN d).toInt.toNat
      rw [pk_lT (by omega), pk_lT (by omega)]
      omega
def apP (way : Nat) (p : Nat → Nat) : Nat → (Nat → Nat)
  | 0 => p
  | k + 1 => dcP (apP way p k) (way / 4 ^ k % 4)
theorem apP_sh {way : Nat} {p : Nat → Nat} : ∀ k, apP way p (k + 1) = apP (way / 4) (dcP p (way % 4)) k := by
  intro k
  induction k with
  | zero =>
    show dcP p (way / 4 ^ 0 % 4) = dcP p (way % 4)
    rw [Nat.pow_zero, Nat.div_one]
  | succ k ih =>
    show dcP (apP way p (k + 1)) (way / 4 ^ (k + 1) % 4) = dcP (apP (way / 4) (dcP p (way % 4)) k) (way / 4 / 4 ^ k % 4)
    rw [ih, Nat.div_div_eq_div_mul, Nat.pow_succ, Nat.mul_comm (4 ^ k) 4]
def suN (f : Nat → Nat) : Nat → Nat
  | 0 => 0
  | k + 1 => suN f k + f k
theorem suN_cong {f g : Nat → Nat} : ∀ {k : Nat}, (∀ i, i < k → f i = g i) → suN f k = suN g k := by
  intro k
  induction k with
  | zero => intro _; rfl
  | succ k ih =>
    intro h
    unfold suN
    rw [ih fun i hi => h i (by omega), h k (by omega)]
theorem suN_add {f g : Nat → Nat} : ∀ {k : Nat}, suN (fun i => f i + g i) k = suN f k + suN g k := by
  intro k
  induction k with
  | zero => rfl
  | succ k ih =>
    unfold suN
    rw [ih]
    omega
theorem suN_4 {f : Nat → Nat} : ∀ {k : Nat}, suN f (4 * k) = suN (fun i => f (4 * i) + f (4 * i + 1) + f (4 * i + 2) + f (4 * i + 3)) k := by
  intro k
  induction k with
  | zero => rfl
  | succ k ih =>
    rw [show 4 * (k + 1) = 4 * k + 1 + 1 + 1 + 1 by omega]
    show suN f (4 * k) + f (4 * k) + f (4 * k + 1) + f (4 * k + 1 + 1) + f (4 * k + 1 + 1 + 1) = suN _ k + (f (4 * k) + f (4 * k + 1) + f (4 * k + 1 + 1) + f (4 * k + 1 + 1 + 1))
    rw [ih]
    omega
def inT (t : Int32) (p : Nat → Nat) : Nat := if tlP p = t then 1 else 0
theorem wy_su {t : Int32} : ∀ (m : Nat) (p : Nat → Nat), suN (fun way => inT t (apP way p m)) (4 ^ m) = wyN t m p := by
  intro m
  induction m with
  | zero =>
    intro p
    show 0 + inT t p = _
    rw [Nat.zero_add]
    rfl
  | succ m ih =>
    intro p
    rw [Nat.pow_succ, Nat.mul_comm, suN_4]
    have e : ∀ i, inT t (apP (4 * i) p (m + 1)) + inT t (apP (4 * i + 1) p (m + 1)) + inT t (apP (4 * i + 2) p (m + 1)) + inT t (apP (4 * i + 3) p (m + 1)) = inT t (apP i (dcP p 0) m) + inT t (apP i (dcP p 1) m) + inT t (apP i (dcP p 2) m) + inT t (apP i (dcP p 3) m) := by
      intro i
      rw [apP_sh, apP_sh, apP_sh, apP_sh]
      rw [show 4 * i / 4 = i by omega, show (4 * i + 1) / 4 = i by omega, show (4 * i + 2) / 4 = i by omega, show (4 * i + 3) / 4 = i by omega, show 4 * i % 4 = 0 by omega, show (4 * i + 1) % 4 = 1 by omega, show (4 * i + 2) % 4 = 2 by omega, show (4 * i + 3) % 4 = 3 by omega]
    rw [suN_cong fun i _ => e i, suN_add (f := fun i => inT t (apP i (dcP p 0) m) + inT t (apP i (dcP p 1) m) + inT t (apP i (dcP p 2) m)), suN_add (f := fun i => inT t (apP i (dcP p 0) m) + inT t (apP i (dcP p 1) m)), suN_add (f := fun i => inT t (apP i (dcP p 0) m)), ih, ih, ih, ih]
    rfl
theorem apP_le {way : Nat} {p : Nat → Nat} {b : Nat} (h : ∀ k, k < 4 → p k ≤ b) : ∀ m k, k < 4 → apP way p m k ≤ b := by
  intro m
  induction m with
  | zero => exact h
  | succ m ih =>
    intro k hk
    have := ih k hk
    show (if k = _ then apP way p m k - 1 else apP way p m k) ≤ b
    split <;> omega
theorem sh_k : ∀ k, k < 6 → ((((2 : Int32) * nI k) &&& 31).toBitVec.smod 32).toNat = 2 * k := by decide +kernel
theorem sh_4 : ∀ n, n < 7 → ((1 : Int32) <<< (((2 : Int32) * nI n) &&& 31)) = nI (4 ^ n) := by decide +kernel
theorem sh_4l : ∀ n, n < 7 → ((1 : Int64) <<< (((2 : Int32) * nI n).toInt64 &&& 63)) = lN (4 ^ n) := by decide +kernel
theorem p4_le : ∀ n, n < 7 → 4 ^ n ≤ 4096 := by decide
theorem op_odds (a0 a1 a2 : Int32) : iv_op2 (α := Int64) (fun μ Q => p_X0_odds 2000 20000 64 a0 a1 a2 μ Q) (fun μ Q => p_X5_odds 411 a0 a1 a2 μ Q) := by
  refine op_q fun L xs z μ hI => ?_
  obtain ⟨hs, -, -, n, tx, st, te, tl, ns, nd, n', tx', st', te', tl', ns', nd', tp, C, -⟩ := id hI
  by_cases g : inB a0 (-9999) 9999 ∧ inB a1 0 6
  rotate_left
  · refine ⟨-1, fun Q hQ => ?_, fun μ1 h1 hI1 Q hQ => ?_⟩
    · simp only [p_X0_odds, s_in]
      by_cases c1 : inB a0 (-9999) 9999
      · simp only [if_pos c1, if_neg (fun h => g ⟨c1, h⟩), e10, e00, if_false, if_true]
        exact hQ μ qs.rf
      · simp only [if_neg c1, e00, if_true]
        exact hQ μ qs.rf
    · simp only [p_X5_odds, m_in]
      by_cases c1 : inB a0 (-9999) 9999
      · simp only [if_pos c1, if_neg (fun h => g ⟨c1, h⟩), e10, e00, if_false, if_true]
        exact hQ μ1 qs.rf
      · simp only [if_neg c1, e00, if_true]
        exact hQ μ1 qs.rf
  obtain ⟨c1, c2⟩ := g
  obtain ⟨m, -, hm, rfl⟩ := inB_nI (lo := 0) (hi := 6) c2 (by decide) (by decide)
  obtain ⟨x1, x2, x3, x4, x5⟩ := cx_a C
  have r1 := C.2.2.2.2.2.1.1
  have p4 := p4_le m (by omega)
  have p40 : 0 < 4 ^ m := Nat.pow_pos (by decide)
  have wl := wyN_le (t := a0) (m := m) (p := (wA (m_I μ 412)).1)
  have gp : 0 < Nat.gcd (wyN a0 m (wA (m_I μ 412)).1) (4 ^ m) := Nat.gcd_pos_of_pos_right _ p40
  have gl : Nat.gcd (wyN a0 m (wA (m_I μ 412)).1) (4 ^ m) ≤ 4 ^ m := Nat.gcd_le_right _ p40
  refine ⟨if a2 = 0 then lN (wyN a0 m (wA (m_I μ 412)).1 / Nat.gcd (wyN a0 m (wA (m_I μ 412)).1) (4 ^ m)) else lN (4 ^ m / Nat.gcd (wyN a0 m (wA (m_I μ 412)).1) (4 ^ m)), fun Q hQ => ?_, fun μ1 h1 hI1 Q hQ => ?_⟩
  · simp only [p_X0_odds, s_in, if_pos c1, if_pos c2, e10, if_false, sk_p64_0 hs, sk_p64_1 hs, sk_p64_2 hs, sk_p64_3 hs, sk_p64_4 hs, sk_p64_5 hs, sk_p64_9 hs, sk_p64_10 hs, sk_p64_11 hs, sk_p65_6 hs, sk_p65_7 hs, sk_p65_8 hs, sk_p65_9 hs, sk_p65_10 hs, sk_p65_11 hs, sk_p65_12 hs, sk_p65_13 hs, sk_p65_14 hs, sk_p65_15 hs, sk_k64 hs, sk_n64 hs, sk_k65 hs, sk_n65 hs, true_and]
    refine ⟨1, 4, by decide, by decide, ?_⟩
    unfold p_J9_copyOf
    have hx : 441 ≤ m_x μ := hs.2.1
    have c4 : (4 : Int32).toNatClampNeg = 4 := rfl
    have nn : ¬ (4 : Int32) = Int32.ofNat 25 := by decide
    have s9 : m_S (m_al μ 100 4) 69 = m_S μ 69 := ml_aS (by omega)
    have k9 : m_K (m_al μ 100 4) 69 = 100 := (congrArg Prod.fst s9).trans (sk_k69 hs)
    have n9 : m_N (m_al μ 100 4) 69 = 25 := (congrArg Prod.snd s9).trans (sk_n69 hs)
    have kx : m_K (m_al μ 100 4) (m_x μ) = 100 := ml_KS ml_aS0
    have nx : m_N (m_al μ 100 4) (m_x μ) = 4 := ml_NS ml_aS0
    have ix : m_I (m_al μ 100 4) 69 = m_I μ 69 := ml_aI (by omega)
    refine ⟨sk_k69 hs, ?_⟩
    rw [sk_n69 hs, if_neg nn]
    refine ⟨by decide, by decide, by decide, by decide, ?_⟩
    rw [c4]
    rintro rn rfl μ10 rfl
    rw [n9]
    unfold p_J0_min_2
    rw [if_pos (show (4 : Int32) < Int32.ofNat 25 by decide)]
    refine ⟨by decide, by decide, by decide, by rw [n9]; decide, by rw [c4, nx]; decide, ?_⟩
    rintro μ23 rfl
    rw [ml_cp, ix, c4]
    have grow : qs μ (m_sI (m_al μ 100 4) (m_x μ) (ml_c (m_I μ 69) (m_I (m_al μ 100 4) (m_x μ)) (Int32.toNatClampNeg 0) (Int32.toNatClampNeg 0) 4)) := ⟨by rw [ml_xI, ml_ax]; omega, fun p hp => ml_aS hp, fun p hp => ml_aP hp, fun p hp j _ => by rw [ml_In (by omega), ml_aI hp]⟩
    have iq : ∀ k, k < 4 → m_I (m_sI (m_al μ 100 4) (m_x μ) (ml_c (m_I μ 69) (m_I (m_al μ 100 4) (m_x μ)) (Int32.toNatClampNeg 0) (Int32.toNatClampNeg 0) 4)) (m_x μ) k = nI ((wA (m_I μ 412)).1 k) := by
      intro k hk
      rw [ml_Is]
      show (if 0 ≤ k ∧ k < 0 + 4 then m_I μ 69 (0 + (k - 0)) else _) = _
      rw [if_pos (by omega), Nat.zero_add, Nat.sub_zero]
      exact (r1 k hk).trans (x2 k hk).1
    have kq : m_K (m_sI (m_al μ 100 4) (m_x μ) (ml_c (m_I μ 69) (m_I (m_al μ 100 4) (m_x μ)) (Int32.toNatClampNeg 0) (Int32.toNatClampNeg 0) 4)) (m_x μ) = 100 := kx
    have nq : m_N (m_sI (m_al μ 100 4) (m_x μ) (ml_c (m_I μ 69) (m_I (m_al μ 100 4) (m_x μ)) (Int32.toNatClampNeg 0) (Int32.toNatClampNeg 0) 4)) (m_x μ) = 4 := nx
    generalize m_sI (m_al μ 100 4) (m_x μ) (ml_c (m_I μ 69) (m_I (m_al μ 100 4) (m_x μ)) (Int32.toNatClampNeg 0) (Int32.toNatClampNeg 0) 4) = μ2 at grow iq kq nq
    refine ⟨m + 1, by omega, s_ways m (m + 1) μ2 (wA (m_I μ 412)).1 _ (by omega) hm kq nq (fun k hk => ⟨iq k hk, (x2 k hk).2⟩) fun μ3 d3 h3 => ?_⟩
    have fin : qs μ μ3 := by
      refine ⟨Nat.le_trans grow.1 (Nat.le_of_eq d3.2.2.1.symm), fun p hp => by rw [d3.1]; exact grow.2.1 p hp, fun p hp => by rw [d3.2.1]; exact grow.2.2.1 p hp, fun p hp j hj => ?_⟩
      rw [d3.2.2.2 p j (show ¬ p = m_x μ by omega)]
      exact grow.2.2.2 p hp j hj
    have := hQ μ3 fin
    rintro _ rfl
    rw [sh_4l m (by omega)]
    have gz : ¬ lN (Nat.gcd (wyN a0 m (wA (m_I μ 412)).1) (4 ^ m)) = 0 := fun e => by
      have := (pk_lEQ (b := 0) (by omega) (by decide)).mp e
      omega
    by_cases a20 : a2 = 0
    · rw [if_pos a20] at this ⊢
      unfold p_X0_odds_L63
      refine ⟨63, by decide, s_common 13 63 _ _ μ3 _ (by decide) (by omega) (by omega) (by decide) ?_⟩
      refine ⟨gz, ?_⟩
      rw [pk_lDiv (by omega) gp (by omega)]
      exact this
    · rw [if_neg a20] at this ⊢
      unfold p_X0_odds_L63
      refine ⟨63, by decide, s_common 13 63 _ _ μ3 _ (by decide) (by omega) (by omega) (by decide) ?_⟩
      refine ⟨gz, ?_⟩
      rw [pk_lDiv (by omega) gp (by omega)]
      exact this
  · have gs := h1.sk hs
    have w := h1.I (p := 412) (by have := hs.2.1; omega) (by decide) (by decide) (by unfold sc_p; decide)
    simp only [p_X5_odds, m_in, if_pos c1, if_pos c2, e10, if_false, forall_eq, sh_4 m (by omega)]
    have su : ∀ k, k ≤ 4 ^ m → suN (fun way => inT a0 (apP way (wA (m_I μ 412)).1 m)) k ≤ k := by
      intro k
      induction k with
      | zero => intro _; exact Nat.le_refl _
      | succ k ih =>
        intro hk
        have := ih (by omega)
        unfold suN
        have : inT a0 (apP k (wA (m_I μ 412)).1 m) ≤ 1 := by unfold inT; split <;> decide
        omega
    unfold p_X5_odds_L40
    refine lp_to (4 ^ m) (fun y (a : Int32 × Int32 × fw_M) => a.1 = nI (suN (fun way => inT a0 (apP way (wA (m_I μ 412)).1 m)) y) ∧ a.2.1 = nI y ∧ eqD (fun p j => p = 434 ∨ p = 435 ∨ (p = 411 ∧ j = 41)) μ1 a.2.2) (fun y a hy hI K hK => ?_) (fun a hI K => ?_) ⟨rfl, rfl, eqD.rf⟩
    · obtain ⟨i5, i6, ν1⟩ := a
      obtain ⟨b1, b2, b3⟩ := hI
      dsimp only at b1 b2 b3
      subst b1 b2
      show p_X5_odds_L40b 411 a0 (nI m) a2 (nI (4 ^ m)) (fun i5 i6 μ => K (i5, i6, μ)) (nI (suN (fun way => inT a0 (apP way (wA (m_I μ 412)).1 m)) y)) (nI y) ν1 Q
      have g1 := b3.sk gs
      have w1 : m_I ν1 412 = m_I μ 412 := (b3.I fun j => by omega).trans w
      unfold p_X5_odds_L40b
      rw [if_neg (nI_ge hy (by omega))]
      refine m_laysA g1 w1 C fun ν2 d2 R2 => ?_
      unfold p_X5_odds_L54
      refine lp_to m (fun k (a : Int32 × fw_M) => a.1 = nI k ∧ eqD (fun p j => p = 434 ∨ p = 435 ∨ (p = 411 ∧ j = 41)) μ1 a.2 ∧ rM n a.2 (apP y (wA (m_I μ 412)).1 k, (wA (m_I μ 412)).2)) (fun k a hk hI2 K2 hK2 => ?_) (fun a hI2 K2 => ?_) ⟨rfl, b3.tr d2, R2⟩
      · obtain ⟨i7, ν3⟩ := a
        obtain ⟨e1, e2, e3⟩ := hI2
        dsimp only at e1 e2 e3
        subst e1
        show p_X5_odds_L54b (fun i5 i6 μ => K (i5, i6, μ)) 411 a0 (nI m) a2 (nI (4 ^ m)) _ (nI y) (fun i2 μ => K2 (i2, μ)) (nI k) ν3 Q
        have g3 := e2.sk gs
        have dg : (nI y >>> (((2 : Int32) * nI k) &&& 31)) &&& 3 = nI (y / 4 ^ k % 4) := by
          rw [pk_shrN (by omega) _ (2 * k) (sh_k k (by omega)), pk_andN (k := 2) (Nat.lt_of_le_of_lt (Nat.div_le_self _ _) (by omega)) (by decide), Nat.pow_mul]
        have dl : y / 4 ^ k % 4 < 4 := Nat.mod_lt _ (by decide)
        have ep := e3.1 (y / 4 ^ k % 4) dl
        have pb := apP_le (way := y) (fun k hk => (x2 k hk).2) k (y / 4 ^ k % 4) dl
        dsimp only at ep
        have nx : ∀ ν', eqD (fun p j => p = 434 ∨ p = 435 ∨ (p = 411 ∧ j = 41)) μ1 ν' → rM n ν' (apP y (wA (m_I μ 412)).1 (k + 1), (wA (m_I μ 412)).2) → K2 (nI (k + 1), ν') := fun ν' d h => hK2 _ ⟨rfl, d, h⟩
        have rest : ∀ v, v = apP y (wA (m_I μ 412)).1 k (y / 4 ^ k % 4) - 1 → rM n (m_sI ν3 434 (ml_u (m_I ν3 434) (y / 4 ^ k % 4) (nI v))) (apP y (wA (m_I μ 412)).1 (k + 1), (wA (m_I μ 412)).2) := by
          intro v hv
          refine ⟨fun j hj => ?_, fun e he => ?_, ?_⟩
          · rw [ml_Is]
            show _ = nI (if j = y / 4 ^ k % 4 then apP y (wA (m_I μ 412)).1 k j - 1 else apP y (wA (m_I μ 412)).1 k j)
            by_cases q : j = y / 4 ^ k % 4
            · rw [if_pos q, q, ml_us, hv]
            · rw [if_neg q, ml_un q]; exact e3.1 j hj
          · rw [ml_In (by decide)]; exact e3.2.1 e he
          · rw [ml_In (by decide)]; exact e3.2.2
        unfold p_X5_odds_L54b
        rw [if_neg (nI_ge hk (by omega))]
        simp (disch := omega) only [dg, forall_eq, sk_p411_0 g3, sk_p411_1 g3, sk_p411_2 g3, sk_p411_6 g3, sk_p411_7 g3, sk_p411_8 g3, sk_p411_9 g3, sk_p411_10 g3, sk_p411_11 g3, sk_p411_12 g3, sk_p411_22 g3, sk_p411_23 g3, sk_p411_25 g3, sk_p411_26 g3, sk_p411_30 g3, sk_p411_31 g3, sk_p411_32 g3, sk_p411_33 g3, sk_p411_35 g3, sk_p411_36 g3, sk_p411_37 g3, sk_p411_38 g3, sk_p411_39 g3, sk_p411_40 g3, sk_p411_42 g3, sk_p411_43 g3, sk_p411_44 g3, sk_p411_45 g3, sk_p411_46 g3, sk_k411 g3, sk_n411 g3, sk_k434 g3, sk_n434 g3, nI_clamp, vp_t, true_and, ep, ml_uI, nI_1]
        by_cases z : apP y (wA (m_I μ 412)).1 k (y / 4 ^ k % 4) = 0
        · rw [z, if_pos (show nI 0 ≤ 0 by decide)]
          refine nx _ (e2.tr (eqD.sI fun j hj => absurd (Or.inl rfl) hj)) ?_
          have := rest 0 (by omega)
          rw [show (nI 0 - 0 : Int32) = nI 0 from rfl]
          exact this
        · rw [if_neg (nI_nle (by omega) (by omega))]
          refine nx _ (e2.tr (eqD.sI fun j hj => absurd (Or.inl rfl) hj)) ?_
          have := rest _ rfl
          rw [show (nI (apP y (wA (m_I μ 412)).1 k (y / 4 ^ k % 4)) - 1 : Int32) = nI (apP y (wA (m_I μ 412)).1 k (y / 4 ^ k % 4) - 1) from pk_sub (b := 1) (by omega)]
          exact this
      · obtain ⟨i7, ν3⟩ := a
        obtain ⟨e1, e2, e3⟩ := hI2
        dsimp only at e1 e2 e3
        subst e1
        show p_X5_odds_L54b (fun i5 i6 μ => K (i5, i6, μ)) 411 a0 (nI m) a2 (nI (4 ^ m)) (nI (suN (fun way => inT a0 (apP way (wA (m_I μ 412)).1 m)) y)) (nI y) (fun i2 μ => K2 (i2, μ)) (nI m) ν3 Q
        have g3 := e2.sk gs
        unfold p_X5_odds_L54b
        rw [if_pos (nI_le (Nat.le_refl m) (by omega)), m_tilt g3 e3]
        have ss : suN (fun way => inT a0 (apP way (wA (m_I μ 412)).1 m)) (y + 1) = suN (fun way => inT a0 (apP way (wA (m_I μ 412)).1 m)) y + inT a0 (apP y (wA (m_I μ 412)).1 m) := rfl
        have nx : K (nI (suN (fun way => inT a0 (apP way (wA (m_I μ 412)).1 m)) (y + 1)), nI (y + 1), ν3) := hK _ ⟨rfl, rfl, e2⟩
        rw [ss] at nx
        unfold inT at nx
        have et : tlW (apP y (wA (m_I μ 412)).1 m, (wA (m_I μ 412)).2) = tlP (apP y (wA (m_I μ 412)).1 m) := rfl
        rw [et]
        by_cases q : tlP (apP y (wA (m_I μ 412)).1 m) = a0
        · rw [if_pos q] at nx ⊢
          simp only [forall_eq, nI_1]
          exact nx
        · rw [if_neg q, Nat.add_zero] at nx
          rw [if_neg q]
          simp only [forall_eq, nI_1, Int32.add_zero]
          exact nx
    · obtain ⟨i5, i6, ν1⟩ := a
      obtain ⟨b1, b2, b3⟩ := hI
      dsimp only at b1 b2 b3
      subst b1 b2
      show p_X5_odds_L40b 411 a0 (nI m) a2 (nI (4 ^ m)) (fun i5 i6 μ => K (i5, i6, μ)) (nI (suN (fun way => inT a0 (apP way (wA (m_I μ 412)).1 m)) (4 ^ m))) (nI (4 ^ m)) ν1 Q
      rw [wy_su]
      have := hQ ν1 (b3.qs fun p j q => by unfold sc_p; omega)
      have gz : ¬ lN (Nat.gcd (wyN a0 m (wA (m_I μ 412)).1) (4 ^ m)) = 0 := fun e => by
        have := (pk_lEQ (b := 0) (by omega) (by decide)).mp e
        omega
      unfold p_X5_odds_L40b
      rw [if_pos (nI_le (Nat.le_refl _) (by omega)), nI_l (by omega), nI_l (by omega)]
      refine m_common (by omega) (by omega) ?_
      rw [Nat.gcd_comm]
      by_cases a20 : a2 = 0
      · rw [if_pos a20] at this ⊢
        rw [pk_lDiv (by omega) gp (by omega)]
        exact ⟨gz, this⟩
      · rw [if_neg a20] at this ⊢
        rw [pk_lDiv (by omega) gp (by omega)]
        exact ⟨gz, this⟩
