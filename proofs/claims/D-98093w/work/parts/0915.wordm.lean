/-! plain law: text, the reference's tokens -/
def WN : List Nat := [9837875, 683591987, 42776055097, 211572, 868416494, 718686693, 649238899, 3058, 138148, 191476, 3046, 2164, 629623154, 43851086194, 227925014493747, 629623150, 11443108, 11688372, 55578655667, 13539621, 13802292, 683600249, 13507380, 613870899]
/-- the reference's number of a word -/
def mW (w : Nat) : Nat := if w = 7 then 9 else if w = 8 then 10 else if w = 9 then 11 else if w = 10 then 8 else if w = 11 then 7 else w
def numR : List Nat → Nat
  | [] => 0
  | c :: l => 64 * numR l + c - 64
theorem WN_num : ∀ w, w < 24 → WN.getD w 0 = numR (WD.getD w []).reverse := by decide +kernel
theorem WD_let : ∀ w, w < 24 → ∀ c, c ∈ (WD.getD w []).reverse → 65 ≤ c ∧ c < 128 := by decide +kernel
theorem numR_inj : ∀ (l l' : List Nat), (∀ c, c ∈ l → 65 ≤ c ∧ c < 128) → (∀ c, c ∈ l' → 65 ≤ c ∧ c < 128) → numR l = numR l' → l = l' := by
  intro l
  induction l with
  | nil =>
    intro l' _ h2 h
    cases l' with
    | nil => rfl
    | cons c l' =>
      have := h2 c (List.mem_cons_self ..)
      have e : numR (c :: l') = 64 * numR l' + c - 64 := rfl
      rw [e] at h
      have e0 : numR [] = 0 := rfl
      rw [e0] at h
      omega
  | cons c l ih =>
    intro l' h1 h2 h
    have hc := h1 c (List.mem_cons_self ..)
    have e : numR (c :: l) = 64 * numR l + c - 64 := rfl
    cases l' with
    | nil =>
      rw [e] at h
      have e0 : numR [] = 0 := rfl
      rw [e0] at h
      omega
    | cons c' l' =>
      have hc' := h2 c' (List.mem_cons_self ..)
      have e' : numR (c' :: l') = 64 * numR l' + c' - 64 := rfl
      rw [e, e'] at h
      have e1 : numR l = numR l' := by omega
      have e2 : c = c' := by omega
      rw [ih l' (fun x hx => h1 x (List.mem_cons_of_mem _ hx)) (fun x hx => h2 x (List.mem_cons_of_mem _ hx)) e1, e2]
def ltR (b : Nat → Nat) (pl : Nat) : Nat → List Nat
  | 0 => []
  | k + 1 => b (pl + k) :: ltR b pl k
theorem ltR_rev {b : Nat → Nat} {pl : Nat} : ∀ k, ltr b pl k = (ltR b pl k).reverse := by
  intro k
  induction k with
  | zero => rfl
  | succ k ih =>
    have e : ltR b pl (k + 1) = b (pl + k) :: ltR b pl k := rfl
    rw [e, List.reverse_cons, ← ih]
    unfold ltr
    rw [List.range_succ, List.map_append]
    rfl
theorem ltR_mem {b : Nat → Nat} {pl : Nat} {P : Nat → Prop} : ∀ k, (∀ j, j < k → P (b (pl + j))) → ∀ c, c ∈ ltR b pl k → P c := by
  intro k
  induction k with
  | zero => intro _ c h; cases h
  | succ k ih =>
    intro h c hc
    rcases List.mem_cons.mp hc with rfl | hc
    · exact h k (Nat.lt_succ_self k)
    · exact ih (fun j hj => h j (by omega)) c hc
theorem ltR_len {b : Nat → Nat} {pl : Nat} : ∀ k, (ltR b pl k).length = k := by
  intro k
  induction k with
  | zero => rfl
  | succ k ih => show (ltR b pl k).length + 1 = k + 1; rw [ih]
theorem numR_lt {b : Nat → Nat} {pl : Nat} : ∀ k, (∀ j, j < k → 65 ≤ b (pl + j) ∧ b (pl + j) < 128) → numR (ltR b pl k) < 64 ^ k := by
  intro k
  induction k with
  | zero => intro _; exact Nat.lt_succ_self 0
  | succ k ih =>
    intro h
    have h1 := ih fun j hj => h j (by omega)
    have h2 := h k (Nat.lt_succ_self k)
    have e : numR (ltR b pl (k + 1)) = 64 * numR (ltR b pl k) + b (pl + k) - 64 := rfl
    rw [e, Nat.pow_succ]
    omega
def gW (l : Int64) : Int32 := if l = (9837875 : Int64) then 0 else (if l = (683591987 : Int64) then 1 else (if l = (42776055097 : Int64) then 2 else (if l = (211572 : Int64) then 3 else (if l = (868416494 : Int64) then 4 else (if l = (718686693 : Int64) then 5 else (if l = (649238899 : Int64) then 6 else (if l = (2164 : Int64) then 7 else (if l = (3046 : Int64) then 8 else (if l = (3058 : Int64) then 9 else (if l = (138148 : Int64) then 10 else (if l = (191476 : Int64) then 11 else (if l = (629623154 : Int64) then 12 else (if l = (43851086194 : Int64) then 13 else (if l = (227925014493747 : Int64) then 14 else (if l = (629623150 : Int64) then 15 else (if l = (11443108 : Int64) then 16 else (if l = (11688372 : Int64) then 17 else (if l = (55578655667 : Int64) then 18 else (if l = (13539621 : Int64) then 19 else (if l = (13802292 : Int64) then 20 else (if l = (683600249 : Int64) then 21 else (if l = (13507380 : Int64) then 22 else (if l = (613870899 : Int64) then 23 else ((-1 : Int32)))))))))))))))))))))))))
theorem m_wordOf0 {l : Int64} {μ : fw_M} {Q : Int32 → fw_M → Prop} : p_X5_wordOf l μ Q = Q (gW l) μ := by
  unfold p_X5_wordOf gW
  by_cases h0 : l = (9837875 : Int64)
  · rw [if_pos h0, if_pos h0]
  rw [if_neg h0, if_neg h0]
  by_cases h1 : l = (683591987 : Int64)
  · rw [if_pos h1, if_pos h1]
  rw [if_neg h1, if_neg h1]
  by_cases h2 : l = (42776055097 : Int64)
  · rw [if_pos h2, if_pos h2]
  rw [if_neg h2, if_neg h2]
  by_cases h3 : l = (211572 : Int64)
  · rw [if_pos h3, if_pos h3]
  rw [if_neg h3, if_neg h3]
  by_cases h4 : l = (868416494 : Int64)
  · rw [if_pos h4, if_pos h4]
  rw [if_neg h4, if_neg h4]
  by_cases h5 : l = (718686693 : Int64)
  · rw [if_pos h5, if_pos h5]
  rw [if_neg h5, if_neg h5]
  by_cases h6 : l = (649238899 : Int64)
  · rw [if_pos h6, if_pos h6]
  rw [if_neg h6, if_neg h6]
  by_cases h7 : l = (2164 : Int64)
  · rw [if_pos h7, if_pos h7]
  rw [if_neg h7, if_neg h7]
  by_cases h8 : l = (3046 : Int64)
  · rw [if_pos h8, if_pos h8]
  rw [if_neg h8, if_neg h8]
  by_cases h9 : l = (3058 : Int64)
  · rw [if_pos h9, if_pos h9]
  rw [if_neg h9, if_neg h9]
  by_cases h10 : l = (138148 : Int64)
  · rw [if_pos h10, if_pos h10]
  rw [if_neg h10, if_neg h10]
  by_cases h11 : l = (191476 : Int64)
  · rw [if_pos h11, if_pos h11]
  rw [if_neg h11, if_neg h11]
  by_cases h12 : l = (629623154 : Int64)
  · rw [if_pos h12, if_pos h12]
  rw [if_neg h12, if_neg h12]
  by_cases h13 : l = (43851086194 : Int64)
  · rw [if_pos h13, if_pos h13]
  rw [if_neg h13, if_neg h13]
  by_cases h14 : l = (227925014493747 : Int64)
  · rw [if_pos h14, if_pos h14]
  rw [if_neg h14, if_neg h14]
  by_cases h15 : l = (629623150 : Int64)
  · rw [if_pos h15, if_pos h15]
  rw [if_neg h15, if_neg h15]
  by_cases h16 : l = (11443108 : Int64)
  · rw [if_pos h16, if_pos h16]
  rw [if_neg h16, if_neg h16]
  by_cases h17 : l = (11688372 : Int64)
  · rw [if_pos h17, if_pos h17]
  rw [if_neg h17, if_neg h17]
  by_cases h18 : l = (55578655667 : Int64)
  · rw [if_pos h18, if_pos h18]
  rw [if_neg h18, if_neg h18]
  by_cases h19 : l = (13539621 : Int64)
  · rw [if_pos h19, if_pos h19]
  rw [if_neg h19, if_neg h19]
  by_cases h20 : l = (13802292 : Int64)
  · rw [if_pos h20, if_pos h20]
  rw [if_neg h20, if_neg h20]
  by_cases h21 : l = (683600249 : Int64)
  · rw [if_pos h21, if_pos h21]
  rw [if_neg h21, if_neg h21]
  by_cases h22 : l = (13507380 : Int64)
  · rw [if_pos h22, if_pos h22]
  rw [if_neg h22, if_neg h22]
  by_cases h23 : l = (613870899 : Int64)
  · rw [if_pos h23, if_pos h23]
  rw [if_neg h23, if_neg h23]
theorem ff_none {P : Nat → Bool} : ∀ {n : Nat}, (∀ k, k < n → P k = false) → ff P n = none := by
  intro n
  induction n with
  | zero => intro _; rfl
  | succ n ih =>
    intro h
    exact ff_nx (ih fun k hk => h k (by omega)) (by rw [h n (by omega)]; decide)
theorem gW_n {x : Nat} (hx : x < 2 ^ 63) : gW (lN x) = match ff (fun w => decide (WN.getD w 0 = x)) 24 with | some w => nI (mW w) | none => -1 := by
  by_cases h0 : x = 9837875
  · subst h0; decide +kernel
  by_cases h1 : x = 683591987
  · subst h1; decide +kernel
  by_cases h2 : x = 42776055097
  · subst h2; decide +kernel
  by_cases h3 : x = 211572
  · subst h3; decide +kernel
  by_cases h4 : x = 868416494
  · subst h4; decide +kernel
  by_cases h5 : x = 718686693
  · subst h5; decide +kernel
  by_cases h6 : x = 649238899
  · subst h6; decide +kernel
  by_cases h7 : x = 2164
  · subst h7; decide +kernel
  by_cases h8 : x = 3046
  · subst h8; decide +kernel
  by_cases h9 : x = 3058
  · subst h9; decide +kernel
  by_cases h10 : x = 138148
  · subst h10; decide +kernel
  by_cases h11 : x = 191476
  · subst h11; decide +kernel
  by_cases h12 : x = 629623154
  · subst h12; decide +kernel
  by_cases h13 : x = 43851086194
  · subst h13; decide +kernel
  by_cases h14 : x = 227925014493747
  · subst h14; decide +kernel
  by_cases h15 : x = 629623150
  · subst h15; decide +kernel
  by_cases h16 : x = 11443108
  · subst h16; decide +kernel
  by_cases h17 : x = 11688372
  · subst h17; decide +kernel
  by_cases h18 : x = 55578655667
  · subst h18; decide +kernel
  by_cases h19 : x = 13539621
  · subst h19; decide +kernel
  by_cases h20 : x = 13802292
  · subst h20; decide +kernel
  by_cases h21 : x = 683600249
  · subst h21; decide +kernel
  by_cases h22 : x = 13507380
  · subst h22; decide +kernel
  by_cases h23 : x = 613870899
  · subst h23; decide +kernel
  have hn : ff (fun w => decide (WN.getD w 0 = x)) 24 = none := by
    refine ff_none fun w hw => decide_eq_false ?_
    have : w = 0 ∨ w = 1 ∨ w = 2 ∨ w = 3 ∨ w = 4 ∨ w = 5 ∨ w = 6 ∨ w = 7 ∨ w = 8 ∨ w = 9 ∨ w = 10 ∨ w = 11 ∨ w = 12 ∨ w = 13 ∨ w = 14 ∨ w = 15 ∨ w = 16 ∨ w = 17 ∨ w = 18 ∨ w = 19 ∨ w = 20 ∨ w = 21 ∨ w = 22 ∨ w = 23 := by omega
    rcases this with rfl | rfl | rfl | rfl | rfl | rfl | rfl | rfl | rfl | rfl | rfl | rfl | rfl | rfl | rfl | rfl | rfl | rfl | rfl | rfl | rfl | rfl | rfl | rfl
    · exact fun e => h0 e.symm
    · exact fun e => h1 e.symm
    · exact fun e => h2 e.symm
    · exact fun e => h3 e.symm
    · exact fun e => h4 e.symm
    · exact fun e => h5 e.symm
    · exact fun e => h6 e.symm
    · exact fun e => h9 e.symm
    · exact fun e => h10 e.symm
    · exact fun e => h11 e.symm
    · exact fun e => h8 e.symm
    · exact fun e => h7 e.symm
    · exact fun e => h12 e.symm
    · exact fun e => h13 e.symm
    · exact fun e => h14 e.symm
    · exact fun e => h15 e.symm
    · exact fun e => h16 e.symm
    · exact fun e => h17 e.symm
    · exact fun e => h18 e.symm
    · exact fun e => h19 e.symm
    · exact fun e => h20 e.symm
    · exact fun e => h21 e.symm
    · exact fun e => h22 e.symm
    · exact fun e => h23 e.symm
  rw [hn]
  unfold gW
  rw [if_neg (show ¬ lN x = (9837875 : Int64) from fun e => h0 ((pk_lEQ (b := 9837875) hx (by decide)).mp e))]
  rw [if_neg (show ¬ lN x = (683591987 : Int64) from fun e => h1 ((pk_lEQ (b := 683591987) hx (by decide)).mp e))]
  rw [if_neg (show ¬ lN x = (42776055097 : Int64) from fun e => h2 ((pk_lEQ (b := 42776055097) hx (by decide)).mp e))]
  rw [if_neg (show ¬ lN x = (211572 : Int64) from fun e => h3 ((pk_lEQ (b := 211572) hx (by decide)).mp e))]
  rw [if_neg (show ¬ lN x = (868416494 : Int64) from fun e => h4 ((pk_lEQ (b := 868416494) hx (by decide)).mp e))]
  rw [if_neg (show ¬ lN x = (718686693 : Int64) from fun e => h5 ((pk_lEQ (b := 718686693) hx (by decide)).mp e))]
  rw [if_neg (show ¬ lN x = (649238899 : Int64) from fun e => h6 ((pk_lEQ (b := 649238899) hx (by decide)).mp e))]
  rw [if_neg (show ¬ lN x = (2164 : Int64) from fun e => h7 ((pk_lEQ (b := 2164) hx (by decide)).mp e))]
  rw [if_neg (show ¬ lN x = (3046 : Int64) from fun e => h8 ((pk_lEQ (b := 3046) hx (by decide)).mp e))]
  rw [if_neg (show ¬ lN x = (3058 : Int64) from fun e => h9 ((pk_lEQ (b := 3058) hx (by decide)).mp e))]
  rw [if_neg (show ¬ lN x = (138148 : Int64) from fun e => h10 ((pk_lEQ (b := 138148) hx (by decide)).mp e))]
  rw [if_neg (show ¬ lN x = (191476 : Int64) from fun e => h11 ((pk_lEQ (b := 191476) hx (by decide)).mp e))]
  rw [if_neg (show ¬ lN x = (629623154 : Int64) from fun e => h12 ((pk_lEQ (b := 629623154) hx (by decide)).mp e))]
  rw [if_neg (show ¬ lN x = (43851086194 : Int64) from fun e => h13 ((pk_lEQ (b := 43851086194) hx (by decide)).mp e))]
  rw [if_neg (show ¬ lN x = (227925014493747 : Int64) from fun e => h14 ((pk_lEQ (b := 227925014493747) hx (by decide)).mp e))]
  rw [if_neg (show ¬ lN x = (629623150 : Int64) from fun e => h15 ((pk_lEQ (b := 629623150) hx (by decide)).mp e))]
  rw [if_neg (show ¬ lN x = (11443108 : Int64) from fun e => h16 ((pk_lEQ (b := 11443108) hx (by decide)).mp e))]
  rw [if_neg (show ¬ lN x = (11688372 : Int64) from fun e => h17 ((pk_lEQ (b := 11688372) hx (by decide)).mp e))]
  rw [if_neg (show ¬ lN x = (55578655667 : Int64) from fun e => h18 ((pk_lEQ (b := 55578655667) hx (by decide)).mp e))]
  rw [if_neg (show ¬ lN x = (13539621 : Int64) from fun e => h19 ((pk_lEQ (b := 13539621) hx (by decide)).mp e))]
  rw [if_neg (show ¬ lN x = (13802292 : Int64) from fun e => h20 ((pk_lEQ (b := 13802292) hx (by decide)).mp e))]
  rw [if_neg (show ¬ lN x = (683600249 : Int64) from fun e => h21 ((pk_lEQ (b := 683600249) hx (by decide)).mp e))]
  rw [if_neg (show ¬ lN x = (13507380 : Int64) from fun e => h22 ((pk_lEQ (b := 13507380) hx (by decide)).mp e))]
  rw [if_neg (show ¬ lN x = (613870899 : Int64) from fun e => h23 ((pk_lEQ (b := 613870899) hx (by decide)).mp e))]
theorem wd_num {b : Nat → Nat} {pl k : Nat} (hl : ∀ j, j < k → 65 ≤ b (pl + j) ∧ b (pl + j) < 128) : ff (fun w => decide (WN.getD w 0 = numR (ltR b pl k))) 24 = ff (fun w => decide (WD.getD w [] = ltr b pl k)) 24 := by
  refine ff_cong fun w hw => ?_
  have e : WN.getD w 0 = numR (ltR b pl k) ↔ WD.getD w [] = ltr b pl k := by
    rw [WN_num w hw, ltR_rev]
    constructor
    · intro h
      have := numR_inj _ _ (WD_let w hw) (ltR_mem k hl) h
      rw [← this, List.reverse_reverse]
    · intro h
      rw [h, List.reverse_reverse]
  by_cases c : WN.getD w 0 = numR (ltR b pl k)
  · rw [decide_eq_true c, decide_eq_true (e.mp c)]
  · rw [decide_eq_false c, decide_eq_false fun h => c (e.mpr h)]
theorem wd_long {b : Nat → Nat} {pl k : Nat} (hk : 9 ≤ k) : wdT (ltr b pl k) = (4, 0) := by
  unfold wdT
  rw [ff_none fun w hw => decide_eq_false fun h => by
    have h1 := (WD_len w hw).1
    have h2 := (WD_len w hw).2.1
    have h3 := (ltr_eq.mp h).1
    omega]
