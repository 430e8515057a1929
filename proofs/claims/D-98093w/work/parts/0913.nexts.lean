/-! plain law: text, the class's next token -/
theorem ff_add {P : Nat → Bool} {n : Nat} : ∀ m, ff P (n + m) = match ff P n with
    | some x => some x
    | none => (ff (fun j => P (n + j)) m).map fun j => n + j := by
  intro m
  induction m with
  | zero =>
    show ff P n = _
    cases ff P n <;> rfl
  | succ m ih =>
    show (match ff P (n + m) with | some x => some x | none => if P (n + m) = true then some (n + m) else none) = _
    have e : ff (fun j => P (n + j)) (m + 1) = (match ff (fun j => P (n + j)) m with | some x => some x | none => if P (n + m) = true then some m else none) := rfl
    rw [ih, e]
    cases ff P n with
    | some x => rfl
    | none =>
      cases ff (fun j => P (n + j)) m with
      | some x => rfl
      | none =>
        dsimp only
        by_cases h : P (n + m) = true
        · rw [if_pos h, if_pos h]; rfl
        · rw [if_neg h, if_neg h]; rfl
theorem ff_lt {P : Nat → Bool} {w : Nat} : ∀ {n : Nat}, ff P n = some w → w < n := by
  intro n
  induction n with
  | zero => intro h; cases h
  | succ n ih =>
    intro h
    have e : ff P (n + 1) = (match ff P n with | some x => some x | none => if P n = true then some n else none) := rfl
    rw [e] at h
    cases hh : ff P n with
    | some x =>
      rw [hh] at h ih
      cases h
      exact Nat.lt_succ_of_lt (ih rfl)
    | none =>
      rw [hh] at h
      dsimp only at h
      by_cases c : P n = true
      · rw [if_pos c] at h; cases h; exact Nat.lt_succ_self _
      · rw [if_neg c] at h; cases h
def kdT (s t : Nat) : Int32 := if s = 0 then 300 else if s = 1 then (if t < 12 then nI (310 + t) else 302) else if s = 2 then 301 else if s = 3 then (if t = 300 then 304 else if t = 301 then 305 else nI t) else 303
def nmS (s t : Nat) : Int32 := if s = 1 ∧ 12 ≤ t then nI (t - 12) else -1
/-- the reader's token at hand -/
def sT (q s t pl a' : Nat) (ν : fw_M) : Prop := m_I ν q 4 = kdT s t ∧ (s = 2 → m_I ν q 5 = nI t) ∧ m_I ν q 6 = nmS s t ∧ m_I ν q 3 = nI pl ∧ m_I ν q 2 = nI a'
theorem ff_tr {P : Nat → Bool} {w : Nat} : ∀ {n : Nat}, ff P n = some w → P w = true := by
  intro n
  induction n with
  | zero => intro h; cases h
  | succ n ih =>
    intro h
    have e : ff P (n + 1) = (match ff P n with | some x => some x | none => if P n = true then some n else none) := rfl
    rw [e] at h
    cases hh : ff P n with
    | some x =>
      rw [hh] at h ih
      cases h
      exact ih rfl
    | none =>
      rw [hh] at h
      dsimp only at h
      by_cases c : P n = true
      · rw [if_pos c] at h; cases h; exact c
      · rw [if_neg c] at h; cases h
theorem WD_inj : ∀ i, i < 12 → ∀ j, j < 12 → WD.getD i [] ≠ WD.getD (12 + j) [] := by decide +kernel
theorem wd_two {l : List Nat} {i j : Nat} (h1 : ff (fun w => decide (WD.getD w [] = l)) 12 = some i) (h2 : ff (fun w => decide (WD.getD (12 + w) [] = l)) 12 = some j) : False :=
  WD_inj i (ff_lt h1) j (ff_lt h2) ((of_decide_eq_true (ff_tr h1)).trans (of_decide_eq_true (ff_tr h2)).symm)
section NX
variable {L : Nat} {xs : Nat → Int32} {z : Nat → Nat} {ν : fw_M} {b : Nat → Nat} {N q : Nat}
theorem DX1 {j : Nat} : ¬ DX q 397 j → True := fun _ => trivial
theorem tpS.x {ν' : fw_M} (h : tpS b N q ν) (hq : 441 ≤ q) (g : eqD (DX q) ν ν') : tpS b N q ν' := h.eq g (fun j h => by have := h.1; omega) (fun h => by have := h.2.1; omega)
theorem old.x {ν' : fw_M} (h : iv_old L xs z ν) (hq : 441 ≤ q) (g : eqD (DX q) ν ν') : iv_old L xs z ν' := fun p hp => by
  obtain ⟨a1, a2, a3⟩ := h p hp
  exact ⟨by rw [g.1]; exact a1, by rw [g.I fun j h => by have := h.1; omega]; exact a2, by rw [g.2.1]; exact a3⟩
/-- a run gone over by the reader, in a loop whose body steps on -/
theorem s_word (ho : iv_old L xs z ν) (h : tpS b N q ν) (hq : 441 ≤ q) {pl a' : Nat} (ha : m_I ν q 2 = nI pl) (hp : m_I ν q 3 = nI pl) (r : rn isL b N pl a') {Q : fw_M → Prop} (hQ : ∀ ν', eqD (DX q) ν ν' → sT q (wdT (ltr b pl (a' - pl))).1 (wdT (ltr b pl (a' - pl))).2 pl a' ν' → Q ν') : p_X6_word q ν Q := by
  obtain ⟨r1, r2, r3, r4⟩ := r
  unfold p_X6_word p_X6_word_L0
  refine lp_to (a' - pl) (fun k x => eqD (DX q) ν x ∧ m_I x q 2 = nI (pl + k) ∧ m_I x q 3 = nI pl) (fun k x hk hx K hK => ?_) (fun x hx K => ?_) ⟨eqD.rf, ha, hp⟩
  · obtain ⟨h1, h2, h3⟩ := hx
    have hx' := h.x hq h1
    have hN := h.1
    show p_X6_word_L0b q (fun μ => K μ) x Q
    unfold p_X6_word_L0b
    rw [s_isLetter hx' h2 (by omega), if_pos (show pl + k < N ∧ isL (b (pl + k)) = true from ⟨by omega, r3 _ (by omega) (by omega)⟩), if_neg (by decide)]
    simp only [forall_eq, ml_uI, h2, nI_1]
    refine hK _ ⟨h1.tr (ml_st ⟨by decide, by decide⟩), ?_, ?_⟩
    · rw [ml_Is, ml_us]; rfl
    · rw [ml_Is, ml_un (by decide)]; exact h3
  · obtain ⟨h1, h2, h3⟩ := hx
    have hx' := h.x hq h1
    have ho' := old.x ho hq h1
    have hN := h.1
    rw [show pl + (a' - pl) = a' by omega] at h2
    have hl : ∀ j, pl ≤ j → j < a' → b j < 128 := fun j j1 j2 => by
      have := r3 j j1 j2
      unfold isL at this
      simp only [Bool.or_eq_true, Bool.and_eq_true, decide_eq_true_eq] at this
      omega
    show p_X6_word_L0b q (fun μ => K μ) x Q
    unfold p_X6_word_L0b
    rw [s_isLetter hx' h2 (by omega), if_neg r4, if_pos rfl]
    refine s_wordOf ho' hx' (by omega) h2 h3 r1 r2 hl (r := 2) (base := 0) (Or.inl ⟨rfl, rfl⟩) ?_
    refine s_wordOf ho' hx' (by omega) h2 h3 r1 r2 hl (r := 3) (base := 12) (Or.inr ⟨rfl, rfl⟩) ?_
    have w24 : wdT (ltr b pl (a' - pl)) = match ff (fun w => decide (WD.getD w [] = ltr b pl (a' - pl))) (12 + 12) with | some w => (1, w) | none => (4, 0) := rfl
    rw [ff_add] at w24
    simp only [Nat.zero_add]
    generalize hA : ff (fun w => decide (WD.getD w [] = ltr b pl (a' - pl))) 12 = oA at w24
    generalize hB : ff (fun w => decide (WD.getD (12 + w) [] = ltr b pl (a' - pl))) 12 = oB at w24
    have fin : ∀ s t, wdT (ltr b pl (a' - pl)) = (s, t) → ∀ u v, u = kdT s t → v = nmS s t → s ≠ 2 → Q (m_sI (m_sI x q (ml_u (m_I x q) 6 v)) q (ml_u (m_I (m_sI x q (ml_u (m_I x q) 6 v)) q) 4 u)) := by
      rintro s t e _ _ rfl rfl s2
      refine hQ _ ((h1.tr (ml_st ⟨by decide, by decide⟩)).tr (ml_st ⟨by decide, by decide⟩)) ?_
      rw [e]
      refine ⟨?_, fun h => absurd h s2, ?_, ?_, ?_⟩
      · rw [ml_Is, ml_us]
      · rw [ml_Is, ml_un (by decide), ml_Is, ml_us]
      · rw [ml_Is, ml_un (by decide), ml_Is, ml_un (by decide)]; exact h3
      · rw [ml_Is, ml_un (by decide), ml_Is, ml_un (by decide)]; exact h2
    rintro μ14 rfl
    rw [ml_uI]
    cases oA with
    | some w =>
      have wl := ff_lt hA
      dsimp only at w24 ⊢
      rw [if_neg (nI_pos (by omega))]
      rintro μ19 rfl
      rw [ml_uI, show (310 : Int32) = nI 310 from rfl, nI_add]
      cases oB with
      | some w2 => 
        exact (wd_two hA hB).elim
      | none =>
        refine fin 1 w w24 _ _ ?_ ?_ (by decide)
        · unfold kdT
          rw [if_neg (by decide), if_pos rfl, if_pos wl]
        · unfold nmS
          rw [if_neg (by omega)]
    | none =>
      dsimp only at w24 ⊢
      rw [if_pos (show (-1 : Int32) < 0 by decide), ml_Is, ml_us]
      cases oB with
      | some w2 =>
        have w2l := ff_lt hB
        dsimp only at w24 ⊢
        rw [if_neg (nI_pos (by omega))]
        rintro μ19 rfl
        rw [ml_uI]
        refine fin 1 (12 + w2) w24 _ _ ?_ ?_ (by decide)
        · unfold kdT
          rw [if_neg (by decide), if_pos rfl, if_neg (by omega)]
        · unfold nmS
          rw [if_pos ⟨rfl, by omega⟩, show 12 + w2 - 12 = w2 by omega]
      | none =>
        dsimp only at w24 ⊢
        rw [if_pos (show (-1 : Int32) < 0 by decide)]
        rintro μ19 rfl
        rw [ml_uI]
        exact fin 4 0 w24 _ _ rfl rfl (by decide)
end NX
