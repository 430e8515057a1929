/-! plain law: text, the machine follows the reading: one -/
section ON
variable {b : Nat → Nat} {N : Nat} {ν0 : fw_M} {Q : Int32 → fw_M → Prop} {cl : List CE} {nc kd : Nat}
theorem fP_rk : ∀ s t i, fP s t = some i → ∃ o, i = nI o ∧ o < 500 ∧ rkN o = 4 := by
  intro s t i h
  unfold fP at h
  by_cases c : s = 3 ∧ (t = 42 ∨ t = 47)
  · rw [if_pos c] at h
    cases h
    rcases c.2 with rfl | rfl
    · exact ⟨42, rfl, by decide, by decide⟩
    · exact ⟨47, rfl, by decide, by decide⟩
  · rw [if_neg c] at h; cases h
theorem fS_rk : ∀ s t i, fS s t = some i → ∃ o, i = nI o ∧ o < 500 ∧ rkN o = 3 := by
  intro s t i h
  unfold fS at h
  by_cases c : s = 3 ∧ (t = 43 ∨ t = 45)
  · rw [if_pos c] at h
    cases h
    rcases c.2 with rfl | rfl
    · exact ⟨43, rfl, by decide, by decide⟩
    · exact ⟨45, rfl, by decide, by decide⟩
  · rw [if_neg c] at h; cases h
theorem fP_tok {s t o : Nat} (h5 : o < 500) (h : fP s t = some (nI o)) : s = 3 ∧ t = o ∧ (o = 42 ∨ o = 47) := by
  unfold fP at h
  by_cases c : s = 3 ∧ (t = 42 ∨ t = 47)
  · rw [if_pos c] at h
    have e := (nI_eq (by omega) (by omega)).mp (Option.some.inj h)
    exact ⟨c.1, e, by omega⟩
  · rw [if_neg c] at h; cases h
theorem fS_tok {s t o : Nat} (h5 : o < 500) (h : fS s t = some (nI o)) : s = 3 ∧ t = o ∧ (o = 43 ∨ o = 45) := by
  unfold fS at h
  by_cases c : s = 3 ∧ (t = 43 ∨ t = 45)
  · rw [if_pos c] at h
    have e := (nI_eq (by omega) (by omega)).mp (Option.some.inj h)
    exact ⟨c.1, e, by omega⟩
  · rw [if_neg c] at h; cases h
def ONE (b : Nat → Nat) (N : Nat) (ν0 : fw_M) (Q : Int32 → fw_M → Prop) (cl : List CE) (nc kd : Nat) (one : List Tok → PX) (op : Nat) : Prop := ∀ (k : Nat) (y : Nat × Nat) (r0 : List (Nat × Nat)) (l : List Tok) (ws : List (Nat × Nat)) (os : List PO), y.1 ≠ 7 → k ≤ op → r0.length + 1 + k ≤ op + 2 → (∀ x, x ∈ ws → x.2 ≤ r0.length + 1) → ws.length ≤ 2 * (r0.length + 1) → os.length + ws.length + k + l.length ≤ 310 →
  match one l with
  | .ok z => go Q (fun ν => mc b N ν0 ν l 1 (rep k 7 ++ y :: r0) ws os cl nc kd op) (fun ν => mc b N ν0 ν z.2 2 (y :: r0) ws (os ++ z.1 ++ repO k 402) cl nc kd (op - k))
  | .error e => go Q (fun ν => mc b N ν0 ν l 1 (rep k 7 ++ y :: r0) ws os cl nc kd op) (er ν0 e)
theorem ONE.run {one : List Tok → PX} {op : Nat} (h : ONE b N ν0 Q cl nc kd one op) {y : Nat × Nat} {r0 : List (Nat × Nat)} (hy : y.1 ≠ 7) (hr : r0.length + 1 ≤ op + 2) : RUN b N ν0 Q cl nc kd one 1 2 (y :: r0) op 4 (2 * (r0.length + 1)) 0 (fun _ => True) := by
  intro l ws os w1 w2 w3 w4
  have := h 0 y r0 l ws os hy (Nat.zero_le _) hr w1 w3 (by omega)
  cases ho : one l with
  | error e => rw [ho] at this; exact this
  | ok z =>
    rw [ho] at this
    refine ⟨[], z.1, (by unfold mP; rw [List.map_nil, List.append_nil]), (fun x hx => by cases hx), Nat.le_refl _, (fun _ _ _ => trivial), ?_⟩
    have e : os ++ z.1 ++ repO 0 402 = os ++ z.1 := List.append_nil _
    have t2 : go Q (fun ν => mc b N ν0 ν l 1 (rep 0 7 ++ y :: r0) ws os cl nc kd op) (fun ν => mc b N ν0 ν z.2 2 (y :: r0) ws (os ++ z.1 ++ repO 0 402) cl nc kd (op - 0)) := this
    rw [e] at t2
    exact t2
theorem ONE.sum {one : List Tok → PX} {op : Nat} (hop : op ≤ 8) (hg : goodP kd one) (h : ONE b N ν0 Q cl nc kd one op) {y : Nat × Nat} {r0 : List (Nat × Nat)} (hy : y.1 ≠ 7) (hr : r0.length + 1 ≤ op + 2) : RUN b N ν0 Q cl nc kd (sumP one) 1 2 (y :: r0) op 2 (2 * r0.length) 2 (fun x => (True ∧ fP x.1 x.2.1 = none) ∧ fS x.1 x.2.1 = none) := by
  have r1 := h.run hy hr
  have p := ser_run (rk := 3) (c := 2 * r0.length + 1) (n := 0) (by omega) hg fP_ok (by rw [show 2 * r0.length + 1 + 1 = 2 * (r0.length + 1) by omega]; exact r1) fP_rk (fun x r o P ws os hf o5 ork hP hw hl ho => by
    obtain ⟨x3, xo, oo⟩ := fP_tok o5 hf
    exact g_act ⟨x3, xo⟩ (by omega) rfl (by show r0.length + 1 < 40; omega) hP hw hl ho)
  exact ser_run (rk := 2) (c := 2 * r0.length) (n := 1) (by omega) (ser_good hg fP_ok) fS_ok p fS_rk (fun x r o P ws os hf o5 ork hP hw hl ho => by
    obtain ⟨x3, xo, oo⟩ := fS_tok o5 hf
    exact g_act ⟨x3, xo⟩ (by omega) rfl (by show r0.length + 1 < 40; omega) hP hw hl ho)
theorem nAct_of {x : Tok} (h : (True ∧ fP x.1 x.2.1 = none) ∧ fS x.1 x.2.1 = none) : nAct x := by
  rintro ⟨c, d⟩
  have h1 := h.1.2
  have h2 := h.2
  unfold fP at h1
  unfold fS at h2
  by_cases q : x.2.1 = 42 ∨ x.2.1 = 47
  · rw [if_pos ⟨c, q⟩] at h1; cases h1
  · rw [if_pos ⟨c, by omega⟩] at h2; cases h2
theorem rep_len {k f : Nat} {y : Nat × Nat} {r0 : List (Nat × Nat)} : (rep k f ++ y :: r0).length = k + (r0.length + 1) := by
  rw [List.length_append, List.length_replicate, List.length_cons]
theorem g_one (hkd : kd ≤ 2) : ∀ d, d ≤ 8 → ONE b N ν0 Q cl nc kd (pOne kd d) (8 - d) := by
  intro d
  induction d with
  | zero =>
    intro _ k y r0 l ws os hy hk hr w1 w3 w4
    cases l with
    | nil => exact go_f fun ν => no_nil
    | cons x r =>
      have hb : (rep k 7 ++ y :: r0).length < 40 := by rw [rep_len]; omega
      have w4' : os.length + ws.length + k + (r.length + 1) ≤ 310 := w4
      show match oneP kd none (x :: r) with | .ok z => _ | .error e => _
      simp only [oneP]
      by_cases c1 : x.1 = 2
      · rw [if_pos c1]
        by_cases c2 : x.2.1 ≤ 9999
        · rw [if_pos c2]
          exact g_leaf hy hk hb (by omega) hkd (Or.inl ⟨c1, c2, rfl⟩)
        · rw [if_neg c2]
          exact g_leafE hkd (Or.inl ⟨c1, by omega, rfl⟩)
      rw [if_neg c1]
      by_cases c3 : x.1 = 1 ∧ 12 ≤ x.2.1
      · rw [if_pos c3]
        by_cases c2 : mayN (x.2.1 - 12) kd = true
        · rw [if_pos c2]
          exact g_leaf hy hk hb (by omega) hkd (Or.inr ⟨c3.1, c3.2, c2, rfl⟩)
        · rw [if_neg c2]
          exact g_leafE hkd (Or.inr ⟨c3.1, c3.2, c2, rfl⟩)
      rw [if_neg c3]
      by_cases c4 : x.1 = 3 ∧ x.2.1 = 40
      · rw [if_pos c4]
        exact g_openE c4 (Or.inl rfl) hb
      rw [if_neg c4]
      by_cases c6 : x.1 = 3 ∧ x.2.1 = 45
      · rw [if_pos c6]
        exact g_openE c6 (Or.inr rfl) hb
      rw [if_neg c6]
      exact g_noOne c1 c3 c4 c6
  | succ d ih =>
    intro hd k y r0 l ws os hy hk hr w1 w3 w4
    have IH := ih (by omega)
    obtain ⟨op, hop⟩ : ∃ op, op = 8 - (d + 1) := ⟨_, rfl⟩
    rw [← hop] at hk hr ⊢
    rw [show 8 - d = op + 1 by omega] at IH
    cases l with
    | nil => exact go_f fun ν => no_nil
    | cons x r =>
      have hb : (rep k 7 ++ y :: r0).length < 40 := by rw [rep_len]; omega
      have w4' : os.length + ws.length + k + (r.length + 1) ≤ 310 := w4
      show match oneP kd (some (pOne kd d)) (x :: r) with | .ok z => _ | .error e => _
      simp only [oneP]
      by_cases c1 : x.1 = 2
      · rw [if_pos c1]
        by_cases c2 : x.2.1 ≤ 9999
        · rw [if_pos c2]
          exact g_leaf hy hk hb (by omega) hkd (Or.inl ⟨c1, c2, rfl⟩)
        · rw [if_neg c2]
          exact g_leafE hkd (Or.inl ⟨c1, by omega, rfl⟩)
      rw [if_neg c1]
      by_cases c3 : x.1 = 1 ∧ 12 ≤ x.2.1
      · rw [if_pos c3]
        by_cases c2 : mayN (x.2.1 - 12) kd = true
        · rw [if_pos c2]
          exact g_leaf hy hk hb (by omega) hkd (Or.inr ⟨c3.1, c3.2, c2, rfl⟩)
        · rw [if_neg c2]
          exact g_leafE hkd (Or.inr ⟨c3.1, c3.2, c2, rfl⟩)
      rw [if_neg c3]
      by_cases c4 : x.1 = 3 ∧ x.2.1 = 40
      · rw [if_pos c4]
        have s1 := g_open (b := b) (N := N) (ν0 := ν0) (Q := Q) (cl := cl) (nc := nc) (kd := kd) (ws := ws) (os := os) (r := r) c4 (Or.inl ⟨rfl, rfl⟩) hb (show op < 8 by omega)
        have s2 := (IH.sum (by omega) (pOne_good hkd d) (y := (6, 0)) (r0 := rep k 7 ++ y :: r0) (by decide) (by rw [rep_len]; omega)) r ws os (fun z hz => by
          have := w1 z hz
          show z.2 ≤ (rep k 7 ++ y :: r0).length + 1
          rw [rep_len]; omega) (fun z r' h h2 => by
          have := w1 z (by rw [h]; exact List.mem_cons_self ..)
          have h3 : z.2 = (rep k 7 ++ y :: r0).length + 1 := h2
          rw [rep_len] at h3
          omega) (by rw [rep_len]; omega) (by omega)
        cases hz : sumP (pOne kd d) r with
        | error e => rw [hz] at s2; exact go_tr s1 s2
        | ok z =>
          rw [hz] at s2
          obtain ⟨P, e, z1, z2, z3, z4, z5⟩ := s2
          obtain ⟨q1, q2, -⟩ := sum_good (pOne_good hkd d) r z hz
          have zl : z.1.length = e.length + P.length := by rw [z1, List.length_append]; unfold mP; rw [List.length_map]
          have s3 := go_tr s1 z5
          show match (if isT z.2 3 41 = true then Except.ok (z.1, z.2.tail) else Except.error (1, plOf z.2) : PX) with | .ok z => _ | .error e => _
          cases hz2 : z.2 with
          | nil =>
            rw [hz2] at s3
            exact go_tr s3 (go_f fun ν => no_nil)
          | cons w r3 =>
            rw [hz2] at s3 q1
            have q1' : r3.length + 1 < r.length := q1
            by_cases c5 : isT (w :: r3) 3 41 = true
            · rw [if_pos c5]
              have w41 : w.1 = 3 ∧ w.2.1 = 41 := by
                unfold isT at c5
                rw [Bool.and_eq_true, decide_eq_true_eq, decide_eq_true_eq] at c5
                exact c5
              refine go_tr s3 ?_
              have cc := g_close (b := b) (N := N) (ν0 := ν0) (Q := Q) (cl := cl) (nc := nc) (kd := kd) (op := op + 1) (ws := ws) (os := os ++ e) (r := r3) w41 hy (k := k) (r0 := r0) (by omega) (by rw [rep_len]; omega) (P := P) (fun x hx => z2 x hx) (fun x r' h h2 => by
                have := w1 x (by rw [h]; exact List.mem_cons_self ..)
                rw [rep_len] at h2
                omega) (by rw [List.length_append]; omega) (by rw [List.length_append]; omega)
              rw [show op + 1 - 1 - k = op - k by omega] at cc
              have q : os ++ e ++ (P.map fun x => (nI x.1, 0)) = os ++ z.1 := by rw [z1, List.append_assoc]; rfl
              rw [q] at cc
              exact cc
            · rw [if_neg c5]
              refine go_tr s3 (g_noGo (nAct_of (z4 w r3 hz2)) (by rw [rep_len]; omega) (Or.inl ⟨rfl, fun h => c5 ?_⟩))
              unfold isT
              rw [Bool.and_eq_true, decide_eq_true_eq, decide_eq_true_eq]
              exact h
      rw [if_neg c4]
      by_cases c6 : x.1 = 3 ∧ x.2.1 = 45
      · rw [if_pos c6]
        have s1 := g_open (b := b) (N := N) (ν0 := ν0) (Q := Q) (cl := cl) (nc := nc) (kd := kd) (ws := ws) (os := os) (r := r) c6 (Or.inr ⟨rfl, rfl⟩) hb (show op < 8 by omega)
        have s2 := IH (k + 1) y r0 r ws os hy (by omega) (by omega) w1 w3 (by omega)
        cases hz : pOne kd d r with
        | error e => rw [hz] at s2; exact go_tr s1 s2
        | ok z =>
          rw [hz] at s2
          show go Q _ _
          refine go_tr s1 ?_
          rw [show op + 1 - (k + 1) = op - k by omega] at s2
          have q : os ++ (z.1 ++ [(402, 0)]) ++ repO k 402 = os ++ z.1 ++ repO (k + 1) 402 := by
            rw [← List.append_assoc, repO_1]
          rw [q]
          exact s2
      rw [if_neg c6]
      exact g_noOne c1 c3 c4 c6
end ON
