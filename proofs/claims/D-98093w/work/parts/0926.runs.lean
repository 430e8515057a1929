/-! plain law: text, the machine follows the reading: the loops -/
def mP (P : List (Nat × Nat)) : List PO := P.map fun x => (nI x.1, 0)
theorem go_f {Q : Int32 → fw_M → Prop} {T U : fw_M → Prop} (h : ∀ ν, ¬ T ν) : go Q T U := ⟨0, fun _ ν t => absurd t (h ν)⟩
section RU
variable (b : Nat → Nat) (N : Nat) (ν0 : fw_M) (Q : Int32 → fw_M → Prop) (cl : List CE) (nc kd : Nat)
/-- the machine, in state sB, follows a reading and comes to state sA; waits of a rank above rk are left, n at most -/
def RUN (one : List Tok → PX) (sB sA : Nat) (fr : List (Nat × Nat)) (op rk c n : Nat) (stop : Tok → Prop) : Prop := ∀ (l : List Tok) (ws : List (Nat × Nat)) (os : List PO), (∀ x, x ∈ ws → x.2 ≤ fr.length) → (∀ x r, ws = x :: r → x.2 = fr.length → rkN x.1 ≤ rk) → ws.length ≤ c → os.length + ws.length + l.length ≤ 310 →
  match one l with
  | .ok z => ∃ P e, z.1 = e ++ mP P ∧ (∀ x, x ∈ P → x.2 = fr.length ∧ rk + 1 ≤ rkN x.1) ∧ P.length ≤ n ∧ (∀ x r, z.2 = x :: r → stop x) ∧ go Q (fun ν => mc b N ν0 ν l sB fr ws os cl nc kd op) (fun ν => mc b N ν0 ν z.2 sA fr (P ++ ws) (os ++ e) cl nc kd op)
  | .error e => go Q (fun ν => mc b N ν0 ν l sB fr ws os cl nc kd op) (er ν0 e)
end RU
section RU2
variable {b : Nat → Nat} {N : Nat} {ν0 : fw_M} {Q : Int32 → fw_M → Prop} {cl : List CE} {nc kd : Nat}
theorem no_nil {ν : fw_M} {st : Nat} {fr ws : List (Nat × Nat)} {os : List PO} {op : Nat} : ¬ mc b N ν0 ν [] st fr ws os cl nc kd op := fun h => by
  obtain ⟨-, -, -, ⟨s, t, pl, a', r, e, -⟩, -⟩ := h
  cases e
theorem ser_run {one : List Tok → PX} {f : Nat → Nat → Option Int32} {sB sA : Nat} {fr : List (Nat × Nat)} {op rk c n : Nat} {stop : Tok → Prop} (hc : c + n + 3 < 80) (gd1 : goodP kd one) (hfo : okF f) (h1 : RUN b N ν0 Q cl nc kd one sB sA fr op (rk + 1) (c + 1) n stop)
    (hf : ∀ s t i, f s t = some i → ∃ o, i = nI o ∧ o < 500 ∧ rkN o = rk + 1)
    (hs : ∀ (x : Tok) (r : List Tok) (o : Nat) (P ws : List (Nat × Nat)) (os : List PO), f x.1 x.2.1 = some (nI o) → o < 500 → rkN o = rk + 1 → (∀ x, x ∈ P → x.2 = fr.length ∧ rkN o ≤ rkN x.1) → (∀ x r, ws = x :: r → x.2 = fr.length → rkN x.1 < rkN o) → (P ++ ws).length < 80 → os.length + P.length ≤ 400 → go Q (fun ν => mc b N ν0 ν (x :: r) sA fr (P ++ ws) os cl nc kd op) (fun ν => mc b N ν0 ν r sB fr ((o, fr.length) :: ws) (os ++ mP P) cl nc kd op)) :
    RUN b N ν0 Q cl nc kd (serP one f) sB sA fr op rk c (n + 1) (fun x => stop x ∧ f x.1 x.2.1 = none) := by
  intro l ws os w1 w2 w3 w4
  -- the loop
  have loop : ∀ (k : Nat) (acc : List PO) (m : List Tok) (P : List (Nat × Nat)) (e : List PO), m.length ≤ k → acc = e ++ mP P → (∀ x, x ∈ P → x.2 = fr.length ∧ rk + 1 ≤ rkN x.1) → P.length ≤ n + 1 → (∀ x r, m = x :: r → stop x) → os.length + acc.length + ws.length + m.length ≤ 310 →
      match loopP one f k acc m with
      | .ok z => ∃ P' e', z.1 = e' ++ mP P' ∧ (∀ x, x ∈ P' → x.2 = fr.length ∧ rk + 1 ≤ rkN x.1) ∧ P'.length ≤ n + 1 ∧ (∀ x r, z.2 = x :: r → stop x ∧ f x.1 x.2.1 = none) ∧ go Q (fun ν => mc b N ν0 ν m sA fr (P ++ ws) (os ++ e) cl nc kd op) (fun ν => mc b N ν0 ν z.2 sA fr (P' ++ ws) (os ++ e') cl nc kd op)
      | .error i => go Q (fun ν => mc b N ν0 ν m sA fr (P ++ ws) (os ++ e) cl nc kd op) (er ν0 i) := by
    intro k
    induction k with
    | zero =>
      intro acc m P e hm ha hP hPn hst hb
      have m0 : m = [] := List.eq_nil_of_length_eq_zero (by omega)
      subst m0
      show ∃ P' e', _
      exact ⟨P, e, ha, hP, hPn, (fun x r h => by cases h), go_f fun ν => no_nil⟩
    | succ k ih =>
      intro acc m P e hm ha hP hPn hst hb
      cases m with
      | nil =>
        show ∃ P' e', _
        exact ⟨P, e, ha, hP, hPn, (fun x r h => by cases h), go_f fun ν => no_nil⟩
      | cons x r =>
        have e1 : loopP one f (k + 1) acc (x :: r) = (match f x.1 x.2.1 with | none => .ok (acc, x :: r) | some o => thenP (one r) fun os r2 => loopP one f k (acc ++ os ++ [(o, 0)]) r2) := rfl
        rw [e1]
        cases hfx : f x.1 x.2.1 with
        | none => exact ⟨P, e, ha, hP, hPn, (fun y r' h => by cases h; exact ⟨hst _ _ rfl, hfx⟩), go_rf⟩
        | some i =>
          obtain ⟨o, rfl, o5, ork⟩ := hf _ _ _ hfx
          have al : acc.length = e.length + P.length := by rw [ha, List.length_append]; unfold mP; rw [List.length_map]
          have hm' : r.length + 1 ≤ k + 1 := hm
          have hb' : os.length + acc.length + ws.length + (r.length + 1) ≤ 310 := hb
          have s1 := hs x r o P ws (os ++ e) hfx o5 ork (fun y hy => ⟨(hP y hy).1, by rw [ork]; exact (hP y hy).2⟩) (fun y r' h h2 => by rw [ork]; exact Nat.lt_succ_of_le (w2 y r' h h2)) (by rw [List.length_append]; omega) (by rw [List.length_append]; omega)
          have s2 := h1 r ((o, fr.length) :: ws) (os ++ e ++ mP P) (fun y hy => by
            rcases List.mem_cons.mp hy with rfl | hy
            · exact Nat.le_refl _
            · exact w1 y hy) (fun y r' h h2 => by cases h; exact Nat.le_of_eq ork) (by show ws.length + 1 ≤ c + 1; omega) (by
            have : (mP P).length = P.length := by unfold mP; rw [List.length_map]
            rw [List.length_append, List.length_append, this]
            show os.length + e.length + P.length + (ws.length + 1) + r.length ≤ 310
            omega)
          cases ho : one r with
          | error i =>
            rw [ho] at s2
            exact go_tr s1 s2
          | ok z =>
            rw [ho] at s2
            obtain ⟨P2, e2, z1, z2, z3, z4, z5⟩ := s2
            obtain ⟨r1, r2, -⟩ := gd1 r z ho
            have zl : z.1.length = e2.length + P2.length := by rw [z1, List.length_append]; unfold mP; rw [List.length_map]
            have acc2 : acc ++ z.1 ++ [(nI o, 0)] = (e ++ mP P ++ e2) ++ mP (P2 ++ [(o, fr.length)]) := by
              rw [ha, z1]
              unfold mP
              rw [List.map_append]
              simp only [List.append_assoc]
              rfl
            have := ih (acc ++ z.1 ++ [(nI o, 0)]) z.2 (P2 ++ [(o, fr.length)]) (e ++ mP P ++ e2) (by omega) acc2 (fun y hy => by
              rcases List.mem_append.mp hy with hy | hy
              · exact ⟨(z2 y hy).1, Nat.le_of_succ_le (z2 y hy).2⟩
              · rcases List.mem_cons.mp hy with rfl | hy
                · exact ⟨rfl, Nat.le_of_eq ork.symm⟩
                · cases hy) (by rw [List.length_append]; show P2.length + 1 ≤ n + 1; omega) z4 (by
              rw [List.length_append, List.length_append]
              show os.length + (acc.length + z.1.length + 1) + ws.length + z.2.length ≤ 310
              omega)
            have link : go Q (fun ν => mc b N ν0 ν (x :: r) sA fr (P ++ ws) (os ++ e) cl nc kd op) (fun ν => mc b N ν0 ν z.2 sA fr ((P2 ++ [(o, fr.length)]) ++ ws) (os ++ (e ++ mP P ++ e2)) cl nc kd op) := by
              refine go_tr s1 ?_
              have q : P2 ++ (o, fr.length) :: ws = (P2 ++ [(o, fr.length)]) ++ ws := by rw [List.append_assoc]; rfl
              have q2 : os ++ e ++ mP P ++ e2 = os ++ (e ++ mP P ++ e2) := by simp only [List.append_assoc]
              rw [← q, ← q2]
              exact z5
            show match loopP one f k (acc ++ z.1 ++ [(nI o, 0)]) z.2 with | .ok z => _ | .error i => _
            cases hl : loopP one f k (acc ++ z.1 ++ [(nI o, 0)]) z.2 with
            | error i =>
              rw [hl] at this
              exact go_tr link this
            | ok u =>
              rw [hl] at this
              obtain ⟨P3, e3, u1, u2, u3, u4, u5⟩ := this
              exact ⟨P3, e3, u1, u2, u3, u4, go_tr link u5⟩
  have s0 := h1 l ws os w1 (fun x r h h2 => Nat.le_succ_of_le (w2 x r h h2)) (by omega) w4
  have es : serP one f l = thenP (one l) fun os r => loopP one f r.length os r := rfl
  rw [es]
  cases ho : one l with
  | error i => rw [ho] at s0; exact s0
  | ok z =>
    rw [ho] at s0
    obtain ⟨P2, e2, z1, z2, z3, z4, z5⟩ := s0
    obtain ⟨r1, r2, -⟩ := gd1 l z ho
    have := loop z.2.length z.1 z.2 P2 e2 (Nat.le_refl _) z1 (fun y hy => ⟨(z2 y hy).1, Nat.le_of_succ_le (z2 y hy).2⟩) (by omega) z4 (by omega)
    show match loopP one f z.2.length z.1 z.2 with | .ok z => _ | .error i => _
    cases hl : loopP one f z.2.length z.1 z.2 with
    | error i =>
      rw [hl] at this
      exact go_tr z5 this
    | ok u =>
      rw [hl] at this
      obtain ⟨P3, e3, u1, u2, u3, u4, u5⟩ := this
      exact ⟨P3, e3, u1, u2, u3, u4, go_tr z5 u5⟩
end RU2
