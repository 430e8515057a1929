/-! plain law: text, the machine follows the reading: askings -/
section AS
variable {b : Nat → Nat} {N : Nat} {ν0 : fw_M} {Q : Int32 → fw_M → Prop} {cl : List CE} {nc kd : Nat}
/-- k nots lie on the asking's frame -/
def ASK (b : Nat → Nat) (N : Nat) (ν0 : fw_M) (Q : Int32 → fw_M → Prop) (cl : List CE) (nc kd : Nat) (ask : List Tok → PX) (op : Nat) : Prop := ∀ (k : Nat) (l : List Tok) (ws : List (Nat × Nat)) (os : List PO), k ≤ op → k + 2 ≤ op + 2 → (∀ x, x ∈ ws → x.2 ≤ 1) → ws.length ≤ 2 → os.length + ws.length + k + l.length ≤ 310 →
  match ask l with
  | .ok z => (∀ x r, z.2 = x :: r → nAct x) ∧ go Q (fun ν => mc b N ν0 ν l 0 (rep k 3 ++ [(2, 0)]) ws os cl nc kd op) (fun ν => mc b N ν0 ν z.2 3 [(2, 0)] ws (os ++ z.1 ++ repO k 405) cl nc kd (op - k))
  | .error e => go Q (fun ν => mc b N ν0 ν l 0 (rep k 3 ++ [(2, 0)]) ws os cl nc kd op) (er ν0 e)
theorem ask_sum {one : List Tok → PX} {op : Nat} (hop : op ≤ 8) (hg : goodP kd one) (h : ONE b N ν0 Q cl nc kd one op) {k : Nat} {l : List Tok} {ws : List (Nat × Nat)} {os : List PO} (hk : k ≤ op) (w1 : ∀ x, x ∈ ws → x.2 ≤ 1) (w2 : ws.length ≤ 2) (w3 : os.length + ws.length + k + l.length ≤ 310) (hl : isT l 1 9 = false) :
    match (thenP (sumP one l) fun os r2 => match r2 with
      | [] => .error (1, 0)
      | y :: r3 => if isCmp y.1 y.2.1 = true then thenP (sumP one r3) fun os2 r4 => .ok (os ++ os2 ++ [(nI y.2.1, 0)], r4) else .error (1, y.2.2) : PX) with
    | .ok z => (∀ x r, z.2 = x :: r → nAct x) ∧ go Q (fun ν => mc b N ν0 ν l 0 (rep k 3 ++ [(2, 0)]) ws os cl nc kd op) (fun ν => mc b N ν0 ν z.2 3 [(2, 0)] ws (os ++ z.1 ++ repO k 405) cl nc kd (op - k))
    | .error e => go Q (fun ν => mc b N ν0 ν l 0 (rep k 3 ++ [(2, 0)]) ws os cl nc kd op) (er ν0 e) := by
  have rl : (rep k 3 ++ [((2, 0) : Nat × Nat)]).length = k + 1 := rep_len (r0 := [])
  have s1 : go Q (fun ν => mc b N ν0 ν l 0 (rep k 3 ++ [(2, 0)]) ws os cl nc kd op) (fun ν => mc b N ν0 ν l 1 ((4, 0) :: (rep k 3 ++ [(2, 0)])) ws os cl nc kd op) := by
    cases l with
    | nil => exact go_f fun ν => no_nil
    | cons x r =>
      refine g_left (fun c => ?_) (by rw [rl]; omega)
      have : isT (x :: r) 1 9 = true := by
        unfold isT
        rw [Bool.and_eq_true, decide_eq_true_eq, decide_eq_true_eq]
        exact c
      rw [this] at hl
      cases hl
  have wf : ∀ (f h : Nat) x, x ∈ ws → x.2 ≤ (((f, h) : Nat × Nat) :: (rep k 3 ++ [(2, 0)])).length := fun f h x hx => by
    have := w1 x hx
    show x.2 ≤ (rep k 3 ++ [(2, 0)]).length + 1
    rw [rl]; omega
  have wt : ∀ (f h : Nat) x r, ws = x :: r → x.2 = (((f, h) : Nat × Nat) :: (rep k 3 ++ [(2, 0)])).length → rkN x.1 ≤ 2 := fun f h x r e h2 => by
    have := w1 x (by rw [e]; exact List.mem_cons_self ..)
    have h3 : x.2 = (rep k 3 ++ [((2, 0) : Nat × Nat)]).length + 1 := h2
    rw [rl] at h3
    omega
  have wt3 : ∀ x r, ws = x :: r → x.2 = (rep k 3 ++ [((2, 0) : Nat × Nat)]).length + 1 → rkN x.1 < 3 := fun x r e h2 => by
    have := w1 x (by rw [e]; exact List.mem_cons_self ..)
    rw [rl] at h2
    omega
  have sa := (h.sum hop hg (y := (4, 0)) (r0 := rep k 3 ++ [(2, 0)]) (by decide) (by rw [rl]; omega)) l ws os (wf 4 0) (wt 4 0) (by rw [rl]; omega) (by omega)
  cases hz : sumP one l with
  | error e => rw [hz] at sa; exact go_tr s1 sa
  | ok z =>
    rw [hz] at sa
    obtain ⟨P, e, z1, z2, z3, z4, z5⟩ := sa
    obtain ⟨q1, q2, -⟩ := sum_good hg l z hz
    have zl : z.1.length = e.length + P.length := by rw [z1, List.length_append]; unfold mP; rw [List.length_map]
    have s2 := go_tr s1 z5
    obtain ⟨za, zr⟩ := z
    dsimp only at z1 z4 q1 q2 zl s2
    cases zr with
    | nil => exact go_tr s2 (go_f fun ν => no_nil)
    | cons x r3 =>
      have q1' : r3.length + 1 < l.length := q1
      have q2' : za.length ≤ l.length - (r3.length + 1) := q2
      show match (if isCmp x.1 x.2.1 = true then thenP (sumP one r3) fun os2 r4 => .ok (za ++ os2 ++ [(nI x.2.1, 0)], r4) else .error (1, x.2.2) : PX) with | .ok z => _ | .error e => _
      by_cases c : isCmp x.1 x.2.1 = true
      · rw [if_pos c]
        have s3 := go_tr s2 (g_cmp (b := b) (N := N) (ν0 := ν0) (Q := Q) (cl := cl) (nc := nc) (kd := kd) (op := op) (ws := ws) (os := os ++ e) (r := r3) (r0 := rep k 3 ++ [(2, 0)]) c (by rw [rl]; omega) (P := P) (fun x hx => z2 x hx) wt3 (by rw [List.length_append]; omega) (by rw [List.length_append]; omega))
        have q : os ++ e ++ (P.map fun x => (nI x.1, 0)) = os ++ za := by rw [z1, List.append_assoc]; rfl
        rw [q] at s3
        have sb := (h.sum hop hg (y := (5, x.2.1)) (r0 := rep k 3 ++ [(2, 0)]) (show (5 : Nat) ≠ 7 by decide) (by rw [rl]; omega)) r3 ws (os ++ za) (wf 5 _) (wt 5 _) (by rw [rl]; omega) (by rw [List.length_append]; omega)
        cases hu : sumP one r3 with
        | error e => rw [hu] at sb; exact go_tr s3 sb
        | ok u =>
          rw [hu] at sb
          obtain ⟨P2, e2, u1, u2, u3, u4, u5⟩ := sb
          obtain ⟨v1, v2, -⟩ := sum_good hg r3 u hu
          have ul : u.1.length = e2.length + P2.length := by rw [u1, List.length_append]; unfold mP; rw [List.length_map]
          have s4 := go_tr s3 u5
          show (∀ y r, u.2 = y :: r → nAct y) ∧ go Q _ (fun ν => mc b N ν0 ν u.2 3 [(2, 0)] ws (os ++ (za ++ u.1 ++ [(nI x.2.1, 0)]) ++ repO k 405) cl nc kd (op - k))
          refine ⟨fun y r hy => nAct_of (u4 y r hy), ?_⟩
          cases hu2 : u.2 with
          | nil =>
            rw [hu2] at s4
            exact go_tr s4 (go_f fun ν => no_nil)
          | cons w r4 =>
            rw [hu2] at s4 v1
            have v1' : r4.length + 1 < r3.length := v1
            refine go_tr s4 ?_
            have rr := g_right (b := b) (N := N) (ν0 := ν0) (Q := Q) (cl := cl) (nc := nc) (kd := kd) (op := op) (ws := ws) (os := os ++ za ++ e2) (x := w) (r := r4) (nAct_of (u4 w r4 hu2)) (y := (2, 0)) (r0 := []) (by decide) (k := k) (t := x.2.1) hk (by rw [rl]; omega) (P := P2) (fun x hx => u2 x hx) wt3 (by rw [List.length_append]; omega) (by rw [List.length_append, List.length_append]; omega)
            have q3 : os ++ za ++ e2 ++ (P2.map fun x => (nI x.1, 0)) ++ [(nI x.2.1, 0)] = os ++ (za ++ u.1 ++ [(nI x.2.1, 0)]) := by
              rw [u1]
              unfold mP
              simp only [List.append_assoc]
            rw [q3] at rr
            exact rr
      · rw [if_neg c]
        exact go_tr s2 (g_noGo (nAct_of (z4 x r3 rfl)) (by rw [rl]; omega) (Or.inr (Or.inl ⟨rfl, c⟩)))
theorem g_ask (hkd : kd ≤ 2) : ∀ d, d ≤ 8 → ASK b N ν0 Q cl nc kd (pAsk kd d) (8 - d) := by
  intro d
  induction d with
  | zero =>
    intro _ k l ws os hk hr w1 w2 w3
    show match askP (pOne kd 0) none l with | .ok z => _ | .error e => _
    unfold askP
    by_cases c : isT l 1 9 = true
    · obtain ⟨pl, r, rfl⟩ := isT_c c
      rw [if_pos c]
      exact g_notE ⟨rfl, rfl⟩ (by rw [show (rep k 3 ++ [((2, 0) : Nat × Nat)]).length = k + 1 from rep_len (r0 := [])]; omega)
    · rw [if_neg c]
      exact ask_sum (by omega) (pOne_good hkd 0) (g_one hkd 0 (by omega)) hk w1 w2 w3 (eq_false_of_ne_true c)
  | succ d ih =>
    intro hd k l ws os hk hr w1 w2 w3
    have IH := ih (by omega)
    obtain ⟨op, hop⟩ : ∃ op, op = 8 - (d + 1) := ⟨_, rfl⟩
    have G1 := g_one (b := b) (N := N) (ν0 := ν0) (Q := Q) (cl := cl) (nc := nc) hkd (d + 1) (by omega)
    rw [← hop] at hk hr G1 ⊢
    rw [show 8 - d = op + 1 by omega] at IH
    show match askP (pOne kd (d + 1)) (some (pAsk kd d)) l with | .ok z => _ | .error e => _
    unfold askP
    by_cases c : isT l 1 9 = true
    · obtain ⟨pl, r, rfl⟩ := isT_c c
      rw [if_pos c]
      have w3' : os.length + ws.length + k + (r.length + 1) ≤ 310 := w3
      have s1 := g_not (b := b) (N := N) (ν0 := ν0) (Q := Q) (cl := cl) (nc := nc) (kd := kd) (ws := ws) (os := os) (r := r) (x := (1, 9, pl)) (fr := rep k 3 ++ [(2, 0)]) ⟨rfl, rfl⟩ (by rw [show (rep k 3 ++ [((2, 0) : Nat × Nat)]).length = k + 1 from rep_len (r0 := [])]; omega) (show op < 8 by omega)
      have s2 := IH (k + 1) r ws os (by omega) (by omega) w1 w2 (by omega)
      show match thenP (pAsk kd d r) fun os r2 => .ok (os ++ [(405, 0)], r2) with | .ok z => _ | .error e => _
      cases hz : pAsk kd d r with
      | error e => rw [hz] at s2; exact go_tr s1 s2
      | ok z =>
        rw [hz] at s2
        obtain ⟨n1, s2⟩ := s2
        refine ⟨n1, go_tr s1 ?_⟩
        rw [show op + 1 - (k + 1) = op - k by omega] at s2
        have q : os ++ (z.1 ++ [(405, 0)]) ++ repO k 405 = os ++ z.1 ++ repO (k + 1) 405 := by
          rw [← List.append_assoc, repO_1]
        show go Q _ (fun ν => mc b N ν0 ν z.2 3 [(2, 0)] ws (os ++ (z.1 ++ [(405, 0)]) ++ repO k 405) cl nc kd (op - k))
        rw [q]
        exact s2
    · rw [if_neg c]
      exact ask_sum (by omega) (pOne_good hkd _) G1 hk w1 w2 w3 (eq_false_of_ne_true c)
theorem fA_rk : ∀ s t i, fA s t = some i → ∃ o, i = nI o ∧ o < 500 ∧ rkN o = 2 := by
  intro s t i h
  unfold fA at h
  by_cases c : s = 1 ∧ t = 8
  · rw [if_pos c] at h
    cases h
    exact ⟨406, rfl, by decide, by decide⟩
  · rw [if_neg c] at h; cases h
theorem fO_rk : ∀ s t i, fO s t = some i → ∃ o, i = nI o ∧ o < 500 ∧ rkN o = 1 := by
  intro s t i h
  unfold fO at h
  by_cases c : s = 1 ∧ t = 7
  · rw [if_pos c] at h
    cases h
    exact ⟨407, rfl, by decide, by decide⟩
  · rw [if_neg c] at h; cases h
theorem fA_tok {s t o : Nat} (h5 : o < 500) (h : fA s t = some (nI o)) : s = 1 ∧ t = 8 ∧ o = 406 := by
  unfold fA at h
  by_cases c : s = 1 ∧ t = 8
  · rw [if_pos c] at h
    have e := (nI_eq (a := 406) (by omega) (by omega)).mp (Option.some.inj h)
    exact ⟨c.1, c.2, e.symm⟩
  · rw [if_neg c] at h; cases h
theorem fO_tok {s t o : Nat} (h5 : o < 500) (h : fO s t = some (nI o)) : s = 1 ∧ t = 7 ∧ o = 407 := by
  unfold fO at h
  by_cases c : s = 1 ∧ t = 7
  · rw [if_pos c] at h
    have e := (nI_eq (a := 407) (by omega) (by omega)).mp (Option.some.inj h)
    exact ⟨c.1, c.2, e.symm⟩
  · rw [if_neg c] at h; cases h
theorem g_either (hkd : kd ≤ 2) : RUN b N ν0 Q cl nc kd (eitherP kd) 0 3 [(2, 0)] 0 0 0 2 (fun x => (True ∧ fA x.1 x.2.1 = none) ∧ fO x.1 x.2.1 = none) := by
  have ra : RUN b N ν0 Q cl nc kd (pAsk kd 8) 0 3 [(2, 0)] 0 2 2 0 (fun _ => True) := by
    intro l ws os w1 w2 w3 w4
    have := g_ask (b := b) (N := N) (ν0 := ν0) (Q := Q) (cl := cl) (nc := nc) hkd 8 (by omega) 0 l ws os (by omega) (by omega) w1 w3 (by omega)
    cases ho : pAsk kd 8 l with
    | error e => rw [ho] at this; exact this
    | ok z =>
      rw [ho] at this
      refine ⟨[], z.1, (by unfold mP; rw [List.map_nil, List.append_nil]), (fun x hx => by cases hx), Nat.le_refl _, (fun _ _ _ => trivial), ?_⟩
      have t2 : go Q (fun ν => mc b N ν0 ν l 0 (rep 0 3 ++ [(2, 0)]) ws os cl nc kd 0) (fun ν => mc b N ν0 ν z.2 3 [(2, 0)] ws (os ++ z.1 ++ repO 0 405) cl nc kd (0 - 0)) := this.2
      have e : os ++ z.1 ++ repO 0 405 = os ++ z.1 := List.append_nil _
      rw [e] at t2
      exact t2
  have ga : goodP kd (pAsk kd 8) := fun l y h => (pAsk_good hkd 8 l y h).1
  have rb := ser_run (rk := 1) (c := 1) (n := 0) (by omega) ga fA_ok ra fA_rk (fun x r o P ws os hf o5 ork hP hw hl ho => by
    obtain ⟨x1, x8, rfl⟩ := fA_tok o5 hf
    exact g_and ⟨x1, x8⟩ (Or.inr ⟨rfl, rfl⟩) (by decide) hP hw hl ho)
  exact ser_run (rk := 0) (c := 0) (n := 1) (by omega) (ser_good ga fA_ok) fO_ok rb fO_rk (fun x r o P ws os hf o5 ork hP hw hl ho => by
    obtain ⟨x1, x7, rfl⟩ := fO_tok o5 hf
    exact g_and ⟨x1, x7⟩ (Or.inl ⟨rfl, rfl⟩) (by decide) hP hw hl ho)
end AS
