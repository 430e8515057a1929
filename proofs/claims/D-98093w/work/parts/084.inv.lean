/-! plain law: the invariant between the class's cells and the reference's -/
abbrev inB (a b c : Int32) : Prop := ¬ a < b ∧ ¬ c < a
/-- a row read from a place on -/
def iv_sh (a : Nat → Int32) (d : Nat) : Nat → Int32 := fun k => a (d + k)
/-- what the records of spoons sum to for an eater -/
def iv_sum (mr : Nat → Int32) (e : Nat) : Nat → Int32
  | 0 => 0
  | i + 1 => iv_sum mr e i + (if mr (23 + 4 * i) = nI e then mr (23 + 4 * i + 3) else 0)
/-- the class's row sr (25 ints) against the reference's mr (355 ints): n eaters, ns spoons, nd dents -/
def iv_row (n ns nd : Nat) (sr mr : Nat → Int32) : Prop :=
  (∀ k, k < 4 → sr k = mr k) ∧ (∀ e, e < n → sr (4 + e) = mr (4 + e) ∧ sr (13 + e) = mr (13 + e)) ∧ (∀ e, n ≤ e → e < 9 → mr (4 + e) = 2 ∧ mr (13 + e) = 0) ∧
  sr 22 = mr 354 ∧ sr 23 = nI ns ∧ sr 24 = nI nd ∧ mr 22 = nI ns ∧ mr 263 = nI nd ∧ ns ≤ 60 ∧ nd ≤ 30 ∧
  (∀ k, k < 4 → ∃ g, g ≤ 999 ∧ mr k = nI g) ∧ (∀ e, e < n → ∃ x, x ≤ 2 ∧ mr (4 + e) = nI x) ∧ (∀ e, e < 9 → ∃ g, g ≤ 9999 ∧ mr (13 + e) = nI g) ∧ (∃ x, x < 50000 ∧ mr 354 = nI x) ∧
  (∀ e, e < 9 → mr (13 + e) = iv_sum mr e ns)
/-- the records below the counts, held in the class's one table of each -/
def iv_rec (ns nd : Nat) (spoon dent : Nat → Nat → Int32) (mr : Nat → Int32) : Prop :=
  (∀ i, i < ns → ∀ j, j < 4 → spoon i j = mr (23 + 4 * i + j)) ∧ (∀ i, i < nd → ∀ j, j < 3 → dent i j = mr (264 + 3 * i + j))
/-- a court: its scalars E, its rows, against the reference's row a of all -/
def iv_court (n tx st te tl ns nd : Nat) (E hun sto pri now stE : Nat → Int32) (stR spoon dent test tell : Nat → Nat → Int32) (a : Nat → Int32) : Prop :=
  (n ≤ 9 ∧ tx ≤ 4 ∧ st ≤ 30 ∧ te ≤ 12 ∧ tl ≤ 20) ∧
  (E 0 = nI n ∧ E 1 = nI tx ∧ E 2 = a 2 ∧ E 3 = nI st ∧ E 4 = nI te ∧ E 5 = nI tl) ∧
  (a 0 = nI n ∧ a 1 = nI tx ∧ a 3 = nI st ∧ a 4 = nI te ∧ a 5 = nI tl) ∧ (a 2 = -1 ∨ ∃ t, t < tx ∧ a 2 = nI t) ∧
  (∀ e, e < n → hun e = a (10 + 3 * e) ∧ sto e = a (11 + 3 * e) ∧ pri e = a (12 + 3 * e) ∧ (∃ x, x ≤ 9 ∧ hun e = nI x) ∧ (∃ x, 1 ≤ x ∧ x ≤ 9 ∧ sto e = nI x) ∧ ∃ x, x ≤ 99 ∧ pri e = nI x) ∧
  iv_row n ns nd now (iv_sh a 110) ∧ iv_rec ns nd spoon dent (iv_sh a 110) ∧
  (∃ N NS ND : Nat → Nat, (∀ k, k < st → N k ≤ n ∧ stE k = nI (N k) ∧ NS k ≤ ns ∧ ND k ≤ nd ∧ iv_row (N k) (NS k) (ND k) (stR k) (iv_sh a (470 + 355 * k)) ∧ iv_rec (NS k) (ND k) spoon dent (iv_sh a (470 + 355 * k))) ∧ ∀ j k, j < k → k < st → N j ≤ N k ∧ NS j ≤ NS k ∧ ND j ≤ ND k) ∧
  (∀ i, i < te → ∀ j, j < 2 → test i j = a (40 + 2 * i + j)) ∧ (∀ i, i < tl → ∀ j, j < 2 → tell i j = a (64 + 2 * i + j)) ∧
  (∀ i, i < te → (∃ x, x ≤ 40 ∧ test i 0 = nI x - 20) ∧ inB (test i 1) (-1) 1) ∧ (∀ i, i < tl → (∃ x, x < 9 ∧ tell i 0 = nI x) ∧ ∃ x, 1 ≤ x ∧ x ≤ 999 ∧ tell i 1 = nI x)
/-- the court at the place c -/
def iv_C (μ : fw_M) (c : Nat) (a : Nat → Int32) (n tx st te tl ns nd : Nat) : Prop :=
  iv_court n tx st te tl ns nd (m_I μ c) (m_I μ (c + 1)) (m_I μ (c + 2)) (m_I μ (c + 3)) (m_I μ (c + 4)) (m_I μ (c + 5)) (fun k => m_I μ (m_P μ (c + 6) k)) (fun i => m_I μ (c + 38 + i)) (fun i => m_I μ (c + 99 + i)) (fun i => m_I μ (c + 130 + i)) (fun i => m_I μ (c + 143 + i)) a
/-! the texts' trees and orders -/
/-- what no one changes: a tree's cells -/
def iv_ext (μ μ' : fw_M) : Prop := sk_m μ' ∧ m_x μ ≤ m_x μ' ∧ ∀ p, 441 ≤ p → p < m_x μ → 9 ≤ m_K μ p → m_K μ p ≤ 19 → m_S μ' p = m_S μ p ∧ m_I μ' p = m_I μ p ∧ m_P μ' p = m_P μ p
theorem iv_ext.rf {μ : fw_M} (h : sk_m μ) : iv_ext μ μ := ⟨h, Nat.le_refl _, fun _ _ _ _ _ => ⟨rfl, rfl, rfl⟩⟩
theorem iv_ext.tr {a b c : fw_M} (h : iv_ext a b) (g : iv_ext b c) : iv_ext a c := by
  refine ⟨g.1, Nat.le_trans h.2.1 g.2.1, fun p h1 h0 h2 h3 => ?_⟩
  obtain ⟨a1, a2, a3⟩ := h.2.2 p h1 h0 h2 h3
  have e : m_K b p = m_K a p := congrArg Prod.fst a1
  obtain ⟨b1, b2, b3⟩ := g.2.2 p h1 (Nat.lt_of_lt_of_le h0 h.2.1) (by rw [e]; exact h2) (by rw [e]; exact h3)
  exact ⟨b1.trans a1, b2.trans a2, b3.trans a3⟩
/-- the tree at r answers F of the names' values, under every later memory -/
def iv_S (μ : fw_M) (r d : Nat) (F : (Nat → Int32) → Int64) : Prop := 441 ≤ r ∧ 9 ≤ m_K μ r ∧ m_K μ r ≤ 12 ∧ r < m_x μ ∧ ∀ μ', iv_ext μ μ' → ∀ d', d ≤ d' → ∀ Q : Int64 → fw_M → Prop, Q (F (m_I μ' 396)) μ' → p_Sum_of_d d' r 395 μ' Q
/-- .. of an asking: 0 or 1 -/
def iv_A (μ : fw_M) (r d : Nat) (F : (Nat → Int32) → Bool) : Prop := 441 ≤ r ∧ 13 ≤ m_K μ r ∧ m_K μ r ≤ 15 ∧ r < m_x μ ∧ ∀ μ', iv_ext μ μ' → ∀ d', d ≤ d' → ∀ Q : Int32 → fw_M → Prop, Q (if F (m_I μ' 396) = true then 1 else 0) μ' → p_Ask_is_d d' r 395 μ' Q
theorem iv_S.ext {μ μ' : fw_M} {r d : Nat} {F : (Nat → Int32) → Int64} (h : iv_S μ r d F) (g : iv_ext μ μ') : iv_S μ' r d F := by
  obtain ⟨h1, h2, h3, h5, h4⟩ := h
  have e : m_K μ' r = m_K μ r := congrArg Prod.fst (g.2.2 r h1 h5 h2 (by omega)).1
  exact ⟨h1, by rw [e]; exact h2, by rw [e]; exact h3, Nat.lt_of_lt_of_le h5 g.2.1, fun ν hν => h4 ν (g.tr hν)⟩
theorem iv_A.ext {μ μ' : fw_M} {r d : Nat} {F : (Nat → Int32) → Bool} (h : iv_A μ r d F) (g : iv_ext μ μ') : iv_A μ' r d F := by
  obtain ⟨h1, h2, h3, h5, h4⟩ := h
  have e : m_K μ' r = m_K μ r := congrArg Prod.fst (g.2.2 r h1 h5 (by omega) (by omega)).1
  exact ⟨h1, by rw [e]; exact h2, by rw [e]; exact h3, Nat.lt_of_lt_of_le h5 g.2.1, fun ν hν => h4 ν (g.tr hν)⟩
def iv_bnd (v : Int64) : Int64 := if 1000000 < v then 1000000 else if v < -1000000 then -1000000 else v
/-- an order of two on numbers -/
def iv_op (o : Int32) (x y : Int64) : Int64 :=
  if o = 43 then iv_bnd (x + y) else if o = 45 then iv_bnd (x - y) else if o = 42 then iv_bnd (x * y) else if o = 47 then (if y = 0 then 0 else x / y) else
  if o = 60 then (if x < y then 1 else 0) else if o = 62 then (if y < x then 1 else 0) else if o = 61 then (if x = y then 1 else 0) else if o = 35 then (if x = y then 0 else 1) else
  if o = 300 then (if y < x then 0 else 1) else if o = 301 then (if x < y then 0 else 1) else if o = 406 then x * y else (if 0 < x + y then 1 else 0)
/-- one order done on a pile -/
def iv_do (v : Nat → Int32) (o : Int32 × Int32) (st : List Int64) : List Int64 :=
  if o.1 = 400 then o.2.toInt64 :: st else if o.1 = 401 then (v o.2.toNatClampNeg).toInt64 :: st else
  match st with
  | [] => []
  | x :: r => if o.1 = 402 then -x :: r else if o.1 = 405 then (1 - x) :: r else match r with
    | [] => []
    | y :: r2 => iv_op o.1 y x :: r2
def iv_run (v : Nat → Int32) (l : List (Int32 × Int32)) (st : List Int64) : List Int64 := l.foldl (fun s o => iv_do v o s) st
/-- an order that may stand in a text -/
def iv_okO (o : Int32 × Int32) : Prop := (o.1 = 400 ∧ ∃ x, x ≤ 9999 ∧ o.2 = nI x) ∨ (o.1 = 401 ∧ ∃ x, x < 12 ∧ o.2 = nI x) ∨ o.1 = 402 ∨ o.1 = 405 ∨ o.1 = 406 ∨ o.1 = 407 ∨ o.1 = 43 ∨ o.1 = 45 ∨ o.1 = 42 ∨ o.1 = 47 ∨ o.1 = 60 ∨ o.1 = 62 ∨ o.1 = 61 ∨ o.1 = 35 ∨ o.1 = 300 ∨ o.1 = 301
/-- orders l, written in two rows from a place on, with the mark of the end behind them, whose pile is never higher than 190 -/
def iv_at (ord vl : Nat → Int32) (fr : Nat) (l : List (Int32 × Int32)) : Prop :=
  fr + l.length < 1600 ∧ (∀ i, (h : i < l.length) → ord (fr + i) = l[i].1 ∧ vl (fr + i) = l[i].2 ∧ iv_okO l[i]) ∧ ord (fr + l.length) = 408
/-- the pile's height: never above m, never too low for the next order -/
def iv_hok (m : Nat) : List (Int32 × Int32) → Nat → Prop
  | [], h => h ≤ m
  | o :: l, h => h ≤ m ∧ (if o.1 = 400 ∨ o.1 = 401 then iv_hok m l (h + 1) else if o.1 = 402 ∨ o.1 = 405 then 1 ≤ h ∧ iv_hok m l h else 2 ≤ h ∧ iv_hok m l (h - 1))
/-- what a list of orders answers, on any pile -/
def iv_says (l : List (Int32 × Int32)) (F : (Nat → Int32) → Int64) : Prop := iv_hok 190 l 0 ∧ ∀ v st, iv_run v l st = F v :: st
/-- an answer that rests on the names from lo on, below hi, alone -/
def iv_dep {α : Type} (F : (Nat → Int32) → α) (lo hi : Nat) : Prop := ∀ v v', (∀ k, lo ≤ k → k < hi → v k = v' k) → F v = F v'
/-- the law of the text t, on both sides -/
def iv_law (μ : fw_M) (t : Nat) : Prop := ∃ l sp lp cl : Nat, m_P μ 391 t = l ∧ 441 ≤ l ∧ l < m_x μ ∧ m_S μ l = (3, 4) ∧ m_P μ l 0 = sp ∧ 441 ≤ sp ∧ sp < m_x μ ∧ m_S μ sp = (104, 2) ∧ m_P μ l 2 = lp ∧ 441 ≤ lp ∧ lp < m_x μ ∧ m_S μ lp = (105, 24) ∧ cl ≤ 24 ∧ m_I μ l 3 = nI cl ∧ m_I μ 415 t = nI cl ∧
  (∀ q, q < 2 → (m_P μ sp q = 0 ∧ ∀ k, k < cl → m_I μ 416 (24 * t + k) ≠ nI q) ∨ ∃ (k fr d : Nat) (os : List (Int32 × Int32)) (F : (Nat → Int32) → Int64), k < cl ∧ m_I μ 416 (24 * t + k) = nI q ∧ (∀ j, j < cl → m_I μ 416 (24 * t + j) = nI q → j = k) ∧ m_I μ 417 (24 * t + k) = nI fr ∧ 400 * t ≤ fr ∧ fr + os.length < 400 * t + 400 ∧ iv_at (m_I μ 420) (m_I μ 421) fr os ∧ iv_says os F ∧ iv_dep F 0 (if q = 0 then 8 else 4) ∧ d ≤ 400 ∧ iv_S μ (m_P μ sp q) d F) ∧
  ((m_P μ l 1 = 0 ∧ ∀ k, k < cl → m_I μ 416 (24 * t + k) ≠ 2) ∨ ∃ (k fr d : Nat) (os : List (Int32 × Int32)) (F : (Nat → Int32) → Bool), k < cl ∧ m_I μ 416 (24 * t + k) = 2 ∧ (∀ j, j < cl → m_I μ 416 (24 * t + j) = 2 → j = k) ∧ m_I μ 417 (24 * t + k) = nI fr ∧ 400 * t ≤ fr ∧ fr + os.length < 400 * t + 400 ∧ iv_at (m_I μ 420) (m_I μ 421) fr os ∧ iv_says os (fun v => if F v = true then 1 else 0) ∧ iv_dep F 7 12 ∧ d ≤ 400 ∧ iv_A μ (m_P μ l 1) d F) ∧
  ∀ k, k < cl → (m_P μ lp k = 0 ∧ ∃ x, x ≤ 2 ∧ m_I μ 416 (24 * t + k) = nI x) ∨
    (441 ≤ m_P μ lp k ∧ m_P μ lp k < m_x μ ∧ ((m_I μ 416 (24 * t + k) = 3 ∧ m_K μ (m_P μ lp k) = 18 ∧ m_I μ (m_P μ lp k) 0 = m_I μ 418 (24 * t + k) ∧ m_I μ (m_P μ lp k) 1 = m_I μ 419 (24 * t + k)) ∨
      (m_I μ 416 (24 * t + k) = 4 ∧ m_K μ (m_P μ lp k) = 19 ∧ m_I μ (m_P μ lp k) 0 = m_I μ 418 (24 * t + k) ∧ m_I μ (m_P μ lp k) 1 = m_I μ 419 (24 * t + k)) ∨
      (m_I μ 416 (24 * t + k) = 5 ∧ m_K μ (m_P μ lp k) = 16 ∧ m_I μ (m_P μ lp k) 0 = m_I μ 418 (24 * t + k)) ∨
      (m_I μ 416 (24 * t + k) = 6 ∧ m_K μ (m_P μ lp k) = 17 ∧ m_I μ (m_P μ lp k) 0 = m_I μ 418 (24 * t + k))))
/-- the cells there before the start are as they were -/
def iv_old (L : Nat) (xs : Nat → Int32) (z : Nat → Nat) (μ : fw_M) : Prop := ∀ p, p < 64 → m_S μ p = m_S (st_M L xs z) p ∧ m_I μ p = m_I (st_M L xs z) p ∧ m_P μ p = m_P (st_M L xs z) p
/-- the tape and what is told of faults -/
def iv_tape (μ : fw_M) (tp : Nat) : Prop := tp ≤ 300 ∧ m_I μ 64 6 = nI tp ∧ m_I μ 411 3 = nI tp ∧ (∀ i, i < tp → m_I μ 397 i = m_I μ 414 i) ∧ (∀ i, i < 300 → (m_I μ 397 i).toInt8.toInt32 = m_I μ 397 i) ∧ m_I μ 64 7 = m_I μ 411 4 ∧ m_I μ 64 8 = m_I μ 411 5
def iv_inv (L : Nat) (xs : Nat → Int32) (z : Nat → Nat) (μ : fw_M) : Prop := sk_m μ ∧ iv_old L xs z μ ∧ m_I μ 392 3 = 0 ∧
  ∃ n tx st te tl ns nd n' tx' st' te' tl' ns' nd' tp : Nat, iv_C μ 65 (m_I μ 412) n tx st te tl ns nd ∧ iv_C μ 228 (m_I μ 413) n' tx' st' te' tl' ns' nd' ∧ (∀ t, t < tx ∨ t < tx' → iv_law μ t) ∧ iv_tape μ tp
/-- what an operation leaves of the script and of the two objects -/
def iv_scr (μ μ' : fw_M) : Prop := m_S μ' 1 = m_S μ 1 ∧ m_I μ' 1 = m_I μ 1 ∧ m_K μ' 64 = 1 ∧ m_K μ' 411 = 6
/-- an operation: the class's predicate A, then the reference's B, from the invariant to the invariant, with one answer -/
def iv_op2 {α : Type} (A B : fw_M → (α → fw_M → Prop) → Prop) : Prop := ∀ (L : Nat) (xs : Nat → Int32) (z : Nat → Nat) (μ : fw_M), iv_inv L xs z μ → ∀ Qs : α → fw_M → Prop,
  (∀ v μ1, iv_scr μ μ1 → (∀ Qm : α → fw_M → Prop, (∀ μ2, iv_inv L xs z μ2 → iv_scr μ μ2 → Qm v μ2) → B μ1 Qm) → Qs v μ1) → A μ Qs
