/-! plain law: text, the reading -/
abbrev PO : Type := Int32 × Int32
abbrev PX : Type := Except (Nat × Nat) (List PO × List Tok)
def mayN (n kd : Nat) : Bool := if kd = 0 then decide (n < 8) else if kd = 1 then decide (n < 4) else decide (6 < n) && decide (n < 12)
def plOf (l : List Tok) : Nat := match l with
  | [] => 0
  | x :: _ => x.2.2
def isT (l : List Tok) (s t : Nat) : Bool := match l with
  | [] => false
  | x :: _ => decide (x.1 = s) && decide (x.2.1 = t)
def thenP {α : Type} (a : PX) (g : List PO → List Tok → Except (Nat × Nat) α) : Except (Nat × Nat) α := match a with
  | .error e => .error e
  | .ok y => g y.1 y.2
def loopP (one : List Tok → PX) (f : Nat → Nat → Option Int32) : Nat → List PO → List Tok → PX
  | 0, acc, l => .ok (acc, l)
  | k + 1, acc, l => match l with
    | [] => .ok (acc, l)
    | x :: r => match f x.1 x.2.1 with
      | none => .ok (acc, l)
      | some o => thenP (one r) fun os r2 => loopP one f k (acc ++ os ++ [(o, 0)]) r2
def serP (one : List Tok → PX) (f : Nat → Nat → Option Int32) (l : List Tok) : PX := thenP (one l) fun os r => loopP one f r.length os r
def fP (s t : Nat) : Option Int32 := if s = 3 ∧ (t = 42 ∨ t = 47) then some (nI t) else none
def fS (s t : Nat) : Option Int32 := if s = 3 ∧ (t = 43 ∨ t = 45) then some (nI t) else none
def fA (s t : Nat) : Option Int32 := if s = 1 ∧ t = 8 then some 406 else none
def fO (s t : Nat) : Option Int32 := if s = 1 ∧ t = 7 then some 407 else none
def prodP (one : List Tok → PX) : List Tok → PX := serP one fP
def sumP (one : List Tok → PX) : List Tok → PX := serP (prodP one) fS
def oneP (kd : Nat) (sub : Option (List Tok → PX)) (l : List Tok) : PX := match l with
  | [] => .error (1, 0)
  | x :: r =>
    if x.1 = 2 then (if x.2.1 ≤ 9999 then .ok ([(400, nI x.2.1)], r) else .error (2, x.2.2))
    else if x.1 = 1 ∧ 12 ≤ x.2.1 then (if mayN (x.2.1 - 12) kd = true then .ok ([(401, nI (x.2.1 - 12))], r) else .error (5, x.2.2))
    else if x.1 = 3 ∧ x.2.1 = 40 then (match sub with
      | none => .error (3, x.2.2)
      | some one => thenP (sumP one r) fun os r2 => if isT r2 3 41 = true then .ok (os, r2.tail) else .error (1, plOf r2))
    else if x.1 = 3 ∧ x.2.1 = 45 then (match sub with
      | none => .error (3, x.2.2)
      | some one => thenP (one r) fun os r2 => .ok (os ++ [(402, 0)], r2))
    else .error (1, x.2.2)
def pOne (kd : Nat) : Nat → List Tok → PX
  | 0 => oneP kd none
  | d + 1 => oneP kd (some (pOne kd d))
def isCmp (s t : Nat) : Bool := decide (s = 3) && (decide (t = 60) || decide (t = 62) || decide (t = 61) || decide (t = 35) || decide (t = 300) || decide (t = 301))
def askP (one : List Tok → PX) (sub : Option (List Tok → PX)) (l : List Tok) : PX :=
  if isT l 1 9 = true then (match sub with
    | none => .error (3, plOf l)
    | some ask => thenP (ask l.tail) fun os r2 => .ok (os ++ [(405, 0)], r2))
  else thenP (sumP one l) fun os r2 => match r2 with
    | [] => .error (1, 0)
    | y :: r3 => if isCmp y.1 y.2.1 = true then thenP (sumP one r3) fun os2 r4 => .ok (os ++ os2 ++ [(nI y.2.1, 0)], r4) else .error (1, y.2.2)
def pAsk (kd : Nat) : Nat → List Tok → PX
  | 0 => askP (pOne kd 0) none
  | d + 1 => askP (pOne kd (d + 1)) (some (pAsk kd d))
def bothP (kd : Nat) : List Tok → PX := serP (pAsk kd 8) fA
def eitherP (kd : Nat) : List Tok → PX := serP (bothP kd) fO
/-- a clause read: word, orders, one, two -/
abbrev CL : Type := Nat × List PO × Int32 × Int32
def numP {α : Type} (lo hi : Nat) (l : List Tok) (g : Nat → List Tok → Except (Nat × Nat) α) : Except (Nat × Nat) α := match l with
  | [] => .error (1, 0)
  | x :: r => if x.1 = 2 then (if lo ≤ x.2.1 ∧ x.2.1 ≤ hi then g x.2.1 r else .error (2, x.2.2)) else .error (1, x.2.2)
def pCl (w : Nat) (l : List Tok) : Except (Nat × Nat) (CL × List Tok) :=
  if w ≤ 1 then thenP (sumP (pOne w 8) l) fun os r => .ok ((w, os, -1, -1), r)
  else if w = 2 then thenP (eitherP w l) fun os r => .ok ((w, os, -1, -1), r)
  else if w = 6 then numP 1 40 l fun v r => .ok ((w, [], nI v, -1), r)
  else if w = 5 then numP 0 1 l fun v r => .ok ((w, [], nI v, -1), r)
  else numP 0 8 l fun v r => if isT r 1 (if w = 3 then 11 else 10) = true then numP 0 (if w = 3 then 2 else 1) r.tail fun u r2 => .ok ((w, [], nI v, nI u), r2) else .error (1, plOf r)
def pRd : Nat → List CL → List Tok → Except (Nat × Nat) (List CL)
  | 0, cl, _ => .ok cl
  | k + 1, cl, l => match l with
    | [] => .ok cl
    | x :: r => if x.1 = 0 then .ok cl
      else if x.1 = 1 ∧ x.2.1 < 7 then
        if x.2.1 ≤ 2 ∧ cl.any (fun c => decide (c.1 = x.2.1)) = true then .error (4, x.2.2)
        else if cl.length = 24 then .error (6, x.2.2)
        else match pCl x.2.1 r with
          | .error e => .error e
          | .ok y => if isT y.2 3 59 = true then pRd k (cl ++ [y.1]) y.2.tail else .error (1, plOf y.2)
      else .error (1, x.2.2)
/-! what a reading's orders are -/
def Fo (os : List PO) (v : Nat → Int32) : Int64 := (iv_run v os []).headD 0
def lo_ (kd : Nat) : Nat := if kd = 2 then 7 else 0
def hi_ (kd : Nat) : Nat := if kd = 0 then 8 else if kd = 1 then 4 else 12
/-- p numbers are laid at most -/
def gd (kd p : Nat) (os : List PO) : Prop := 1 ≤ p ∧ (∀ v st, iv_run v os st = Fo os v :: st) ∧ (∀ m rest h, h + p ≤ m → iv_hok m rest (h + 1) → iv_hok m (os ++ rest) h) ∧ (∀ o, o ∈ os → iv_okO o) ∧ iv_dep (Fo os) (lo_ kd) (hi_ kd)
theorem run_app {v : Nat → Int32} {a b : List PO} {st : List Int64} : iv_run v (a ++ b) st = iv_run v b (iv_run v a st) := List.foldl_append ..
theorem gd_num {kd x : Nat} (h : x ≤ 9999) : gd kd 1 [(400, nI x)] ∧ ∀ v, Fo [(400, nI x)] v = (nI x).toInt64 := by
  have e : ∀ v st, iv_run v [(400, nI x)] st = (nI x).toInt64 :: st := fun v st => by
    show iv_do v (400, nI x) st = _
    unfold iv_do
    rw [if_pos rfl]
  have f : ∀ v, Fo [(400, nI x)] v = (nI x).toInt64 := fun v => by unfold Fo; rw [e]; rfl
  refine ⟨⟨Nat.le_refl _, fun v st => by rw [e, f], fun m rest h h1 h2 => ?_, fun o ho => ?_, fun v v' _ => by rw [f, f]⟩, f⟩
  · show iv_hok m ((400, nI x) :: rest) h
    unfold iv_hok
    rw [if_pos (Or.inl rfl)]
    exact ⟨by omega, h2⟩
  · rcases List.mem_cons.mp ho with rfl | ho
    · exact Or.inl ⟨rfl, x, h, rfl⟩
    · cases ho
theorem may_lt {kd n : Nat} (h : mayN n kd = true) : n < 12 := by
  unfold mayN at h
  by_cases c : kd = 0
  · rw [if_pos c, decide_eq_true_eq] at h; omega
  rw [if_neg c] at h
  by_cases d : kd = 1
  · rw [if_pos d, decide_eq_true_eq] at h; omega
  rw [if_neg d, Bool.and_eq_true, decide_eq_true_eq, decide_eq_true_eq] at h
  exact h.2
theorem gd_name {kd n : Nat} (hk : kd ≤ 2) (h : mayN n kd = true) : gd kd 1 [(401, nI n)] ∧ ∀ v, Fo [(401, nI n)] v = (v n).toInt64 := by
  have hn := may_lt h
  have e : ∀ v st, iv_run v [(401, nI n)] st = (v n).toInt64 :: st := fun v st => by
    show iv_do v (401, nI n) st = _
    unfold iv_do
    rw [if_neg (show ¬ (401 : Int32) = 400 by decide), if_pos rfl]
    show (v (nI n).toNatClampNeg).toInt64 :: st = _
    rw [nI_clamp (by omega)]
  have f : ∀ v, Fo [(401, nI n)] v = (v n).toInt64 := fun v => by unfold Fo; rw [e]; rfl
  refine ⟨⟨Nat.le_refl _, fun v st => by rw [e, f], fun m rest h h1 h2 => ?_, fun o ho => ?_, fun v v' hv => ?_⟩, f⟩
  · show iv_hok m ((401, nI n) :: rest) h
    unfold iv_hok
    rw [if_pos (Or.inr rfl)]
    exact ⟨by omega, h2⟩
  · rcases List.mem_cons.mp ho with rfl | ho
    · exact Or.inr (Or.inl ⟨rfl, n, hn, rfl⟩)
    · cases ho
  · rw [f, f]
    have : lo_ kd ≤ n ∧ n < hi_ kd := by
      unfold mayN at h
      unfold lo_ hi_
      have : kd = 0 ∨ kd = 1 ∨ kd = 2 := by omega
      rcases this with rfl | rfl | rfl
      · simp only [if_true, decide_eq_true_eq] at h; exact ⟨Nat.zero_le _, h⟩
      · simp only [if_true, decide_eq_true_eq, show ¬ (1 : Nat) = 0 by decide, if_false] at h; exact ⟨Nat.zero_le _, h⟩
      · simp only [Bool.and_eq_true, decide_eq_true_eq, show ¬ (2 : Nat) = 0 by decide, show ¬ (2 : Nat) = 1 by decide, if_false] at h; exact ⟨h.1, hn⟩
    rw [hv n this.1 this.2]
theorem gd_un {kd p : Nat} {os : List PO} (g : gd kd p os) {o : Int32} (ho : o = 402 ∨ o = 405) : gd kd p (os ++ [(o, 0)]) ∧ ∀ v, Fo (os ++ [(o, 0)]) v = if o = 402 then -(Fo os v) else 1 - Fo os v := by
  obtain ⟨g1, g2, g3, g4, g5⟩ := g
  have n4 : ¬ o = 400 := by rcases ho with rfl | rfl <;> decide
  have n5 : ¬ o = 401 := by rcases ho with rfl | rfl <;> decide
  have e : ∀ v st, iv_run v (os ++ [(o, 0)]) st = (if o = 402 then -(Fo os v) else 1 - Fo os v) :: st := fun v st => by
    rw [run_app, g2]
    show iv_do v (o, 0) (Fo os v :: st) = _
    unfold iv_do
    rw [if_neg n4, if_neg n5]
    rcases ho with rfl | rfl
    · dsimp only
      rw [if_pos rfl, if_pos rfl]
    · dsimp only
      rw [if_neg (by decide), if_pos rfl, if_neg (by decide)]
  have f : ∀ v, Fo (os ++ [(o, 0)]) v = if o = 402 then -(Fo os v) else 1 - Fo os v := fun v => by
    show (iv_run v (os ++ [(o, 0)]) []).headD 0 = _
    rw [e]; rfl
  refine ⟨⟨g1, fun v st => by rw [e, f], fun m rest h h1 h2 => ?_, fun x hx => ?_, fun v v' hv => by rw [f, f, g5 v v' hv]⟩, f⟩
  · rw [List.append_assoc]
    refine g3 m _ h h1 ?_
    show iv_hok m ((o, 0) :: rest) (h + 1)
    unfold iv_hok
    rw [if_neg (by intro q; exact q.elim n4 n5), if_pos ho]
    exact ⟨by omega, by omega, h2⟩
  · rcases List.mem_append.mp hx with hx | hx
    · exact g4 x hx
    · rcases List.mem_cons.mp hx with rfl | hx
      · rcases ho with rfl | rfl
        · exact Or.inr (Or.inr (Or.inl rfl))
        · exact Or.inr (Or.inr (Or.inr (Or.inl rfl)))
      · cases hx
theorem gd_bi {kd p q : Nat} {a c : List PO} (g : gd kd p a) (k : gd kd q c) {o : Int32} (ho : iv_okO (o, 0)) (n4 : o ≠ 400) (n5 : o ≠ 401) (n2 : o ≠ 402) (n6 : o ≠ 405) : gd kd (p + q) (a ++ c ++ [(o, 0)]) ∧ ∀ v, Fo (a ++ c ++ [(o, 0)]) v = iv_op o (Fo a v) (Fo c v) := by
  obtain ⟨g1, g2, g3, g4, g5⟩ := g
  obtain ⟨k1, k2, k3, k4, k5⟩ := k
  have e : ∀ v st, iv_run v (a ++ c ++ [(o, 0)]) st = iv_op o (Fo a v) (Fo c v) :: st := fun v st => by
    rw [run_app, run_app, g2, k2]
    show iv_do v (o, 0) (Fo c v :: Fo a v :: st) = _
    unfold iv_do
    rw [if_neg n4, if_neg n5]
    dsimp only
    rw [if_neg n2, if_neg n6]
  have f : ∀ v, Fo (a ++ c ++ [(o, 0)]) v = iv_op o (Fo a v) (Fo c v) := fun v => by
    show (iv_run v (a ++ c ++ [(o, 0)]) []).headD 0 = _
    rw [e]; rfl
  refine ⟨⟨by omega, fun v st => by rw [e, f], fun m rest h h1 h2 => ?_, fun x hx => ?_, fun v v' hv => by rw [f, f, g5 v v' hv, k5 v v' hv]⟩, f⟩
  · rw [List.append_assoc, List.append_assoc]
    refine g3 m _ h (by omega) (k3 m _ (h + 1) (by omega) ?_)
    show iv_hok m ((o, 0) :: rest) (h + 1 + 1)
    unfold iv_hok
    rw [if_neg (by intro q; exact q.elim n4 n5), if_neg (by intro q; exact q.elim n2 n6)]
    exact ⟨by omega, by omega, h2⟩
  · rcases List.mem_append.mp hx with hx | hx
    · rcases List.mem_append.mp hx with hx | hx
      · exact g4 x hx
      · exact k4 x hx
    · rcases List.mem_cons.mp hx with rfl | hx
      · exact ho
      · cases hx
