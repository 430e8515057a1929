/-! plain law: text, the tokens -/
def isL (c : Nat) : Bool := (decide (97 ≤ c) && decide (c ≤ 122)) || (decide (65 ≤ c) && decide (c ≤ 90))
def isD (c : Nat) : Bool := decide (48 ≤ c) && decide (c ≤ 57)
def isW (c : Nat) : Bool := decide (c = 32) || decide (c = 10)
def isG (c : Nat) : Bool := decide (c = 35) || decide (c = 40) || decide (c = 41) || decide (c = 42) || decide (c = 43) || decide (c = 45) || decide (c = 47) || decide (c = 59) || decide (c = 60) || decide (c = 61) || decide (c = 62)
/-- c is where a run of f from a ends -/
def rn (f : Nat → Bool) (b : Nat → Nat) (N a c : Nat) : Prop := a ≤ c ∧ c ≤ N ∧ (∀ j, a ≤ j → j < c → f (b j) = true) ∧ ¬ (c < N ∧ f (b c) = true)
theorem rn_ex {f : Nat → Bool} {b : Nat → Nat} {N : Nat} : ∀ k a, N - a ≤ k → a ≤ N → ∃ c, rn f b N a c := by
  intro k
  induction k with
  | zero =>
    intro a h1 h2
    exact ⟨a, Nat.le_refl _, h2, fun j j1 j2 => absurd j2 (Nat.not_lt.mpr j1), fun q => by omega⟩
  | succ k ih =>
    intro a h1 h2
    by_cases q : a < N ∧ f (b a) = true
    · obtain ⟨c, c1, c2, c3, c4⟩ := ih (a + 1) (by omega) q.1
      refine ⟨c, by omega, c2, fun j j1 j2 => ?_, c4⟩
      by_cases e : j = a
      · rw [e]; exact q.2
      · exact c3 j (by omega) j2
    · exact ⟨a, Nat.le_refl _, h2, fun j j1 j2 => absurd j2 (Nat.not_lt.mpr j1), q⟩
def WD : List (List Nat) := [[101, 97, 116, 115], [104, 111, 108, 100, 115], [103, 117, 105, 108, 116, 121], [115, 105, 116], [115, 112, 111, 111, 110], [106, 117, 100, 103, 101], [102, 108, 105, 101, 115], [111, 114], [97, 110, 100], [110, 111, 116], [111, 102], [97, 116], [101, 97, 116, 101, 114], [104, 117, 110, 103, 101, 114], [115, 116, 111, 109, 97, 99, 104, 115], [101, 97, 116, 101, 110], [107, 105, 110, 100], [108, 101, 102, 116], [115, 112, 111, 111, 110, 115], [115, 105, 100, 101], [116, 105, 108, 116], [104, 111, 110, 101, 121], [115, 97, 108, 116], [100, 101, 110, 116, 115]]
def ltr (b : Nat → Nat) (pl k : Nat) : List Nat := (List.range k).map fun j => b (pl + j)
def wdT (l : List Nat) : Nat × Nat := match ff (fun w => decide (WD.getD w [] = l)) 24 with
  | some w => (1, w)
  | none => (4, 0)
def nuv (b : Nat → Nat) (pl : Nat) : Nat → Nat
  | 0 => 0
  | k + 1 => min 100000 (10 * nuv b pl k + b (pl + k) - 48)
/-- one token: sort s, told t, from pl, the next from a' -/
def lx (b : Nat → Nat) (N a s t pl a' : Nat) : Prop := rn isW b N a pl ∧
  (if pl = N then s = 0 ∧ t = 0 ∧ a' = N else
   if isL (b pl) = true then rn isL b N pl a' ∧ (s, t) = wdT (ltr b pl (a' - pl)) else
   if isD (b pl) = true then rn isD b N pl a' ∧ s = 2 ∧ t = nuv b pl (a' - pl) else
   if (b pl = 60 ∨ b pl = 62) ∧ pl + 1 < N ∧ b (pl + 1) = 61 then a' = pl + 2 ∧ s = 3 ∧ t = (if b pl = 60 then 300 else 301) else
   a' = pl + 1 ∧ (s, t) = if isG (b pl) = true then (3, b pl) else (4, 0))
theorem wdT_s {l : List Nat} : (wdT l).1 = 1 ∨ (wdT l).1 = 4 := by
  unfold wdT
  split
  · exact Or.inl rfl
  · exact Or.inr rfl
theorem lx_ex {b : Nat → Nat} {N a : Nat} (h : a ≤ N) : ∃ s t pl a', lx b N a s t pl a' ∧ pl ≤ N ∧ a' ≤ N ∧ (s = 0 → a' = N) ∧ (s ≠ 0 → a < a') ∧ s ≤ 4 := by
  obtain ⟨pl, p1⟩ := rn_ex (f := isW) (b := b) (N := N) (N - a) a (Nat.le_refl _) h
  have pa := p1.1
  have pN := p1.2.1
  by_cases e : pl = N
  · exact ⟨0, 0, pl, N, ⟨p1, by rw [if_pos e]; exact ⟨rfl, rfl, rfl⟩⟩, pN, Nat.le_refl _, fun _ => rfl, fun q => absurd rfl q, by decide⟩
  have pl1 : pl < N := by omega
  by_cases l : isL (b pl) = true
  · obtain ⟨a', q⟩ := rn_ex (f := isL) (b := b) (N := N) (N - pl) pl (Nat.le_refl _) pN
    have h1 : pl < a' := by
      apply Classical.byContradiction
      intro hh
      have : a' = pl := by have := q.1; omega
      exact q.2.2.2 (by rw [this]; exact ⟨pl1, l⟩)
    have w := wdT_s (l := ltr b pl (a' - pl))
    have := q.2.1
    exact ⟨(wdT (ltr b pl (a' - pl))).1, (wdT (ltr b pl (a' - pl))).2, pl, a', ⟨p1, by rw [if_neg e, if_pos l]; exact ⟨q, rfl⟩⟩, pN, q.2.1, fun h => by omega, fun _ => by omega, by omega⟩
  by_cases d : isD (b pl) = true
  · obtain ⟨a', q⟩ := rn_ex (f := isD) (b := b) (N := N) (N - pl) pl (Nat.le_refl _) pN
    have h1 : pl < a' := by
      apply Classical.byContradiction
      intro hh
      have : a' = pl := by have := q.1; omega
      exact q.2.2.2 (by rw [this]; exact ⟨pl1, d⟩)
    have := q.2.1
    exact ⟨2, nuv b pl (a' - pl), pl, a', ⟨p1, by rw [if_neg e, if_neg l, if_pos d]; exact ⟨q, rfl, rfl⟩⟩, pN, q.2.1, fun h => by omega, fun _ => by omega, by decide⟩
  by_cases c : (b pl = 60 ∨ b pl = 62) ∧ pl + 1 < N ∧ b (pl + 1) = 61
  · exact ⟨3, if b pl = 60 then 300 else 301, pl, pl + 2, ⟨p1, by rw [if_neg e, if_neg l, if_neg d, if_pos c]; exact ⟨rfl, rfl, rfl⟩⟩, pN, by omega, fun h => by omega, fun _ => by omega, by decide⟩
  · have w : (if isG (b pl) = true then (3, b pl) else (4, 0)).1 = 3 ∨ (if isG (b pl) = true then (3, b pl) else (4, 0)).1 = 4 := by
      split
      · exact Or.inl rfl
      · exact Or.inr rfl
    exact ⟨(if isG (b pl) = true then (3, b pl) else (4, 0)).1, (if isG (b pl) = true then (3, b pl) else (4, 0)).2, pl, pl + 1, ⟨p1, by rw [if_neg e, if_neg l, if_neg d, if_neg c]; exact ⟨rfl, rfl⟩⟩, pN, by omega, fun h => by omega, fun _ => by omega, by omega⟩
abbrev Tok : Type := Nat × Nat × Nat
/-- the tokens from a on -/
def lexes (b : Nat → Nat) (N : Nat) : List Tok → Nat → Prop
  | [], _ => False
  | x :: r, a => ∃ a', lx b N a x.1 x.2.1 x.2.2 a' ∧ x.2.2 ≤ N ∧ a' ≤ N ∧ x.1 ≤ 4 ∧ (x.1 = 0 → r = []) ∧ (x.1 ≠ 0 → a < a' ∧ lexes b N r a')
theorem lexes_ex {b : Nat → Nat} {N : Nat} : ∀ k a, N - a ≤ k → a ≤ N → ∃ l, lexes b N l a := by
  intro k
  induction k with
  | zero =>
    intro a h1 h2
    obtain ⟨s, t, pl, a', q1, q2, q3, q4, q5, q6⟩ := lx_ex (b := b) h2
    have s0 : s = 0 := by
      apply Classical.byContradiction
      intro h
      have := q5 h
      omega
    exact ⟨[(s, t, pl)], a', q1, q2, q3, q6, fun _ => rfl, fun h => absurd s0 h⟩
  | succ k ih =>
    intro a h1 h2
    obtain ⟨s, t, pl, a', q1, q2, q3, q4, q5, q6⟩ := lx_ex (b := b) h2
    by_cases s0 : s = 0
    · exact ⟨[(s, t, pl)], a', q1, q2, q3, q6, fun _ => rfl, fun h => absurd s0 h⟩
    · obtain ⟨l, hl⟩ := ih a' (by have := q5 s0; omega) q3
      exact ⟨(s, t, pl) :: l, a', q1, q2, q3, q6, fun h => absurd h s0, fun h => ⟨q5 h, hl⟩⟩
theorem lexes_len {b : Nat → Nat} {N : Nat} : ∀ (l : List Tok) (a : Nat), lexes b N l a → a ≤ N → l.length ≤ N - a + 1 := by
  intro l
  induction l with
  | nil => intro a h; cases h
  | cons x r ih =>
    intro a h ha
    obtain ⟨a', q1, q2, q3, q6, q4, q5⟩ := h
    by_cases s0 : x.1 = 0
    · rw [q4 s0]
      show 0 + 1 ≤ _
      omega
    · obtain ⟨q7, q8⟩ := q5 s0
      have := ih a' q8 q3
      show r.length + 1 ≤ _
      omega
/-- a byte -/
theorem by_all : ∀ c, c < 256 → ((Int8.ofNat c).toInt32 &&& 255) = nI c ∧ (c < 128 → (Int8.ofNat c).toInt32 = nI c) ∧ (128 ≤ c → (Int8.ofNat c).toInt32 < 0) := by decide +kernel
theorem by_x {x : Int32} (h : x.toInt8.toInt32 = x) : ∃ c, c < 256 ∧ (x &&& 255) = nI c ∧ (c < 128 → x = nI c) ∧ (128 ≤ c → x < 0) := by
  have e : x.toInt8 = Int8.ofNat x.toInt8.toBitVec.toNat := by
    apply Int8.toBitVec_inj.mp
    apply BitVec.eq_of_toNat_eq
    rw [Int8.toBitVec_ofNat', BitVec.toNat_ofNat, Nat.mod_eq_of_lt (BitVec.isLt _)]
  have q := by_all x.toInt8.toBitVec.toNat (BitVec.isLt _)
  rw [← e, h] at q
  exact ⟨_, BitVec.isLt _, q⟩
