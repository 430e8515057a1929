/-! THE FRAME WORK: one abstract memory for the whole run (ints, longs, references by places, shapes, the next place); the judgement fw_V over the kit's W -/
abbrev fw_M : Type := (Nat → Nat → Int32) × (Nat → Nat → Int64) × (Nat → Nat → Nat) × (Nat → Nat × Nat) × Nat
def m_I (μ : fw_M) (p i : Nat) : Int32 := μ.1 p i
def m_L (μ : fw_M) (p i : Nat) : Int64 := μ.2.1 p i
def m_P (μ : fw_M) (p i : Nat) : Nat := μ.2.2.1 p i
def m_S (μ : fw_M) (p : Nat) : Nat × Nat := μ.2.2.2.1 p
def m_K (μ : fw_M) (p : Nat) : Nat := (μ.2.2.2.1 p).1
def m_N (μ : fw_M) (p : Nat) : Nat := (μ.2.2.2.1 p).2
def m_x (μ : fw_M) : Nat := μ.2.2.2.2
def fw_up {α : Type} (f : Nat → Nat → α) (p i : Nat) (v : α) : Nat → Nat → α := fun q j => if q = p ∧ j = i then v else f q j
def m_uI (μ : fw_M) (p i : Nat) (v : Int32) : fw_M := (fw_up μ.1 p i v, μ.2)
def m_uL (μ : fw_M) (p i : Nat) (v : Int64) : fw_M := (μ.1, fw_up μ.2.1 p i v, μ.2.2)
def m_uP (μ : fw_M) (p i : Nat) (v : Nat) : fw_M := (μ.1, μ.2.1, fw_up μ.2.2.1 p i v, μ.2.2.2)
def fw_new {α : Type} (f : Nat → Nat → α) (p : Nat) (d : α) : Nat → Nat → α := fun q j => if q = p then d else f q j
/-- a new cell of kind k and length n, all default -/
def m_al (μ : fw_M) (k n : Nat) : fw_M := (fw_new μ.1 μ.2.2.2.2 0, fw_new μ.2.1 μ.2.2.2.2 0, fw_new μ.2.2.1 μ.2.2.2.2 0, (fun q => if q = μ.2.2.2.2 then (k, n) else μ.2.2.2.1 q), μ.2.2.2.2 + 1)
/-- a new array of n arrays: kinds ko and ki, the inner ones of length m -/
def m_al2 (μ : fw_M) (ko ki n m : Nat) : fw_M := ((fun q j => if μ.2.2.2.2 ≤ q ∧ q ≤ μ.2.2.2.2 + n then 0 else μ.1 q j), (fun q j => if μ.2.2.2.2 ≤ q ∧ q ≤ μ.2.2.2.2 + n then 0 else μ.2.1 q j), (fun q j => if q = μ.2.2.2.2 then μ.2.2.2.2 + 1 + j else if μ.2.2.2.2 ≤ q ∧ q ≤ μ.2.2.2.2 + n then 0 else μ.2.2.1 q j), (fun q => if q = μ.2.2.2.2 then (ko, n) else if μ.2.2.2.2 < q ∧ q ≤ μ.2.2.2.2 + n then (ki, m) else μ.2.2.2.1 q), μ.2.2.2.2 + 1 + n)
/-- a run of ints copied from one array to another -/
def m_cp (μ : fw_M) (p sp q dp n : Nat) : fw_M := ((fun r j => if r = q ∧ dp ≤ j ∧ j < dp + n then μ.1 p (sp + (j - dp)) else μ.1 r j), μ.2)
/-- the shapes go on -/
def fw_sub (μ μ' : fw_M) : Prop := m_x μ ≤ m_x μ' ∧ ∀ p, m_K μ p ≠ 0 → m_S μ' p = m_S μ p
theorem fw_sub.rf {μ : fw_M} : fw_sub μ μ := ⟨Nat.le_refl _, fun _ _ => rfl⟩
theorem fw_sub.tr {a b c : fw_M} (h : fw_sub a b) (h2 : fw_sub b c) : fw_sub a c := by
  refine ⟨Nat.le_trans h.1 h2.1, fun p hp => ?_⟩
  have e := h.2 p hp
  have : m_K b p = m_K a p := congrArg Prod.fst e
  exact (h2.2 p (by rw [this]; exact hp)).trans e
theorem fw_sub.K {a b : fw_M} (h : fw_sub a b) {p k : Nat} (hk : m_K a p = k) (h0 : k ≠ 0) : m_K b p = k := by
  have e := h.2 p (by rw [hk]; exact h0)
  exact (congrArg Prod.fst e).trans hk
theorem fw_sub.N {a b : fw_M} (h : fw_sub a b) {p k : Nat} (hk : m_K a p = k) (h0 : k ≠ 0) : m_N b p = m_N a p := by
  have e := h.2 p (by rw [hk]; exact h0)
  exact congrArg Prod.snd e
/-! what is fixed for the run: the start's heap, the classes' tables, the arrays' classes, where outer cells lie, what they hold -/
abbrev fw_G : Type := Heap × va_G × (Nat → ClassId) × (Nat → Nat) × (Nat → Nat → Int32) × (Nat → Nat → Nat) × (Nat → Nat × Nat)
def fw_ad (g : fw_G) (p : Nat) : Nat := if p < 64 then g.2.2.2.1 p else g.1.size + (p - 64)
def fw_rv (g : fw_G) (r : Nat) : Value := if r = 0 then .null else .ref (fw_ad g r)
def fw_code (ty : FieldType) : Nat := match ty with
  | .long => 1
  | .object _ => 2
  | .array _ => 2
  | .float => 3
  | .double => 3
  | _ => 0
def fw_v (g : fw_G) (c : Nat) (i : Int32) (l : Int64) (r : Nat) : Value := match c with
  | 0 => .int i
  | 1 => .long l
  | _ => fw_rv g r
/-- the classes by their kinds (kind = 1 + the number of the class's file of names) -/
def fw_cl : Nat → Option vw_C := fun k => match k with
  | 1 => some (RX0, TX0, 14)
  | 2 => some (RX1, TX1, 16)
  | 3 => some (RX2, TX2, 4)
  | 5 => some (RX4, TX4, 1)
  | 6 => some (RX5, TX5, 48)
  | 7 => some (RX6, TX6, 10)
  | 8 => some (RX7, TX7, 8)
  | 9 => some (RX8, TX8, 1)
  | 10 => some (RX9, TX9, 1)
  | 11 => some (RX10, TX10, 1)
  | 12 => some (RX11, TX11, 3)
  | 13 => some (RX12, TX12, 1)
  | 14 => some (RX13, TX13, 3)
  | 15 => some (RX14, TX14, 3)
  | 16 => some (RX15, TX15, 1)
  | 17 => some (RX16, TX16, 1)
  | 18 => some (RX17, TX17, 2)
  | 19 => some (RX18, TX18, 2)
  | _ => none
def fw_aty : Nat → Option FieldType := fun k => match k with
  | 100 => some (.int)
  | 101 => some (.byte)
  | 102 => some (.long)
  | 103 => some (.array .int)
  | 104 => some (.object "SpoonScales$Sum")
  | 105 => some (.object "SpoonScales$Line")
  | 106 => some (.object "SpoonScales$Law")
  | _ => none
def fw_ty : Nat → Nat → FieldType := fun k j => match k with
  | 1 => tyX0 j
  | 2 => tyX1 j
  | 3 => tyX2 j
  | 5 => tyX4 j
  | 6 => tyX5 j
  | 7 => tyX6 j
  | 8 => tyX7 j
  | 9 => tyX8 j
  | 10 => tyX9 j
  | 11 => tyX10 j
  | 12 => tyX11 j
  | 13 => tyX12 j
  | 14 => tyX13 j
  | 15 => tyX14 j
  | 16 => tyX15 j
  | 17 => tyX16 j
  | 18 => tyX17 j
  | 19 => tyX18 j
  | 100 => .int
  | 101 => .byte
  | 102 => .long
  | 103 => .array .int
  | 104 => .object "SpoonScales$Sum"
  | 105 => .object "SpoonScales$Line"
  | 106 => .object "SpoonScales$Law"
  | _ => .int
def fw_val (g : fw_G) (μ : fw_M) (p j : Nat) : Value := fw_v g (fw_code (fw_ty (m_K μ p) j)) (m_I μ p j) (m_L μ p j) (m_P μ p j)
def fw_at (g : fw_G) (k n : Nat) (V : Nat → Value) (a : Nat) (H : Heap) : Prop := (∀ q, fw_cl k = some q → t_OB a (g.2.1.1 k) q.2.2 (g.2.1.2 k) H V) ∧ (∀ ty, fw_aty k = some ty → H[a]? = some (arrV (g.2.2.1 k) n V))
/-- a kind that is in the tables -/
def fw_in (k : Nat) : Prop := fw_cl k ≠ none ∨ fw_aty k ≠ none
def fw_R (g : fw_G) (μ : fw_M) (H : Heap) : Prop :=
  g.1.size + (m_x μ - 64) = H.size ∧ 64 ≤ m_x μ ∧ (∀ a, a < g.1.size → H[a]? = g.1[a]?) ∧
  (∀ p, fw_in (m_K μ p) → 64 ≤ p) ∧ (∀ p, m_K μ p ≠ 0 → p < m_x μ) ∧
  (∀ p, p < 64 → m_S μ p = g.2.2.2.2.2.2 p ∧ (∀ j, m_I μ p j = g.2.2.2.2.1 p j) ∧ ∀ j, m_P μ p j = g.2.2.2.2.2.1 p j) ∧
  ∀ p, fw_at g (m_K μ p) (m_N μ p) (fw_val g μ p) (fw_ad g p) H
theorem fw_cl_0 : fw_cl 0 = none := rfl
theorem fw_aty_0 : fw_aty 0 = none := rfl
theorem fw_cl_ok : ∀ k q, fw_cl k = some q → (∀ w ∈ u_ws q.1 q.2.1 q.2.2, w ∈ lw_all) ∧ (∀ j, j < q.2.2 → parseFieldDescriptor (q.2.1 j).2.2.1 = some (fw_ty k j)) ∧ (∀ a, a < q.2.2 → ∀ b, b < q.2.2 → a ≠ b → (q.2.1 a).2.1 ≠ (q.2.1 b).2.1) ∧ (∀ j, j < q.2.2 → fw_code (fw_ty k j) ≠ 3) := by
  intro k q h
  unfold fw_cl at h
  split at h
  · cases h; exact ⟨in_X0, tyX0_ok, nmX0, by decide +kernel⟩
  · cases h; exact ⟨in_X1, tyX1_ok, nmX1, by decide +kernel⟩
  · cases h; exact ⟨in_X2, tyX2_ok, nmX2, by decide +kernel⟩
  · cases h; exact ⟨in_X4, tyX4_ok, nmX4, by decide +kernel⟩
  · cases h; exact ⟨in_X5, tyX5_ok, nmX5, by decide +kernel⟩
  · cases h; exact ⟨in_X6, tyX6_ok, nmX6, by decide +kernel⟩
  · cases h; exact ⟨in_X7, tyX7_ok, nmX7, by decide +kernel⟩
  · cases h; exact ⟨in_X8, tyX8_ok, nmX8, by decide +kernel⟩
  · cases h; exact ⟨in_X9, tyX9_ok, nmX9, by decide +kernel⟩
  · cases h; exact ⟨in_X10, tyX10_ok, nmX10, by decide +kernel⟩
  · cases h; exact ⟨in_X11, tyX11_ok, nmX11, by decide +kernel⟩
  · cases h; exact ⟨in_X12, tyX12_ok, nmX12, by decide +kernel⟩
  · cases h; exact ⟨in_X13, tyX13_ok, nmX13, by decide +kernel⟩
  · cases h; exact ⟨in_X14, tyX14_ok, nmX14, by decide +kernel⟩
  · cases h; exact ⟨in_X15, tyX15_ok, nmX15, by decide +kernel⟩
  · cases h; exact ⟨in_X16, tyX16_ok, nmX16, by decide +kernel⟩
  · cases h; exact ⟨in_X17, tyX17_ok, nmX17, by decide +kernel⟩
  · cases h; exact ⟨in_X18, tyX18_ok, nmX18, by decide +kernel⟩
  · cases h
theorem fw_aty_ok : ∀ k ty, fw_aty k = some ty → (∀ j, fw_ty k j = ty) ∧ fw_code ty ≠ 3 ∧ fw_cl k = none := by
  intro k ty h
  unfold fw_aty at h
  split at h
  · cases h; exact ⟨fun _ => rfl, by decide, rfl⟩
  · cases h; exact ⟨fun _ => rfl, by decide, rfl⟩
  · cases h; exact ⟨fun _ => rfl, by decide, rfl⟩
  · cases h; exact ⟨fun _ => rfl, by decide, rfl⟩
  · cases h; exact ⟨fun _ => rfl, by decide, rfl⟩
  · cases h; exact ⟨fun _ => rfl, by decide, rfl⟩
  · cases h; exact ⟨fun _ => rfl, by decide, rfl⟩
  · cases h
theorem fw_dflt (g : fw_G) (ty : FieldType) (h : fw_code ty ≠ 3) : defaultValue ty = fw_v g (fw_code ty) 0 0 0 := by
  cases ty <;> first | rfl | exact absurd rfl h
def fw_nF : List (String × Nat × String × String × String × String) := [("SpoonScales", 63, "SpoonScales$Court", "eaters", "I", "SpoonScales"), ("SpoonScales", 186, "SpoonScales$Court", "texts", "I", "SpoonScales"), ("SpoonScales", 60, "SpoonScales$Court", "text", "I", "SpoonScales"), ("SpoonScales", 173, "SpoonScales$Court", "steps", "I", "SpoonScales"), ("SpoonScales", 254, "SpoonScales$Court", "tests", "I", "SpoonScales"), ("SpoonScales", 288, "SpoonScales$Court", "tells", "I", "SpoonScales"), ("SpoonScales", 80, "SpoonScales$Court", "hunger", "[I", "SpoonScales"), ("SpoonScales", 83, "SpoonScales$Court", "stomachs", "[I", "SpoonScales"), ("SpoonScales", 86, "SpoonScales$Court", "price", "[I", "SpoonScales"), ("SpoonScales", 77, "SpoonScales$Court", "now", "[I", "SpoonScales"), ("SpoonScales", 156, "SpoonScales$Court", "spoon", "[[I", "SpoonScales"), ("SpoonScales", 166, "SpoonScales$Court", "dent", "[[I", "SpoonScales"), ("SpoonScales", 257, "SpoonScales$Court", "test", "[[I", "SpoonScales"), ("SpoonScales", 291, "SpoonScales$Court", "tell", "[[I", "SpoonScales"), ("SpoonScales", 93, "SpoonScales$Law", "sums", "[LSpoonScales$Sum;", "SpoonScales"), ("SpoonScales$Reader", 104, "SpoonScales$Law", "sums", "[LSpoonScales$Sum;", "SpoonScales"), ("SpoonScales$Reader", 108, "SpoonScales$Law", "guilty", "LSpoonScales$Ask;", "SpoonScales"), ("SpoonScales", 136, "SpoonScales$Law", "guilty", "LSpoonScales$Ask;", "SpoonScales"), ("SpoonScales$Reader", 123, "SpoonScales$Law", "lines", "[LSpoonScales$Line;", "SpoonScales"), ("SpoonScales", 208, "SpoonScales$Law", "lines", "[LSpoonScales$Line;", "SpoonScales"), ("SpoonScales$Reader", 135, "SpoonScales$Law", "clauses", "I", "SpoonScales"), ("SpoonScales", 205, "SpoonScales$Law", "clauses", "I", "SpoonScales"), ("SpoonScales", 112, "SpoonScales$Moment", "values", "[I", "SpoonScales"), ("SpoonScales", 199, "SpoonScales$Wrong", "code", "I", "SpoonScales"), ("SpoonScales", 202, "SpoonScales$Wrong", "place", "I", "SpoonScales")]
def fw_nM : List (String × Nat × MethodName × String) := [("SpoonScales", 25, ⟨"SpoonScales$Law", "<init>", "()V"⟩, "SpoonScales"), ("SpoonScales", 32, ⟨"SpoonScales$Moment", "<init>", "()V"⟩, "SpoonScales"), ("SpoonScales$Moment", 1, ⟨"SpoonScales$View", "<init>", "()V"⟩, "SpoonScales"), ("SpoonScales$Reader", 100, ⟨"SpoonScales$Law", "<init>", "()V"⟩, "SpoonScales"), ("SpoonScales$Reader", 26, ⟨"SpoonScales", "in", "(III)Z"⟩, "SpoonScales")]
def fw_nI : List (String × MethodName × MethodName) := [("SpoonScales$Constant", ⟨"SpoonScales$Sum", "of", "(LSpoonScales$View;)J"⟩, ⟨"SpoonScales$Constant", "of", "(LSpoonScales$View;)J"⟩), ("SpoonScales$Minus", ⟨"SpoonScales$Sum", "of", "(LSpoonScales$View;)J"⟩, ⟨"SpoonScales$Minus", "of", "(LSpoonScales$View;)J"⟩), ("SpoonScales$Two", ⟨"SpoonScales$Sum", "of", "(LSpoonScales$View;)J"⟩, ⟨"SpoonScales$Two", "of", "(LSpoonScales$View;)J"⟩), ("SpoonScales$Word", ⟨"SpoonScales$Sum", "of", "(LSpoonScales$View;)J"⟩, ⟨"SpoonScales$Word", "of", "(LSpoonScales$View;)J"⟩), ("SpoonScales$Both", ⟨"SpoonScales$Ask", "is", "(LSpoonScales$View;)Z"⟩, ⟨"SpoonScales$Both", "is", "(LSpoonScales$View;)Z"⟩), ("SpoonScales$Compare", ⟨"SpoonScales$Ask", "is", "(LSpoonScales$View;)Z"⟩, ⟨"SpoonScales$Compare", "is", "(LSpoonScales$View;)Z"⟩), ("SpoonScales$Not", ⟨"SpoonScales$Ask", "is", "(LSpoonScales$View;)Z"⟩, ⟨"SpoonScales$Not", "is", "(LSpoonScales$View;)Z"⟩), ("SpoonScales$Flies", ⟨"SpoonScales$Line", "done", "(LSpoonScales;)Z"⟩, ⟨"SpoonScales$Flies", "done", "(LSpoonScales;)Z"⟩), ("SpoonScales$Judge", ⟨"SpoonScales$Line", "done", "(LSpoonScales;)Z"⟩, ⟨"SpoonScales$Judge", "done", "(LSpoonScales;)Z"⟩), ("SpoonScales$Sit", ⟨"SpoonScales$Line", "done", "(LSpoonScales;)Z"⟩, ⟨"SpoonScales$Sit", "done", "(LSpoonScales;)Z"⟩), ("SpoonScales$Spoon", ⟨"SpoonScales$Line", "done", "(LSpoonScales;)Z"⟩, ⟨"SpoonScales$Spoon", "done", "(LSpoonScales;)Z"⟩)]
def fw_nA : List String := ["SpoonScales$Law", "SpoonScales$Sum", "SpoonScales$Line"]
def fw_nD : List MethodName := [⟨"SpoonScales$View", "word", "(I)I"⟩, ⟨"SpoonScales$Sum", "bound", "(J)J"⟩]
/-- statics that nobody writes -/
def fw_Zs : List (String × String × String × Nat) := [("SpoonScales$Reader", "HEADS", "[Ljava/lang/String;", 2), ("SpoonScales$Reader", "CALLED", "[Ljava/lang/String;", 3)]
/-- statics of which no more is said than that they're a reference or null: what they hold lies at place 63 -/
def fw_Zz : List (String × String × String × Nat) := [("java/lang/Throwable", "UNASSIGNED_STACK", "[Ljava/lang/StackTraceElement;", 60), ("java/lang/Throwable", "SUPPRESSED_SENTINEL", "Ljava/util/List;", 61), ("jdk/internal/util/Preconditions", "SIOOBE_FORMATTER", "Ljava/util/function/BiFunction;", 62)]
/-- the cells there before the start: the script (150), arrays of texts (151), texts (152), their bytes (153) -/
def fw_SE (g : fw_G) (s : State) : Prop := ∀ p, 0 < p ∧ p < 64 →
  ((g.2.2.2.2.2.2 p).1 = 150 → va_T .int (fw_ad g p) (g.2.2.2.2.2.2 p).2 (fun j => .int (g.2.2.2.2.1 p j)) (fun q => g.1.size ≤ q) s g.1) ∧
  ((g.2.2.2.2.2.2 p).1 = 151 → va_T (.object "java/lang/String") (fw_ad g p) (g.2.2.2.2.2.2 p).2 (fun j => fw_rv g (g.2.2.2.2.2.1 p j)) (fun q => g.1.size ≤ q) s g.1) ∧
  ((g.2.2.2.2.2.2 p).1 = 152 → va_O "java/lang/String" (fw_ad g p) (fun q => g.1.size ≤ q) s g.1 ∧ va_OF "java/lang/String" "coder" "B" (.int 0) (fw_ad g p) (fun q => g.1.size ≤ q) s g.1 ∧ va_OF "java/lang/String" "value" "[B" (fw_rv g (g.2.2.2.2.2.1 p 0)) (fw_ad g p) (fun q => g.1.size ≤ q) s g.1) ∧
  ((g.2.2.2.2.2.2 p).1 = 153 → va_T .byte (fw_ad g p) (g.2.2.2.2.2.2 p).2 (fun j => .int (g.2.2.2.2.1 p j)) (fun q => g.1.size ≤ q) s g.1)
def fw_SX (g : fw_G) (s : State) : Prop := (∀ t ∈ fw_Zs, va_Z t.1 t.2.1 t.2.2.1 (fw_rv g t.2.2.2) (fun q => g.1.size ≤ q) s g.1) ∧ (∀ t ∈ fw_Zz, va_Z t.1 t.2.1 t.2.2.1 (fw_rv g (g.2.2.2.2.2.1 63 t.2.2.2)) (fun q => g.1.size ≤ q) s g.1) ∧ va_Z "java/lang/String" "COMPACT_STRINGS" "Z" (.int 1) (fun q => g.1.size ≤ q) s g.1 ∧ fw_SE g s
theorem fw_SX.moved {g : fw_G} {s U : State} (al : s.vm.Alike U.vm) (h : fw_SX g s) : fw_SX g U :=
  ⟨fun t ht => (h.1 t ht).moved al, fun t ht => (h.2.1 t ht).moved al, h.2.2.1.moved al, fun p hp => ⟨fun e => ((h.2.2.2 p hp).1 e).moved al, fun e => ((h.2.2.2 p hp).2.1 e).moved al, fun e => ⟨((h.2.2.2 p hp).2.2.1 e).1.moved al, ((h.2.2.2 p hp).2.2.1 e).2.1.moved al, ((h.2.2.2 p hp).2.2.1 e).2.2.moved al⟩, fun e => ((h.2.2.2 p hp).2.2.2 e).moved al⟩⟩
def fw_xB : MethodName := ⟨"SpoonScales$Two", "bound", "(J)J"⟩
def fw_yB : MethodName := ⟨"SpoonScales$Sum", "bound", "(J)J"⟩
/-- the default method that Two has from Sum -/
def fw_SD (s : State) : Prop := va_Nw (.methodLink "SpoonScales$Two" 26 fw_xB) s ∧ va_Nw (.sameMethod "SpoonScales$Two" "SpoonScales$Sum" "bound" "(J)J") s ∧ va_Nw (.landsInDefault "SpoonScales$Two" fw_xB fw_yB) s
/-- what the tables say all through the run, and no list carries -/
def fw_St (g : fw_G) (s : State) : Prop :=
  (∀ k q, fw_cl k = some q → u_Kn s q.1 q.2.1 q.2.2 (g.2.1.1 k) (g.2.1.2 k)) ∧
  (∀ k ty, fw_aty k = some ty → ArrOfT s (g.2.2.1 k) ty ∧ s.vm.findClass ("[" ++ ty.toString) = some (g.2.2.1 k) ∧ (∀ C, ty = .object C → va_RA s (g.2.2.1 k) ty)) ∧
  (∀ t ∈ fw_nF, va_Nw (.fieldLinkNest t.1 t.2.1 t.2.2.1 t.2.2.2.1 t.2.2.2.2.1 t.2.2.2.2.2) s) ∧
  (∀ t ∈ fw_nM, va_Nw (.methodLinkNest t.1 t.2.1 t.2.2.1 t.2.2.2) s) ∧
  (∀ t ∈ fw_nI, va_Fw t.1 t.2.1 t.2.2 s) ∧
  (∀ t ∈ fw_nA, va_AO t s) ∧
  (∀ t ∈ fw_nD, va_Nw (.declares t) s) ∧
  ((∃ (kA : Class) (comp : ClassId), s.vm.classes[g.2.2.1 103]? = some kA ∧ kA.kind = .array comp (.array .int) ∧ s.vm.findClass "[I" = some comp) ∧ (Cond.arrayOver (.array .int)).before #[] s = true) ∧
  va_Nw (.castable "SpoonScales$Wrong" "SpoonScales$Wrong") s ∧ fw_SX g s ∧ fw_SD s
