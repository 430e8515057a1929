set_option maxRecDepth 100000
def st_ids : List Nat := [202, 204, 206, 207, 209, 211, 213, 215, 217, 219, 221, 223, 224, 226, 228, 230, 232, 233, 235, 237, 239, 241, 243, 245]
def st_byt : List (List Int32) := [[101, 97, 116, 115], [104, 111, 108, 100, 115], [103, 117, 105, 108, 116, 121], [115, 105, 116], [115, 112, 111, 111, 110], [106, 117, 100, 103, 101], [102, 108, 105, 101, 115], [111, 114], [97, 110, 100], [110, 111, 116], [111, 102], [97, 116], [101, 97, 116, 101, 114], [104, 117, 110, 103, 101, 114], [115, 116, 111, 109, 97, 99, 104, 115], [101, 97, 116, 101, 110], [107, 105, 110, 100], [108, 101, 102, 116], [115, 112, 111, 111, 110, 115], [115, 105, 100, 101], [116, 105, 108, 116], [104, 111, 110, 101, 121], [115, 97, 108, 116], [100, 101, 110, 116, 115]]
def st_len : List Nat := [4, 5, 6, 3, 5, 5, 5, 2, 3, 3, 2, 2, 5, 6, 8, 5, 4, 4, 6, 4, 4, 5, 4, 5]
def st_tm (i : Nat) : Term := .string "SpoonScales$Reader" (st_ids.getD i 0)
theorem st_1 : ∀ i, i < 24 → Cond.exactly (st_tm i) "java/lang/String" ∈ flatC (Jvm.Cond.and given_1 narrow_1) := by decide +kernel
theorem st_2 : ∀ i, i < 24 → Cond.eq (.field (st_tm i) "java/lang/String" "coder" "B") (.int 0) ∈ flatC (Jvm.Cond.and given_1 narrow_1) := by decide +kernel
theorem st_3 : ∀ i, i < 24 → Cond.arrayOf (.field (st_tm i) "java/lang/String" "value" "[B") .byte ∈ flatC (Jvm.Cond.and given_1 narrow_1) := by decide +kernel
theorem st_4 : ∀ i, i < 24 → Cond.eq (.length (.field (st_tm i) "java/lang/String" "value" "[B")) (.int (Int32.ofNat (st_len.getD i 0))) ∈ flatC (Jvm.Cond.and given_1 narrow_1) := by decide +kernel
theorem st_5 : ∀ i, i < 24 → ∀ j, j < st_len.getD i 0 → Cond.eq (.elem (.field (st_tm i) "java/lang/String" "value" "[B") (.int (Int32.ofNat j))) (.int ((st_byt.getD i []).getD j 0)) ∈ flatC (Jvm.Cond.and given_1 narrow_1) := by decide +kernel
def st_hd (i : Nat) : Term := .static "SpoonScales$Reader" (if i = 0 then "HEADS" else "CALLED") "[Ljava/lang/String;"
theorem st_6 : ∀ i, i < 2 → Cond.arrayOf (st_hd i) (.object "java/lang/String") ∈ flatC (Jvm.Cond.and given_1 narrow_1) := by decide +kernel
theorem st_7 : ∀ i, i < 2 → Cond.eq (.length (st_hd i)) (.int 12) ∈ flatC (Jvm.Cond.and given_1 narrow_1) := by decide +kernel
theorem st_8 : ∀ i, i < 2 → ∀ j, j < 12 → Cond.eq (.elem (st_hd i) (.int (Int32.ofNat j))) (st_tm (12 * i + j)) ∈ flatC (Jvm.Cond.and given_1 narrow_1) := by decide +kernel
theorem st_9 : Cond.eq (.static "java/lang/String" "COMPACT_STRINGS" "Z") (.int 1) ∈ flatC (Jvm.Cond.and given_1 narrow_1) := by decide +kernel
theorem st_10 : ∀ t ∈ fw_Zz, Cond.isRef (.static t.1 t.2.1 t.2.2.1) ∈ flatC (Jvm.Cond.and given_1 narrow_1) := by decide +kernel
theorem st_11 : Cond.methodLink "SpoonScales$Two" 26 fw_xB ∈ flatC (Jvm.Cond.and given_1 narrow_1) := by decide +kernel
theorem st_12 : Cond.sameMethod "SpoonScales$Two" "SpoonScales$Sum" "bound" "(J)J" ∈ flatC (Jvm.Cond.and given_1 narrow_1) := by decide +kernel
theorem st_13 : Cond.landsInDefault "SpoonScales$Two" fw_xB fw_yB ∈ flatC (Jvm.Cond.and given_1 narrow_1) := by decide +kernel
theorem st_over {A : Array Value} {s : State} (h : (Cond.arrayOver (.array .int)).before A s = true) : ∃ comp c k, s.vm.findClass "[I" = some comp ∧ s.vm.classes[c]? = some k ∧ k.kind = .array comp (.array .int) ∧ s.vm.findClass "[[I" = some c := by
  have e1 : (FieldType.array .int).toString = "[I" := by decide +kernel
  have e2 : "[" ++ "[I" = "[[I" := by decide +kernel
  simp only [Cond.before, Cond.holds, Cond.value, beq_iff_eq, e1, e2] at h
  cases hc : s.vm.findClass "[I" with
  | none => simp [hc] at h
  | some comp =>
    simp only [hc, Option.bind_some, Option.bind_eq_some_iff, Option.map_eq_some_iff] at h
    obtain ⟨c, hi, k, hk, hb⟩ := h
    obtain ⟨hlt, hp, -⟩ := Array.findIdx?_eq_some_iff_getElem.mp hi
    have hkk : s.vm.classes[c] = k := (Array.getElem?_eq_some_iff.mp hk).2
    rw [hkk] at hp
    cases hkind : k.kind with
    | array component ty =>
      rw [hkind] at hb hp
      simp at hb hp
      exact ⟨comp, c, k, rfl, hk, by rw [hkind, hp, hb.1], hb.2⟩
    | _ => rw [hkind] at hb; simp at hb
section ST
variable {s : State} {b : Nat}
/-- one text: its cell, its bytes' cell -/
theorem st_str (hg : ∀ w ∈ flatC (Jvm.Cond.and given_1 narrow_1), w.before #[Value.ref b] s = true) {i : Nat} (hi : i < 24) : ∃ q : Nat × Nat, (st_tm i).eval #[Value.ref b] s none [] s = some (.ref q.1) ∧ va_O "java/lang/String" q.1 (fun q => s.heap.size ≤ q) s s.heap ∧ va_OF "java/lang/String" "coder" "B" (.int 0) q.1 (fun q => s.heap.size ≤ q) s s.heap ∧ va_OF "java/lang/String" "value" "[B" (.ref q.2) q.1 (fun q => s.heap.size ≤ q) s s.heap ∧ va_T .byte q.2 (st_len.getD i 0) (fun j => .int ((st_byt.getD i []).getD j 0)) (fun q => s.heap.size ≤ q) s s.heap := by
  have hA : ∀ a : Nat, a < s.heap.size → ¬ (fun q : Nat => s.heap.size ≤ q) a := fun a h => Nat.not_le.mpr h
  obtain ⟨a, c, cA, kA, q1, q2, q3, q4, q5, q6, -⟩ := Cond.exactly_spec (args := #[Value.ref b]) (first := s) (o := none) (s := s) (idx := []) (t := st_tm i) (cls := "java/lang/String") (hg _ (st_1 i hi))
  obtain ⟨t, ht, hT⟩ := va_Tof (f := fun j => .int ((st_byt.getD i []).getD j 0)) (A := fun q => s.heap.size ≤ q) (N := st_len.getD i 0) ((by decide +kernel : ∀ i, i < 24 → st_len.getD i 0 < 2 ^ 31) i hi) (hg _ (st_3 i hi)) (va_eqt (hg _ (st_4 i hi))) (fun j hj => va_eqt (hg _ (st_5 i hi j hj))) hA
  exact ⟨(a, t), q1, ⟨cA, q3, q5, by rw [q6]; exact q2, hA a (Array.getElem?_eq_some_iff.mp q3).1⟩, vk_OFof q1 (va_eqt (hg _ (st_2 i hi))) hA, vk_OFof q1 ht hA, hT⟩
theorem st_arr (hts : ∀ w ∈ lw_tbl, w.before #[Value.ref b] s = true) : ∃ aC : Nat → ClassId, ∀ k ty, fw_aty k = some ty → ArrOfT s (aC k) ty ∧ s.vm.findClass ("[" ++ ty.toString) = some (aC k) ∧ (∀ C, ty = .object C → va_RA s (aC k) ty) := by
  have key : ∀ k, ∃ cA : ClassId, ∀ ty, fw_aty k = some ty → ArrOfT s cA ty ∧ s.vm.findClass ("[" ++ ty.toString) = some cA ∧ (∀ C, ty = .object C → va_RA s cA ty) := by
    intro k
    by_cases h : fw_aty k = none
    · exact ⟨0, fun ty ht => by rw [h] at ht; cases ht⟩
    cases ht : fw_aty k with
    | none => exact absurd ht h
    | some ty =>
      have prim : ∀ ty, (Cond.arrayClass ty).before #[Value.ref b] s = true → (∀ C, ty ≠ .object C) → ∃ cA : ClassId, ∀ ty', some ty = some ty' → ArrOfT s cA ty' ∧ s.vm.findClass ("[" ++ ty'.toString) = some cA ∧ (∀ C, ty' = .object C → va_RA s cA ty') := by
        intro ty h1 h2
        obtain ⟨c, kA, comp, f1, f2, f3⟩ := Cond.arrayClass_spec h1
        refine ⟨c, fun ty' e => ?_⟩
        cases e
        exact ⟨fun N z => ⟨(fun k h => by cases h), kA, f2, comp, f3⟩, f1, fun C e => absurd e (h2 C)⟩
      have obj : ∀ C, (Cond.arrayOver (.object C)).before #[Value.ref b] s = true → ∃ cA : ClassId, ∀ ty', some (FieldType.object C) = some ty' → ArrOfT s cA ty' ∧ s.vm.findClass ("[" ++ ty'.toString) = some cA ∧ (∀ C, ty' = .object C → va_RA s cA ty') := by
        intro C h1
        obtain ⟨comp, c, kA, f1, -, f2, f3, f4⟩ := Cond.arrayOver_spec h1
        refine ⟨c, fun ty' e => ?_⟩
        cases e
        exact ⟨fun N z => ⟨(fun k h => by cases h), kA, f2, comp, f3⟩, f4, fun C' e => by cases e; exact ⟨kA, comp, f2, f3, f1, f4⟩⟩
      unfold fw_aty at ht
      split at ht
      · cases ht; exact prim _ (hts _ (lw_all_tbl q183)) (fun C h => by cases h)
      · cases ht; exact prim _ (hts _ (lw_all_tbl q272)) (fun C h => by cases h)
      · cases ht; exact prim _ (hts _ (lw_all_tbl q1194)) (fun C h => by cases h)
      · cases ht
        obtain ⟨comp, c, kA, f1, f2, f3, f4⟩ := st_over (hts _ q119)
        refine ⟨c, fun ty' e => ?_⟩
        cases e
        exact ⟨fun N z => ⟨(fun k h => by cases h), kA, f2, comp, f3⟩, f4, fun C e => by cases e⟩
      · cases ht; exact obj _ (hts _ q192)
      · cases ht; exact obj _ (hts _ q194)
      · cases ht; exact obj _ (hts _ q185)
      · cases ht
  obtain ⟨aC, h⟩ := Classical.axiomOfChoice key
  exact ⟨aC, h⟩
theorem st_cls (hts : ∀ w ∈ lw_tbl, w.before #[Value.ref b] s = true) : ∃ D : va_G, ∀ k q, fw_cl k = some q → u_Kn s q.1 q.2.1 q.2.2 (D.1 k) (D.2 k) := by
  have key : ∀ k, ∃ D : ClassId × (Nat → Nat), ∀ q, fw_cl k = some q → u_Kn s q.1 q.2.1 q.2.2 D.1 D.2 := by
    intro k
    have one : ∀ (q : vw_C) (n : Nat), fw_cl k = some q → (Cond.instantiable q.1 n).before #[Value.ref b] s = true → ∃ D : ClassId × (Nat → Nat), ∀ q, fw_cl k = some q → u_Kn s q.1 q.2.1 q.2.2 D.1 D.2 := by
      intro q n hq hi
      obtain ⟨cC, iS, h⟩ := u_known (C := q.1) (T := q.2.1) (N := q.2.2) hts (fun w hw => lw_all_tbl ((fw_cl_ok k q hq).1 w hw)) hi
      exact ⟨(cC, iS), fun q' hq' => by rw [hq] at hq'; cases hq'; exact h⟩
    by_cases h : fw_cl k = none
    · exact ⟨(0, fun _ => 0), fun q hq => by rw [h] at hq; cases hq⟩
    cases hq : fw_cl k with
    | none => exact absurd hq h
    | some q =>
      rw [← hq]
      have h9 := hq
      unfold fw_cl at h9
      split at h9
      · cases h9; exact one _ 14 hq (hts _ (lw_all_tbl q105))
      · cases h9; exact one _ 16 hq (hts _ (lw_all_tbl q113))
      · cases h9; exact one _ 4 hq (hts _ (lw_all_tbl q186))
      · cases h9; exact one _ 1 hq (hts _ (lw_all_tbl q215))
      · cases h9; exact one _ 48 hq (hts _ (lw_all_tbl q1040))
      · cases h9; exact one _ 10 hq (hts _ (lw_all_tbl q474))
      · cases h9; exact one _ 8 hq (hts _ (lw_all_tbl q603))
      · cases h9; exact one _ 1 hq (hts _ (lw_all_tbl q691))
      · cases h9; exact one _ 1 hq (hts _ (lw_all_tbl q701))
      · cases h9; exact one _ 1 hq (hts _ (lw_all_tbl q723))
      · cases h9; exact one _ 3 hq (hts _ (lw_all_tbl q733))
      · cases h9; exact one _ 1 hq (hts _ (lw_all_tbl q760))
      · cases h9; exact one _ 3 hq (hts _ (lw_all_tbl q774))
      · cases h9; exact one _ 3 hq (hts _ (lw_all_tbl q790))
      · cases h9; exact one _ 1 hq (hts _ (lw_all_tbl q810))
      · cases h9; exact one _ 1 hq (hts _ (lw_all_tbl q820))
      · cases h9; exact one _ 2 hq (hts _ (lw_all_tbl q830))
      · cases h9; exact one _ 2 hq (hts _ (lw_all_tbl q843))
      · cases h9
  obtain ⟨D, h⟩ := Classical.axiomOfChoice key
  exact ⟨(fun k => (D k).1, fun k => (D k).2), h⟩
end ST
