set_option maxRecDepth 100000
def st_M (L : Nat) (xs : Nat → Int32) (z : Nat → Nat) : fw_M :=
  (fun p j => if p = 1 then xs j else if 28 ≤ p ∧ p < 52 then (st_byt.getD (p - 28) []).getD j 0 else 0, fun _ _ => 0,
   fun p j => if p = 2 then 4 + j else if p = 3 then 16 + j else if 4 ≤ p ∧ p < 28 then p + 24 else if p = 63 then z j else 0,
   fun p => if p = 1 then (150, L) else if p = 2 ∨ p = 3 then (151, 12) else if 4 ≤ p ∧ p < 28 then (152, 0) else if 28 ≤ p ∧ p < 52 then (153, st_len.getD (p - 28) 0) else (0, 0), 64)
def st_ex (b : Nat) (aS : Nat → Nat × Nat) (aH aZ : Nat → Nat) : Nat → Nat := fun p => if p = 1 then b else if p = 2 ∨ p = 3 then aH (p - 2) else if 4 ≤ p ∧ p < 28 then (aS (p - 4)).1 else if 28 ≤ p ∧ p < 52 then (aS (p - 28)).2 else aZ p
def st_G (H : Heap) (D : va_G) (aC : Nat → ClassId) (ex : Nat → Nat) (μ : fw_M) : fw_G := (H, D, aC, ex, μ.1, μ.2.2.1, μ.2.2.2.1)
theorem st_R {L : Nat} {xs : Nat → Int32} {z : Nat → Nat} {H : Heap} {D : va_G} {aC : Nat → ClassId} {ex : Nat → Nat} : fw_R (st_G H D aC ex (st_M L xs z)) (st_M L xs z) H := by
  have hk : ∀ p, m_K (st_M L xs z) p = 0 ∨ (p < 52 ∧ (m_K (st_M L xs z) p = 150 ∨ m_K (st_M L xs z) p = 151 ∨ m_K (st_M L xs z) p = 152 ∨ m_K (st_M L xs z) p = 153)) := by
    intro p
    unfold m_K st_M
    dsimp only
    split
    · exact Or.inr ⟨by omega, Or.inl rfl⟩
    split
    · exact Or.inr ⟨by omega, Or.inr (Or.inl rfl)⟩
    split
    · exact Or.inr ⟨by omega, Or.inr (Or.inr (Or.inl rfl))⟩
    split
    · exact Or.inr ⟨by omega, Or.inr (Or.inr (Or.inr rfl))⟩
    exact Or.inl rfl
  have hn : ∀ p, fw_cl (m_K (st_M L xs z) p) = none ∧ fw_aty (m_K (st_M L xs z) p) = none := by
    intro p
    rcases hk p with h | ⟨-, h | h | h | h⟩ <;> rw [h] <;> exact ⟨rfl, rfl⟩
  refine ⟨rfl, Nat.le_refl _, fun a _ => rfl, fun p h => ?_, fun p h => ?_, fun p _ => ⟨rfl, fun _ => rfl, fun _ => rfl⟩, fun p => ⟨fun q h => ?_, fun ty h => ?_⟩⟩
  · exact absurd h (fun h => h.elim (fun h => h (hn p).1) (fun h => h (hn p).2))
  · rcases hk p with h1 | ⟨h1, -⟩
    · exact absurd h1 h
    · show p < 64
      omega
  · rw [(hn p).1] at h; cases h
  · rw [(hn p).2] at h; cases h
section SW
variable {s : State} {b L : Nat} {xs : Nat → Int32}
theorem st_nF (hts : ∀ w ∈ lw_tbl, w.before #[Value.ref b] s = true) : ∀ t ∈ fw_nF, va_Nw (.fieldLinkNest t.1 t.2.1 t.2.2.1 t.2.2.2.1 t.2.2.2.2.1 t.2.2.2.2.2) s := List.forall_mem_cons.mpr ⟨va_Nw.of rfl (hts _ q121), List.forall_mem_cons.mpr ⟨va_Nw.of rfl (hts _ q123), List.forall_mem_cons.mpr ⟨va_Nw.of rfl (hts _ q125), List.forall_mem_cons.mpr ⟨va_Nw.of rfl (hts _ q127), List.forall_mem_cons.mpr ⟨va_Nw.of rfl (hts _ q129), List.forall_mem_cons.mpr ⟨va_Nw.of rfl (hts _ q131), List.forall_mem_cons.mpr ⟨va_Nw.of rfl (hts _ q133), List.forall_mem_cons.mpr ⟨va_Nw.of rfl (hts _ q135), List.forall_mem_cons.mpr ⟨va_Nw.of rfl (hts _ q137), List.forall_mem_cons.mpr ⟨va_Nw.of rfl (hts _ q139), List.forall_mem_cons.mpr ⟨va_Nw.of rfl (hts _ q143), List.forall_mem_cons.mpr ⟨va_Nw.of rfl (hts _ q145), List.forall_mem_cons.mpr ⟨va_Nw.of rfl (hts _ q147), List.forall_mem_cons.mpr ⟨va_Nw.of rfl (hts _ q149), List.forall_mem_cons.mpr ⟨va_Nw.of rfl (hts _ q196), List.forall_mem_cons.mpr ⟨va_Nw.of rfl (hts _ q197), List.forall_mem_cons.mpr ⟨va_Nw.of rfl (hts _ q198), List.forall_mem_cons.mpr ⟨va_Nw.of rfl (hts _ q199), List.forall_mem_cons.mpr ⟨va_Nw.of rfl (hts _ q201), List.forall_mem_cons.mpr ⟨va_Nw.of rfl (hts _ q202), List.forall_mem_cons.mpr ⟨va_Nw.of rfl (hts _ q203), List.forall_mem_cons.mpr ⟨va_Nw.of rfl (hts _ q204), List.forall_mem_cons.mpr ⟨va_Nw.of rfl (hts _ q224), List.forall_mem_cons.mpr ⟨va_Nw.of rfl (hts _ q654), List.forall_mem_cons.mpr ⟨va_Nw.of rfl (hts _ q656), fun _ h => by cases h⟩⟩⟩⟩⟩⟩⟩⟩⟩⟩⟩⟩⟩⟩⟩⟩⟩⟩⟩⟩⟩⟩⟩⟩⟩
theorem st_nM (hts : ∀ w ∈ lw_tbl, w.before #[Value.ref b] s = true) : ∀ t ∈ fw_nM, va_Nw (.methodLinkNest t.1 t.2.1 t.2.2.1 t.2.2.2) s := List.forall_mem_cons.mpr ⟨va_Nw.of rfl (hts _ q187), List.forall_mem_cons.mpr ⟨va_Nw.of rfl (hts _ q216), List.forall_mem_cons.mpr ⟨va_Nw.of rfl (hts _ q219), List.forall_mem_cons.mpr ⟨va_Nw.of rfl (hts _ q515), List.forall_mem_cons.mpr ⟨va_Nw.of rfl (hts _ q528), fun _ h => by cases h⟩⟩⟩⟩⟩
theorem st_nI (hts : ∀ w ∈ lw_tbl, w.before #[Value.ref b] s = true) : ∀ t ∈ fw_nI, va_Fw t.1 t.2.1 t.2.2 s := List.forall_mem_cons.mpr ⟨va_Fw.of (hts _ q335) (hts _ q334) (hts _ q340) (hts _ q338) (hts _ q336), List.forall_mem_cons.mpr ⟨va_Fw.of (hts _ q335) (hts _ q334) (hts _ q346) (hts _ q344) (hts _ q342), List.forall_mem_cons.mpr ⟨va_Fw.of (hts _ q335) (hts _ q334) (hts _ q354) (hts _ q352) (hts _ q350), List.forall_mem_cons.mpr ⟨va_Fw.of (hts _ q335) (hts _ q334) (hts _ q362) (hts _ q360) (hts _ q358), List.forall_mem_cons.mpr ⟨va_Fw.of (hts _ q412) (hts _ q411) (hts _ q417) (hts _ q415) (hts _ q413), List.forall_mem_cons.mpr ⟨va_Fw.of (hts _ q412) (hts _ q411) (hts _ q425) (hts _ q423) (hts _ q421), List.forall_mem_cons.mpr ⟨va_Fw.of (hts _ q412) (hts _ q411) (hts _ q433) (hts _ q431) (hts _ q429), List.forall_mem_cons.mpr ⟨va_Fw.of (hts _ q870) (hts _ q869) (hts _ q875) (hts _ q873) (hts _ q871), List.forall_mem_cons.mpr ⟨va_Fw.of (hts _ q870) (hts _ q869) (hts _ q882) (hts _ q880) (hts _ q878), List.forall_mem_cons.mpr ⟨va_Fw.of (hts _ q870) (hts _ q869) (hts _ q889) (hts _ q887) (hts _ q885), List.forall_mem_cons.mpr ⟨va_Fw.of (hts _ q870) (hts _ q869) (hts _ q896) (hts _ q894) (hts _ q892), fun _ h => by cases h⟩⟩⟩⟩⟩⟩⟩⟩⟩⟩⟩
theorem st_nA (hts : ∀ w ∈ lw_tbl, w.before #[Value.ref b] s = true) : ∀ t ∈ fw_nA, va_AO t s := List.forall_mem_cons.mpr ⟨va_AO.of (hts _ q185), List.forall_mem_cons.mpr ⟨va_AO.of (hts _ q192), List.forall_mem_cons.mpr ⟨va_AO.of (hts _ q194), fun _ h => by cases h⟩⟩⟩
theorem st_nD (hts : ∀ w ∈ lw_tbl, w.before #[Value.ref b] s = true) : ∀ t ∈ fw_nD, va_Nw (.declares t) s := List.forall_mem_cons.mpr ⟨va_Nw.of rfl (hts _ q365), List.forall_mem_cons.mpr ⟨va_Nw.of rfl (hts _ q371), fun _ h => by cases h⟩⟩
theorem st_St (hts : ∀ w ∈ lw_tbl, w.before #[Value.ref b] s = true) (hg : ∀ w ∈ flatC (Jvm.Cond.and given_1 narrow_1), w.before #[Value.ref b] s = true) (hX : va_X b L xs s s.heap) (hL : L < 2 ^ 31) (hbl : b < s.heap.size) :
    ∃ (D : va_G) (aC : Nat → ClassId) (ex z : Nat → Nat), (∀ j, z j = 0 ∨ z j = j) ∧ ex 1 = b ∧ fw_St (st_G s.heap D aC ex (st_M L xs z)) s := by
  have hA : ∀ a : Nat, a < s.heap.size → ¬ (fun q : Nat => s.heap.size ≤ q) a := fun a h => Nat.not_le.mpr h
  obtain ⟨D, hD⟩ := st_cls hts
  obtain ⟨aC, hC⟩ := st_arr hts
  -- the texts
  have hS0 : ∀ i, ∃ q : Nat × Nat, i < 24 → (st_tm i).eval #[Value.ref b] s none [] s = some (.ref q.1) ∧ va_O "java/lang/String" q.1 (fun q => s.heap.size ≤ q) s s.heap ∧ va_OF "java/lang/String" "coder" "B" (.int 0) q.1 (fun q => s.heap.size ≤ q) s s.heap ∧ va_OF "java/lang/String" "value" "[B" (.ref q.2) q.1 (fun q => s.heap.size ≤ q) s s.heap ∧ va_T .byte q.2 (st_len.getD i 0) (fun j => .int ((st_byt.getD i []).getD j 0)) (fun q => s.heap.size ≤ q) s s.heap := by
    intro i
    by_cases hi : i < 24
    · obtain ⟨q, h⟩ := st_str hg hi
      exact ⟨q, fun _ => h⟩
    · exact ⟨(0, 0), fun h => absurd h hi⟩
  obtain ⟨aS, hS⟩ := Classical.axiomOfChoice hS0
  -- the two arrays of texts
  have hH0 : ∀ i, ∃ q : Nat, i < 2 → (st_hd i).eval #[Value.ref b] s none [] s = some (.ref q) ∧ va_T (.object "java/lang/String") q 12 (fun j => .ref (aS (12 * i + j)).1) (fun q => s.heap.size ≤ q) s s.heap := by
    intro i
    by_cases hi : i < 2
    · obtain ⟨t, ht, hT⟩ := va_Tof (f := fun j => .ref (aS (12 * i + j)).1) (A := fun q => s.heap.size ≤ q) (N := 12) (by decide) (hg _ (st_6 i hi)) (va_eqt (hg _ (st_7 i hi))) (fun j hj => va_eqv (hg _ (st_8 i hi j hj)) (hS (12 * i + j) (by omega)).1) hA
      exact ⟨t, fun _ => ⟨ht, hT⟩⟩
    · exact ⟨0, fun h => absurd h hi⟩
  obtain ⟨aH, hH⟩ := Classical.axiomOfChoice hH0
  -- the statics of which little is said
  have hZ0 : ∀ k : Nat, ∃ q : Nat × Nat, (q.1 = 0 ∨ q.1 = k) ∧ ∀ t ∈ fw_Zz, t.2.2.2 = k → va_Z t.1 t.2.1 t.2.2.1 (if q.1 = 0 then .null else .ref q.2) (fun q => s.heap.size ≤ q) s s.heap := by
    have lays : ∀ t ∈ fw_Zz, (Cond.laysStatic t.1 t.2.1 t.2.2.1).before #[Value.ref b] s = true ∧ (Cond.initialized t.1).before #[Value.ref b] s = true := List.forall_mem_cons.mpr ⟨⟨(hts _ q629), (hts _ (lw_all_tbl q87))⟩, List.forall_mem_cons.mpr ⟨⟨(hts _ q631), (hts _ (lw_all_tbl q87))⟩, List.forall_mem_cons.mpr ⟨⟨(hts _ q564), (hts _ (lw_all_tbl q85))⟩, fun _ h => by cases h⟩⟩⟩
    have inj : ∀ t ∈ fw_Zz, ∀ t' ∈ fw_Zz, t.2.2.2 = t'.2.2.2 → t = t' := by decide +kernel
    have pos : ∀ t ∈ fw_Zz, t.2.2.2 ≠ 0 := by decide +kernel
    intro k
    by_cases hk : ∃ t ∈ fw_Zz, t.2.2.2 = k
    · obtain ⟨t, ht, rfl⟩ := hk
      rcases va_Zqof (A := fun q => s.heap.size ≤ q) (lays t ht).1 (lays t ht).2 (hg _ (st_10 t ht)) hA with h | ⟨a, h⟩
      · exact ⟨(0, 0), Or.inl rfl, fun t' ht' e => by cases inj t' ht' t ht e; exact h⟩
      · exact ⟨(t.2.2.2, a), Or.inr rfl, fun t' ht' e => by
          cases inj t' ht' t ht e
          show va_Z _ _ _ (if t.2.2.2 = 0 then _ else _) _ _ _
          rw [if_neg (pos t ht)]
          exact h⟩
    · exact ⟨(0, 0), Or.inl rfl, fun t ht e => absurd ⟨t, ht, e⟩ hk⟩
  obtain ⟨aZ, hZ⟩ := Classical.axiomOfChoice hZ0
  refine ⟨D, aC, st_ex b aS aH (fun k => (aZ k).2), fun k => (aZ k).1, fun j => (hZ j).1, rfl, hD, hC, st_nF hts, st_nM hts, st_nI hts, st_nA hts, st_nD hts, ⟨?_, ?_⟩, ?_, ⟨?_, ?_, ?_, ?_⟩, ?_⟩
  · obtain ⟨comp, c, kA, f1, f2, f3, f4⟩ := st_over (hts _ q119)
    have e := (hC 103 (.array .int) rfl).2.1
    have e1 : "[" ++ (FieldType.array .int).toString = "[[I" := by decide +kernel
    rw [e1, f4] at e
    cases e
    exact ⟨kA, comp, f2, f3, f1⟩
  · exact (hts _ q119)
  · exact va_Nw.of rfl (hts _ q604)
  · intro t ht
    have key : ∀ i, i < 2 → va_Z "SpoonScales$Reader" (if i = 0 then "HEADS" else "CALLED") "[Ljava/lang/String;" (.ref (aH i)) (fun q => s.heap.size ≤ q) s s.heap := by
      intro i hi
      refine va_Zref ?_ (hts _ (lw_all_tbl q82)) (hH i hi).1 hA
      rcases (show i = 0 ∨ i = 1 by omega) with rfl | rfl
      · exact (hts _ q534)
      · exact (hts _ q588)
    rcases List.mem_cons.mp ht with rfl | ht
    · exact key 0 (by decide)
    rcases List.mem_cons.mp ht with rfl | ht
    · exact key 1 (by decide)
    cases ht
  · intro t ht
    have h := (hZ t.2.2.2).2 t ht rfl
    have hr : ∀ t ∈ fw_Zz, 59 < t.2.2.2 ∧ t.2.2.2 < 63 := by decide +kernel
    have hr := hr t ht
    have e : fw_rv (st_G s.heap D aC (st_ex b aS aH (fun k => (aZ k).2)) (st_M L xs fun k => (aZ k).1)) ((aZ t.2.2.2).1) = (if (aZ t.2.2.2).1 = 0 then .null else .ref (aZ t.2.2.2).2) := by
      unfold fw_rv
      rcases (hZ t.2.2.2).1 with e0 | e0
      · rw [e0]; rfl
      · rw [e0, if_neg (by omega), if_neg (by omega)]
        have : fw_ad (st_G s.heap D aC (st_ex b aS aH (fun k => (aZ k).2)) (st_M L xs fun k => (aZ k).1)) t.2.2.2 = (aZ t.2.2.2).2 := by
          unfold fw_ad
          rw [if_pos (by omega)]
          show st_ex b aS aH (fun k => (aZ k).2) t.2.2.2 = _
          unfold st_ex
          rw [if_neg (by omega), if_neg (by omega), if_neg (by omega), if_neg (by omega)]
        rw [this]
    show va_Z _ _ _ (fw_rv _ ((aZ t.2.2.2).1)) _ _ _
    rw [e]
    exact h
  · exact va_Zof (hts _ q548) (hts _ (lw_all_tbl q83)) (va_eqi (hg _ st_9)) hA
  · intro p hp
    have ad : fw_ad (st_G s.heap D aC (st_ex b aS aH (fun k => (aZ k).2)) (st_M L xs fun k => (aZ k).1)) p = st_ex b aS aH (fun k => (aZ k).2) p := by
      unfold fw_ad
      rw [if_pos hp.2]
      rfl
    have adr : ∀ q, 0 < q → q < 64 → fw_rv (st_G s.heap D aC (st_ex b aS aH (fun k => (aZ k).2)) (st_M L xs fun k => (aZ k).1)) q = .ref (st_ex b aS aH (fun k => (aZ k).2) q) := by
      intro q h1 h2
      unfold fw_rv fw_ad
      rw [if_neg (by omega), if_pos h2]
      rfl
    rw [ad]
    show ((if p = 1 then (150, L) else if p = 2 ∨ p = 3 then (151, 12) else if 4 ≤ p ∧ p < 28 then (152, 0) else if 28 ≤ p ∧ p < 52 then (153, st_len.getD (p - 28) 0) else (0, 0)).1 = 150 → va_T .int _ (if p = 1 then (150, L) else if p = 2 ∨ p = 3 then (151, 12) else if 4 ≤ p ∧ p < 28 then (152, 0) else if 28 ≤ p ∧ p < 52 then (153, st_len.getD (p - 28) 0) else (0, 0)).2 (fun j => .int (if p = 1 then xs j else if 28 ≤ p ∧ p < 52 then (st_byt.getD (p - 28) []).getD j 0 else 0)) _ s s.heap) ∧
      ((if p = 1 then (150, L) else if p = 2 ∨ p = 3 then (151, 12) else if 4 ≤ p ∧ p < 28 then (152, 0) else if 28 ≤ p ∧ p < 52 then (153, st_len.getD (p - 28) 0) else (0, 0)).1 = 151 → va_T (.object "java/lang/String") _ (if p = 1 then (150, L) else if p = 2 ∨ p = 3 then (151, 12) else if 4 ≤ p ∧ p < 28 then (152, 0) else if 28 ≤ p ∧ p < 52 then (153, st_len.getD (p - 28) 0) else (0, 0)).2 (fun j => fw_rv _ (if p = 2 then 4 + j else if p = 3 then 16 + j else if 4 ≤ p ∧ p < 28 then p + 24 else if p = 63 then (aZ j).1 else 0)) _ s s.heap) ∧
      ((if p = 1 then (150, L) else if p = 2 ∨ p = 3 then (151, 12) else if 4 ≤ p ∧ p < 28 then (152, 0) else if 28 ≤ p ∧ p < 52 then (153, st_len.getD (p - 28) 0) else (0, 0)).1 = 152 → va_O "java/lang/String" _ _ s s.heap ∧ va_OF "java/lang/String" "coder" "B" (.int 0) _ _ s s.heap ∧ va_OF "java/lang/String" "value" "[B" (fw_rv _ (if p = 2 then 4 + 0 else if p = 3 then 16 + 0 else if 4 ≤ p ∧ p < 28 then p + 24 else if p = 63 then (aZ 0).1 else 0)) _ _ s s.heap) ∧
      ((if p = 1 then (150, L) else if p = 2 ∨ p = 3 then (151, 12) else if 4 ≤ p ∧ p < 28 then (152, 0) else if 28 ≤ p ∧ p < 52 then (153, st_len.getD (p - 28) 0) else (0, 0)).1 = 153 → va_T .byte _ (if p = 1 then (150, L) else if p = 2 ∨ p = 3 then (151, 12) else if 4 ≤ p ∧ p < 28 then (152, 0) else if 28 ≤ p ∧ p < 52 then (153, st_len.getD (p - 28) 0) else (0, 0)).2 (fun j => .int (if p = 1 then xs j else if 28 ≤ p ∧ p < 52 then (st_byt.getD (p - 28) []).getD j 0 else 0)) _ s s.heap)
    by_cases h1 : p = 1
    · subst h1
      obtain ⟨scr, x1, x2, x3, x4, x5⟩ := hX
      refine ⟨fun _ => ⟨scr, x1, x2, x3, Nat.le_of_eq x4.symm, by rw [x4]; rfl, fun j hj => x5 j hj, Nat.not_le.mpr hbl⟩, fun h => absurd h (show ¬ (150 : Nat) = 151 by decide), fun h => absurd h (show ¬ (150 : Nat) = 152 by decide), fun h => absurd h (show ¬ (150 : Nat) = 153 by decide)⟩
    by_cases h2 : p = 2 ∨ p = 3
    · simp only [if_neg h1, if_pos h2]
      refine ⟨fun h => absurd h (by decide), fun _ => ?_, fun h => absurd h (by decide), fun h => absurd h (by decide)⟩
      have e0 : st_ex b aS aH (fun k => (aZ k).2) p = aH (p - 2) := by
        unfold st_ex
        rw [if_neg h1, if_pos h2]
      rw [e0]
      have hT := (hH (p - 2) (by omega)).2
      obtain ⟨cell, x1, x2, x3, x4, x5, x6, x7⟩ := hT
      refine ⟨cell, x1, x2, x3, x4, x5, fun j hj => ?_, x7⟩
      rw [x6 j hj]
      have hj : j < 12 := hj
      have e3 : (if p = 2 then 4 + j else if p = 3 then 16 + j else if 4 ≤ p ∧ p < 28 then p + 24 else if p = 63 then (aZ j).1 else 0) = 4 + (12 * (p - 2) + j) := by
        rcases h2 with rfl | rfl
        · rw [if_pos rfl]; omega
        · rw [if_neg (by decide), if_pos rfl]; omega
      dsimp only
      rw [e3, adr _ (by omega) (by omega)]
      unfold st_ex
      rw [if_neg (by omega), if_neg (by omega), if_pos (by omega)]
      rw [show 4 + (12 * (p - 2) + j) - 4 = 12 * (p - 2) + j by omega]
    by_cases h3 : 4 ≤ p ∧ p < 28
    · simp only [if_neg h1, if_neg h2, if_pos h3]
      refine ⟨fun h => absurd h (by decide), fun h => absurd h (by decide), fun _ => ?_, fun h => absurd h (by decide)⟩
      have e0 : st_ex b aS aH (fun k => (aZ k).2) p = (aS (p - 4)).1 := by
        unfold st_ex
        rw [if_neg h1, if_neg h2, if_pos h3]
      have e1 : st_ex b aS aH (fun k => (aZ k).2) (p + 24) = (aS (p - 4)).2 := by
        unfold st_ex
        rw [if_neg (by omega), if_neg (by omega), if_neg (by omega), if_pos (by omega), show p + 24 - 28 = p - 4 by omega]
      rw [if_neg (by omega), if_neg (by omega), adr _ (by omega) (by omega), e0, e1]
      obtain ⟨-, y1, y2, y3, -⟩ := hS (p - 4) (by omega)
      exact ⟨y1, y2, y3⟩
    by_cases h4 : 28 ≤ p ∧ p < 52
    · simp only [if_neg h1, if_neg h2, if_neg h3, if_pos h4]
      refine ⟨fun h => absurd h (by decide), fun h => absurd h (by decide), fun h => absurd h (by decide), fun _ => ?_⟩
      have e0 : st_ex b aS aH (fun k => (aZ k).2) p = (aS (p - 28)).2 := by
        unfold st_ex
        rw [if_neg h1, if_neg h2, if_neg h3, if_pos h4]
      rw [e0]
      exact (hS (p - 28) (by omega)).2.2.2.2
    · simp only [if_neg h1, if_neg h2, if_neg h3, if_neg h4]
      exact ⟨fun h => absurd h (by decide), fun h => absurd h (by decide), fun h => absurd h (by decide), fun h => absurd h (by decide)⟩
  · exact ⟨va_Nw.of rfl (hg _ st_11), va_Nw.of rfl (hg _ st_12), fw_lid rfl (hg _ st_13)⟩
end SW
