theorem fw_lid {A A' : Array Value} {u U : State} {C : String} {x y : MethodName} (h : u.vm = U.vm) (hb : (Cond.landsInDefault C x y).before A u = true) : (Cond.landsInDefault C x y).before A' U = true := by
  have e : (Cond.landsInDefault C x y).before A' U = (Cond.landsInDefault C x y).before A u := by
    obtain ⟨vm, fr⟩ : ∃ z, z = U.vm := ⟨_, rfl⟩
    unfold Cond.before Cond.holds
    simp only [Cond.value, State.methodFound?, State.methodNamed?, h]
  rw [e]
  exact hb
theorem fw_St.warm {g : fw_G} {s U : State} (hW : s.WarmedH U.vm) (h : fw_St g s) : fw_St g U := by
  obtain ⟨h1, h2, h3, h4, h5, h6, h7, ⟨⟨kA, comp, a1, a2, a3⟩, h9⟩, h10, h11, d1, d2, d3⟩ := h
  have al := hW.alike
  refine ⟨fun k q hq => u_Kn_moved al (h1 k q hq), fun k ty hk => ⟨arrOfT_moved al (h2 k ty hk).1, by rw [al.findClass]; exact (h2 k ty hk).2.1, fun C e => ((h2 k ty hk).2.2 C e).moved al⟩, fun t ht => va_Nw.warmF hW (h3 t ht), fun t ht => va_Nw.warmM hW (h4 t ht), fun t ht => ?_, fun t ht => va_AO.moved al (h6 t ht), fun t ht => va_Nw.warmD hW (h7 t ht), ⟨?_, ?_⟩, va_Nw.warmC hW h10, h11.moved al, word_at hW (Or.inl rfl) d1, word_at hW (Or.inl rfl) d2, ?_⟩
  rotate_left
  · obtain ⟨k', hk', he⟩ := al.2.2 _ _ a1
    exact ⟨k', comp, hk', by rw [he]; exact a2, by rw [al.findClass]; exact a3⟩
  · have e := Cond.arrayOver_setVmC (args := #[]) al (.array .int)
    have e2 : (Cond.arrayOver (.array .int)).before #[] U = (Cond.arrayOver (.array .int)).before #[] (s.setVm U.vm) := by
      unfold Cond.before Cond.holds
      simp only [Cond.value]
      rfl
    rw [e2, e]
    exact h9
  · have e := Cond.landsInDefault_setVm (args := #[]) (args' := #[]) (cls := "SpoonScales$Two") (x := fw_xB) (y := fw_yB) al (State.methodFound?_setVm al _ _ _)
    exact fw_lid (rfl : (s.setVm U.vm).vm = U.vm) (e.trans d3)
  refine va_Fw.moved ?_ al (h5 t ht)
  have hall : ∀ t ∈ fw_nI, t.2.1.cls ≠ "java/lang/invoke/MethodHandle" ∧ t.2.1.cls ≠ "java/lang/invoke/VarHandle" := by decide +kernel
  exact hall t ht
theorem fw_St.same {g : fw_G} {u U : State} (hv : U.vm = u.vm) (h : fw_St g u) : fw_St g U := h.warm (by rw [hv]; exact State.WarmedH.refl u)
/-- a method: its class, name, code, locals, answer, handlers -/
abbrev fw_Kt : Type := String × String × ByteArray × Nat × Option FieldType × List (Nat × Nat × Nat × Nat)
def fw_Fr (g : fw_G) (K : fw_Kt) (f : Nat) (R : Room) (p : Program) (s : State) (m : MethodId) (args : Array Value) (meth : Method) (c : Code) : Prop :=
  p.tables.exec = Jvm.exec ∧ c.code = K.2.2.1 ∧ meth.sig.returnType = K.2.2.2.2.1 ∧ meth.locks = false ∧ c.maxLocals = K.2.2.2.1 ∧ s.vm.findClass K.1 = some m.cls ∧ (∀ w ∈ lw_all, w.before args s = true) ∧ fw_St g s ∧ f ≤ R.frames ∧ 40 * f ≤ R.locals ∧ meth.name = K.2.1 ∧ c.exceptionTable.toList = tableOf K.2.2.2.2.2
def fw_Pc (g : fw_G) (args : List Value) (μ : fw_M) : Array Value → State → Prop := fun v U => v = args.toArray ∧ fw_R g μ U.heap ∧ fw_St g U
def fw_Qc (g : fw_G) (μ0 : fw_M) (Q : Option Value → fw_M → Prop) : Array Value → State → Outcome → State → Prop := fun _ _ oc t => ∃ (r : Option Value) (μ' : fw_M), oc = .returned r ∧ Q r μ' ∧ fw_sub μ0 μ' ∧ fw_R g μ' t.heap
def fw_XC (g : fw_G) (μ0 : fw_M) (X : Nat → fw_M → Prop) : Addr → String → State → State → Prop := fun q E _ t => ∃ (r : Nat) (μ' : fw_M), q = fw_ad g r ∧ E = "SpoonScales$Wrong" ∧ m_K μ' r = 8 ∧ X r μ' ∧ fw_sub μ0 μ' ∧ fw_R g μ' t.heap
def fw_fr (g : fw_G) : Addr → Prop := fun q => g.1.size ≤ q
/-- the contract of a method, called with these arguments on this memory, by a caller that can pay f frames, bc cells and bs slots -/
def fw_C (g : fw_G) (f bc bs : Nat) (y : MethodName) (ws : List Cond) (args : List Value) (μ : fw_M) (Q : Option Value → fw_M → Prop) (X : Nat → fw_M → Prop) : Prop :=
  ∀ l : Launch, fx_Met l y ws ({ frames := f, cells := bc, slots := bs, locals := 40 * f } : Room) (fw_Pc g args μ) (fw_Qc g μ Q) (fw_XC g μ X) bc bs (fw_fr g)
/-- inside a method: from this pc, locals, stack and memory it comes to its end with Q, or throws with X -/
def fw_V (g : fw_G) (K : fw_Kt) (f bc bs pc : Nat) (Ls : List (Nat × Value)) (st : List Value) (μ : fw_M) (Q : Option Value → fw_M → Prop) (X : Nat → fw_M → Prop) : Prop :=
  ∀ (p : Program) (l : Launch) (e : Env) (R : Room) (s : State) (m : MethodId) (args : Array Value) (below : List Frame) (meth : Method) (c : Code) (H : Heap) (locs : List Loc) (cells slots : Nat) (ls : Array Slot) (μ0 : fw_M),
    fw_Fr g K f R p s m args meth c → fw_R g μ0 s.heap → fw_R g μ H → (∀ q ∈ locs, fw_fr g q.base) → cells + bc = R.cells → slots + bs = R.slots → lv_has ls K.2.2.2.1 Ls → fw_sub μ0 μ →
    W p l e R s m args below meth c H locs cells slots (fx_MQ below (fw_Qc g μ0 Q) (fw_XC g μ0 X) args s R.cells R.slots (fw_fr g)) (F0 m pc ls st)
/-- .. with the cell r thrown over the frame -/
def fw_VX (g : fw_G) (K : fw_Kt) (f bc bs pc : Nat) (Ls : List (Nat × Value)) (r : Nat) (μ : fw_M) (Q : Option Value → fw_M → Prop) (X : Nat → fw_M → Prop) : Prop :=
  ∀ (p : Program) (l : Launch) (e : Env) (R : Room) (s : State) (m : MethodId) (args : Array Value) (below : List Frame) (meth : Method) (c : Code) (H : Heap) (locs : List Loc) (cells slots : Nat) (ls : Array Slot) (μ0 : fw_M) (rest : List Value),
    fw_Fr g K f R p s m args meth c → fw_R g μ0 s.heap → fw_R g μ H → (∀ q ∈ locs, fw_fr g q.base) → cells + bc = R.cells → slots + bs = R.slots → lv_has ls K.2.2.2.1 Ls → fw_sub μ0 μ →
    fx_W p l e R s m args below meth c H locs cells slots (fx_MQ below (fw_Qc g μ0 Q) (fw_XC g μ0 X) args s R.cells R.slots (fw_fr g)) (F0 m pc ls rest) (fw_ad g r)
theorem fw_blind {g : fw_G} {args : List Value} {μ : fw_M} : FrameBlind (fw_Pc g args μ) := fun a U gg mk h => ⟨h.1, h.2.1, fw_St.same rfl h.2.2⟩
theorem fw_intro {g : fw_G} {f bc bs : Nat} {y : MethodName} {cc : ByteArray} {nL : Nat} {ret : Option FieldType} {args : List Value} {μ : fw_M} {Q : Option Value → fw_M → Prop} {X : Nat → fw_M → Prop} (hy : plainFor y = true) (hn : (lg_sl args).length ≤ nL)
    (k : fw_V g (y.cls, y.name, cc, nL, ret, []) f bc bs 0 (lv_args 0 args) [] μ Q X) : fw_C g f bc bs y (ws_ y cc nL ret) args μ Q X := by
  intro l
  refine fx_ofW (cc := cc) (maxL := nL) (ret := ret) hy rfl ?_
  intro p e s m args' below meth c s₁ B hml ht hP
  obtain ⟨rfl, hR, hSt⟩ := hP
  have hts := atoms_spec (ws := ws_ y cc nL ret) B.pre
  have hts : ∀ w ∈ lw_all, w.before args.toArray s = true := fun w h => hts w (List.mem_cons_of_mem _ h)
  have hl := lv_entry args (n := nL) hn
  rw [lg_entry_eq]
  have htab : c.exceptionTable.toList = tableOf [] := by
    cases he : c.exceptionTable.toList with
    | nil => rfl
    | cons a b => exact (ht a (by rw [he]; exact List.mem_cons_self)).elim
  exact k p l e _ s m args.toArray below meth c s.heap [] 0 0 _ μ ⟨B.exec, B.bytes, B.returns, B.notSynchronized, hml, findClass_of_methodNamed B.named, hts, hSt, Nat.le_refl _, Nat.le_refl _, (name_of_methodNamed B.named B.method).1, htab⟩ hR hR (fun q h => by cases h) (Nat.zero_add _) (Nat.zero_add _) hl fw_sub.rf
theorem fw_introH {g : fw_G} {f bc bs : Nat} {y : MethodName} {cc : ByteArray} {nL : Nat} {ret : Option FieldType} {hh : List (Nat × Nat × Nat × Nat)} {args : List Value} {μ : fw_M} {Q : Option Value → fw_M → Prop} {X : Nat → fw_M → Prop} (hy : plainFor y = true) (hn : (lg_sl args).length ≤ nL)
    (k : fw_V g (y.cls, y.name, cc, nL, ret, hh) f bc bs 0 (lv_args 0 args) [] μ Q X) : fw_C g f bc bs y (wsW_ y cc nL ret hh) args μ Q X := by
  intro l
  refine fx_ofWH (cc := cc) (maxL := nL) (ret := ret) (hh := hh) hy rfl ?_
  intro p e s m args' below meth c s₁ B hml hP
  obtain ⟨rfl, hR, hSt⟩ := hP
  have hts0 := atoms_spec (ws := wsW_ y cc nL ret hh) B.pre
  have hts : ∀ w ∈ lw_all, w.before args.toArray s = true := fun w h => hts0 w (List.mem_cons_of_mem _ h)
  have hl := lv_entry args (n := nL) hn
  rw [lg_entry_eq]
  have htab : c.exceptionTable.toList = tableOf hh := fx_table (x := y) B (hts0 _ List.mem_cons_self)
  exact k p l e _ s m args.toArray below meth c s.heap [] 0 0 _ μ ⟨B.exec, B.bytes, B.returns, B.notSynchronized, hml, findClass_of_methodNamed B.named, hts, hSt, Nat.le_refl _, Nat.le_refl _, (name_of_methodNamed B.named B.method).1, htab⟩ hR hR (fun q h => by cases h) (Nat.zero_add _) (Nat.zero_add _) hl fw_sub.rf
section FW1
variable {g : fw_G} {K : fw_Kt} {f bc bs pc : Nat} {Ls : List (Nat × Value)} {st : List Value} {μ : fw_M} {Q : Option Value → fw_M → Prop} {X : Nat → fw_M → Prop}
theorem fw_iadd {x y : Int32} (d : decode K.2.2.1 pc = .ok (.iadd, 1)) (kk : fw_V g K f bc bs (pc + 1) Ls (.int (x + y) :: st) μ Q X) : fw_V g K f bc bs pc Ls (.int y :: .int x :: st) μ Q X := by
  intro p l e R s m args below meth c H locs cells slots ls μ0 hF hR0 hR hL h1 h2 hl hs
  exact lv_iadd hF.1 hF.2.1 d (kk p l e R s m args below meth c H locs cells slots ls μ0 hF hR0 hR hL h1 h2 hl hs)
theorem fw_isub {x y : Int32} (d : decode K.2.2.1 pc = .ok (.isub, 1)) (kk : fw_V g K f bc bs (pc + 1) Ls (.int (x - y) :: st) μ Q X) : fw_V g K f bc bs pc Ls (.int y :: .int x :: st) μ Q X := by
  intro p l e R s m args below meth c H locs cells slots ls μ0 hF hR0 hR hL h1 h2 hl hs
  exact lv_isub hF.1 hF.2.1 d (kk p l e R s m args below meth c H locs cells slots ls μ0 hF hR0 hR hL h1 h2 hl hs)
theorem fw_imul {x y : Int32} (d : decode K.2.2.1 pc = .ok (.imul, 1)) (kk : fw_V g K f bc bs (pc + 1) Ls (.int (x * y) :: st) μ Q X) : fw_V g K f bc bs pc Ls (.int y :: .int x :: st) μ Q X := by
  intro p l e R s m args below meth c H locs cells slots ls μ0 hF hR0 hR hL h1 h2 hl hs
  exact lv_imul hF.1 hF.2.1 d (kk p l e R s m args below meth c H locs cells slots ls μ0 hF hR0 hR hL h1 h2 hl hs)
theorem fw_iand {x y : Int32} (d : decode K.2.2.1 pc = .ok (.iand, 1)) (kk : fw_V g K f bc bs (pc + 1) Ls (.int (x &&& y) :: st) μ Q X) : fw_V g K f bc bs pc Ls (.int y :: .int x :: st) μ Q X := by
  intro p l e R s m args below meth c H locs cells slots ls μ0 hF hR0 hR hL h1 h2 hl hs
  exact lv_iand hF.1 hF.2.1 d (kk p l e R s m args below meth c H locs cells slots ls μ0 hF hR0 hR hL h1 h2 hl hs)
theorem fw_ior {x y : Int32} (d : decode K.2.2.1 pc = .ok (.ior, 1)) (kk : fw_V g K f bc bs (pc + 1) Ls (.int (x ||| y) :: st) μ Q X) : fw_V g K f bc bs pc Ls (.int y :: .int x :: st) μ Q X := by
  intro p l e R s m args below meth c H locs cells slots ls μ0 hF hR0 hR hL h1 h2 hl hs
  exact lv_ior hF.1 hF.2.1 d (kk p l e R s m args below meth c H locs cells slots ls μ0 hF hR0 hR hL h1 h2 hl hs)
theorem fw_ixor {x y : Int32} (d : decode K.2.2.1 pc = .ok (.ixor, 1)) (kk : fw_V g K f bc bs (pc + 1) Ls (.int (x ^^^ y) :: st) μ Q X) : fw_V g K f bc bs pc Ls (.int y :: .int x :: st) μ Q X := by
  intro p l e R s m args below meth c H locs cells slots ls μ0 hF hR0 hR hL h1 h2 hl hs
  exact lv_ixor hF.1 hF.2.1 d (kk p l e R s m args below meth c H locs cells slots ls μ0 hF hR0 hR hL h1 h2 hl hs)
theorem fw_ishl {x y : Int32} (d : decode K.2.2.1 pc = .ok (.ishl, 1)) (kk : fw_V g K f bc bs (pc + 1) Ls (.int (x <<< (y &&& 31)) :: st) μ Q X) : fw_V g K f bc bs pc Ls (.int y :: .int x :: st) μ Q X := by
  intro p l e R s m args below meth c H locs cells slots ls μ0 hF hR0 hR hL h1 h2 hl hs
  exact lv_ishl hF.1 hF.2.1 d (kk p l e R s m args below meth c H locs cells slots ls μ0 hF hR0 hR hL h1 h2 hl hs)
theorem fw_ishr {x y : Int32} (d : decode K.2.2.1 pc = .ok (.ishr, 1)) (kk : fw_V g K f bc bs (pc + 1) Ls (.int (x >>> (y &&& 31)) :: st) μ Q X) : fw_V g K f bc bs pc Ls (.int y :: .int x :: st) μ Q X := by
  intro p l e R s m args below meth c H locs cells slots ls μ0 hF hR0 hR hL h1 h2 hl hs
  exact lv_ishr hF.1 hF.2.1 d (kk p l e R s m args below meth c H locs cells slots ls μ0 hF hR0 hR hL h1 h2 hl hs)
theorem fw_ladd {x y : Int64} (d : decode K.2.2.1 pc = .ok (.ladd, 1)) (kk : fw_V g K f bc bs (pc + 1) Ls (.long (x + y) :: st) μ Q X) : fw_V g K f bc bs pc Ls (.long y :: .long x :: st) μ Q X := by
  intro p l e R s m args below meth c H locs cells slots ls μ0 hF hR0 hR hL h1 h2 hl hs
  exact lv_ladd hF.1 hF.2.1 d (kk p l e R s m args below meth c H locs cells slots ls μ0 hF hR0 hR hL h1 h2 hl hs)
theorem fw_lsub {x y : Int64} (d : decode K.2.2.1 pc = .ok (.lsub, 1)) (kk : fw_V g K f bc bs (pc + 1) Ls (.long (x - y) :: st) μ Q X) : fw_V g K f bc bs pc Ls (.long y :: .long x :: st) μ Q X := by
  intro p l e R s m args below meth c H locs cells slots ls μ0 hF hR0 hR hL h1 h2 hl hs
  exact lv_lsub hF.1 hF.2.1 d (kk p l e R s m args below meth c H locs cells slots ls μ0 hF hR0 hR hL h1 h2 hl hs)
theorem fw_lmul {x y : Int64} (d : decode K.2.2.1 pc = .ok (.lmul, 1)) (kk : fw_V g K f bc bs (pc + 1) Ls (.long (x * y) :: st) μ Q X) : fw_V g K f bc bs pc Ls (.long y :: .long x :: st) μ Q X := by
  intro p l e R s m args below meth c H locs cells slots ls μ0 hF hR0 hR hL h1 h2 hl hs
  exact lv_lmul hF.1 hF.2.1 d (kk p l e R s m args below meth c H locs cells slots ls μ0 hF hR0 hR hL h1 h2 hl hs)
theorem fw_idiv {x y : Int32} (d : decode K.2.2.1 pc = .ok (.idiv, 1)) (hy : ¬ y = 0) (kk : fw_V g K f bc bs (pc + 1) Ls (.int (x / y) :: st) μ Q X) : fw_V g K f bc bs pc Ls (.int y :: .int x :: st) μ Q X := by
  intro p l e R s m args below meth c H locs cells slots ls μ0 hF hR0 hR hL h1 h2 hl hs
  exact lv_idiv hF.1 hF.2.1 d hy (kk p l e R s m args below meth c H locs cells slots ls μ0 hF hR0 hR hL h1 h2 hl hs)
theorem fw_irem {x y : Int32} (d : decode K.2.2.1 pc = .ok (.irem, 1)) (hy : ¬ y = 0) (kk : fw_V g K f bc bs (pc + 1) Ls (.int (x - x / y * y) :: st) μ Q X) : fw_V g K f bc bs pc Ls (.int y :: .int x :: st) μ Q X := by
  intro p l e R s m args below meth c H locs cells slots ls μ0 hF hR0 hR hL h1 h2 hl hs
  exact lv_irem hF.1 hF.2.1 d hy (kk p l e R s m args below meth c H locs cells slots ls μ0 hF hR0 hR hL h1 h2 hl hs)
theorem fw_ldiv {x y : Int64} (d : decode K.2.2.1 pc = .ok (.ldiv, 1)) (hy : ¬ y = 0) (kk : fw_V g K f bc bs (pc + 1) Ls (.long (x / y) :: st) μ Q X) : fw_V g K f bc bs pc Ls (.long y :: .long x :: st) μ Q X := by
  intro p l e R s m args below meth c H locs cells slots ls μ0 hF hR0 hR hL h1 h2 hl hs
  exact lv_ldiv hF.1 hF.2.1 d hy (kk p l e R s m args below meth c H locs cells slots ls μ0 hF hR0 hR hL h1 h2 hl hs)
theorem fw_lrem {x y : Int64} (d : decode K.2.2.1 pc = .ok (.lrem, 1)) (hy : ¬ y = 0) (kk : fw_V g K f bc bs (pc + 1) Ls (.long (x - x / y * y) :: st) μ Q X) : fw_V g K f bc bs pc Ls (.long y :: .long x :: st) μ Q X := by
  intro p l e R s m args below meth c H locs cells slots ls μ0 hF hR0 hR hL h1 h2 hl hs
  exact lv_lrem hF.1 hF.2.1 d hy (kk p l e R s m args below meth c H locs cells slots ls μ0 hF hR0 hR hL h1 h2 hl hs)
theorem fw_ineg {x : Int32} (d : decode K.2.2.1 pc = .ok (.ineg, 1)) (kk : fw_V g K f bc bs (pc + 1) Ls (.int (-x) :: st) μ Q X) : fw_V g K f bc bs pc Ls (.int x :: st) μ Q X := by
  intro p l e R s m args below meth c H locs cells slots ls μ0 hF hR0 hR hL h1 h2 hl hs
  exact lv_ineg hF.1 hF.2.1 d (kk p l e R s m args below meth c H locs cells slots ls μ0 hF hR0 hR hL h1 h2 hl hs)
theorem fw_lneg {x : Int64} (d : decode K.2.2.1 pc = .ok (.lneg, 1)) (kk : fw_V g K f bc bs (pc + 1) Ls (.long (-x) :: st) μ Q X) : fw_V g K f bc bs pc Ls (.long x :: st) μ Q X := by
  intro p l e R s m args below meth c H locs cells slots ls μ0 hF hR0 hR hL h1 h2 hl hs
  exact lv_lneg hF.1 hF.2.1 d (kk p l e R s m args below meth c H locs cells slots ls μ0 hF hR0 hR hL h1 h2 hl hs)
theorem fw_iushr {x y : Int32} (d : decode K.2.2.1 pc = .ok (.iushr, 1)) (kk : fw_V g K f bc bs (pc + 1) Ls (.int ((x.toUInt32 >>> (y.toUInt32 &&& Int32.toUInt32 31)).toInt32) :: st) μ Q X) : fw_V g K f bc bs pc Ls (.int y :: .int x :: st) μ Q X := by
  intro p l e R s m args below meth c H locs cells slots ls μ0 hF hR0 hR hL h1 h2 hl hs
  exact lv_iushr hF.1 hF.2.1 d rfl (kk p l e R s m args below meth c H locs cells slots ls μ0 hF hR0 hR hL h1 h2 hl hs)
theorem fw_lshl {x : Int64} {y : Int32} (d : decode K.2.2.1 pc = .ok (.lshl, 1)) (kk : fw_V g K f bc bs (pc + 1) Ls (.long (x <<< (y.toInt64 &&& 63)) :: st) μ Q X) : fw_V g K f bc bs pc Ls (.int y :: .long x :: st) μ Q X := by
  intro p l e R s m args below meth c H locs cells slots ls μ0 hF hR0 hR hL h1 h2 hl hs
  exact lv_lshl hF.1 hF.2.1 d rfl (kk p l e R s m args below meth c H locs cells slots ls μ0 hF hR0 hR hL h1 h2 hl hs)
theorem fw_i2l {x : Int32} (d : decode K.2.2.1 pc = .ok (.i2l, 1)) (kk : fw_V g K f bc bs (pc + 1) Ls (.long x.toInt64 :: st) μ Q X) : fw_V g K f bc bs pc Ls (.int x :: st) μ Q X := by
  intro p l e R s m args below meth c H locs cells slots ls μ0 hF hR0 hR hL h1 h2 hl hs
  exact lv_i2l hF.1 hF.2.1 d rfl (kk p l e R s m args below meth c H locs cells slots ls μ0 hF hR0 hR hL h1 h2 hl hs)
theorem fw_l2i {x : Int64} (d : decode K.2.2.1 pc = .ok (.l2i, 1)) (kk : fw_V g K f bc bs (pc + 1) Ls (.int x.toInt32 :: st) μ Q X) : fw_V g K f bc bs pc Ls (.long x :: st) μ Q X := by
  intro p l e R s m args below meth c H locs cells slots ls μ0 hF hR0 hR hL h1 h2 hl hs
  exact lv_l2i hF.1 hF.2.1 d rfl (kk p l e R s m args below meth c H locs cells slots ls μ0 hF hR0 hR hL h1 h2 hl hs)
theorem fw_i2b {x : Int32} (d : decode K.2.2.1 pc = .ok (.i2b, 1)) (kk : fw_V g K f bc bs (pc + 1) Ls (.int x.toInt8.toInt32 :: st) μ Q X) : fw_V g K f bc bs pc Ls (.int x :: st) μ Q X := by
  intro p l e R s m args below meth c H locs cells slots ls μ0 hF hR0 hR hL h1 h2 hl hs
  exact lv_i2b hF.1 hF.2.1 d rfl (kk p l e R s m args below meth c H locs cells slots ls μ0 hF hR0 hR hL h1 h2 hl hs)
theorem fw_i2c {x : Int32} (d : decode K.2.2.1 pc = .ok (.i2c, 1)) (kk : fw_V g K f bc bs (pc + 1) Ls (.int ((x.toUInt32 % 65536).toInt32) :: st) μ Q X) : fw_V g K f bc bs pc Ls (.int x :: st) μ Q X := by
  intro p l e R s m args below meth c H locs cells slots ls μ0 hF hR0 hR hL h1 h2 hl hs
  exact lv_i2c hF.1 hF.2.1 d rfl (kk p l e R s m args below meth c H locs cells slots ls μ0 hF hR0 hR hL h1 h2 hl hs)
theorem fw_lcmp {x y : Int64} (d : decode K.2.2.1 pc = .ok (.lcmp, 1)) (kk : fw_V g K f bc bs (pc + 1) Ls (.int (lg_cmp x y) :: st) μ Q X) : fw_V g K f bc bs pc Ls (.long y :: .long x :: st) μ Q X := by
  intro p l e R s m args below meth c H locs cells slots ls μ0 hF hR0 hR hL h1 h2 hl hs
  exact W.lcmp hF.1 hF.2.1 d (kk p l e R s m args below meth c H locs cells slots ls μ0 hF hR0 hR hL h1 h2 hl hs)
theorem fw_iconst {n : Int} {v : Int32} (d : decode K.2.2.1 pc = .ok (.iconst n, 1)) (hv : Int32.ofInt n = v) (kk : fw_V g K f bc bs (pc + 1) Ls (.int v :: st) μ Q X) : fw_V g K f bc bs pc Ls (st) μ Q X := by
  intro p l e R s m args below meth c H locs cells slots ls μ0 hF hR0 hR hL h1 h2 hl hs
  exact lv_iconst hF.1 hF.2.1 d hv (kk p l e R s m args below meth c H locs cells slots ls μ0 hF hR0 hR hL h1 h2 hl hs)
theorem fw_lconst {n : Fin 2} {v : Int64} (d : decode K.2.2.1 pc = .ok (.lconst n, 1)) (hv : Int64.ofNat n = v) (kk : fw_V g K f bc bs (pc + 1) Ls (.long v :: st) μ Q X) : fw_V g K f bc bs pc Ls (st) μ Q X := by
  intro p l e R s m args below meth c H locs cells slots ls μ0 hF hR0 hR hL h1 h2 hl hs
  exact lv_lconst hF.1 hF.2.1 d hv (kk p l e R s m args below meth c H locs cells slots ls μ0 hF hR0 hR hL h1 h2 hl hs)
theorem fw_bipush {n : Int} {v : Int32} (d : decode K.2.2.1 pc = .ok (.bipush n, 2)) (hv : (Int8.ofInt n).toInt32 = v) (kk : fw_V g K f bc bs (pc + 2) Ls (.int v :: st) μ Q X) : fw_V g K f bc bs pc Ls (st) μ Q X := by
  intro p l e R s m args below meth c H locs cells slots ls μ0 hF hR0 hR hL h1 h2 hl hs
  exact lv_bipush hF.1 hF.2.1 d hv (kk p l e R s m args below meth c H locs cells slots ls μ0 hF hR0 hR hL h1 h2 hl hs)
theorem fw_sipush {n : Int} {v : Int32} (d : decode K.2.2.1 pc = .ok (.sipush n, 3)) (hv : (Int16.ofInt n).toInt32 = v) (kk : fw_V g K f bc bs (pc + 3) Ls (.int v :: st) μ Q X) : fw_V g K f bc bs pc Ls (st) μ Q X := by
  intro p l e R s m args below meth c H locs cells slots ls μ0 hF hR0 hR hL h1 h2 hl hs
  exact lv_sipush hF.1 hF.2.1 d hv (kk p l e R s m args below meth c H locs cells slots ls μ0 hF hR0 hR hL h1 h2 hl hs)
theorem fw_dup {va : Value} (d : decode K.2.2.1 pc = .ok (.dup, 1)) (hc1 : va.category = 1) (kk : fw_V g K f bc bs (pc + 1) Ls (va :: va :: st) μ Q X) : fw_V g K f bc bs pc Ls (va :: st) μ Q X := by
  intro p l e R s m args below meth c H locs cells slots ls μ0 hF hR0 hR hL h1 h2 hl hs
  exact lv_dup hF.1 hF.2.1 d hc1 (kk p l e R s m args below meth c H locs cells slots ls μ0 hF hR0 hR hL h1 h2 hl hs)
theorem fw_pop {va : Value} (d : decode K.2.2.1 pc = .ok (.pop, 1)) (hc1 : va.category = 1) (kk : fw_V g K f bc bs (pc + 1) Ls (st) μ Q X) : fw_V g K f bc bs pc Ls (va :: st) μ Q X := by
  intro p l e R s m args below meth c H locs cells slots ls μ0 hF hR0 hR hL h1 h2 hl hs
  exact lv_pop hF.1 hF.2.1 d hc1 (kk p l e R s m args below meth c H locs cells slots ls μ0 hF hR0 hR hL h1 h2 hl hs)
theorem fw_dup_x1 {va vb : Value} (d : decode K.2.2.1 pc = .ok (.dup_x1, 1)) (hc1 : va.category = 1) (hc2 : vb.category = 1) (kk : fw_V g K f bc bs (pc + 1) Ls (va :: vb :: va :: st) μ Q X) : fw_V g K f bc bs pc Ls (va :: vb :: st) μ Q X := by
  intro p l e R s m args below meth c H locs cells slots ls μ0 hF hR0 hR hL h1 h2 hl hs
  exact lv_dup_x1 hF.1 hF.2.1 d hc1 hc2 (kk p l e R s m args below meth c H locs cells slots ls μ0 hF hR0 hR hL h1 h2 hl hs)
theorem fw_dup_x2 {va vb vd : Value} (d : decode K.2.2.1 pc = .ok (.dup_x2, 1)) (hc1 : va.category = 1) (hc2 : vb.category = 1) (hc3 : vd.category = 1) (kk : fw_V g K f bc bs (pc + 1) Ls (va :: vb :: vd :: va :: st) μ Q X) : fw_V g K f bc bs pc Ls (va :: vb :: vd :: st) μ Q X := by
  intro p l e R s m args below meth c H locs cells slots ls μ0 hF hR0 hR hL h1 h2 hl hs
  exact lv_dup_x2 hF.1 hF.2.1 d hc1 hc2 hc3 (kk p l e R s m args below meth c H locs cells slots ls μ0 hF hR0 hR hL h1 h2 hl hs)
theorem fw_dup2 {va vb : Value} (d : decode K.2.2.1 pc = .ok (.dup2, 1)) (hc1 : va.category = 1) (hc2 : vb.category = 1) (kk : fw_V g K f bc bs (pc + 1) Ls (va :: vb :: va :: vb :: st) μ Q X) : fw_V g K f bc bs pc Ls (va :: vb :: st) μ Q X := by
  intro p l e R s m args below meth c H locs cells slots ls μ0 hF hR0 hR hL h1 h2 hl hs
  exact lv_dup2_11 hF.1 hF.2.1 d hc1 hc2 (kk p l e R s m args below meth c H locs cells slots ls μ0 hF hR0 hR hL h1 h2 hl hs)
theorem fw_cat {g : fw_G} (r : Nat) : (fw_rv g r).category = 1 := by
  unfold fw_rv
  split <;> rfl
def fw_lk : List (Nat × Value) → Nat → Option Value
  | [], _ => none
  | q :: l, i => if q.1 = i then some q.2 else fw_lk l i
theorem fw_lk_mem : ∀ (l : List (Nat × Value)) {i : Nat} {v : Value}, fw_lk l i = some v → (i, v) ∈ l
  | [], _, _, h => by cases h
  | q :: l, i, v, h => by
    unfold fw_lk at h
    split at h
    · rename_i e
      cases h
      subst e
      exact List.mem_cons_self
    · exact List.mem_cons_of_mem _ (fw_lk_mem l h)
theorem fw_iload_n {k : Fin 4} {i : Nat} {x : Int32} (d : decode K.2.2.1 pc = .ok (.iload_n k, 1)) (hi : (k : Nat) = i) (hk : fw_lk Ls i = some (.int x)) (kk : fw_V g K f bc bs (pc + 1) Ls (.int x :: st) μ Q X) : fw_V g K f bc bs pc Ls st μ Q X := by
  intro p l e R s m args below meth c H locs cells slots ls μ0 hF hR0 hR hL h1 h2 hl hs
  exact lv_iload_n hF.1 hF.2.1 d hi (hl.2.2 _ (fw_lk_mem _ hk)) (kk p l e R s m args below meth c H locs cells slots ls μ0 hF hR0 hR hL h1 h2 hl hs)
theorem fw_iload {i : Nat} {x : Int32} (d : decode K.2.2.1 pc = .ok (.iload i, 2)) (hk : fw_lk Ls i = some (.int x)) (kk : fw_V g K f bc bs (pc + 2) Ls (.int x :: st) μ Q X) : fw_V g K f bc bs pc Ls st μ Q X := by
  intro p l e R s m args below meth c H locs cells slots ls μ0 hF hR0 hR hL h1 h2 hl hs
  exact lv_iload hF.1 hF.2.1 d (hl.2.2 _ (fw_lk_mem _ hk)) (kk p l e R s m args below meth c H locs cells slots ls μ0 hF hR0 hR hL h1 h2 hl hs)
theorem fw_lload_n {k : Fin 4} {i : Nat} {x : Int64} (d : decode K.2.2.1 pc = .ok (.lload_n k, 1)) (hi : (k : Nat) = i) (hk : fw_lk Ls i = some (.long x)) (kk : fw_V g K f bc bs (pc + 1) Ls (.long x :: st) μ Q X) : fw_V g K f bc bs pc Ls st μ Q X := by
  intro p l e R s m args below meth c H locs cells slots ls μ0 hF hR0 hR hL h1 h2 hl hs
  exact lv_lload_n hF.1 hF.2.1 d hi (hl.2.2 _ (fw_lk_mem _ hk)) (kk p l e R s m args below meth c H locs cells slots ls μ0 hF hR0 hR hL h1 h2 hl hs)
theorem fw_lload {i : Nat} {x : Int64} (d : decode K.2.2.1 pc = .ok (.lload i, 2)) (hk : fw_lk Ls i = some (.long x)) (kk : fw_V g K f bc bs (pc + 2) Ls (.long x :: st) μ Q X) : fw_V g K f bc bs pc Ls st μ Q X := by
  intro p l e R s m args below meth c H locs cells slots ls μ0 hF hR0 hR hL h1 h2 hl hs
  exact lv_lload hF.1 hF.2.1 d (hl.2.2 _ (fw_lk_mem _ hk)) (kk p l e R s m args below meth c H locs cells slots ls μ0 hF hR0 hR hL h1 h2 hl hs)
theorem fw_aload_n {k : Fin 4} {i r : Nat} (d : decode K.2.2.1 pc = .ok (.aload_n k, 1)) (hi : (k : Nat) = i) (hk : fw_lk Ls i = some (fw_rv g r)) (kk : fw_V g K f bc bs (pc + 1) Ls (fw_rv g r :: st) μ Q X) : fw_V g K f bc bs pc Ls st μ Q X := by
  intro p l e R s m args below meth c H locs cells slots ls μ0 hF hR0 hR hL h1 h2 hl hs
  have hv := hl.2.2 _ (fw_lk_mem _ hk)
  have k2 := kk p l e R s m args below meth c H locs cells slots ls μ0 hF hR0 hR hL h1 h2 hl hs
  unfold fw_rv at hv k2
  split at hv
  · rw [if_pos (by assumption)] at k2
    exact lv_aload_nN hF.1 hF.2.1 d hi hv k2
  · rw [if_neg (by assumption)] at k2
    exact lv_aload_n hF.1 hF.2.1 d hi hv k2
theorem fw_aload {i r : Nat} (d : decode K.2.2.1 pc = .ok (.aload i, 2)) (hk : fw_lk Ls i = some (fw_rv g r)) (kk : fw_V g K f bc bs (pc + 2) Ls (fw_rv g r :: st) μ Q X) : fw_V g K f bc bs pc Ls st μ Q X := by
  intro p l e R s m args below meth c H locs cells slots ls μ0 hF hR0 hR hL h1 h2 hl hs
  have hv := hl.2.2 _ (fw_lk_mem _ hk)
  have k2 := kk p l e R s m args below meth c H locs cells slots ls μ0 hF hR0 hR hL h1 h2 hl hs
  unfold fw_rv at hv k2
  split at hv
  · rw [if_pos (by assumption)] at k2
    exact lv_aloadN hF.1 hF.2.1 d hv k2
  · rw [if_neg (by assumption)] at k2
    exact lv_aload hF.1 hF.2.1 d hv k2
theorem fw_keep {ls : Array Slot} {nL i : Nat} {v : Value} {L Ls' : List (Nat × Value)} {P : Nat × Value → Bool} (ks : List Nat) (h : lv_has ls nL ((i, v) :: L.filter P)) (hk : ∀ q ∈ lv_pick L ks, P q = true) (he : (i, v) :: lv_pick L ks = Ls') : lv_has ls nL Ls' := by
  refine ⟨h.1, h.2.1, fun q hq => ?_⟩
  rw [← he] at hq
  rcases List.mem_cons.mp hq with e | e
  · exact h.2.2 q (by rw [e]; exact List.mem_cons_self)
  · have e2 := e
    obtain ⟨k, -, hm⟩ := List.mem_filterMap.mp e2
    exact h.2.2 q (List.mem_cons_of_mem _ (List.mem_filter.mpr ⟨List.mem_of_getElem? hm, hk q e⟩))
theorem fw_keepN {ls : Array Slot} {nL i j : Nat} {v w : Value} {L Ls' : List (Nat × Value)} {P : Nat × Value → Bool} (ks : List Nat) (h : lv_has ls nL ((i, v) :: L.filter P)) (hk : ∀ q ∈ lv_pick L ks, P q = true) (hj : fw_lk L j = some w) (hw : P (j, w) = true) (he : (i, v) :: (j, w) :: lv_pick L ks = Ls') : lv_has ls nL Ls' := by
  refine ⟨h.1, h.2.1, fun q hq => ?_⟩
  rw [← he] at hq
  rcases List.mem_cons.mp hq with e | e
  · exact h.2.2 q (by rw [e]; exact List.mem_cons_self)
  · rcases List.mem_cons.mp e with e | e
    · rw [e]
      exact h.2.2 _ (List.mem_cons_of_mem _ (List.mem_filter.mpr ⟨fw_lk_mem _ hj, hw⟩))
    · have e2 := e
      obtain ⟨k, -, hm⟩ := List.mem_filterMap.mp e2
      exact h.2.2 q (List.mem_cons_of_mem _ (List.mem_filter.mpr ⟨List.mem_of_getElem? hm, hk q e⟩))
theorem fw_P1 {l : List (Nat × Value)} {i : Nat} (h : l.all (fun q => !(q.1 == i) && !(q.1 + 1 == i)) = true) : ∀ q ∈ l, (!(q.1 == i) && !(q.1 + 1 == i && q.2.category == 2)) = true := by
  intro q hq
  have h1 := List.all_eq_true.mp h q hq
  simp only [Bool.and_eq_true, Bool.not_eq_true'] at h1 ⊢
  exact ⟨h1.1, by rw [h1.2]; rfl⟩
theorem fw_P2 {l : List (Nat × Value)} {i : Nat} (h : l.all (fun q => !(q.1 == i) && (!(q.1 == i + 1) && !(q.1 + 1 == i))) = true) : ∀ q ∈ l, (!(q.1 == i) && (!(q.1 == i + 1) && !(q.1 + 1 == i && q.2.category == 2))) = true := by
  intro q hq
  have h1 := List.all_eq_true.mp h q hq
  simp only [Bool.and_eq_true, Bool.not_eq_true'] at h1 ⊢
  exact ⟨h1.1, h1.2.1, by rw [h1.2.2]; rfl⟩
theorem fw_N1 {i j : Nat} {w : Value} (hj : j + 1 = i) (hc : w.category = 1) : (!((j, w).1 == i) && !((j, w).1 + 1 == i && (j, w).2.category == 2)) = true := by
  have e : (j == i) = false := by simp; omega
  simp [e, hc]
theorem fw_N2 {i j : Nat} {w : Value} (hj : j + 1 = i) (hc : w.category = 1) : (!((j, w).1 == i) && (!((j, w).1 == i + 1) && !((j, w).1 + 1 == i && (j, w).2.category == 2))) = true := by
  have e : (j == i) = false := by simp; omega
  have e2 : (j == i + 1) = false := by simp; omega
  simp [e, e2, hc]
theorem fw_istore_n {k : Fin 4} {i : Nat} {x : Int32} {Ls' : List (Nat × Value)} (ks : List Nat) (d : decode K.2.2.1 pc = .ok (.istore_n k, 1)) (hi : (k : Nat) = i) (hn : i < K.2.2.2.1) (hk : (lv_pick Ls ks).all (fun q => !(q.1 == i) && !(q.1 + 1 == i)) = true) (he : (i, Value.int x) :: lv_pick Ls ks = Ls') (kk : fw_V g K f bc bs (pc + 1) Ls' st μ Q X) : fw_V g K f bc bs pc Ls (Value.int x :: st) μ Q X := by
  intro p l e R s m args below meth c H locs cells slots ls μ0 hF hR0 hR hL h1 h2 hl hs
  exact lv_istore_n hF.1 hF.2.1 d hi hl hn rfl (fun ls9 hl9 => kk p l e R s m args below meth c H locs cells slots ls9 μ0 hF hR0 hR hL h1 h2 (fw_keep ks hl9 (fw_P1 hk) he) hs)
theorem fw_istore_nN {k : Fin 4} {i : Nat} {x : Int32} {j : Nat} {w : Value} {Ls' : List (Nat × Value)} (ks : List Nat) (d : decode K.2.2.1 pc = .ok (.istore_n k, 1)) (hi : (k : Nat) = i) (hn : i < K.2.2.2.1) (hk : (lv_pick Ls ks).all (fun q => !(q.1 == i) && !(q.1 + 1 == i)) = true) (hj : j + 1 = i) (hlk : fw_lk Ls j = some w) (hc : w.category = 1) (he : (i, Value.int x) :: (j, w) :: lv_pick Ls ks = Ls') (kk : fw_V g K f bc bs (pc + 1) Ls' st μ Q X) : fw_V g K f bc bs pc Ls (Value.int x :: st) μ Q X := by
  intro p l e R s m args below meth c H locs cells slots ls μ0 hF hR0 hR hL h1 h2 hl hs
  exact lv_istore_n hF.1 hF.2.1 d hi hl hn rfl (fun ls9 hl9 => kk p l e R s m args below meth c H locs cells slots ls9 μ0 hF hR0 hR hL h1 h2 (fw_keepN ks hl9 (fw_P1 hk) hlk (fw_N1 hj hc) he) hs)
theorem fw_istore {i : Nat} {x : Int32} {Ls' : List (Nat × Value)} (ks : List Nat) (d : decode K.2.2.1 pc = .ok (.istore i, 2)) (hn : i < K.2.2.2.1) (hk : (lv_pick Ls ks).all (fun q => !(q.1 == i) && !(q.1 + 1 == i)) = true) (he : (i, Value.int x) :: lv_pick Ls ks = Ls') (kk : fw_V g K f bc bs (pc + 2) Ls' st μ Q X) : fw_V g K f bc bs pc Ls (Value.int x :: st) μ Q X := by
  intro p l e R s m args below meth c H locs cells slots ls μ0 hF hR0 hR hL h1 h2 hl hs
  exact lv_istore hF.1 hF.2.1 d hl hn rfl (fun ls9 hl9 => kk p l e R s m args below meth c H locs cells slots ls9 μ0 hF hR0 hR hL h1 h2 (fw_keep ks hl9 (fw_P1 hk) he) hs)
theorem fw_istoreN {i : Nat} {x : Int32} {j : Nat} {w : Value} {Ls' : List (Nat × Value)} (ks : List Nat) (d : decode K.2.2.1 pc = .ok (.istore i, 2)) (hn : i < K.2.2.2.1) (hk : (lv_pick Ls ks).all (fun q => !(q.1 == i) && !(q.1 + 1 == i)) = true) (hj : j + 1 = i) (hlk : fw_lk Ls j = some w) (hc : w.category = 1) (he : (i, Value.int x) :: (j, w) :: lv_pick Ls ks = Ls') (kk : fw_V g K f bc bs (pc + 2) Ls' st μ Q X) : fw_V g K f bc bs pc Ls (Value.int x :: st) μ Q X := by
  intro p l e R s m args below meth c H locs cells slots ls μ0 hF hR0 hR hL h1 h2 hl hs
  exact lv_istore hF.1 hF.2.1 d hl hn rfl (fun ls9 hl9 => kk p l e R s m args below meth c H locs cells slots ls9 μ0 hF hR0 hR hL h1 h2 (fw_keepN ks hl9 (fw_P1 hk) hlk (fw_N1 hj hc) he) hs)
theorem fw_lstore_n {k : Fin 4} {i : Nat} {x : Int64} {Ls' : List (Nat × Value)} (ks : List Nat) (d : decode K.2.2.1 pc = .ok (.lstore_n k, 1)) (hi : (k : Nat) = i) (hn : i + 1 < K.2.2.2.1) (hk : (lv_pick Ls ks).all (fun q => !(q.1 == i) && (!(q.1 == i + 1) && !(q.1 + 1 == i))) = true) (he : (i, Value.long x) :: lv_pick Ls ks = Ls') (kk : fw_V g K f bc bs (pc + 1) Ls' st μ Q X) : fw_V g K f bc bs pc Ls (Value.long x :: st) μ Q X := by
  intro p l e R s m args below meth c H locs cells slots ls μ0 hF hR0 hR hL h1 h2 hl hs
  exact lv_lstore_n hF.1 hF.2.1 d hi hl hn rfl (fun ls9 hl9 => kk p l e R s m args below meth c H locs cells slots ls9 μ0 hF hR0 hR hL h1 h2 (fw_keep ks hl9 (fw_P2 hk) he) hs)
theorem fw_lstore_nN {k : Fin 4} {i : Nat} {x : Int64} {j : Nat} {w : Value} {Ls' : List (Nat × Value)} (ks : List Nat) (d : decode K.2.2.1 pc = .ok (.lstore_n k, 1)) (hi : (k : Nat) = i) (hn : i + 1 < K.2.2.2.1) (hk : (lv_pick Ls ks).all (fun q => !(q.1 == i) && (!(q.1 == i + 1) && !(q.1 + 1 == i))) = true) (hj : j + 1 = i) (hlk : fw_lk Ls j = some w) (hc : w.category = 1) (he : (i, Value.long x) :: (j, w) :: lv_pick Ls ks = Ls') (kk : fw_V g K f bc bs (pc + 1) Ls' st μ Q X) : fw_V g K f bc bs pc Ls (Value.long x :: st) μ Q X := by
  intro p l e R s m args below meth c H locs cells slots ls μ0 hF hR0 hR hL h1 h2 hl hs
  exact lv_lstore_n hF.1 hF.2.1 d hi hl hn rfl (fun ls9 hl9 => kk p l e R s m args below meth c H locs cells slots ls9 μ0 hF hR0 hR hL h1 h2 (fw_keepN ks hl9 (fw_P2 hk) hlk (fw_N2 hj hc) he) hs)
theorem fw_lstore {i : Nat} {x : Int64} {Ls' : List (Nat × Value)} (ks : List Nat) (d : decode K.2.2.1 pc = .ok (.lstore i, 2)) (hn : i + 1 < K.2.2.2.1) (hk : (lv_pick Ls ks).all (fun q => !(q.1 == i) && (!(q.1 == i + 1) && !(q.1 + 1 == i))) = true) (he : (i, Value.long x) :: lv_pick Ls ks = Ls') (kk : fw_V g K f bc bs (pc + 2) Ls' st μ Q X) : fw_V g K f bc bs pc Ls (Value.long x :: st) μ Q X := by
  intro p l e R s m args below meth c H locs cells slots ls μ0 hF hR0 hR hL h1 h2 hl hs
  exact lv_lstore hF.1 hF.2.1 d hl hn rfl (fun ls9 hl9 => kk p l e R s m args below meth c H locs cells slots ls9 μ0 hF hR0 hR hL h1 h2 (fw_keep ks hl9 (fw_P2 hk) he) hs)
theorem fw_lstoreN {i : Nat} {x : Int64} {j : Nat} {w : Value} {Ls' : List (Nat × Value)} (ks : List Nat) (d : decode K.2.2.1 pc = .ok (.lstore i, 2)) (hn : i + 1 < K.2.2.2.1) (hk : (lv_pick Ls ks).all (fun q => !(q.1 == i) && (!(q.1 == i + 1) && !(q.1 + 1 == i))) = true) (hj : j + 1 = i) (hlk : fw_lk Ls j = some w) (hc : w.category = 1) (he : (i, Value.long x) :: (j, w) :: lv_pick Ls ks = Ls') (kk : fw_V g K f bc bs (pc + 2) Ls' st μ Q X) : fw_V g K f bc bs pc Ls (Value.long x :: st) μ Q X := by
  intro p l e R s m args below meth c H locs cells slots ls μ0 hF hR0 hR hL h1 h2 hl hs
  exact lv_lstore hF.1 hF.2.1 d hl hn rfl (fun ls9 hl9 => kk p l e R s m args below meth c H locs cells slots ls9 μ0 hF hR0 hR hL h1 h2 (fw_keepN ks hl9 (fw_P2 hk) hlk (fw_N2 hj hc) he) hs)
theorem fw_astore_n {k : Fin 4} {i r : Nat} {Ls' : List (Nat × Value)} (ks : List Nat) (d : decode K.2.2.1 pc = .ok (.astore_n k, 1)) (hi : (k : Nat) = i) (hn : i < K.2.2.2.1) (hk : (lv_pick Ls ks).all (fun q => !(q.1 == i) && !(q.1 + 1 == i)) = true) (he : (i, fw_rv g r) :: lv_pick Ls ks = Ls') (kk : fw_V g K f bc bs (pc + 1) Ls' st μ Q X) : fw_V g K f bc bs pc Ls (fw_rv g r :: st) μ Q X := by
  intro p l e R s m args below meth c H locs cells slots ls μ0 hF hR0 hR hL h1 h2 hl hs
  by_cases hr : r = 0
  · have er : fw_rv g r = .null := if_pos hr
    rw [er] at he ⊢
    exact lv_astore_nN hF.1 hF.2.1 d hi hl hn rfl (fun ls9 hl9 => kk p l e R s m args below meth c H locs cells slots ls9 μ0 hF hR0 hR hL h1 h2 (fw_keep ks hl9 (fw_P1 hk) he) hs)
  · have er : fw_rv g r = .ref (fw_ad g r) := if_neg hr
    rw [er] at he ⊢
    exact lv_astore_n hF.1 hF.2.1 d hi hl hn rfl (fun ls9 hl9 => kk p l e R s m args below meth c H locs cells slots ls9 μ0 hF hR0 hR hL h1 h2 (fw_keep ks hl9 (fw_P1 hk) he) hs)
theorem fw_astore_nN {k : Fin 4} {i r : Nat} {j : Nat} {w : Value} {Ls' : List (Nat × Value)} (ks : List Nat) (d : decode K.2.2.1 pc = .ok (.astore_n k, 1)) (hi : (k : Nat) = i) (hn : i < K.2.2.2.1) (hk : (lv_pick Ls ks).all (fun q => !(q.1 == i) && !(q.1 + 1 == i)) = true) (hj : j + 1 = i) (hlk : fw_lk Ls j = some w) (hc : w.category = 1) (he : (i, fw_rv g r) :: (j, w) :: lv_pick Ls ks = Ls') (kk : fw_V g K f bc bs (pc + 1) Ls' st μ Q X) : fw_V g K f bc bs pc Ls (fw_rv g r :: st) μ Q X := by
  intro p l e R s m args below meth c H locs cells slots ls μ0 hF hR0 hR hL h1 h2 hl hs
  by_cases hr : r = 0
  · have er : fw_rv g r = .null := if_pos hr
    rw [er] at he ⊢
    exact lv_astore_nN hF.1 hF.2.1 d hi hl hn rfl (fun ls9 hl9 => kk p l e R s m args below meth c H locs cells slots ls9 μ0 hF hR0 hR hL h1 h2 (fw_keepN ks hl9 (fw_P1 hk) hlk (fw_N1 hj hc) he) hs)
  · have er : fw_rv g r = .ref (fw_ad g r) := if_neg hr
    rw [er] at he ⊢
    exact lv_astore_n hF.1 hF.2.1 d hi hl hn rfl (fun ls9 hl9 => kk p l e R s m args below meth c H locs cells slots ls9 μ0 hF hR0 hR hL h1 h2 (fw_keepN ks hl9 (fw_P1 hk) hlk (fw_N1 hj hc) he) hs)
theorem fw_astore {i r : Nat} {Ls' : List (Nat × Value)} (ks : List Nat) (d : decode K.2.2.1 pc = .ok (.astore i, 2)) (hn : i < K.2.2.2.1) (hk : (lv_pick Ls ks).all (fun q => !(q.1 == i) && !(q.1 + 1 == i)) = true) (he : (i, fw_rv g r) :: lv_pick Ls ks = Ls') (kk : fw_V g K f bc bs (pc + 2) Ls' st μ Q X) : fw_V g K f bc bs pc Ls (fw_rv g r :: st) μ Q X := by
  intro p l e R s m args below meth c H locs cells slots ls μ0 hF hR0 hR hL h1 h2 hl hs
  by_cases hr : r = 0
  · have er : fw_rv g r = .null := if_pos hr
    rw [er] at he ⊢
    exact lv_astoreN hF.1 hF.2.1 d hl hn rfl (fun ls9 hl9 => kk p l e R s m args below meth c H locs cells slots ls9 μ0 hF hR0 hR hL h1 h2 (fw_keep ks hl9 (fw_P1 hk) he) hs)
  · have er : fw_rv g r = .ref (fw_ad g r) := if_neg hr
    rw [er] at he ⊢
    exact lv_astore hF.1 hF.2.1 d hl hn rfl (fun ls9 hl9 => kk p l e R s m args below meth c H locs cells slots ls9 μ0 hF hR0 hR hL h1 h2 (fw_keep ks hl9 (fw_P1 hk) he) hs)
theorem fw_astoreN {i r : Nat} {j : Nat} {w : Value} {Ls' : List (Nat × Value)} (ks : List Nat) (d : decode K.2.2.1 pc = .ok (.astore i, 2)) (hn : i < K.2.2.2.1) (hk : (lv_pick Ls ks).all (fun q => !(q.1 == i) && !(q.1 + 1 == i)) = true) (hj : j + 1 = i) (hlk : fw_lk Ls j = some w) (hc : w.category = 1) (he : (i, fw_rv g r) :: (j, w) :: lv_pick Ls ks = Ls') (kk : fw_V g K f bc bs (pc + 2) Ls' st μ Q X) : fw_V g K f bc bs pc Ls (fw_rv g r :: st) μ Q X := by
  intro p l e R s m args below meth c H locs cells slots ls μ0 hF hR0 hR hL h1 h2 hl hs
  by_cases hr : r = 0
  · have er : fw_rv g r = .null := if_pos hr
    rw [er] at he ⊢
    exact lv_astoreN hF.1 hF.2.1 d hl hn rfl (fun ls9 hl9 => kk p l e R s m args below meth c H locs cells slots ls9 μ0 hF hR0 hR hL h1 h2 (fw_keepN ks hl9 (fw_P1 hk) hlk (fw_N1 hj hc) he) hs)
  · have er : fw_rv g r = .ref (fw_ad g r) := if_neg hr
    rw [er] at he ⊢
    exact lv_astore hF.1 hF.2.1 d hl hn rfl (fun ls9 hl9 => kk p l e R s m args below meth c H locs cells slots ls9 μ0 hF hR0 hR hL h1 h2 (fw_keepN ks hl9 (fw_P1 hk) hlk (fw_N1 hj hc) he) hs)
theorem fw_iinc {i k : Nat} {n : Int} {x v : Int32} {Ls' : List (Nat × Value)} (ks : List Nat) (d : decode K.2.2.1 pc = .ok (.iinc i n, 3)) (hx : Ls[k]? = some (i, .int x)) (hv : x + Int32.ofInt n = v) (hn : i < K.2.2.2.1) (hk : (lv_pick Ls ks).all (fun q => !(q.1 == i) && !(q.1 + 1 == i)) = true) (he : (i, Value.int v) :: lv_pick Ls ks = Ls') (kk : fw_V g K f bc bs (pc + 3) Ls' st μ Q X) : fw_V g K f bc bs pc Ls st μ Q X := by
  intro p l e R s m args below meth c H locs cells slots ls μ0 hF hR0 hR hL h1 h2 hl hs
  exact lv_iinc hF.1 hF.2.1 d hl hx hv hn rfl (fun ls9 hl9 => kk p l e R s m args below meth c H locs cells slots ls9 μ0 hF hR0 hR hL h1 h2 (fw_keep ks hl9 (fw_P1 hk) he) hs)
theorem fw_iincN {i k : Nat} {n : Int} {x v : Int32} {j : Nat} {w : Value} {Ls' : List (Nat × Value)} (ks : List Nat) (d : decode K.2.2.1 pc = .ok (.iinc i n, 3)) (hx : Ls[k]? = some (i, .int x)) (hv : x + Int32.ofInt n = v) (hn : i < K.2.2.2.1) (hk : (lv_pick Ls ks).all (fun q => !(q.1 == i) && !(q.1 + 1 == i)) = true) (hj : j + 1 = i) (hlk : fw_lk Ls j = some w) (hc : w.category = 1) (he : (i, Value.int v) :: (j, w) :: lv_pick Ls ks = Ls') (kk : fw_V g K f bc bs (pc + 3) Ls' st μ Q X) : fw_V g K f bc bs pc Ls st μ Q X := by
  intro p l e R s m args below meth c H locs cells slots ls μ0 hF hR0 hR hL h1 h2 hl hs
  exact lv_iinc hF.1 hF.2.1 d hl hx hv hn rfl (fun ls9 hl9 => kk p l e R s m args below meth c H locs cells slots ls9 μ0 hF hR0 hR hL h1 h2 (fw_keepN ks hl9 (fw_P1 hk) hlk (fw_N1 hj hc) he) hs)
theorem fw_ls (ks : List Nat) {Ls' : List (Nat × Value)} (h : lv_pick Ls ks = Ls') (kk : fw_V g K f bc bs pc Ls' st μ Q X) : fw_V g K f bc bs pc Ls st μ Q X := by
  intro p l e R s m args below meth c H locs cells slots ls μ0 hF hR0 hR hL h1 h2 hl hs
  exact kk p l e R s m args below meth c H locs cells slots ls μ0 hF hR0 hR hL h1 h2 (lv_sub hl ks h) hs
theorem fw_if_eq {x : Int32} {off : Int} {tgt : Nat} (d : decode K.2.2.1 pc = .ok (.ifCond .eq off, 3)) (ht : (pc : Int) + off = (tgt : Int)) (kt : x = 0 → fw_V g K f bc bs tgt Ls st μ Q X) (kf : ¬ x = 0 → fw_V g K f bc bs (pc + 3) Ls st μ Q X) : fw_V g K f bc bs pc Ls (.int x :: st) μ Q X := by
  intro p l e R s m args below meth c H locs cells slots ls μ0 hF hR0 hR hL h1 h2 hl hs
  exact lv_if_eq hF.1 hF.2.1 d ht (fun c9 => kt c9 p l e R s m args below meth c H locs cells slots ls μ0 hF hR0 hR hL h1 h2 hl hs) (fun c9 => kf c9 p l e R s m args below meth c H locs cells slots ls μ0 hF hR0 hR hL h1 h2 hl hs)
theorem fw_if_ne {x : Int32} {off : Int} {tgt : Nat} (d : decode K.2.2.1 pc = .ok (.ifCond .ne off, 3)) (ht : (pc : Int) + off = (tgt : Int)) (kt : ¬ x = 0 → fw_V g K f bc bs tgt Ls st μ Q X) (kf : x = 0 → fw_V g K f bc bs (pc + 3) Ls st μ Q X) : fw_V g K f bc bs pc Ls (.int x :: st) μ Q X := by
  intro p l e R s m args below meth c H locs cells slots ls μ0 hF hR0 hR hL h1 h2 hl hs
  exact lv_if_ne hF.1 hF.2.1 d ht (fun c9 => kt c9 p l e R s m args below meth c H locs cells slots ls μ0 hF hR0 hR hL h1 h2 hl hs) (fun c9 => kf c9 p l e R s m args below meth c H locs cells slots ls μ0 hF hR0 hR hL h1 h2 hl hs)
theorem fw_if_lt {x : Int32} {off : Int} {tgt : Nat} (d : decode K.2.2.1 pc = .ok (.ifCond .lt off, 3)) (ht : (pc : Int) + off = (tgt : Int)) (kt : x < 0 → fw_V g K f bc bs tgt Ls st μ Q X) (kf : ¬ x < 0 → fw_V g K f bc bs (pc + 3) Ls st μ Q X) : fw_V g K f bc bs pc Ls (.int x :: st) μ Q X := by
  intro p l e R s m args below meth c H locs cells slots ls μ0 hF hR0 hR hL h1 h2 hl hs
  exact lv_if_lt hF.1 hF.2.1 d ht (fun c9 => kt c9 p l e R s m args below meth c H locs cells slots ls μ0 hF hR0 hR hL h1 h2 hl hs) (fun c9 => kf c9 p l e R s m args below meth c H locs cells slots ls μ0 hF hR0 hR hL h1 h2 hl hs)
theorem fw_if_ge {x : Int32} {off : Int} {tgt : Nat} (d : decode K.2.2.1 pc = .ok (.ifCond .ge off, 3)) (ht : (pc : Int) + off = (tgt : Int)) (kt : 0 ≤ x → fw_V g K f bc bs tgt Ls st μ Q X) (kf : ¬ 0 ≤ x → fw_V g K f bc bs (pc + 3) Ls st μ Q X) : fw_V g K f bc bs pc Ls (.int x :: st) μ Q X := by
  intro p l e R s m args below meth c H locs cells slots ls μ0 hF hR0 hR hL h1 h2 hl hs
  exact lv_if_ge hF.1 hF.2.1 d ht (fun c9 => kt c9 p l e R s m args below meth c H locs cells slots ls μ0 hF hR0 hR hL h1 h2 hl hs) (fun c9 => kf c9 p l e R s m args below meth c H locs cells slots ls μ0 hF hR0 hR hL h1 h2 hl hs)
theorem fw_if_gt {x : Int32} {off : Int} {tgt : Nat} (d : decode K.2.2.1 pc = .ok (.ifCond .gt off, 3)) (ht : (pc : Int) + off = (tgt : Int)) (kt : 0 < x → fw_V g K f bc bs tgt Ls st μ Q X) (kf : ¬ 0 < x → fw_V g K f bc bs (pc + 3) Ls st μ Q X) : fw_V g K f bc bs pc Ls (.int x :: st) μ Q X := by
  intro p l e R s m args below meth c H locs cells slots ls μ0 hF hR0 hR hL h1 h2 hl hs
  exact lv_if_gt hF.1 hF.2.1 d ht (fun c9 => kt c9 p l e R s m args below meth c H locs cells slots ls μ0 hF hR0 hR hL h1 h2 hl hs) (fun c9 => kf c9 p l e R s m args below meth c H locs cells slots ls μ0 hF hR0 hR hL h1 h2 hl hs)
theorem fw_if_le {x : Int32} {off : Int} {tgt : Nat} (d : decode K.2.2.1 pc = .ok (.ifCond .le off, 3)) (ht : (pc : Int) + off = (tgt : Int)) (kt : x ≤ 0 → fw_V g K f bc bs tgt Ls st μ Q X) (kf : ¬ x ≤ 0 → fw_V g K f bc bs (pc + 3) Ls st μ Q X) : fw_V g K f bc bs pc Ls (.int x :: st) μ Q X := by
  intro p l e R s m args below meth c H locs cells slots ls μ0 hF hR0 hR hL h1 h2 hl hs
  exact lv_if_le hF.1 hF.2.1 d ht (fun c9 => kt c9 p l e R s m args below meth c H locs cells slots ls μ0 hF hR0 hR hL h1 h2 hl hs) (fun c9 => kf c9 p l e R s m args below meth c H locs cells slots ls μ0 hF hR0 hR hL h1 h2 hl hs)
theorem fw_icmp_eq {x y : Int32} {off : Int} {tgt : Nat} (d : decode K.2.2.1 pc = .ok (.if_icmp .eq off, 3)) (ht : (pc : Int) + off = (tgt : Int)) (kt : x = y → fw_V g K f bc bs tgt Ls st μ Q X) (kf : ¬ x = y → fw_V g K f bc bs (pc + 3) Ls st μ Q X) : fw_V g K f bc bs pc Ls (.int y :: .int x :: st) μ Q X := by
  intro p l e R s m args below meth c H locs cells slots ls μ0 hF hR0 hR hL h1 h2 hl hs
  exact lv_icmp_eq hF.1 hF.2.1 d ht (fun c9 => kt c9 p l e R s m args below meth c H locs cells slots ls μ0 hF hR0 hR hL h1 h2 hl hs) (fun c9 => kf c9 p l e R s m args below meth c H locs cells slots ls μ0 hF hR0 hR hL h1 h2 hl hs)
theorem fw_icmp_ne {x y : Int32} {off : Int} {tgt : Nat} (d : decode K.2.2.1 pc = .ok (.if_icmp .ne off, 3)) (ht : (pc : Int) + off = (tgt : Int)) (kt : ¬ x = y → fw_V g K f bc bs tgt Ls st μ Q X) (kf : x = y → fw_V g K f bc bs (pc + 3) Ls st μ Q X) : fw_V g K f bc bs pc Ls (.int y :: .int x :: st) μ Q X := by
  intro p l e R s m args below meth c H locs cells slots ls μ0 hF hR0 hR hL h1 h2 hl hs
  exact lv_icmp_ne hF.1 hF.2.1 d ht (fun c9 => kt c9 p l e R s m args below meth c H locs cells slots ls μ0 hF hR0 hR hL h1 h2 hl hs) (fun c9 => kf c9 p l e R s m args below meth c H locs cells slots ls μ0 hF hR0 hR hL h1 h2 hl hs)
theorem fw_icmp_lt {x y : Int32} {off : Int} {tgt : Nat} (d : decode K.2.2.1 pc = .ok (.if_icmp .lt off, 3)) (ht : (pc : Int) + off = (tgt : Int)) (kt : x < y → fw_V g K f bc bs tgt Ls st μ Q X) (kf : ¬ x < y → fw_V g K f bc bs (pc + 3) Ls st μ Q X) : fw_V g K f bc bs pc Ls (.int y :: .int x :: st) μ Q X := by
  intro p l e R s m args below meth c H locs cells slots ls μ0 hF hR0 hR hL h1 h2 hl hs
  exact lv_icmp_lt hF.1 hF.2.1 d ht (fun c9 => kt c9 p l e R s m args below meth c H locs cells slots ls μ0 hF hR0 hR hL h1 h2 hl hs) (fun c9 => kf c9 p l e R s m args below meth c H locs cells slots ls μ0 hF hR0 hR hL h1 h2 hl hs)
theorem fw_icmp_ge {x y : Int32} {off : Int} {tgt : Nat} (d : decode K.2.2.1 pc = .ok (.if_icmp .ge off, 3)) (ht : (pc : Int) + off = (tgt : Int)) (kt : y ≤ x → fw_V g K f bc bs tgt Ls st μ Q X) (kf : ¬ y ≤ x → fw_V g K f bc bs (pc + 3) Ls st μ Q X) : fw_V g K f bc bs pc Ls (.int y :: .int x :: st) μ Q X := by
  intro p l e R s m args below meth c H locs cells slots ls μ0 hF hR0 hR hL h1 h2 hl hs
  exact lv_icmp_ge hF.1 hF.2.1 d ht (fun c9 => kt c9 p l e R s m args below meth c H locs cells slots ls μ0 hF hR0 hR hL h1 h2 hl hs) (fun c9 => kf c9 p l e R s m args below meth c H locs cells slots ls μ0 hF hR0 hR hL h1 h2 hl hs)
theorem fw_icmp_gt {x y : Int32} {off : Int} {tgt : Nat} (d : decode K.2.2.1 pc = .ok (.if_icmp .gt off, 3)) (ht : (pc : Int) + off = (tgt : Int)) (kt : y < x → fw_V g K f bc bs tgt Ls st μ Q X) (kf : ¬ y < x → fw_V g K f bc bs (pc + 3) Ls st μ Q X) : fw_V g K f bc bs pc Ls (.int y :: .int x :: st) μ Q X := by
  intro p l e R s m args below meth c H locs cells slots ls μ0 hF hR0 hR hL h1 h2 hl hs
  exact lv_icmp_gt hF.1 hF.2.1 d ht (fun c9 => kt c9 p l e R s m args below meth c H locs cells slots ls μ0 hF hR0 hR hL h1 h2 hl hs) (fun c9 => kf c9 p l e R s m args below meth c H locs cells slots ls μ0 hF hR0 hR hL h1 h2 hl hs)
theorem fw_icmp_le {x y : Int32} {off : Int} {tgt : Nat} (d : decode K.2.2.1 pc = .ok (.if_icmp .le off, 3)) (ht : (pc : Int) + off = (tgt : Int)) (kt : x ≤ y → fw_V g K f bc bs tgt Ls st μ Q X) (kf : ¬ x ≤ y → fw_V g K f bc bs (pc + 3) Ls st μ Q X) : fw_V g K f bc bs pc Ls (.int y :: .int x :: st) μ Q X := by
  intro p l e R s m args below meth c H locs cells slots ls μ0 hF hR0 hR hL h1 h2 hl hs
  exact lv_icmp_le hF.1 hF.2.1 d ht (fun c9 => kt c9 p l e R s m args below meth c H locs cells slots ls μ0 hF hR0 hR hL h1 h2 hl hs) (fun c9 => kf c9 p l e R s m args below meth c H locs cells slots ls μ0 hF hR0 hR hL h1 h2 hl hs)
theorem fw_goto {off : Int} {tgt : Nat} (d : decode K.2.2.1 pc = .ok (.goto off, 3)) (ht : (pc : Int) + off = (tgt : Int)) (kk : fw_V g K f bc bs tgt Ls st μ Q X) : fw_V g K f bc bs pc Ls st μ Q X := by
  intro p l e R s m args below meth c H locs cells slots ls μ0 hF hR0 hR hL h1 h2 hl hs
  exact lv_goto hF.1 hF.2.1 d ht (kk p l e R s m args below meth c H locs cells slots ls μ0 hF hR0 hR hL h1 h2 hl hs)
theorem fw_ifnull {r : Nat} {off : Int} {tgt : Nat} (d : decode K.2.2.1 pc = .ok (.ifnull off, 3)) (ht : (pc : Int) + off = (tgt : Int)) (kt : r = 0 → fw_V g K f bc bs tgt Ls st μ Q X) (kf : ¬ r = 0 → fw_V g K f bc bs (pc + 3) Ls st μ Q X) : fw_V g K f bc bs pc Ls (fw_rv g r :: st) μ Q X := by
  intro p l e R s m args below meth c H locs cells slots ls μ0 hF hR0 hR hL h1 h2 hl hs
  unfold fw_rv
  split
  · exact lv_ifnullN hF.1 hF.2.1 d ht (kt (by assumption) p l e R s m args below meth c H locs cells slots ls μ0 hF hR0 hR hL h1 h2 hl hs)
  · exact lv_ifnull hF.1 hF.2.1 d (kf (by assumption) p l e R s m args below meth c H locs cells slots ls μ0 hF hR0 hR hL h1 h2 hl hs)
theorem fw_ifnonnull {r : Nat} {off : Int} {tgt : Nat} (d : decode K.2.2.1 pc = .ok (.ifnonnull off, 3)) (ht : (pc : Int) + off = (tgt : Int)) (kt : ¬ r = 0 → fw_V g K f bc bs tgt Ls st μ Q X) (kf : r = 0 → fw_V g K f bc bs (pc + 3) Ls st μ Q X) : fw_V g K f bc bs pc Ls (fw_rv g r :: st) μ Q X := by
  intro p l e R s m args below meth c H locs cells slots ls μ0 hF hR0 hR hL h1 h2 hl hs
  unfold fw_rv
  split
  · exact lv_ifnonnullN hF.1 hF.2.1 d (kf (by assumption) p l e R s m args below meth c H locs cells slots ls μ0 hF hR0 hR hL h1 h2 hl hs)
  · exact lv_ifnonnull hF.1 hF.2.1 d ht (kt (by assumption) p l e R s m args below meth c H locs cells slots ls μ0 hF hR0 hR hL h1 h2 hl hs)
theorem fw_null (d : decode K.2.2.1 pc = .ok (.aconst_null, 1)) (kk : fw_V g K f bc bs (pc + 1) Ls (fw_rv g 0 :: st) μ Q X) : fw_V g K f bc bs pc Ls st μ Q X := by
  intro p l e R s m args below meth c H locs cells slots ls μ0 hF hR0 hR hL h1 h2 hl hs
  exact lv_null hF.1 hF.2.1 d (kk p l e R s m args below meth c H locs cells slots ls μ0 hF hR0 hR hL h1 h2 hl hs)
theorem fw_ldc {index : Nat} {v : Int32} (hc : Cond.constant K.1 index v ∈ lw_all) (d : decode K.2.2.1 pc = .ok (.ldc index, 2)) (kk : fw_V g K f bc bs (pc + 2) Ls (.int v :: st) μ Q X) : fw_V g K f bc bs pc Ls st μ Q X := by
  intro p l e R s m args below meth c H locs cells slots ls μ0 hF hR0 hR hL h1 h2 hl hs
  exact lv_ldc hF.1 hF.2.1 hF.2.2.2.2.2.1 (hF.2.2.2.2.2.2.1 _ hc) d (kk p l e R s m args below meth c H locs cells slots ls μ0 hF hR0 hR hL h1 h2 hl hs)
theorem fw_ldcw {index : Nat} {v : Int32} (hc : Cond.constant K.1 index v ∈ lw_all) (d : decode K.2.2.1 pc = .ok (.ldc_w index, 3)) (kk : fw_V g K f bc bs (pc + 3) Ls (.int v :: st) μ Q X) : fw_V g K f bc bs pc Ls st μ Q X := by
  intro p l e R s m args below meth c H locs cells slots ls μ0 hF hR0 hR hL h1 h2 hl hs
  exact lv_ldcw hF.1 hF.2.1 hF.2.2.2.2.2.1 (hF.2.2.2.2.2.2.1 _ hc) d (kk p l e R s m args below meth c H locs cells slots ls μ0 hF hR0 hR hL h1 h2 hl hs)
theorem fw_ldc2 {index : Nat} {v : Int64} (hc : Cond.constantLong K.1 index v ∈ lw_all) (d : decode K.2.2.1 pc = .ok (.ldc2_w index, 3)) (kk : fw_V g K f bc bs (pc + 3) Ls (.long v :: st) μ Q X) : fw_V g K f bc bs pc Ls st μ Q X := by
  intro p l e R s m args below meth c H locs cells slots ls μ0 hF hR0 hR hL h1 h2 hl hs
  exact lv_ldc2 hF.1 hF.2.1 hF.2.2.2.2.2.1 (hF.2.2.2.2.2.2.1 _ hc) d (kk p l e R s m args below meth c H locs cells slots ls μ0 hF hR0 hR hL h1 h2 hl hs)
theorem fw_lookup {dflt : Int} {ps : Array (Int × Int)} {len : Nat} {x : Int32} {off : Int} {tgt : Nat} (d : decode K.2.2.1 pc = .ok (.lookupswitch dflt ps, len)) (hp : (ps.toList.zip (ps.toList.drop 1)).all (fun (a, next) => a.1 < next.1) = true) (ho : Op.lookupswitch.offset ps.toList dflt x.toInt = off) (ht : (pc : Int) + off = (tgt : Int)) (kk : fw_V g K f bc bs tgt Ls st μ Q X) : fw_V g K f bc bs pc Ls (.int x :: st) μ Q X := by
  intro p l e R s m args below meth c H locs cells slots ls μ0 hF hR0 hR hL h1 h2 hl hs
  exact lv_lookup hF.1 hF.2.1 d hp ho ht (kk p l e R s m args below meth c H locs cells slots ls μ0 hF hR0 hR hL h1 h2 hl hs)
theorem fw_tableOut {dflt lo hi : Int} {offs : Array Int} {len : Nat} {x : Int32} {tgt : Nat} (d : decode K.2.2.1 pc = .ok (.tableswitch dflt lo hi offs, len)) (h : x.toInt < lo ∨ hi < x.toInt) (ht : (pc : Int) + dflt = (tgt : Int)) (kk : fw_V g K f bc bs tgt Ls st μ Q X) : fw_V g K f bc bs pc Ls (.int x :: st) μ Q X := by
  intro p l e R s m args below meth c H locs cells slots ls μ0 hF hR0 hR hL h1 h2 hl hs
  exact lv_tableOut hF.1 hF.2.1 d h ht (kk p l e R s m args below meth c H locs cells slots ls μ0 hF hR0 hR hL h1 h2 hl hs)
theorem fw_tableIn {dflt lo hi : Int} {offs : Array Int} {len : Nat} {x : Int32} {off : Int} {tgt : Nat} (d : decode K.2.2.1 pc = .ok (.tableswitch dflt lo hi offs, len)) (h1 : ¬ x.toInt < lo) (h2 : ¬ hi < x.toInt) (ho : offs[(x.toInt - lo).toNat]? = some off) (ht : (pc : Int) + off = (tgt : Int)) (kk : fw_V g K f bc bs tgt Ls st μ Q X) : fw_V g K f bc bs pc Ls (.int x :: st) μ Q X := by
  intro p l e R s m args below meth c H locs cells slots ls μ0 hF hR0 hR hL h3 h4 hl hs
  exact lv_tableIn hF.1 hF.2.1 d h1 h2 ho ht (kk p l e R s m args below meth c H locs cells slots ls μ0 hF hR0 hR hL h3 h4 hl hs)
theorem fw_R_of {g : fw_G} {μ μ' : fw_M} {Q : Option Value → fw_M → Prop} {H : Heap} {r : Option Value} {args : Array Value} {s : State} (hq : Q r μ') (hs : fw_sub μ μ') (hR : fw_R g μ' H) : ∀ t : State, t.heap = H → s.WarmedH t.vm → fw_Qc g μ Q args s (.returned r) t := fun t ht _ => ⟨r, μ', rfl, hq, hs, by rw [ht]; exact hR⟩
theorem fw_ireturn {v : Int32} {ty : FieldType} (d : decode K.2.2.1 pc = .ok (.ireturn, 1)) (hr : K.2.2.2.2.1 = some ty) (hn : narrow ty (.int v) = .int v) (hq : Q (some (.int v)) μ) : fw_V g K f bc bs pc Ls [.int v] μ Q X := by
  intro p l e R s m args below meth c H locs cells slots ls μ0 hF hR0 hR hL h1 h2 hl hs
  refine W.widen (k := R.cells) (n := R.slots) (by omega) (by omega) (fx_ret ?_)
  exact W.zret hF.1 hF.2.1 (hF.2.2.1.trans hr) hn (fw_R_of hq hs hR) hL d hF.2.2.2.1
theorem fw_lreturn {v : Int64} (d : decode K.2.2.1 pc = .ok (.lreturn, 1)) (hr : K.2.2.2.2.1 = some .long) (hq : Q (some (.long v)) μ) : fw_V g K f bc bs pc Ls [.long v] μ Q X := by
  intro p l e R s m args below meth c H locs cells slots ls μ0 hF hR0 hR hL h1 h2 hl hs
  refine W.widen (k := R.cells) (n := R.slots) (by omega) (by omega) (fx_ret ?_)
  exact W.lret hF.1 hF.2.1 (hF.2.2.1.trans hr) (fw_R_of hq hs hR) hL d hF.2.2.2.1
theorem fw_return (d : decode K.2.2.1 pc = .ok (.return_, 1)) (hr : K.2.2.2.2.1 = none) (hq : Q none μ) : fw_V g K f bc bs pc Ls [] μ Q X := by
  intro p l e R s m args below meth c H locs cells slots ls μ0 hF hR0 hR hL h1 h2 hl hs
  refine W.widen (k := R.cells) (n := R.slots) (by omega) (by omega) (fx_ret ?_)
  exact W.vret hF.1 hF.2.1 (hF.2.2.1.trans hr) (fw_R_of hq hs hR) hL d hF.2.2.2.1
theorem fw_areturn {r : Nat} {ty : FieldType} (d : decode K.2.2.1 pc = .ok (.areturn, 1)) (hr : K.2.2.2.2.1 = some ty) (hty : (∃ n, ty = .object n) ∨ ∃ t, ty = .array t) (hq : Q (some (fw_rv g r)) μ) : fw_V g K f bc bs pc Ls [fw_rv g r] μ Q X := by
  intro p l e R s m args below meth c H locs cells slots ls μ0 hF hR0 hR hL h1 h2 hl hs
  refine W.widen (k := R.cells) (n := R.slots) (by omega) (by omega) (fx_ret ?_)
  refine W.aret hF.1 hF.2.1 (hF.2.2.1.trans hr) hty ?_ (fw_R_of hq hs hR) hL d hF.2.2.2.1
  unfold fw_rv
  split
  · exact Or.inl rfl
  · exact Or.inr ⟨_, rfl⟩
end FW1
