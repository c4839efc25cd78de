/-! THE LIGHT WALK, 2: the judgement V (a method's walk over memory), Cl (a call), what they stand on -/
/-- a method: its name, bytes, locals, what it returns, its handlers -/
abbrev MI : Type := MethodName × ByteArray × Nat × Option FieldType × List (Nat × Nat × Nat × Nat)
abbrev mN (M : MI) : MethodName := M.1
abbrev mC (M : MI) : ByteArray := M.2.1
abbrev mL (M : MI) : Nat := M.2.2.1
abbrev mR (M : MI) : Option FieldType := M.2.2.2.1
abbrev mH (M : MI) : List (Nat × Nat × Nat × Nat) := M.2.2.2.2
def mW (M : MI) : Cond := match mH M with
  | [] => .code (mN M) (mC M) (mL M) (mR M)
  | h :: t => .codeWith (mN M) (mC M) (mL M) (mR M) (h :: t)
def k_ws (M : MI) : List Cond := mW M :: lw_all
/-- how a method ends: returned, or threw the object at an address -/
abbrev Out : Type := Option Value ⊕ Nat
def k_oc (D : DE) (o : Out) : Outcome := match o with
  | .inl v => .returned v
  | .inr a => .threw (ad D a)
def k_rm (f mc ms : Nat) : Room := { frames := f, cells := mc, slots := ms, locals := 46 * f }
def k_Fin (D : DE) (s : State) (below : List Frame) (o : Out) (μ' : Mem) (kc ks : Nat) : State → Prop := fun t =>
  t.status = .running ∧ Ended t below (k_oc D o) ∧ k_Rep D μ' t.heap ∧ s.WarmedH t.vm ∧ ∃ L, s.sameButNew ({ t with vm := s.vm } : State) L kc ks ∧ ∀ q ∈ L, dB D ≤ q.base
def k_Pre (D : DE) (av : List Value) (μ : Mem) : Array Value → State → Prop := fun v U => v = av.toArray ∧ k_Rep D μ U.heap ∧ k_Env D U
def k_Post (D : DE) (o : Out) (μ μ' : Mem) : Array Value → State → Outcome → State → Prop := fun _ st oc t =>
  oc = k_oc D o ∧ k_Rep D μ' t.heap ∧ st.WarmedH t.vm ∧ ∃ L, st.sameButNew ({ t with vm := st.vm } : State) L (zn μ' - zn μ) (zc μ' - zc μ) ∧ ∀ q ∈ L, dB D ≤ q.base
def k_Met (D : DE) (f : Nat) (M : MI) (av : List Value) (μ : Mem) (o : Out) (μ' : Mem) : Prop :=
  ∀ l : Launch, l.flags = flags0 → MetFree l (mN M) (headSpec (k_ws M) (k_rm f (zn μ' - zn μ) (zc μ' - zc μ))) (k_Pre D av μ) (fun _ _ _ _ _ => True) (k_Post D o μ μ')
/-- a call of M with the values av at memory μ ends, with Q of its end and memory -/
def Cl (D : DE) (f : Nat) (M : MI) (av : List Value) (μ : Mem) (Q : Out → Mem → Prop) : Prop :=
  ∃ (o : Out) (μ' : Mem), Q o μ' ∧ zn μ ≤ zn μ' ∧ zc μ ≤ zc μ' ∧ k_Met D f M av μ o μ'
def k_Cx (D : DE) (M : MI) (f : Nat) (p : Program) (l : Launch) (R : Room) (s : State) (m : MethodId) (args : Array Value) (meth : Method) (c : Code) : Prop :=
  p.tables.exec = Jvm.exec ∧ c.code = mC M ∧ meth.sig.returnType = mR M ∧ c.maxLocals = mL M ∧ s.vm.findClass (mN M).cls = some m.cls ∧ (∀ w ∈ lw_all, w.before args s = true) ∧ k_Env D s ∧ meth.locks = false ∧
  c.exceptionTable.toList.map (fun h => (h.startPc, h.endPc, h.handlerPc, h.catchType)) = mH M ∧ meth.name = (mN M).name ∧ f ≤ R.frames ∧ 46 * f ≤ R.locals ∧ l.flags = flags0 ∧ dB D ≤ s.heap.size ∧ (∀ q, q < dB D → s.heap[q]? = (dH D)[q]?) ∧ ∀ q, dB D ≤ q → ∀ cell, s.heap[q]? = some cell → cell.vm.isStatics = false
def k_Pt (D : DE) (μ μ' : Mem) (R : Room) (s : State) (H : Heap) (locs : List Loc) (cells slots : Nat) : Prop :=
  k_Rep D μ H ∧ va_S (k_A D) s.heap H locs ∧ ∃ s0 : Nat, s.heap.size + cells = dB D + zn μ ∧ s0 + slots = zc μ ∧ dB D + zn μ' ≤ s.heap.size + R.cells ∧ zc μ' ≤ s0 + R.slots
/-- the walk of M at pc, with the locals l, the stack st, at memory μ, comes to its end, with Q of its end and memory -/
def V (D : DE) (M : MI) (f : Nat) (Q : Out → Mem → Prop) (pc : Nat) (l : List (Nat × Value)) (st : List Value) (μ : Mem) : Prop :=
  ∃ (o : Out) (μ' : Mem), Q o μ' ∧ zn μ ≤ zn μ' ∧ zc μ ≤ zc μ' ∧ ∀ (p : Program) (la : Launch) (e : Env) (R : Room) (s : State) (m : MethodId) (args : Array Value) (below : List Frame) (meth : Method) (c : Code) (H : Heap) (locs : List Loc) (cells slots : Nat) (ls : Array Slot),
    k_Cx D M f p la R s m args meth c → k_Pt D μ μ' R s H locs cells slots → lv_has ls (mL M) l → W p la e R s m args below meth c H locs cells slots (k_Fin D s below o μ' R.cells R.slots) (F0 m pc ls st)
/-- one step of the walk, of any kind -/
theorem V.step {D : DE} {M : MI} {f : Nat} {Q : Out → Mem → Prop} {pc pc1 : Nat} {l l1 : List (Nat × Value)} {st st1 : List Value} {μ μ1 : Mem} (hn : zn μ ≤ zn μ1) (hc : zc μ ≤ zc μ1) (k : V D M f Q pc1 l1 st1 μ1)
    (h : ∀ (μ' : Mem) (p : Program) (la : Launch) (e : Env) (R : Room) (s : State) (m : MethodId) (args : Array Value) (below : List Frame) (meth : Method) (c : Code) (H : Heap) (locs : List Loc) (cells slots : Nat) (ls : Array Slot) (Qf : State → Prop),
      zn μ1 ≤ zn μ' → zc μ1 ≤ zc μ' → k_Cx D M f p la R s m args meth c → k_Pt D μ μ' R s H locs cells slots → lv_has ls (mL M) l →
      (∀ (H1 : Heap) (locs1 : List Loc) (cells1 slots1 : Nat) (ls1 : Array Slot), k_Pt D μ1 μ' R s H1 locs1 cells1 slots1 → lv_has ls1 (mL M) l1 → W p la e R s m args below meth c H1 locs1 cells1 slots1 Qf (F0 m pc1 ls1 st1)) →
      W p la e R s m args below meth c H locs cells slots Qf (F0 m pc ls st)) : V D M f Q pc l st μ := by
  obtain ⟨o, μ', hq, h1, h2, hw⟩ := k
  exact ⟨o, μ', hq, Nat.le_trans hn h1, Nat.le_trans hc h2, fun p la e R s m args below meth c H locs cells slots ls C P hl =>
    h μ' p la e R s m args below meth c H locs cells slots ls _ h1 h2 C P hl (fun H1 locs1 cells1 slots1 ls1 P1 hl1 => hw p la e R s m args below meth c H1 locs1 cells1 slots1 ls1 C P1 hl1)⟩
/-- one step that changes neither memory nor locals -/
theorem V.go {D : DE} {M : MI} {f : Nat} {Q : Out → Mem → Prop} {pc pc1 : Nat} {l : List (Nat × Value)} {st st1 : List Value} {μ : Mem} (k : V D M f Q pc1 l st1 μ)
    (h : ∀ (p : Program) (la : Launch) (e : Env) (R : Room) (s : State) (m : MethodId) (args : Array Value) (below : List Frame) (meth : Method) (c : Code) (H : Heap) (locs : List Loc) (cells slots : Nat) (ls : Array Slot) (Qf : State → Prop),
      k_Cx D M f p la R s m args meth c → lv_has ls (mL M) l → W p la e R s m args below meth c H locs cells slots Qf (F0 m pc1 ls st1) → W p la e R s m args below meth c H locs cells slots Qf (F0 m pc ls st)) : V D M f Q pc l st μ :=
  V.step (Nat.le_refl _) (Nat.le_refl _) k fun _ p la e R s m args below meth c H locs cells slots ls Qf _ _ C P hl kk => h p la e R s m args below meth c H locs cells slots ls Qf C hl (kk H locs cells slots ls P hl)
theorem V.mono {D : DE} {M : MI} {f : Nat} {Q Q1 : Out → Mem → Prop} {pc : Nat} {l : List (Nat × Value)} {st : List Value} {μ : Mem} (k : V D M f Q pc l st μ) (h : ∀ o μ', Q o μ' → Q1 o μ') : V D M f Q1 pc l st μ := by
  obtain ⟨o, μ', hq, h1⟩ := k
  exact ⟨o, μ', h _ _ hq, h1⟩
theorem Cl.mono {D : DE} {f : Nat} {M : MI} {av : List Value} {μ : Mem} {Q Q1 : Out → Mem → Prop} (k : Cl D f M av μ Q) (h : ∀ o μ', Q o μ' → Q1 o μ') : Cl D f M av μ Q1 := by
  obtain ⟨o, μ', hq, h1⟩ := k
  exact ⟨o, μ', h _ _ hq, h1⟩
/-- fewer locals are known, in any order -/
theorem V.sub {D : DE} {M : MI} {f : Nat} {Q : Out → Mem → Prop} {pc : Nat} {l l1 : List (Nat × Value)} {st : List Value} {μ : Mem} (ks : List Nat) (hl : lv_pick l ks = l1) (k : V D M f Q pc l1 st μ) : V D M f Q pc l st μ :=
  V.step (Nat.le_refl _) (Nat.le_refl _) k fun _ p la e R s m args below meth c H locs cells slots ls Qf _ _ C P h kk => kk H locs cells slots ls P (lv_sub h ks hl)
theorem mW_spec {M : MI} {args : Array Value} {s : State} {m : MethodId} (hn : s.methodNamed? (mN M) = some m) (h : (mW M).before args s = true) :
    ∃ meth c, s.vm.method? m = some meth ∧ meth.code = some c ∧ c.code = mC M ∧ c.maxLocals = mL M ∧ meth.sig.returnType = mR M ∧ meth.locks = false ∧
      c.exceptionTable.toList.map (fun h => (h.startPc, h.endPc, h.handlerPc, h.catchType)) = mH M ∧ parseMethodDescriptor (mN M).desc = some meth.sig := by
  obtain ⟨y, b, L, r, hh⟩ := M
  cases hh with
  | nil =>
    obtain ⟨meth, c, h1, h2, h3, h4, h5, h6, h7, h8⟩ := Cond.code_spec hn (h : (Cond.code y b L r).before args s = true)
    refine ⟨meth, c, h1, h2, h3, h4, h5, h6, ?_, h8⟩
    have h9 : c.exceptionTable.toList = [] := by simpa using h7
    rw [h9]
    rfl
  | cons q t =>
    obtain ⟨m9, meth, c, hn9, h1, h2, h3, h4, h7, h5, h6, h8⟩ := Cond.codeWith_spec (h : (Cond.codeWith y b L r (q :: t)).before args s = true)
    cases hn.symm.trans hn9
    exact ⟨meth, c, h1, h2, h3, h4, h5, h6, h7, h8⟩
/-- cells of the system are no statics -/
theorem k_notSt {D : DE} {μ : Mem} {H : Heap} (hR : k_Rep D μ H) {q : Nat} (hq : dB D ≤ q) {cell : Cell} (hc : H[q]? = some cell) : cell.vm.isStatics = false := by
  have hlt := (Array.getElem?_eq_some_iff.mp hc).1
  rw [hR.1] at hlt
  have h1 := hR.2.2.2 (q - dB D) (by omega)
  have e : ad D (q - dB D) = q := by unfold ad; omega
  rw [e] at h1
  cases hent : k_ent D μ (q - dB D) with
  | inl x =>
    rw [hent] at h1
    have h2 : H[q]? = some (vp_cell x.1 x.2) := h1
    rw [h2] at hc
    cases hc
    obtain ⟨x1, n, x2⟩ := x
    rcases x2 with f | f | f | f | f <;> rfl
  | inr x =>
    rw [hent] at h1
    obtain ⟨r, -, c2, h3, -, h4, -⟩ := h1
    have h5 : some c2 = some cell := h3.symm.trans hc
    cases h5
    rw [h4]; rfl
/-- a contract out of a walk from the entry -/
theorem Cl.ofV {D : DE} {f : Nat} {M : MI} {av : List Value} {μ : Mem} {Q : Out → Mem → Prop} {l : List (Nat × Value)} (hy : plainName (mN M).cls = true) (hlen : (lg_sl av).length ≤ mL M) (hl0 : lv_args 0 av = l) (k : V D M f Q 0 l [] μ) : Cl D f M av μ Q := by
  obtain ⟨o, μ', hq, h1, h2, hw⟩ := k
  refine ⟨o, μ', hq, h1, h2, fun la hla => ?_⟩
  refine MetFree.of_bodyS (code := mC M) (maxLocals := mL M) (ret := mR M) hy ?_ ?_
  · intro args s m h hn
    obtain ⟨meth, c, g1, g2, g3, g4, g5, g6, -, -⟩ := mW_spec hn (atoms_spec (ws := k_ws M) h _ List.mem_cons_self)
    exact ⟨meth, c, g1, g2, g3, g4, g5, g6⟩
  · intro p e s m args below meth c s₁ B hml hP _
    obtain ⟨rfl, hR, hE⟩ := hP
    have hh0 : s₁.heap = s.heap := by rw [B.state]; rfl
    have hts := atoms_spec (ws := k_ws M) B.pre
    have X₀ := Stand.of_body B
    obtain ⟨meth', c', g1, g2, -, -, -, -, g7, -⟩ := mW_spec B.named (hts _ List.mem_cons_self)
    cases X₀.method.symm.trans g1
    cases X₀.code.symm.trans g2
    have hl := lv_entry av (n := mL M) hlen
    have hC : k_Cx D M f p la (headSpec (k_ws M) (k_rm f (zn μ' - zn μ) (zc μ' - zc μ))).room s m av.toArray meth c :=
      ⟨B.exec, B.bytes, B.returns, hml, findClass_of_methodNamed B.named, fun w h => hts w (List.mem_cons_of_mem _ h), hE, B.notSynchronized, g7, (name_of_methodNamed B.named B.method).1, Nat.le_refl _, Nat.le_refl _, hla, by rw [hR.1]; exact Nat.le_add_right _ _, hR.2.1, fun q hq cell hc => k_notSt hR hq hc⟩
    have hPt : k_Pt D μ μ' (headSpec (k_ws M) (k_rm f (zn μ' - zn μ) (zc μ' - zc μ))).room s s.heap [] 0 0 := by
      refine ⟨hR, va_S.rf, zc μ, by rw [hR.1]; rfl, rfl, ?_, ?_⟩
      · show dB D + zn μ' ≤ s.heap.size + (zn μ' - zn μ)
        rw [hR.1]; omega
      · show zc μ' ≤ zc μ + (zc μ' - zc μ)
        omega
    have hW := hw p la e _ s m av.toArray below meth c s.heap [] 0 0 _ hC hPt (by rw [← hl0]; exact hl)
    rw [← lg_entry_eq] at hW
    obtain ⟨t, a1, b1, b2, b3, b4, L, b5, b6⟩ := hW s₁ hh0 X₀
    exact ⟨t, _, a1, b1, b2, rfl, b3, b4, L, b5, b6⟩
