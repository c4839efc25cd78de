/-! THE LIGHT WALK, 8: the calls' rows; what is thrown -/
/-- the walk of M, at pc, with a being thrown there -/
def VT (D : DE) (M : MI) (f : Nat) (Q : Out → Mem → Prop) (pc : Nat) (l : List (Nat × Value)) (a : Nat) (μ : Mem) : Prop :=
  ∃ (o : Out) (μ' : Mem), Q o μ' ∧ zn μ ≤ zn μ' ∧ zc μ ≤ zc μ' ∧ ∀ (p : Program) (la : Launch) (e : Env) (R : Room) (s : State) (m : MethodId) (args : Array Value) (below : List Frame) (meth : Method) (c : Code) (H : Heap) (locs : List Loc) (cells slots : Nat) (ls : Array Slot),
    k_Cx D M f p la R s m args meth c → k_Pt D μ μ' R s H locs cells slots → lv_has ls (mL M) l → ∀ (rest : List Value) (T : State), T.heap = H → Stand p la e R s m args below meth c T locs cells slots →
      ∃ t, Steps p.tables e below ((T.setTop (F0 m pc ls rest)).pushFrame (.throwing (ad D a))) t ∧ k_Fin D s below o μ' R.cells R.slots t
/-- what is known of a walk at a call -/
abbrev k_RES (D : DE) (M : MI) (f : Nat) (pc : Nat) (l : List (Nat × Value)) (st : List Value) (μ : Mem) (y : MethodName) (av rest : List Value) : Prop :=
  ∀ (μ' : Mem) (p : Program) (la : Launch) (e : Env) (R : Room) (s : State) (m : MethodId) (args : Array Value) (below : List Frame) (meth : Method) (c : Code) (H : Heap) (locs : List Loc) (cells slots : Nat) (ls : Array Slot),
    k_Cx D M f p la R s m args meth c → k_Pt D μ μ' R s H locs cells slots → lv_has ls (mL M) l → ∀ T : State, T.heap = H → Stand p la e R s m args below meth c T locs cells slots → k_Res p la e R s m args below meth c T locs cells slots (F0 m pc ls st) y av rest
theorem k_Pt.called {D : DE} {μ μ1 μ' : Mem} {R : Room} {s : State} {H H1 : Heap} {locs L : List Loc} {cells slots : Nat} (P : k_Pt D μ μ' R s H locs cells slots) (h1 : zn μ ≤ zn μ1) (h2 : zc μ ≤ zc μ1) (h : k_Rep D μ1 H1) (hL : ∀ q ∈ L, dB D ≤ q.base) : k_Pt D μ1 μ' R s H1 (locs ++ L) (cells + (zn μ1 - zn μ)) (slots + (zc μ1 - zc μ)) := by
  obtain ⟨hR, hS, s0, p1, p2, p3, p4⟩ := P
  refine ⟨h, ⟨?_, fun q g1 g2 => ?_, fun q hq => ?_⟩, s0, by omega, by omega, p3, p4⟩
  · have z1 := hS.1
    rw [hR.1] at z1
    rw [h.1]
    omega
  · have hq : q < dB D := Nat.not_le.mp g2
    rw [h.2.1 q hq, ← hR.2.1 q hq]
    exact hS.2.1 q g1 g2
  · rcases List.mem_append.mp hq with x | x
    · exact hS.2.2 q x
    · exact hL q x
section VC
variable {D : DE} {M M1 : MI} {f : Nat} {Q Q1 : Out → Mem → Prop} {pc : Nat} {l : List (Nat × Value)} {st rest av : List Value} {μ : Mem}
/-- a call, of any kind -/
theorem V_call (hc : Cl D f M1 av μ Q1) (hq : mW M1 ∈ lw_all) (hin : Cond.initialized (mN M1).cls ∈ lw_all) (hL : mL M1 ≤ 27) (hst : (rest.map fun v => v.category).sum ≤ 8) (res : k_RES D M (f + 1) pc l st μ (mN M1) av rest)
    (kr : ∀ v μ1, Q1 (.inl v) μ1 → V D M (f + 1) Q (pc + 3) l (v.toList ++ rest) μ1) (kt : ∀ a μ1, Q1 (.inr a) μ1 → VT D M (f + 1) Q pc l a μ1) : V D M (f + 1) Q pc l st μ := by
  obtain ⟨o, μ1, hq1, h1, h2, hM⟩ := hc
  cases o with
  | inl v =>
    obtain ⟨o2, μ', hq2, h3, h4, hw⟩ := kr v μ1 hq1
    refine ⟨o2, μ', hq2, Nat.le_trans h1 h3, Nat.le_trans h2 h4, fun p la e R s m args below meth c H locs cells slots ls C P hl T hT X => ?_⟩
    have hrm : cells + (zn μ1 - zn μ) ≤ R.cells ∧ slots + (zc μ1 - zc μ) ≤ R.slots := by
      obtain ⟨hR, hS, s0, p1, p2, p3, p4⟩ := P
      omega
    obtain ⟨T', L, X', hLb, hR1, hstep⟩ := k_call (rest := rest) hM hq hin hL C.2.2.2.2.2.2.2.2.2.2.2.2.1 C.2.2.2.2.2.1 C.2.2.2.2.2.2.1 C.2.2.2.2.2.2.2.2.2.2.1 C.2.2.2.2.2.2.2.2.2.2.2.1 (g := F0 m pc ls st) rfl (by rw [C.2.2.2.1]; exact hl.1)
      (lv_room hst) (by rw [hT]; exact P.1) hrm.1 hrm.2 (res μ' p la e R s m args below meth c H locs cells slots ls C P hl T hT X)
    obtain ⟨t, a1, b1⟩ := hw p la e R s m args below meth c T'.heap (locs ++ L) _ _ ls C (P.called h1 h2 hR1 hLb) hl T' rfl X'
    exact ⟨t, hstep t a1, b1⟩
  | inr a =>
    obtain ⟨o2, μ', hq2, h3, h4, hw⟩ := kt a μ1 hq1
    refine ⟨o2, μ', hq2, Nat.le_trans h1 h3, Nat.le_trans h2 h4, fun p la e R s m args below meth c H locs cells slots ls C P hl T hT X => ?_⟩
    have hrm : cells + (zn μ1 - zn μ) ≤ R.cells ∧ slots + (zc μ1 - zc μ) ≤ R.slots := by
      obtain ⟨hR, hS, s0, p1, p2, p3, p4⟩ := P
      omega
    obtain ⟨T', L, X', hLb, hR1, hstep⟩ := k_call (rest := rest) hM hq hin hL C.2.2.2.2.2.2.2.2.2.2.2.2.1 C.2.2.2.2.2.1 C.2.2.2.2.2.2.1 C.2.2.2.2.2.2.2.2.2.2.1 C.2.2.2.2.2.2.2.2.2.2.2.1 (g := F0 m pc ls st) rfl (by rw [C.2.2.2.1]; exact hl.1)
      (lv_room hst) (by rw [hT]; exact P.1) hrm.1 hrm.2 (res μ' p la e R s m args below meth c H locs cells slots ls C P hl T hT X)
    obtain ⟨t, a1, b1⟩ := hw p la e R s m args below meth c T'.heap (locs ++ L) _ _ ls C (P.called h1 h2 hR1 hLb) hl rest T' rfl X'
    exact ⟨t, hstep t a1, b1⟩
/-- thrown, and no handler: it leaves -/
theorem VT_leave {a : Nat} (hh : mH M = []) (hq : Q (.inr a) μ) : VT D M f Q pc l a μ := by
  refine ⟨.inr a, μ, hq, Nat.le_refl _, Nat.le_refl _, fun p la e R s m args below meth c H locs cells slots ls C P hl rest T hT X => ?_⟩
  have ht : c.exceptionTable.toList = [] := by
    have h := C.2.2.2.2.2.2.2.2.1
    rw [hh] at h
    exact List.map_eq_nil_iff.mp h
  obtain ⟨h1, h2, h3, h4, h5⟩ := X.leaveThrown (ad D a) (g := F0 m pc ls rest) rfl rfl rfl (fun x hx => by rw [ht] at hx; cases hx) C.2.2.2.2.2.2.2.1
  obtain ⟨hR, hS, s0, p1, p2, p3, p4⟩ := P
  have e1 : cells ≤ R.cells := by omega
  have e2 : slots ≤ R.slots := by omega
  exact ⟨_, h1, h2, h3, by show k_Rep D μ T.heap; rw [hT]; exact hR, h4, locs, h5.mono e1 e2, hS.2.2⟩
theorem V_athrow {a : Nat} (d : decode (mC M) pc = .ok (.athrow, 1)) (k : VT D M f Q pc l a μ) : V D M f Q pc l (.ref (ad D a) :: rest) μ := by
  obtain ⟨o, μ', hq, h1, h2, hw⟩ := k
  refine ⟨o, μ', hq, h1, h2, fun p la e R s m args below meth c H locs cells slots ls C P hl T hT X => ?_⟩
  obtain ⟨t, a1, b1⟩ := hw p la e R s m args below meth c H locs cells slots ls C P hl rest T hT X
  refine ⟨t, ?_, b1⟩
  have hx := C.1
  have hb : c.code = mC M := C.2.1
  have hdg : decode c.code (F0 m pc ls (Value.ref (ad D a) :: rest)).pc = .ok (.athrow, 1) := by rw [hb]; exact d
  have hst : (F0 m pc ls (Value.ref (ad D a) :: rest)).stack = Value.ref (ad D a) :: rest := rfl
  have ht := X.here
  jvm_step X.here [hx, hdg, Op.athrow.wp_sem, hst]
  exact a1
/-- the receiver's cell -/
theorem k_recv {ci n b : Nat} {r : vw_C} {H : Heap} {s : State} (hE : k_Env D s) (hR : k_Rep D μ H) (hs : zs μ b = (10 + ci, n)) (h99 : ci ≠ 89) (hc : k_cl[ci]? = some r) : ∃ cell : Cell, H[ad D b]? = some cell ∧ cell.vm.isStatics = false ∧ s.vm.findClass r.1 = some cell.cls := by
  have h1 := hR.cell hs (by omega)
  rw [k_ent_obj hs] at h1
  exact va_recv hE.1 (k_P1 h1) (q0 := 0) hc rfl
theorem k_resV {y : MethodName} {C : String} {idx b ci n : Nat} {r : vw_C} {bytes : ByteArray} {maxL : Nat} {ret : Option FieldType} (hs : zs μ b = (10 + ci, n)) (h99 : ci ≠ 89) (hci : k_cl[ci]? = some r) (hC : r.1 = C) (q1 : Cond.methodLink (mN M).cls idx y ∈ lw_all) (q2 : Cond.instanceMethod y ∈ lw_all) (q3 : Cond.selects C y y ∈ lw_all) (q5 : Cond.code y bytes maxL ret ∈ lw_all) (hy : y.cls ≠ "java/lang/invoke/MethodHandle" ∧ y.cls ≠ "java/lang/invoke/VarHandle")
    (hn : (parseMethodDescriptor y.desc).map (fun d => d.parameters.length) = some av.length) (d : decode (mC M) pc = .ok (.invokevirtual idx, 3)) : k_RES D M f pc l (av.reverse ++ .ref (ad D b) :: rest) μ y (.ref (ad D b) :: av) rest := by
  intro μ' p la e R s m args below meth c H locs cells slots ls Cx P hl T hT X
  subst hC
  have hts := Cx.2.2.2.2.2.1
  obtain ⟨cellB, hcell, hobj, hcls⟩ := k_recv Cx.2.2.2.2.2.2.1 P.1 hs h99 hci
  obtain ⟨mk, methM, hnamed, hmethM, hstM, habM⟩ := Cond.instanceMethod_spec (hts _ q2)
  obtain ⟨methM', cM, hmethM', -, -, -, -, -, -, hsigM⟩ := Cond.code_spec hnamed (hts _ q5)
  cases hmethM.symm.trans hmethM'
  obtain ⟨c2, r2, m2, w1, w2, w3, w4, kP, hkP, hkPi⟩ := Cond.selects_spec (hts _ q3)
  cases hcls.symm.trans w1
  cases (State.methodFound?_of_named hnamed hy).symm.trans w2
  cases hnamed.symm.trans w3
  have hselP : selectMethod e.platform s.vm cellB.cls mk = .method mk := by rw [Launch.admits_selectMethod X.admits]; exact w4
  have hlen : av.length = methM.sig.parameters.length := by
    rw [hsigM] at hn
    exact (Option.some.inj hn).symm
  have hdg : decode c.code (F0 m pc ls (av.reverse ++ .ref (ad D b) :: rest)).pc = .ok (.invokevirtual idx, 3) := by rw [Cx.2.1]; exact d
  obtain ⟨vm₁, X₁, hstep₁⟩ := X.invokevirtual Cx.1 Cx.2.2.2.2.1 (hts _ q1) hnamed hmethM hstM hkP hkPi hy (a := ad D b) (cell := cellB) (by rw [hT]; exact hcell)
    (fun z h => by rw [h] at hobj; cases hobj) hselP hmethM habM hkP hkPi (g := F0 m pc ls (av.reverse ++ .ref (ad D b) :: rest)) rfl (argsL := av) (rest := rest) hlen rfl hdg
  exact ⟨vm₁, mk, _, X₁, X₁.named hnamed, hdg, fun target h => hstep₁ _ fun acts => by rw [doInvoke_state]; exact h⟩
theorem k_resVW {y : MethodName} {C : String} {idx b ci n : Nat} {r : vw_C} {bytes : ByteArray} {maxL : Nat} {ret : Option FieldType} {hh : List (Nat × Nat × Nat × Nat)} (hs : zs μ b = (10 + ci, n)) (h99 : ci ≠ 89) (hci : k_cl[ci]? = some r) (hC : r.1 = C) (q1 : Cond.methodLink (mN M).cls idx y ∈ lw_all) (q2 : Cond.instanceMethod y ∈ lw_all) (q3 : Cond.selects C y y ∈ lw_all) (q5 : Cond.codeWith y bytes maxL ret hh ∈ lw_all) (hy : y.cls ≠ "java/lang/invoke/MethodHandle" ∧ y.cls ≠ "java/lang/invoke/VarHandle")
    (hn : (parseMethodDescriptor y.desc).map (fun d => d.parameters.length) = some av.length) (d : decode (mC M) pc = .ok (.invokevirtual idx, 3)) : k_RES D M f pc l (av.reverse ++ .ref (ad D b) :: rest) μ y (.ref (ad D b) :: av) rest := by
  intro μ' p la e R s m args below meth c H locs cells slots ls Cx P hl T hT X
  subst hC
  have hts := Cx.2.2.2.2.2.1
  obtain ⟨cellB, hcell, hobj, hcls⟩ := k_recv Cx.2.2.2.2.2.2.1 P.1 hs h99 hci
  obtain ⟨mk, methM, hnamed, hmethM, hstM, habM⟩ := Cond.instanceMethod_spec (hts _ q2)
  obtain ⟨m9, methM', cM, hn9, hmethM', -, -, -, -, -, -, hsigM⟩ := Cond.codeWith_spec (hts _ q5)
  cases hnamed.symm.trans hn9
  cases hmethM.symm.trans hmethM'
  obtain ⟨c2, r2, m2, w1, w2, w3, w4, kP, hkP, hkPi⟩ := Cond.selects_spec (hts _ q3)
  cases hcls.symm.trans w1
  cases (State.methodFound?_of_named hnamed hy).symm.trans w2
  cases hnamed.symm.trans w3
  have hselP : selectMethod e.platform s.vm cellB.cls mk = .method mk := by rw [Launch.admits_selectMethod X.admits]; exact w4
  have hlen : av.length = methM.sig.parameters.length := by
    rw [hsigM] at hn
    exact (Option.some.inj hn).symm
  have hdg : decode c.code (F0 m pc ls (av.reverse ++ .ref (ad D b) :: rest)).pc = .ok (.invokevirtual idx, 3) := by rw [Cx.2.1]; exact d
  obtain ⟨vm₁, X₁, hstep₁⟩ := X.invokevirtual Cx.1 Cx.2.2.2.2.1 (hts _ q1) hnamed hmethM hstM hkP hkPi hy (a := ad D b) (cell := cellB) (by rw [hT]; exact hcell)
    (fun z h => by rw [h] at hobj; cases hobj) hselP hmethM habM hkP hkPi (g := F0 m pc ls (av.reverse ++ .ref (ad D b) :: rest)) rfl (argsL := av) (rest := rest) hlen rfl hdg
  exact ⟨vm₁, mk, _, X₁, X₁.named hnamed, hdg, fun target h => hstep₁ _ fun acts => by rw [doInvoke_state]; exact h⟩
theorem k_resVN {y : MethodName} {C host : String} {idx b ci n : Nat} {r : vw_C} {bytes : ByteArray} {maxL : Nat} {ret : Option FieldType} (hs : zs μ b = (10 + ci, n)) (h99 : ci ≠ 89) (hci : k_cl[ci]? = some r) (hC : r.1 = C) (q1 : Cond.methodLinkNest (mN M).cls idx y host ∈ lw_tbl) (q2 : Cond.instanceMethod y ∈ lw_all) (q3 : Cond.selects C y y ∈ lw_all) (q5 : Cond.code y bytes maxL ret ∈ lw_all) (hy : y.cls ≠ "java/lang/invoke/MethodHandle" ∧ y.cls ≠ "java/lang/invoke/VarHandle")
    (hn : (parseMethodDescriptor y.desc).map (fun d => d.parameters.length) = some av.length) (d : decode (mC M) pc = .ok (.invokevirtual idx, 3)) : k_RES D M f pc l (av.reverse ++ .ref (ad D b) :: rest) μ y (.ref (ad D b) :: av) rest := by
  intro μ' p la e R s m args below meth c H locs cells slots ls Cx P hl T hT X
  subst hC
  have hts := Cx.2.2.2.2.2.1
  obtain ⟨cellB, hcell, hobj, hcls⟩ := k_recv Cx.2.2.2.2.2.2.1 P.1 hs h99 hci
  obtain ⟨mk, methM, hnamed, hmethM, hstM, habM⟩ := Cond.instanceMethod_spec (hts _ q2)
  obtain ⟨methM', cM, hmethM', -, -, -, -, -, -, hsigM⟩ := Cond.code_spec hnamed (hts _ q5)
  cases hmethM.symm.trans hmethM'
  obtain ⟨c2, r2, m2, w1, w2, w3, w4, kP, hkP, hkPi⟩ := Cond.selects_spec (hts _ q3)
  cases hcls.symm.trans w1
  cases (State.methodFound?_of_named hnamed hy).symm.trans w2
  cases hnamed.symm.trans w3
  have hselP : selectMethod e.platform s.vm cellB.cls mk = .method mk := by rw [Launch.admits_selectMethod X.admits]; exact w4
  have hlen : av.length = methM.sig.parameters.length := by
    rw [hsigM] at hn
    exact (Option.some.inj hn).symm
  have hdg : decode c.code (F0 m pc ls (av.reverse ++ .ref (ad D b) :: rest)).pc = .ok (.invokevirtual idx, 3) := by rw [Cx.2.1]; exact d
  obtain ⟨vm₁, X₁, hstep₁⟩ := X.invokevirtualNest Cx.1 Cx.2.2.2.2.1 (va_Nw.use (A := args) rfl (Cx.2.2.2.2.2.2.1.2.1 _ q1 rfl)) hnamed hmethM hstM hkP hkPi hy (a := ad D b) (cell := cellB) (by rw [hT]; exact hcell)
    (fun z h => by rw [h] at hobj; cases hobj) hselP hmethM habM hkP hkPi (g := F0 m pc ls (av.reverse ++ .ref (ad D b) :: rest)) rfl (argsL := av) (rest := rest) hlen rfl hdg
  exact ⟨vm₁, mk, _, X₁, X₁.named hnamed, hdg, fun target h => hstep₁ _ fun acts => by rw [doInvoke_state]; exact h⟩
/-- a call of what a class above declares, abstract or not: x is the linked name, y what the receiver's class selects -/
theorem k_resU {x y : MethodName} {C owner : String} {idx b ci n : Nat} {r : vw_C} (hs : zs μ b = (10 + ci, n)) (h99 : ci ≠ 89) (hci : k_cl[ci]? = some r) (hC : r.1 = C) (q1 : Cond.methodLink (mN M).cls idx x ∈ lw_all) (q4 : Cond.sameMethod x.cls owner x.name x.desc ∈ lw_all) (qd : ∀ s : State, ∀ args : Array Value, k_Env D s → (∀ w ∈ lw_all, w.before args s = true) → va_Decl s ⟨owner, x.name, x.desc⟩) (howner : owner ≠ "java/lang/invoke/MethodHandle" ∧ owner ≠ "java/lang/invoke/VarHandle") (q3 : Cond.selects C x y ∈ lw_all) (q2 : Cond.instanceMethod y ∈ lw_all)
    (hn : (parseMethodDescriptor x.desc).map (fun d => d.parameters.length) = some av.length) (d : decode (mC M) pc = .ok (.invokevirtual idx, 3)) : k_RES D M f pc l (av.reverse ++ .ref (ad D b) :: rest) μ y (.ref (ad D b) :: av) rest := by
  intro μ' p la e R s m args below meth c H locs cells slots ls Cx P hl T hT X
  subst hC
  have hts := Cx.2.2.2.2.2.1
  obtain ⟨cellB, hcell, hobj, hcls⟩ := k_recv Cx.2.2.2.2.2.2.1 P.1 hs h99 hci
  obtain ⟨r0, r, hn0, hrm, hstR, hsigR⟩ := qd s args Cx.2.2.2.2.2.2.1 hts
  obtain ⟨cn, ck, r1, hcn, hck, hni, hf, hn1⟩ := Cond.sameMethod_found (hts _ q4)
  cases hn0.symm.trans hn1
  obtain ⟨mk, methM, hnamed, hmethM, -, habM⟩ := Cond.instanceMethod_spec (hts _ q2)
  obtain ⟨c2, r2, m2, w1, w2, w3, w4, kP, hkP, hkPi⟩ := Cond.selects_spec (hts _ q3)
  cases hcls.symm.trans w1
  cases hf.symm.trans w2
  cases hnamed.symm.trans w3
  have hselP : selectMethod e.platform s.vm cellB.cls r0 = .method mk := by rw [Launch.admits_selectMethod X.admits]; exact w4
  have hlen : av.length = r.sig.parameters.length := by
    have hs2 : parseMethodDescriptor x.desc = some r.sig := hsigR
    rw [hs2] at hn
    exact (Option.some.inj hn).symm
  have hdg : decode c.code (F0 m pc ls (av.reverse ++ .ref (ad D b) :: rest)).pc = .ok (.invokevirtual idx, 3) := by rw [Cx.2.1]; exact d
  obtain ⟨vm₁, X₁, hstep₁⟩ := X.invokevirtualUp Cx.1 Cx.2.2.2.2.1 (hts _ q1) (hts _ q4) howner hn0 hrm hstR (a := ad D b) (cell := cellB) (by rw [hT]; exact hcell)
    (fun z h => by rw [h] at hobj; cases hobj) hselP hmethM habM hkP hkPi (g := F0 m pc ls (av.reverse ++ .ref (ad D b) :: rest)) rfl (argsL := av) (rest := rest) hlen rfl hdg
  exact ⟨vm₁, mk, _, X₁, X₁.named hnamed, hdg, fun target h => hstep₁ _ fun acts => by rw [doInvoke_state]; exact h⟩
theorem k_resS {y : MethodName} {idx : Nat} {M1 : MI} (hy1 : mN M1 = y) (q1 : Cond.methodLink (mN M).cls idx y ∈ lw_all) (q2 : Cond.static y ∈ lw_all) (q3 : Cond.initialized y.cls ∈ lw_all) (q5 : mW M1 ∈ lw_all) (hnm : ∀ args s, (mW M1).before args s = true → ∃ m, s.methodNamed? (mN M1) = some m) (hy : y.cls ≠ "java/lang/invoke/MethodHandle" ∧ y.cls ≠ "java/lang/invoke/VarHandle")
    (hn : (parseMethodDescriptor y.desc).map (fun d => d.parameters.length) = some av.length) (d : decode (mC M) pc = .ok (.invokestatic idx, 3)) : k_RES D M f pc l (av.reverse ++ rest) μ y av rest := by
  intro μ' p la e R s m args below meth c H locs cells slots ls Cx P hl T hT X
  subst hy1
  have hts := Cx.2.2.2.2.2.1
  obtain ⟨mk, hnamed⟩ := hnm args s (hts _ q5)
  obtain ⟨methM, cM, hmethM, -, -, -, -, -, -, hsigM⟩ := mW_spec hnamed (hts _ q5)
  have hstatic : methM.isStatic = true := Cond.static_spec hnamed hmethM (hts _ q2)
  obtain ⟨kP, hkP, -⟩ := className_of_methodNamed hnamed
  have hinitP : kP.init = .initialized := Cond.initialized_spec (findClass_of_methodNamed hnamed) hkP (hts _ q3)
  have hlen : av.length = methM.sig.parameters.length := by
    rw [hsigM] at hn
    exact (Option.some.inj hn).symm
  have hdg : decode c.code (F0 m pc ls (av.reverse ++ rest)).pc = .ok (.invokestatic idx, 3) := by rw [Cx.2.1]; exact d
  obtain ⟨vm₁, X₁, hstep₁⟩ := X.invokestatic Cx.1 Cx.2.2.2.2.1 (hts _ q1) hnamed hmethM hstatic hkP hinitP hy (g := F0 m pc ls (av.reverse ++ rest)) rfl (argsL := av) (rest := rest) hlen rfl hdg
  exact ⟨vm₁, mk, _, X₁, X₁.named hnamed, hdg, fun target h => hstep₁ _ fun acts => by rw [doInvoke_state]; exact h⟩
theorem k_resSN {y : MethodName} {host : String} {idx : Nat} {M1 : MI} (hy1 : mN M1 = y) (q1 : Cond.methodLinkNest (mN M).cls idx y host ∈ lw_tbl) (q2 : Cond.static y ∈ lw_all) (q3 : Cond.initialized y.cls ∈ lw_all) (q5 : mW M1 ∈ lw_all) (hnm : ∀ args s, (mW M1).before args s = true → ∃ m, s.methodNamed? (mN M1) = some m) (hy : y.cls ≠ "java/lang/invoke/MethodHandle" ∧ y.cls ≠ "java/lang/invoke/VarHandle")
    (hn : (parseMethodDescriptor y.desc).map (fun d => d.parameters.length) = some av.length) (d : decode (mC M) pc = .ok (.invokestatic idx, 3)) : k_RES D M f pc l (av.reverse ++ rest) μ y av rest := by
  intro μ' p la e R s m args below meth c H locs cells slots ls Cx P hl T hT X
  subst hy1
  have hts := Cx.2.2.2.2.2.1
  obtain ⟨mk, hnamed⟩ := hnm args s (hts _ q5)
  obtain ⟨methM, cM, hmethM, -, -, -, -, -, -, hsigM⟩ := mW_spec hnamed (hts _ q5)
  have hstatic : methM.isStatic = true := Cond.static_spec hnamed hmethM (hts _ q2)
  obtain ⟨kP, hkP, -⟩ := className_of_methodNamed hnamed
  have hinitP : kP.init = .initialized := Cond.initialized_spec (findClass_of_methodNamed hnamed) hkP (hts _ q3)
  have hlen : av.length = methM.sig.parameters.length := by
    rw [hsigM] at hn
    exact (Option.some.inj hn).symm
  have hdg : decode c.code (F0 m pc ls (av.reverse ++ rest)).pc = .ok (.invokestatic idx, 3) := by rw [Cx.2.1]; exact d
  obtain ⟨vm₁, X₁, hstep₁⟩ := X.invokestaticNest Cx.1 Cx.2.2.2.2.1 (va_Nw.use (A := args) rfl (Cx.2.2.2.2.2.2.1.2.1 _ q1 rfl)) hnamed hmethM hstatic hkP hinitP hy (g := F0 m pc ls (av.reverse ++ rest)) rfl (argsL := av) (rest := rest) hlen rfl hdg
  exact ⟨vm₁, mk, _, X₁, X₁.named hnamed, hdg, fun target h => hstep₁ _ fun acts => by rw [doInvoke_state]; exact h⟩
theorem k_resI {y : MethodName} {idx : Nat} {b : Addr} {bytes : ByteArray} {maxL : Nat} (hy1 : y.name = "<init>") (q1 : Cond.methodLink (mN M).cls idx y ∈ lw_all) (q2 : Cond.instanceMethod y ∈ lw_all) (q5 : Cond.code y bytes maxL none ∈ lw_all) (hy : y.cls ≠ "java/lang/invoke/MethodHandle" ∧ y.cls ≠ "java/lang/invoke/VarHandle")
    (hn : (parseMethodDescriptor y.desc).map (fun d => d.parameters.length) = some av.length) (d : decode (mC M) pc = .ok (.invokespecial idx, 3)) : k_RES D M f pc l (av.reverse ++ .ref b :: rest) μ y (.ref b :: av) rest := by
  intro μ' p la e R s m args below meth c H locs cells slots ls Cx P hl T hT X
  have hts := Cx.2.2.2.2.2.1
  have hpl : e.platform.magicAccessors = ({} : Platform).magicAccessors := by rw [X.admits.platform]
  have hdg : decode c.code (F0 m pc ls (av.reverse ++ .ref b :: rest)).pc = .ok (.invokespecial idx, 3) := by rw [Cx.2.1]; exact d
  have hlen : ∀ sig, parseMethodDescriptor y.desc = some sig → av.length = sig.parameters.length := fun sig h => by
    rw [h] at hn
    exact (Option.some.inj hn).symm
  obtain ⟨mk, methM, cM, kP, vm₁, hnamed, hmethM, hcodeM, -, hlocalsM, -, hkP, -, hW₁, hstep₁⟩ := Steps.initColdArgs (e := e) X.here Cx.1 X.warmed hpl Cx.2.2.2.2.1 hy1 hy (hts _ q1) (hts _ q2) (hts _ q5) (f := F0 m pc ls (av.reverse ++ .ref b :: rest)) rfl hlen rfl hdg
  have X₁ := X.noted hW₁
  exact ⟨vm₁, mk, _, X₁, X₁.named hnamed, hdg, fun target h => hstep₁ _ fun acts => by rw [doInvoke_state]; exact h⟩
theorem k_resIN {y : MethodName} {host : String} {idx : Nat} {b : Addr} {bytes : ByteArray} {maxL : Nat} (hy1 : y.name = "<init>") (q1 : Cond.methodLinkNest (mN M).cls idx y host ∈ lw_tbl) (q2 : Cond.instanceMethod y ∈ lw_all) (q5 : Cond.code y bytes maxL none ∈ lw_all) (hy : y.cls ≠ "java/lang/invoke/MethodHandle" ∧ y.cls ≠ "java/lang/invoke/VarHandle")
    (hn : (parseMethodDescriptor y.desc).map (fun d => d.parameters.length) = some av.length) (d : decode (mC M) pc = .ok (.invokespecial idx, 3)) : k_RES D M f pc l (av.reverse ++ .ref b :: rest) μ y (.ref b :: av) rest := by
  intro μ' p la e R s m args below meth c H locs cells slots ls Cx P hl T hT X
  have hts := Cx.2.2.2.2.2.1
  have hpl : e.platform.magicAccessors = ({} : Platform).magicAccessors := by rw [X.admits.platform]
  have hdg : decode c.code (F0 m pc ls (av.reverse ++ .ref b :: rest)).pc = .ok (.invokespecial idx, 3) := by rw [Cx.2.1]; exact d
  have hlen : ∀ sig, parseMethodDescriptor y.desc = some sig → av.length = sig.parameters.length := fun sig h => by
    rw [h] at hn
    exact (Option.some.inj hn).symm
  obtain ⟨mk, methM, cM, kP, vm₁, hnamed, hmethM, hcodeM, -, hlocalsM, -, hkP, -, hW₁, hstep₁⟩ := Steps.initColdArgsNest (e := e) X.here Cx.1 X.warmed hpl Cx.2.2.2.2.1 hy1 hy (va_Nw.use (A := args) rfl (Cx.2.2.2.2.2.2.1.2.1 _ q1 rfl)) (hts _ q2) (hts _ q5) (f := F0 m pc ls (av.reverse ++ .ref b :: rest)) rfl hlen rfl hdg
  have X₁ := X.noted hW₁
  exact ⟨vm₁, mk, _, X₁, X₁.named hnamed, hdg, fun target h => hstep₁ _ fun acts => by rw [doInvoke_state]; exact h⟩
end VC
theorem mW_named {y : MethodName} {b : ByteArray} {L : Nat} {r : Option FieldType} {args : Array Value} {s : State} (h : (mW (y, b, L, r, [])).before args s = true) : ∃ m, s.methodNamed? y = some m := Cond.code_named h
theorem mW_namedW {y : MethodName} {b : ByteArray} {L : Nat} {r : Option FieldType} {q : Nat × Nat × Nat × Nat} {t : List (Nat × Nat × Nat × Nat)} {args : Array Value} {s : State} (h : (mW (y, b, L, r, q :: t)).before args s = true) : ∃ m, s.methodNamed? y = some m := by
  obtain ⟨m, _, _, h1, -⟩ := Cond.codeWith_spec (h : (Cond.codeWith y b L r (q :: t)).before args s = true)
  exact ⟨m, h1⟩
