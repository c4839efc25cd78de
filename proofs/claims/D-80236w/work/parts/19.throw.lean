/-! THE LIGHT WALK, 13: throw new X() (printed by gen/mkthrow.py) -/
theorem k_flags {la : Launch} {e : Env} (h : la.flags = flags0) (ha : la.admits e) : e.platform.stackTraces = false := by
  have h1 := ha.platform
  rw [h1]
  show la.stackTraces = false
  simp only [Launch.stackTraces, h, flags0]
  decide +kernel
theorem k_forall {α : Type} {P : α → Prop} {a : α} {l : List α} (h1 : P a) (h2 : ∀ x ∈ l, P x) : ∀ x ∈ a :: l, P x := List.forall_mem_cons.mpr ⟨h1, h2⟩
/-- memory with a thrown object more -/
theorem k_Rep.newx {D : DE} {F : Frm} {h : HI} {g : HL} {H H1 : Heap} {e : Nat} (hR : k_Rep D (F, h, g) H) (he : e < 3) {r : vw_C} (hr : k_cl[18 + e]? = some r) (z : H1.size = H.size + 1) (oq : ∀ q : Nat, q < H.size → H1[q]? = H[q]?) {cell : Cell} (hc : H1[ad D F.1.1]? = some cell) (hcl : cell.cls = (dG D).1 (18 + e)) (hvm : cell.vm = .none) (h0 : r.2.2 = 0) : k_Rep D (fnx F e, h, g) H1 := by
  obtain ⟨g1, g2, g3, g4⟩ := hR
  have hz : zn (fnx F e, h, g) = F.1.1 + 1 := rfl
  have hz0 : zn (F, h, g) = F.1.1 := rfl
  have hs : zs (fnx F e, h, g) F.1.1 = (10 + (18 + e), 0) := by
    show up0 F.2.1 F.1.1 (28 + e, 0) F.1.1 = _
    unfold up0
    rw [if_pos rfl]
    congr 1
    omega
  have hne : ∀ b, b ≠ F.1.1 → zs (fnx F e, h, g) b = zs (F, h, g) b := fun b hb => by
    show up0 F.2.1 F.1.1 (28 + e, 0) b = F.2.1 b
    unfold up0
    rw [if_neg hb]
  refine ⟨by rw [z, g1, hz, hz0]; omega, fun q hq => ?_, fun b hb => ?_, fun b hb => ?_⟩
  · rw [oq q (by omega)]
    exact g2 q hq
  · rw [hz] at hb
    rw [hne b (by omega)]
    exact g3 b (by rw [hz0]; omega)
  · by_cases hba : b = F.1.1
    · subst hba
      rw [k_ent_obj hs]
      exact ⟨r, hr, cell, hc, hcl, hvm, fun k hk => by rw [h0] at hk; omega⟩
    · have e1 : k_ent D (fnx F e, h, g) b = k_ent D (F, h, g) b := by
        unfold k_ent k_fs k_fv
        rw [hne b hba]
        rfl
      rw [e1]
      rw [hz] at hb
      have hb2 : b < zn (F, h, g) := by rw [hz0]; omega
      exact (g4 b hb2).kept (oq _ (by show ad D b < _; unfold ad; omega))
/-- an exception's constructor without a message, called: the new cell alone changes -/
theorem k_ctor0 {p : Program} {la : Launch} {e : Env} {R : Room} {s : State} {m : MethodId} {args : Array Value} {below : List Frame} {meth : Method} {c : Code} {W : State} {locs : List Loc} {cells slots : Nat} (X : Stand p la e R s m args below meth c W locs cells slots) (hexec : p.tables.exec = Jvm.exec) (htr : e.platform.stackTraces = false) {own cls : String} {names : List String} {ic : Nat}
    (hown : s.vm.findClass own = some m.cls) (hcls : Bundle.fit cls = true) (hnames : ∀ n ∈ names, Bundle.fit n = true) (h : ∀ a ∈ Bundle.ownAtoms0 own ic cls names, a.before args s = true)
    (hlocs : ∀ x ∈ locs, ∀ cell, s.heap[x.base]? = some cell → cell.vm.isStatics = false)
    {a : Addr} {cX : ClassId} {kX : Class} (hfoundX : s.vm.findClass cls = some cX) (hkX : s.vm.classes[cX]? = some kX) (hcell : W.heap[a]? = some (freshCell cX kX)) (hnew : s.heap.size ≤ a)
    {g : JFrame} (hg : g.method = m) (hsize : g.locals.size = c.maxLocals) {rest : List Value} (hstack : g.stack = .ref a :: rest) (hd : decode c.code g.pc = .ok (.invokespecial ic, 3))
    (hRframes : names.length + 3 < R.frames) (hRlocals : 2 * g.monitorRoom + (rest.map fun v => v.category).sum + (13 * (names.length + 1) + 41) ≤ R.locals) :
    ∃ (vm' : Vm) (ce : Cell) (L : List Loc), Stand p la e R s m args below meth c ((W.setVm vm').setCell a ce) (locs ++ L) cells slots ∧ (∀ q ∈ L, q.base = a) ∧ ce.cls = cX ∧ ce.vm = .none ∧
      ∀ target, Steps p.tables e below (((W.setVm vm').setCell a ce).setTop { g with pc := g.pc + 3, stack := rest }) target → Steps p.tables e below (W.setTop g) target := by
  have hplat := X.admits.platform
  have howns : e.platform.frameOwnsMonitors = true := by rw [hplat]
  have hfin : e.platform.finalization = false := by rw [hplat]
  have hpl : e.platform.magicAccessors = ({} : Platform).magicAccessors := by rw [hplat]
  have hA : ∀ x, x ∈ Bundle.ownAtoms0 own ic cls names → x.holds args s none s [] = true := fun x hx => h x hx
  obtain ⟨T, Z, L, LZ, Y⟩ := ThrowableC.of_atoms (args := args) howns hfin hpl (fun x hx => h x (by simp [Bundle.ownAtoms0, hx]))
  obtain ⟨P1, Ps, hlen, L1, hL, hP1, hlink1, hlink⟩ := Bundle.chain0 (args := args) hpl Y.init0 names cls hcls hnames (fun x hx => h x (by simp [Bundle.ownAtoms0, hx]))
  have hfound : s.vm.findClass cls = some P1.m.cls := findClass_of_methodNamed hP1
  cases Option.some.inj (hfoundX.symm.trans hfound)
  obtain ⟨c1, kX', hc1, hk, hord, -, -, -⟩ := Cond.instantiable_spec (hA (.instantiable cls 6) (by simp [Bundle.ownAtoms0]))
  cases Option.some.inj (hc1.symm.trans hfound)
  cases Option.some.inj (hkX.symm.trans hk)
  have hsel : ∀ (y : MethodName) (k : MethodId), y.cls = Bundle.tN → s.methodNamed? y = some k → Cond.selects cls y y ∈ Bundle.ownAtoms0 own ic cls names → selectMethod e.platform s.vm P1.m.cls k = .method k := by
    intro y k hy hn hq
    obtain ⟨c2, r2, m2, w1, w2, w3, w4, -⟩ := Cond.selects_spec (hA _ hq)
    cases Option.some.inj (w1.symm.trans hfound)
    cases Option.some.inj (w2.symm.trans (State.methodFound?_of_named hn (by rw [hy]; decide)))
    cases Option.some.inj (w3.symm.trans hn)
    rw [Launch.admits_selectMethod X.admits]; exact w4
  obtain ⟨cS0, hcS0, hiss⟩ := Y.statics
  obtain ⟨u0, hu0⟩ := Cond.staticRefV Y.unassigned L.unassignedStatic L.statics hcS0 hiss (hA (.isRef (.static Bundle.tN "UNASSIGNED_STACK" Bundle.steD)) (by simp [Bundle.ownAtoms0]))
  obtain ⟨sen, hsen⟩ := Cond.staticRefV Y.sentinel L.sentinelStatic L.statics hcS0 hiss (hA (.isRef (.static Bundle.tN "SUPPRESSED_SENTINEL" Bundle.listD)) (by simp [Bundle.ownAtoms0]))
  obtain ⟨ciB, iB, fB, hB1, hB2, hB3, hB4, -, hB5, hB6, hB7⟩ := Cond.ownField (t := .object "java/lang/Object") Y.found L.cls (by decide +kernel) (hA (.fieldLink Bundle.tN 198 Bundle.tN "backtrace" "Ljava/lang/Object;") (by simp [Bundle.ownAtoms0])) (hA (.lays Bundle.tN Bundle.tN "backtrace" "Ljava/lang/Object;") (by simp [Bundle.ownAtoms0])) e.platform hpl
  obtain ⟨cS, hcS, heS, -, hkeep⟩ := X.same.2.2.2.2.2 T.aS cS0 hcS0
  have hout : ∀ i, (⟨T.aS, i⟩ : Loc) ∉ locs := fun i hm => by
    have h1 := hlocs _ hm cS0 hcS0
    rw [hiss] at h1; cases h1
  have hknown : cS.vm ≠ .unknown := by
    rw [heS]; intro hu
    rw [show cS0.vm = .unknown from hu] at hiss
    cases hiss
  have hne : T.aS ≠ a := Nat.ne_of_lt (Nat.lt_of_lt_of_le (Array.getElem?_eq_some_iff.mp hcS0).1 hnew)
  obtain ⟨tyC, dC, hdC, hnC⟩ := Cond.laysAt hfound hk Y.cause (hA (.lays cls Bundle.tN "cause" "Ljava/lang/Throwable;") (by simp [Bundle.ownAtoms0]))
  obtain ⟨tyS, dS, hdS, hnS⟩ := Cond.laysAt hfound hk Y.stack (hA (.lays cls Bundle.tN "stackTrace" Bundle.steD) (by simp [Bundle.ownAtoms0]))
  obtain ⟨tyP, dP, hdP, hnP⟩ := Cond.laysAt hfound hk Y.supp (hA (.lays cls Bundle.tN "suppressedExceptions" Bundle.listD) (by simp [Bundle.ownAtoms0]))
  obtain ⟨tyB, dB, hdB, hnB⟩ := Cond.laysAt hfound hk hB7 (hA (.lays cls Bundle.tN "backtrace" "Ljava/lang/Object;") (by simp [Bundle.ownAtoms0]))
  have bC := Cond.laysApart hdB hdC hnB hnC (by rw [hB5, Y.causeName]; decide)
  have bS := Cond.laysApart hdB hdS hnB hnS (by rw [hB5, Y.stackName]; decide)
  have bP := Cond.laysApart hdB hdP hnB hnP (by rw [hB5, Y.suppName]; decide)
  have hskip : SkipFacts T e.platform s (fun u => u) u0 ((preparedCellV T.toThrowableT (freshCell P1.m.cls kX) a u0 sen).withEntry W.cur) :=
    ⟨{ ci198 := ciB, i198 := iB, fBack := fB }, ⟨hB1, hB2, hB3, hB4⟩, by
      have h1 := fresh_default (c := P1.m.cls) tyB
      rw [hB6] at h1
      simpa [preparedCellV, Cell.setSlot, Cell.withEntry, Array.getElem?_setIfInBounds, bC, bS, bP, bC.symm, bS.symm, bP.symm, defaultValue] using h1, fun _ _ => rfl⟩
  obtain ⟨tm, methC, cdC, kC, vm₁, hnm, -, -, -, -, -, -, -, hW₁, st1⟩ := Steps.initColdArgs (e := e) X.here hexec X.warmed hpl hown (t := Bundle.init0 cls) rfl (Bundle.fit_spec hcls).2
    (hA (.methodLink own ic (Bundle.init0 cls)) (by simp [Bundle.ownAtoms0])) (h (.instanceMethod (Bundle.init0 cls)) (by cases names <;> simp [Bundle.ownAtoms0, Bundle.chain0Atoms, Bundle.passAtoms])) (h (.code (Bundle.init0 cls) Bundle.five 1 none) (by cases names <;> simp [Bundle.ownAtoms0, Bundle.chain0Atoms, Bundle.passAtoms]))
    (f := g) hg (argsL := []) (fun sig hs => by
      have h2 : parseMethodDescriptor "()V" = some sig := hs
      have h3 : (parseMethodDescriptor "()V").map (fun d => d.parameters.length) = some 0 := by decide +kernel
      rw [h2] at h3
      exact (Option.some.inj h3).symm) (a := a) (rest := rest) hstack hd
  cases Option.some.inj (hnm.symm.trans hP1)
  have X₁ := X.noted hW₁
  obtain ⟨vm₂, X₂, st2⟩ := X₁.ctorPlainOffV hexec (g := { g with stack := rest }) hg hsize T L Z LZ (P1 :: Ps)
    (fun P hP => by rcases List.mem_cons.mp hP with rfl | hP; exact L1; exact hL P hP) ⟨hlink1, hlink⟩ (u0 := u0) (sen := sen) (self := a) (cell := freshCell P1.m.cls kX) (cellS := cS)
    hcell (fun _ => by simp) (by simp) rfl rfl (hsel _ _ rfl Y.fill0 (by simp [Bundle.ownAtoms0])) (hsel _ _ rfl Y.fill (by simp [Bundle.ownAtoms0])) hcS hne hknown (by rw [hkeep _ (hout _)]; exact hu0) (by rw [hkeep _ (hout _)]; exact hsen)
    (Takes.of_laid hk hord tyC (by rw [Y.causeType]; rfl)) (Takes.of_laid hk hord tyS (by rw [Y.stackType]; exact fits_refV_array _ u0)) (Takes.of_laid hk hord tyP (by rw [Y.suppType]; exact fits_refV_object _ sen)) Y.objLocals hskip htr [] hd
    (by simp only [List.length_cons, hlen]; omega) (by simp only [List.length_cons, hlen]; exact hRlocals)
  refine ⟨vm₂, _, _, X₂, ?_, rfl, rfl, fun target ht => st1 _ fun acts => by rw [doInvoke_state]; exact st2 target ht⟩
  intro q hq
  simp only [List.mem_cons, List.not_mem_nil, or_false] at hq
  rcases hq with rfl | rfl | rfl | rfl <;> rfl

/-- an exception's constructor with a message, called: the new cell alone changes -/
theorem k_ctorS {p : Program} {la : Launch} {e : Env} {R : Room} {s : State} {m : MethodId} {args : Array Value} {below : List Frame} {meth : Method} {c : Code} {W : State} {locs : List Loc} {cells slots : Nat} (X : Stand p la e R s m args below meth c W locs cells slots) (hexec : p.tables.exec = Jvm.exec) (htr : e.platform.stackTraces = false) {own cls : String} {names : List String} {ic : Nat}
    (hown : s.vm.findClass own = some m.cls) (hcls : Bundle.fit cls = true) (hnames : ∀ n ∈ names, Bundle.fit n = true) (h : ∀ a ∈ Bundle.ownAtoms own ic cls names, a.before args s = true)
    (hlocs : ∀ x ∈ locs, ∀ cell, s.heap[x.base]? = some cell → cell.vm.isStatics = false)
    {a : Addr} {cX : ClassId} {kX : Class} (hfoundX : s.vm.findClass cls = some cX) (hkX : s.vm.classes[cX]? = some kX) (hcell : W.heap[a]? = some (freshCell cX kX)) (hnew : s.heap.size ≤ a) {msg : Value} (hmsg : msg.isRef = true)
    {g : JFrame} (hg : g.method = m) (hsize : g.locals.size = c.maxLocals) {rest : List Value} (hstack : g.stack = msg :: .ref a :: rest) (hd : decode c.code g.pc = .ok (.invokespecial ic, 3))
    (hRframes : names.length + 3 < R.frames) (hRlocals : 2 * g.monitorRoom + (rest.map fun v => v.category).sum + (13 * (names.length + 1) + 42) ≤ R.locals) :
    ∃ (vm' : Vm) (ce : Cell) (L : List Loc), Stand p la e R s m args below meth c ((W.setVm vm').setCell a ce) (locs ++ L) cells slots ∧ (∀ q ∈ L, q.base = a) ∧ ce.cls = cX ∧ ce.vm = .none ∧
      ∀ target, Steps p.tables e below (((W.setVm vm').setCell a ce).setTop { g with pc := g.pc + 3, stack := rest }) target → Steps p.tables e below (W.setTop g) target := by
  have hplat := X.admits.platform
  have howns : e.platform.frameOwnsMonitors = true := by rw [hplat]
  have hfin : e.platform.finalization = false := by rw [hplat]
  have hpl : e.platform.magicAccessors = ({} : Platform).magicAccessors := by rw [hplat]
  have hA : ∀ x, x ∈ Bundle.ownAtoms own ic cls names → x.holds args s none s [] = true := fun x hx => h x hx
  obtain ⟨T, Z0, L, -, Y⟩ := ThrowableC.of_atoms (args := args) howns hfin hpl (fun x hx => h x (by simp [Bundle.ownAtoms, hx]))
  obtain ⟨Z, Mg, LZ, LM, hnZ⟩ := Init0T.ofS_atoms (args := args) hpl L Y (fun x hx => h x (by simp [Bundle.ownAtoms, hx]))
  obtain ⟨P1, Ps, hlen, L1, hL, hP1, hlink1, hlink⟩ := Bundle.chainS (args := args) hpl hnZ names cls hcls hnames (fun x hx => h x (by simp [Bundle.ownAtoms, hx]))
  have hfound : s.vm.findClass cls = some P1.m.cls := findClass_of_methodNamed hP1
  cases Option.some.inj (hfoundX.symm.trans hfound)
  obtain ⟨c1, kX', hc1, hk, hord, -, -, -⟩ := Cond.instantiable_spec (hA (.instantiable cls 6) (by simp [Bundle.ownAtoms]))
  cases Option.some.inj (hc1.symm.trans hfound)
  cases Option.some.inj (hkX.symm.trans hk)
  have hsel : ∀ (y : MethodName) (k : MethodId), y.cls = Bundle.tN → s.methodNamed? y = some k → Cond.selects cls y y ∈ Bundle.ownAtoms own ic cls names → selectMethod e.platform s.vm P1.m.cls k = .method k := by
    intro y k hy hn hq
    obtain ⟨c2, r2, m2, w1, w2, w3, w4, -⟩ := Cond.selects_spec (hA _ hq)
    cases Option.some.inj (w1.symm.trans hfound)
    cases Option.some.inj (w2.symm.trans (State.methodFound?_of_named hn (by rw [hy]; decide)))
    cases Option.some.inj (w3.symm.trans hn)
    rw [Launch.admits_selectMethod X.admits]; exact w4
  obtain ⟨cS0, hcS0, hiss⟩ := Y.statics
  obtain ⟨u0, hu0⟩ := Cond.staticRefV Y.unassigned L.unassignedStatic L.statics hcS0 hiss (hA (.isRef (.static Bundle.tN "UNASSIGNED_STACK" Bundle.steD)) (by simp [Bundle.ownAtoms]))
  obtain ⟨sen, hsen⟩ := Cond.staticRefV Y.sentinel L.sentinelStatic L.statics hcS0 hiss (hA (.isRef (.static Bundle.tN "SUPPRESSED_SENTINEL" Bundle.listD)) (by simp [Bundle.ownAtoms]))
  obtain ⟨ciB, iB, fB, hB1, hB2, hB3, hB4, -, hB5, hB6, hB7⟩ := Cond.ownField (t := .object "java/lang/Object") Y.found L.cls (by decide +kernel) (hA (.fieldLink Bundle.tN 198 Bundle.tN "backtrace" "Ljava/lang/Object;") (by simp [Bundle.ownAtoms])) (hA (.lays Bundle.tN Bundle.tN "backtrace" "Ljava/lang/Object;") (by simp [Bundle.ownAtoms])) e.platform hpl
  obtain ⟨cS, hcS, heS, -, hkeep⟩ := X.same.2.2.2.2.2 T.aS cS0 hcS0
  have hout : ∀ i, (⟨T.aS, i⟩ : Loc) ∉ locs := fun i hm => by
    have h1 := hlocs _ hm cS0 hcS0
    rw [hiss] at h1; cases h1
  have hknown : cS.vm ≠ .unknown := by
    rw [heS]; intro hu
    rw [show cS0.vm = .unknown from hu] at hiss
    cases hiss
  have hne : T.aS ≠ a := Nat.ne_of_lt (Nat.lt_of_lt_of_le (Array.getElem?_eq_some_iff.mp hcS0).1 hnew)
  obtain ⟨tyC, dC, hdC, hnC⟩ := Cond.laysAt hfound hk Y.cause (hA (.lays cls Bundle.tN "cause" "Ljava/lang/Throwable;") (by simp [Bundle.ownAtoms]))
  obtain ⟨tyS, dS, hdS, hnS⟩ := Cond.laysAt hfound hk Y.stack (hA (.lays cls Bundle.tN "stackTrace" Bundle.steD) (by simp [Bundle.ownAtoms]))
  obtain ⟨tyP, dP, hdP, hnP⟩ := Cond.laysAt hfound hk Y.supp (hA (.lays cls Bundle.tN "suppressedExceptions" Bundle.listD) (by simp [Bundle.ownAtoms]))
  obtain ⟨tyB, dB, hdB, hnB⟩ := Cond.laysAt hfound hk hB7 (hA (.lays cls Bundle.tN "backtrace" "Ljava/lang/Object;") (by simp [Bundle.ownAtoms]))
  obtain ⟨iM, hffM⟩ := Y.msg
  obtain ⟨tyM, dM, hdM, hnM⟩ := Cond.laysAt hfound hk hffM (hA (.lays cls Bundle.tN "detailMessage" "Ljava/lang/String;") (by simp [Bundle.ownAtoms]))
  have bC := Cond.laysApart hdB hdC hnB hnC (by rw [hB5, Y.causeName]; decide)
  have bS := Cond.laysApart hdB hdS hnB hnS (by rw [hB5, Y.stackName]; decide)
  have bP := Cond.laysApart hdB hdP hnB hnP (by rw [hB5, Y.suppName]; decide)
  have hskip : SkipFacts T e.platform s (fun u => u) u0 ((preparedCellV T.toThrowableT (freshCell P1.m.cls kX) a u0 sen).withEntry W.cur) :=
    ⟨{ ci198 := ciB, i198 := iB, fBack := fB }, ⟨hB1, hB2, hB3, hB4⟩, by
      have h1 := fresh_default (c := P1.m.cls) tyB
      rw [hB6] at h1
      simpa [preparedCellV, Cell.setSlot, Cell.withEntry, Array.getElem?_setIfInBounds, bC, bS, bP, bC.symm, bS.symm, bP.symm, defaultValue] using h1, fun _ _ => rfl⟩
  obtain ⟨tm, methC, cdC, kC, vm₁, hnm, -, -, -, -, -, -, -, hW₁, st1⟩ := Steps.initColdArgs (e := e) X.here hexec X.warmed hpl hown (t := Bundle.initS cls) rfl (Bundle.fit_spec hcls).2
    (hA (.methodLink own ic (Bundle.initS cls)) (by simp [Bundle.ownAtoms])) (h (.instanceMethod (Bundle.initS cls)) (by cases names <;> simp [Bundle.ownAtoms, Bundle.chainSAtoms, Bundle.passSAtoms])) (h (.code (Bundle.initS cls) Bundle.six 2 none) (by cases names <;> simp [Bundle.ownAtoms, Bundle.chainSAtoms, Bundle.passSAtoms]))
    (f := g) hg (argsL := [msg]) (fun sig hs => by
      have h2 : parseMethodDescriptor "(Ljava/lang/String;)V" = some sig := hs
      have h3 : (parseMethodDescriptor "(Ljava/lang/String;)V").map (fun d => d.parameters.length) = some 1 := by decide +kernel
      rw [h2] at h3
      exact (Option.some.inj h3).symm) (a := a) (rest := rest) hstack hd
  cases Option.some.inj (hnm.symm.trans hP1)
  have X₁ := X.noted hW₁
  obtain ⟨vm₂, X₂, st2⟩ := X₁.ctorMessageOffV hexec (g := { g with stack := rest }) hg hsize T L Z LZ Mg LM (P1 :: Ps)
    (fun P hP => by rcases List.mem_cons.mp hP with rfl | hP; exact L1; exact hL P hP) ⟨hlink1, hlink⟩ (u0 := u0) (sen := sen) (self := a) hmsg (cell := freshCell P1.m.cls kX) (cellS := cS)
    hcell (fun _ => by simp) (by simp) rfl rfl (hsel _ _ rfl Y.fill0 (by simp [Bundle.ownAtoms])) (hsel _ _ rfl Y.fill (by simp [Bundle.ownAtoms])) hcS hne hknown (by rw [hkeep _ (hout _)]; exact hu0) (by rw [hkeep _ (hout _)]; exact hsen)
    (Takes.of_laid hk hord tyC (by rw [Y.causeType]; rfl)) (Takes.of_laid hk hord tyS (by rw [Y.stackType]; exact fits_refV_array _ u0)) (Takes.of_laid hk hord tyP (by rw [Y.suppType]; exact fits_refV_object _ sen)) (Takes.of_laid hk hord tyM (by rw [Y.msgType]; exact fits_refV_object _ ⟨msg, hmsg⟩)) Y.objLocals hskip htr [] hd
    (by simp only [List.length_cons, hlen]; omega) (by simp only [List.length_cons, hlen]; exact hRlocals)
  refine ⟨vm₂, _, _, X₂, ?_, rfl, rfl, fun target ht => st1 _ fun acts => by rw [doInvoke_state]; exact st2 target ht⟩
  intro q hq
  simp only [List.mem_cons, List.not_mem_nil, or_false] at hq
  rcases hq with rfl | rfl | rfl | rfl | rfl <;> rfl

/-- where a new cell comes to lie -/
theorem k_newAddr {D : DE} {F : Frm} {h : HI} {g : HL} {μ' : Mem} {R : Room} {s : State} {H : Heap} {locs : List Loc} {cells slots : Nat} (P : k_Pt D (F, h, g) μ' R s H locs cells slots) : s.heap.size ≤ ad D F.1.1 := by
  obtain ⟨hR, hS, s0, p1, p2, p3, p4⟩ := P
  have z1 : zn (F, h, g) = F.1.1 := rfl
  unfold ad
  omega
theorem k_noStat {D : DE} {μ μ' : Mem} {R : Room} {s : State} {H : Heap} {locs : List Loc} {cells slots : Nat} (P : k_Pt D μ μ' R s H locs cells slots) (hst : ∀ q, dB D ≤ q → ∀ cell, s.heap[q]? = some cell → cell.vm.isStatics = false) : ∀ x ∈ locs, ∀ cell, s.heap[x.base]? = some cell → cell.vm.isStatics = false :=
  fun x hx cell hc => hst x.base (P.2.1.2.2 x hx) cell hc
theorem k_thrownPt {D : DE} {F : Frm} {h : HI} {g : HL} {μ' : Mem} {R : Room} {s : State} {H H1 : Heap} {locs L : List Loc} {cells slots e : Nat} (P : k_Pt D (F, h, g) μ' R s H locs cells slots) (hL : ∀ q ∈ L, q.base = ad D F.1.1) (hR1 : k_Rep D (fnx F e, h, g) H1) (hz : H1.size = H.size + 1) : k_Pt D (fnx F e, h, g) μ' R s H1 (locs ++ L) (cells + 1) (slots + 6) := by
  obtain ⟨hR, hS, s0, p1, p2, p3, p4⟩ := P
  refine ⟨hR1, ⟨by have := hS.1; omega, fun q g1 g2 => ?_, fun q hq => ?_⟩, s0, ?_, ?_, p3, p4⟩
  · have hq : q < dB D := Nat.not_le.mp g2
    rw [hR1.2.1 q hq, ← hR.2.1 q hq]
    exact hS.2.1 q g1 g2
  · rcases List.mem_append.mp hq with x | x
    · exact hS.2.2 q x
    · rw [hL q x]; exact Nat.le_add_right _ _
  · have z1 : zn (F, h, g) = F.1.1 := rfl
    show s.heap.size + (cells + 1) = dB D + (F.1.1 + 1)
    omega
  · have z1 : zc (F, h, g) = F.1.2 := rfl
    show s0 + (slots + 6) = F.1.2 + 6
    omega

set_option maxHeartbeats 1000000 in
theorem G_throwB0 {D : DE} {M : MI} {f : Nat} {Q : Out → Mem → Prop} {pc i0 i1 : Nat} {l : List (Nat × Value)} {st : List Value} {F : Frm} {h : HI} {g : HL} (hf : 6 ≤ f) (hst : (st.map fun v => v.category).sum ≤ 7) (q1 : Cond.classLink (mN M).cls i0 "java/lang/IllegalStateException" ∈ lw_all) (q2 : Cond.methodLink (mN M).cls i1 ⟨"java/lang/IllegalStateException", "<init>", "()V"⟩ ∈ lw_all) (d0 : decode (mC M) pc = .ok (.new i0, 3)) (d1 : decode (mC M) (pc + 3) = .ok (.dup, 1)) (d3 : decode (mC M) (pc + 4) = .ok (.invokespecial i1, 3)) (d4 : decode (mC M) (pc + 7) = .ok (.athrow, 1)) (k : VT D M f Q (pc + 7) l F.1.1 (fnx F 0, h, g)) : V D M f Q pc l st (F, h, g) := by
  have hv : V D M f Q (pc + 7) l (.ref (ad D F.1.1) :: st) (fnx F 0, h, g) := V_athrow d4 k
  refine V.step (μ1 := (fnx F 0, h, g)) (Nat.le_succ _) (Nat.le_add_right _ _) hv fun μ' p la ev R s m args below meth c H locs cells slots ls Qf hz1 hz2 Cx P hl kk => ?_
  have hts := Cx.2.2.2.2.2.1
  have hE := Cx.2.2.2.2.2.2.1
  have hX := hE.2.2.2.2.2
  have hH := Cx.2.2.2.2.2.2.2.2.2.2.2.2.2.2.1
  have hKn := hE.1.1 18 _ rfl
  have hr12 := P.room (n := 6) hz1 hz2
  refine W.newcK Cx.1 Cx.2.1 Cx.2.2.2.2.1 (hts _ q1) (hts _ q579) (hts _ q92) rfl d0 hr12.1 hr12.2 hKn.2.1 (h := ad D F.1.1) P.1.1 fun H1 kC hkC e1 z1 o1 => ?_
  have hz : H1.size = H.size + 1 := by rw [z1, P.1.1]; rfl
  have ho : ∀ q : Nat, q < H.size → H1[q]? = H[q]? := fun q hq => o1 q (by rw [P.1.1] at hq; exact hq)
  refine lv_dup Cx.1 Cx.2.1 d1 rfl ?_
  intro T hT X
  have hat : ∀ a ∈ Bundle.ownAtoms0 (mN M).cls i1 "java/lang/IllegalStateException" ["java/lang/RuntimeException", "java/lang/Exception"], a.before args s = true := by
    exact k_forall (hts _ q89) (k_forall (hts _ q600) (k_forall (hts _ q609) (k_forall (hts _ q614) (k_forall (hts _ q617) (k_forall (hts _ q619) (k_forall (hts _ q601) (k_forall (hts _ q602) (k_forall (hts _ q120) (k_forall (hts _ q121) (k_forall (hts _ q603) (k_forall (hts _ q608) (k_forall (hts _ q615) (k_forall (hts _ q635) (k_forall (hts _ q590) (k_forall (hts _ q636) (k_forall (hts _ q592) (k_forall (hts _ q637) (k_forall (hts _ q594) (k_forall (hts _ q604) (k_forall (k_LS.lays hH hX.2.2.2.2.2.2.2.2.1) (k_forall (hts _ q606) (k_forall (k_LS.lays hH hX.2.2.2.2.2.2.2.2.2.1) (k_forall (hts _ q596) (k_forall (hts _ q1069) (k_forall (hts _ q1070) (k_forall (hts _ q1071) (k_forall (hts _ q1072) (k_forall (va_Nw.use (A := args) rfl (hE.2.1 _ q581 rfl)) (k_forall (hts _ q1072) (k_forall (hts _ q1073) (k_forall (hts _ q1074) (k_forall (hts _ q1075) (k_forall (va_Nw.use (A := args) rfl (hE.2.1 _ q583 rfl)) (k_forall (hts _ q1075) (k_forall (hts _ q1076) (k_forall (hts _ q1077) (k_forall (hts _ q601) (k_forall (va_Nw.use (A := args) rfl (hE.2.1 _ q585 rfl)) (k_forall (hts _ q2) (k_forall (hts _ q579) (k_forall (va_Nw.use (A := args) rfl (hE.2.1 _ q580 rfl)) (k_forall (hts _ q587) (k_forall (hts _ q588) (k_forall (hts _ q589) (k_forall (hts _ q591) (k_forall (hts _ q593) (k_forall (hts _ q595) (k_forall (k_LS.isRef hH hX.2.2.2.2.2.2.2.2.1) (k_forall (k_LS.isRef hH hX.2.2.2.2.2.2.2.2.2.1) (k_forall (hts _ q599) (k_forall (hts _ q598) (k_forall (hts _ q597) (fun _ h => by cases h)))))))))))))))))))))))))))))))))))))))))))))))))))))
  have hfr : 6 ≤ R.frames := Nat.le_trans hf Cx.2.2.2.2.2.2.2.2.2.2.1
  have hlo : 46 * f ≤ R.locals := Cx.2.2.2.2.2.2.2.2.2.2.2.1
  have hroom := lv_room (m := m) (pc := pc) (ls := ls) (rest := st) (st := st) (by omega)
  obtain ⟨vm', ce, L, X', hLb, hc1, hc2, hstep⟩ := k_ctor0 X Cx.1 (k_flags Cx.2.2.2.2.2.2.2.2.2.2.2.2.1 X.admits) (own := (mN M).cls) (cls := "java/lang/IllegalStateException") (names := ["java/lang/RuntimeException", "java/lang/Exception"]) (ic := i1) Cx.2.2.2.2.1 (by decide +kernel) (by decide +kernel) hat
    (k_noStat P Cx.2.2.2.2.2.2.2.2.2.2.2.2.2.2.2) (a := ad D F.1.1) hKn.2.1 hkC (by rw [hT]; exact e1) (k_newAddr P)
    (g := (F0 m (pc + 4) ls (.ref (ad D F.1.1) :: .ref (ad D F.1.1) :: st))) rfl (by rw [Cx.2.2.2.1]; exact hl.1) (rest := .ref (ad D F.1.1) :: st) rfl (by rw [Cx.2.1]; exact d3) (by show 2 + 3 < R.frames; omega) (by
      have h2 : ((Value.ref (ad D F.1.1) :: st).map fun v => v.category).sum = 1 + (st.map fun v => v.category).sum := by simp [Value.category]
      have h3 : 2 * (F0 m (pc + 4) ls (.ref (ad D F.1.1) :: .ref (ad D F.1.1) :: st)).monitorRoom = 2 * (F0 m pc ls st).monitorRoom := rfl
      rw [h2, h3]
      show _ + (13 * (2 + 1) + 41) ≤ R.locals
      omega)
  have hlt : ad D F.1.1 < (T.setVm vm').heap.size := by show _ < T.heap.size; rw [hT, z1]; exact Nat.lt_succ_self _
  have hP1 : k_Pt D (fnx F 0, h, g) μ' R s ((T.setVm vm').setCell (ad D F.1.1) ce).heap (locs ++ L) (cells + 1) (slots + 6) :=
    k_thrownPt P hLb (P.1.newx (by decide) rfl (by rw [size_setCell]; show T.heap.size = _; rw [hT, hz]) (fun q hq => by rw [heapAt_setCell_ne _ (fun hh : ad D F.1.1 = q => by have h9 := P.1.1; have z9 : zn (F, h, g) = F.1.1 := rfl; unfold ad at hh; omega)]; show T.heap[q]? = _; rw [hT]; exact ho q hq) (heapAt_setCell_self _ hlt) (hc1.trans rfl) hc2 rfl) (by rw [size_setCell]; show T.heap.size = _; rw [hT, hz])
  obtain ⟨t, a1, b1⟩ := kk _ _ _ _ ls hP1 hl _ rfl X'
  exact ⟨t, hstep t a1, b1⟩
set_option maxHeartbeats 1000000 in
theorem G_throwB1 {D : DE} {M : MI} {f : Nat} {Q : Out → Mem → Prop} {pc i0 i1 : Nat} {l : List (Nat × Value)} {st : List Value} {F : Frm} {h : HI} {g : HL} (hf : 6 ≤ f) (hst : (st.map fun v => v.category).sum ≤ 7) (q1 : Cond.classLink (mN M).cls i0 "java/lang/IllegalArgumentException" ∈ lw_all) (q2 : Cond.methodLink (mN M).cls i1 ⟨"java/lang/IllegalArgumentException", "<init>", "()V"⟩ ∈ lw_all) (d0 : decode (mC M) pc = .ok (.new i0, 3)) (d1 : decode (mC M) (pc + 3) = .ok (.dup, 1)) (d3 : decode (mC M) (pc + 4) = .ok (.invokespecial i1, 3)) (d4 : decode (mC M) (pc + 7) = .ok (.athrow, 1)) (k : VT D M f Q (pc + 7) l F.1.1 (fnx F 1, h, g)) : V D M f Q pc l st (F, h, g) := by
  have hv : V D M f Q (pc + 7) l (.ref (ad D F.1.1) :: st) (fnx F 1, h, g) := V_athrow d4 k
  refine V.step (μ1 := (fnx F 1, h, g)) (Nat.le_succ _) (Nat.le_add_right _ _) hv fun μ' p la ev R s m args below meth c H locs cells slots ls Qf hz1 hz2 Cx P hl kk => ?_
  have hts := Cx.2.2.2.2.2.1
  have hE := Cx.2.2.2.2.2.2.1
  have hX := hE.2.2.2.2.2
  have hH := Cx.2.2.2.2.2.2.2.2.2.2.2.2.2.2.1
  have hKn := hE.1.1 19 _ rfl
  have hr12 := P.room (n := 6) hz1 hz2
  refine W.newcK Cx.1 Cx.2.1 Cx.2.2.2.2.1 (hts _ q1) (hts _ q1094) (hts _ q93) rfl d0 hr12.1 hr12.2 hKn.2.1 (h := ad D F.1.1) P.1.1 fun H1 kC hkC e1 z1 o1 => ?_
  have hz : H1.size = H.size + 1 := by rw [z1, P.1.1]; rfl
  have ho : ∀ q : Nat, q < H.size → H1[q]? = H[q]? := fun q hq => o1 q (by rw [P.1.1] at hq; exact hq)
  refine lv_dup Cx.1 Cx.2.1 d1 rfl ?_
  intro T hT X
  have hat : ∀ a ∈ Bundle.ownAtoms0 (mN M).cls i1 "java/lang/IllegalArgumentException" ["java/lang/RuntimeException", "java/lang/Exception"], a.before args s = true := by
    exact k_forall (hts _ q89) (k_forall (hts _ q600) (k_forall (hts _ q609) (k_forall (hts _ q614) (k_forall (hts _ q617) (k_forall (hts _ q619) (k_forall (hts _ q601) (k_forall (hts _ q602) (k_forall (hts _ q120) (k_forall (hts _ q121) (k_forall (hts _ q603) (k_forall (hts _ q608) (k_forall (hts _ q615) (k_forall (hts _ q635) (k_forall (hts _ q590) (k_forall (hts _ q636) (k_forall (hts _ q592) (k_forall (hts _ q637) (k_forall (hts _ q594) (k_forall (hts _ q604) (k_forall (k_LS.lays hH hX.2.2.2.2.2.2.2.2.1) (k_forall (hts _ q606) (k_forall (k_LS.lays hH hX.2.2.2.2.2.2.2.2.2.1) (k_forall (hts _ q596) (k_forall (hts _ q1103) (k_forall (hts _ q1104) (k_forall (hts _ q1105) (k_forall (hts _ q1072) (k_forall (va_Nw.use (A := args) rfl (hE.2.1 _ q581 rfl)) (k_forall (hts _ q1072) (k_forall (hts _ q1073) (k_forall (hts _ q1074) (k_forall (hts _ q1075) (k_forall (va_Nw.use (A := args) rfl (hE.2.1 _ q583 rfl)) (k_forall (hts _ q1075) (k_forall (hts _ q1076) (k_forall (hts _ q1077) (k_forall (hts _ q601) (k_forall (va_Nw.use (A := args) rfl (hE.2.1 _ q585 rfl)) (k_forall (hts _ q2) (k_forall (hts _ q1094) (k_forall (va_Nw.use (A := args) rfl (hE.2.1 _ q1095 rfl)) (k_forall (hts _ q1096) (k_forall (hts _ q612) (k_forall (hts _ q1097) (k_forall (hts _ q1098) (k_forall (hts _ q1099) (k_forall (hts _ q1100) (k_forall (k_LS.isRef hH hX.2.2.2.2.2.2.2.2.1) (k_forall (k_LS.isRef hH hX.2.2.2.2.2.2.2.2.2.1) (k_forall (hts _ q599) (k_forall (hts _ q598) (k_forall (hts _ q1101) (fun _ h => by cases h)))))))))))))))))))))))))))))))))))))))))))))))))))))
  have hfr : 6 ≤ R.frames := Nat.le_trans hf Cx.2.2.2.2.2.2.2.2.2.2.1
  have hlo : 46 * f ≤ R.locals := Cx.2.2.2.2.2.2.2.2.2.2.2.1
  have hroom := lv_room (m := m) (pc := pc) (ls := ls) (rest := st) (st := st) (by omega)
  obtain ⟨vm', ce, L, X', hLb, hc1, hc2, hstep⟩ := k_ctor0 X Cx.1 (k_flags Cx.2.2.2.2.2.2.2.2.2.2.2.2.1 X.admits) (own := (mN M).cls) (cls := "java/lang/IllegalArgumentException") (names := ["java/lang/RuntimeException", "java/lang/Exception"]) (ic := i1) Cx.2.2.2.2.1 (by decide +kernel) (by decide +kernel) hat
    (k_noStat P Cx.2.2.2.2.2.2.2.2.2.2.2.2.2.2.2) (a := ad D F.1.1) hKn.2.1 hkC (by rw [hT]; exact e1) (k_newAddr P)
    (g := (F0 m (pc + 4) ls (.ref (ad D F.1.1) :: .ref (ad D F.1.1) :: st))) rfl (by rw [Cx.2.2.2.1]; exact hl.1) (rest := .ref (ad D F.1.1) :: st) rfl (by rw [Cx.2.1]; exact d3) (by show 2 + 3 < R.frames; omega) (by
      have h2 : ((Value.ref (ad D F.1.1) :: st).map fun v => v.category).sum = 1 + (st.map fun v => v.category).sum := by simp [Value.category]
      have h3 : 2 * (F0 m (pc + 4) ls (.ref (ad D F.1.1) :: .ref (ad D F.1.1) :: st)).monitorRoom = 2 * (F0 m pc ls st).monitorRoom := rfl
      rw [h2, h3]
      show _ + (13 * (2 + 1) + 41) ≤ R.locals
      omega)
  have hlt : ad D F.1.1 < (T.setVm vm').heap.size := by show _ < T.heap.size; rw [hT, z1]; exact Nat.lt_succ_self _
  have hP1 : k_Pt D (fnx F 1, h, g) μ' R s ((T.setVm vm').setCell (ad D F.1.1) ce).heap (locs ++ L) (cells + 1) (slots + 6) :=
    k_thrownPt P hLb (P.1.newx (by decide) rfl (by rw [size_setCell]; show T.heap.size = _; rw [hT, hz]) (fun q hq => by rw [heapAt_setCell_ne _ (fun hh : ad D F.1.1 = q => by have h9 := P.1.1; have z9 : zn (F, h, g) = F.1.1 := rfl; unfold ad at hh; omega)]; show T.heap[q]? = _; rw [hT]; exact ho q hq) (heapAt_setCell_self _ hlt) (hc1.trans rfl) hc2 rfl) (by rw [size_setCell]; show T.heap.size = _; rw [hT, hz])
  obtain ⟨t, a1, b1⟩ := kk _ _ _ _ ls hP1 hl _ rfl X'
  exact ⟨t, hstep t a1, b1⟩
set_option maxHeartbeats 1000000 in
theorem G_throwB2 {D : DE} {M : MI} {f : Nat} {Q : Out → Mem → Prop} {pc i0 i1 : Nat} {l : List (Nat × Value)} {st : List Value} {F : Frm} {h : HI} {g : HL} (hf : 6 ≤ f) (hst : (st.map fun v => v.category).sum ≤ 7) (q1 : Cond.classLink (mN M).cls i0 "java/lang/IndexOutOfBoundsException" ∈ lw_all) (q2 : Cond.methodLink (mN M).cls i1 ⟨"java/lang/IndexOutOfBoundsException", "<init>", "()V"⟩ ∈ lw_all) (d0 : decode (mC M) pc = .ok (.new i0, 3)) (d1 : decode (mC M) (pc + 3) = .ok (.dup, 1)) (d3 : decode (mC M) (pc + 4) = .ok (.invokespecial i1, 3)) (d4 : decode (mC M) (pc + 7) = .ok (.athrow, 1)) (k : VT D M f Q (pc + 7) l F.1.1 (fnx F 2, h, g)) : V D M f Q pc l st (F, h, g) := by
  have hv : V D M f Q (pc + 7) l (.ref (ad D F.1.1) :: st) (fnx F 2, h, g) := V_athrow d4 k
  refine V.step (μ1 := (fnx F 2, h, g)) (Nat.le_succ _) (Nat.le_add_right _ _) hv fun μ' p la ev R s m args below meth c H locs cells slots ls Qf hz1 hz2 Cx P hl kk => ?_
  have hts := Cx.2.2.2.2.2.1
  have hE := Cx.2.2.2.2.2.2.1
  have hX := hE.2.2.2.2.2
  have hH := Cx.2.2.2.2.2.2.2.2.2.2.2.2.2.2.1
  have hKn := hE.1.1 20 _ rfl
  have hr12 := P.room (n := 6) hz1 hz2
  refine W.newcK Cx.1 Cx.2.1 Cx.2.2.2.2.1 (hts _ q1) (hts _ q1147) (hts _ q112) rfl d0 hr12.1 hr12.2 hKn.2.1 (h := ad D F.1.1) P.1.1 fun H1 kC hkC e1 z1 o1 => ?_
  have hz : H1.size = H.size + 1 := by rw [z1, P.1.1]; rfl
  have ho : ∀ q : Nat, q < H.size → H1[q]? = H[q]? := fun q hq => o1 q (by rw [P.1.1] at hq; exact hq)
  refine lv_dup Cx.1 Cx.2.1 d1 rfl ?_
  intro T hT X
  have hat : ∀ a ∈ Bundle.ownAtoms0 (mN M).cls i1 "java/lang/IndexOutOfBoundsException" ["java/lang/RuntimeException", "java/lang/Exception"], a.before args s = true := by
    exact k_forall (hts _ q89) (k_forall (hts _ q600) (k_forall (hts _ q609) (k_forall (hts _ q614) (k_forall (hts _ q617) (k_forall (hts _ q619) (k_forall (hts _ q601) (k_forall (hts _ q602) (k_forall (hts _ q120) (k_forall (hts _ q121) (k_forall (hts _ q603) (k_forall (hts _ q608) (k_forall (hts _ q615) (k_forall (hts _ q635) (k_forall (hts _ q590) (k_forall (hts _ q636) (k_forall (hts _ q592) (k_forall (hts _ q637) (k_forall (hts _ q594) (k_forall (hts _ q604) (k_forall (k_LS.lays hH hX.2.2.2.2.2.2.2.2.1) (k_forall (hts _ q606) (k_forall (k_LS.lays hH hX.2.2.2.2.2.2.2.2.2.1) (k_forall (hts _ q596) (k_forall (hts _ q1156) (k_forall (hts _ q1157) (k_forall (hts _ q1158) (k_forall (hts _ q1072) (k_forall (va_Nw.use (A := args) rfl (hE.2.1 _ q581 rfl)) (k_forall (hts _ q1072) (k_forall (hts _ q1073) (k_forall (hts _ q1074) (k_forall (hts _ q1075) (k_forall (va_Nw.use (A := args) rfl (hE.2.1 _ q583 rfl)) (k_forall (hts _ q1075) (k_forall (hts _ q1076) (k_forall (hts _ q1077) (k_forall (hts _ q601) (k_forall (va_Nw.use (A := args) rfl (hE.2.1 _ q585 rfl)) (k_forall (hts _ q2) (k_forall (hts _ q1147) (k_forall (va_Nw.use (A := args) rfl (hE.2.1 _ q1148 rfl)) (k_forall (hts _ q1149) (k_forall (hts _ q613) (k_forall (hts _ q1150) (k_forall (hts _ q1151) (k_forall (hts _ q1152) (k_forall (hts _ q1153) (k_forall (k_LS.isRef hH hX.2.2.2.2.2.2.2.2.1) (k_forall (k_LS.isRef hH hX.2.2.2.2.2.2.2.2.2.1) (k_forall (hts _ q599) (k_forall (hts _ q598) (k_forall (hts _ q1154) (fun _ h => by cases h)))))))))))))))))))))))))))))))))))))))))))))))))))))
  have hfr : 6 ≤ R.frames := Nat.le_trans hf Cx.2.2.2.2.2.2.2.2.2.2.1
  have hlo : 46 * f ≤ R.locals := Cx.2.2.2.2.2.2.2.2.2.2.2.1
  have hroom := lv_room (m := m) (pc := pc) (ls := ls) (rest := st) (st := st) (by omega)
  obtain ⟨vm', ce, L, X', hLb, hc1, hc2, hstep⟩ := k_ctor0 X Cx.1 (k_flags Cx.2.2.2.2.2.2.2.2.2.2.2.2.1 X.admits) (own := (mN M).cls) (cls := "java/lang/IndexOutOfBoundsException") (names := ["java/lang/RuntimeException", "java/lang/Exception"]) (ic := i1) Cx.2.2.2.2.1 (by decide +kernel) (by decide +kernel) hat
    (k_noStat P Cx.2.2.2.2.2.2.2.2.2.2.2.2.2.2.2) (a := ad D F.1.1) hKn.2.1 hkC (by rw [hT]; exact e1) (k_newAddr P)
    (g := (F0 m (pc + 4) ls (.ref (ad D F.1.1) :: .ref (ad D F.1.1) :: st))) rfl (by rw [Cx.2.2.2.1]; exact hl.1) (rest := .ref (ad D F.1.1) :: st) rfl (by rw [Cx.2.1]; exact d3) (by show 2 + 3 < R.frames; omega) (by
      have h2 : ((Value.ref (ad D F.1.1) :: st).map fun v => v.category).sum = 1 + (st.map fun v => v.category).sum := by simp [Value.category]
      have h3 : 2 * (F0 m (pc + 4) ls (.ref (ad D F.1.1) :: .ref (ad D F.1.1) :: st)).monitorRoom = 2 * (F0 m pc ls st).monitorRoom := rfl
      rw [h2, h3]
      show _ + (13 * (2 + 1) + 41) ≤ R.locals
      omega)
  have hlt : ad D F.1.1 < (T.setVm vm').heap.size := by show _ < T.heap.size; rw [hT, z1]; exact Nat.lt_succ_self _
  have hP1 : k_Pt D (fnx F 2, h, g) μ' R s ((T.setVm vm').setCell (ad D F.1.1) ce).heap (locs ++ L) (cells + 1) (slots + 6) :=
    k_thrownPt P hLb (P.1.newx (by decide) rfl (by rw [size_setCell]; show T.heap.size = _; rw [hT, hz]) (fun q hq => by rw [heapAt_setCell_ne _ (fun hh : ad D F.1.1 = q => by have h9 := P.1.1; have z9 : zn (F, h, g) = F.1.1 := rfl; unfold ad at hh; omega)]; show T.heap[q]? = _; rw [hT]; exact ho q hq) (heapAt_setCell_self _ hlt) (hc1.trans rfl) hc2 rfl) (by rw [size_setCell]; show T.heap.size = _; rw [hT, hz])
  obtain ⟨t, a1, b1⟩ := kk _ _ _ _ ls hP1 hl _ rfl X'
  exact ⟨t, hstep t a1, b1⟩
set_option maxHeartbeats 1000000 in
theorem G_throwMB {D : DE} {M : MI} {f : Nat} {Q : Out → Mem → Prop} {pc i0 i1 : Nat} {i2 : Nat} {l : List (Nat × Value)} {st : List Value} {F : Frm} {h : HI} {g : HL} (hf : 6 ≤ f) (hst : (st.map fun v => v.category).sum ≤ 7) (q1 : Cond.classLink (mN M).cls i0 "java/lang/IllegalStateException" ∈ lw_all) (q2 : Cond.methodLink (mN M).cls i1 ⟨"java/lang/IllegalStateException", "<init>", "(Ljava/lang/String;)V"⟩ ∈ lw_all) (hstr : ∀ s, k_Env D s → vk_R (mN M).cls i2 "a fault" (dO D 3) s) (d0 : decode (mC M) pc = .ok (.new i0, 3)) (d1 : decode (mC M) (pc + 3) = .ok (.dup, 1)) (d2 : decode (mC M) (pc + 4) = .ok (.ldc i2, 2)) (d3 : decode (mC M) (pc + 6) = .ok (.invokespecial i1, 3)) (d4 : decode (mC M) (pc + 9) = .ok (.athrow, 1)) (k : VT D M f Q (pc + 9) l F.1.1 (fnx F 0, h, g)) : V D M f Q pc l st (F, h, g) := by
  have hv : V D M f Q (pc + 9) l (.ref (ad D F.1.1) :: st) (fnx F 0, h, g) := V_athrow d4 k
  refine V.step (μ1 := (fnx F 0, h, g)) (Nat.le_succ _) (Nat.le_add_right _ _) hv fun μ' p la ev R s m args below meth c H locs cells slots ls Qf hz1 hz2 Cx P hl kk => ?_
  have hts := Cx.2.2.2.2.2.1
  have hE := Cx.2.2.2.2.2.2.1
  have hX := hE.2.2.2.2.2
  have hH := Cx.2.2.2.2.2.2.2.2.2.2.2.2.2.2.1
  have hKn := hE.1.1 18 _ rfl
  have hr12 := P.room (n := 6) hz1 hz2
  refine W.newcK Cx.1 Cx.2.1 Cx.2.2.2.2.1 (hts _ q1) (hts _ q579) (hts _ q92) rfl d0 hr12.1 hr12.2 hKn.2.1 (h := ad D F.1.1) P.1.1 fun H1 kC hkC e1 z1 o1 => ?_
  have hz : H1.size = H.size + 1 := by rw [z1, P.1.1]; rfl
  have ho : ∀ q : Nat, q < H.size → H1[q]? = H[q]? := fun q hq => o1 q (by rw [P.1.1] at hq; exact hq)
  refine lv_dup Cx.1 Cx.2.1 d1 rfl ?_
  refine va_ldcS Cx.1 Cx.2.1 Cx.2.2.2.2.1 (hstr s hE) d2 ?_
  intro T hT X
  have hat : ∀ a ∈ Bundle.ownAtoms (mN M).cls i1 "java/lang/IllegalStateException" ["java/lang/RuntimeException", "java/lang/Exception"], a.before args s = true := by
    exact k_forall (hts _ q89) (k_forall (hts _ q600) (k_forall (hts _ q609) (k_forall (hts _ q614) (k_forall (hts _ q617) (k_forall (hts _ q619) (k_forall (hts _ q601) (k_forall (hts _ q602) (k_forall (hts _ q120) (k_forall (hts _ q121) (k_forall (hts _ q603) (k_forall (hts _ q608) (k_forall (hts _ q615) (k_forall (hts _ q635) (k_forall (hts _ q590) (k_forall (hts _ q636) (k_forall (hts _ q592) (k_forall (hts _ q637) (k_forall (hts _ q594) (k_forall (hts _ q604) (k_forall (k_LS.lays hH hX.2.2.2.2.2.2.2.2.1) (k_forall (hts _ q606) (k_forall (k_LS.lays hH hX.2.2.2.2.2.2.2.2.2.1) (k_forall (hts _ q596) (k_forall (hts _ q631) (k_forall (hts _ q632) (k_forall (hts _ q634) (k_forall (hts _ q596) (k_forall (hts _ q622) (k_forall (hts _ q623) (k_forall (hts _ q624) (k_forall (hts _ q625) (k_forall (va_Nw.use (A := args) rfl (hE.2.1 _ q582 rfl)) (k_forall (hts _ q625) (k_forall (hts _ q626) (k_forall (hts _ q627) (k_forall (hts _ q628) (k_forall (va_Nw.use (A := args) rfl (hE.2.1 _ q584 rfl)) (k_forall (hts _ q628) (k_forall (hts _ q629) (k_forall (hts _ q630) (k_forall (hts _ q631) (k_forall (va_Nw.use (A := args) rfl (hE.2.1 _ q586 rfl)) (k_forall (hts _ q2) (k_forall (hts _ q579) (k_forall (va_Nw.use (A := args) rfl (hE.2.1 _ q580 rfl)) (k_forall (hts _ q587) (k_forall (hts _ q588) (k_forall (hts _ q589) (k_forall (hts _ q591) (k_forall (hts _ q593) (k_forall (hts _ q595) (k_forall (k_LS.isRef hH hX.2.2.2.2.2.2.2.2.1) (k_forall (k_LS.isRef hH hX.2.2.2.2.2.2.2.2.2.1) (k_forall (hts _ q599) (k_forall (hts _ q598) (k_forall (hts _ q597) (fun _ h => by cases h)))))))))))))))))))))))))))))))))))))))))))))))))))))))))
  have hfr : 6 ≤ R.frames := Nat.le_trans hf Cx.2.2.2.2.2.2.2.2.2.2.1
  have hlo : 46 * f ≤ R.locals := Cx.2.2.2.2.2.2.2.2.2.2.2.1
  have hroom := lv_room (m := m) (pc := pc) (ls := ls) (rest := st) (st := st) (by omega)
  obtain ⟨vm', ce, L, X', hLb, hc1, hc2, hstep⟩ := k_ctorS X Cx.1 (k_flags Cx.2.2.2.2.2.2.2.2.2.2.2.2.1 X.admits) (own := (mN M).cls) (cls := "java/lang/IllegalStateException") (names := ["java/lang/RuntimeException", "java/lang/Exception"]) (ic := i1) Cx.2.2.2.2.1 (by decide +kernel) (by decide +kernel) hat
    (k_noStat P Cx.2.2.2.2.2.2.2.2.2.2.2.2.2.2.2) (a := ad D F.1.1) hKn.2.1 hkC (by rw [hT]; exact e1) (k_newAddr P) (msg := .ref (dO D 3)) rfl
    (g := (F0 m (pc + 6) ls (.ref (dO D 3) :: .ref (ad D F.1.1) :: .ref (ad D F.1.1) :: st))) rfl (by rw [Cx.2.2.2.1]; exact hl.1) (rest := .ref (ad D F.1.1) :: st) rfl (by rw [Cx.2.1]; exact d3) (by show 2 + 3 < R.frames; omega) (by
      have h2 : ((Value.ref (ad D F.1.1) :: st).map fun v => v.category).sum = 1 + (st.map fun v => v.category).sum := by simp [Value.category]
      have h3 : 2 * (F0 m (pc + 6) ls (.ref (dO D 3) :: .ref (ad D F.1.1) :: .ref (ad D F.1.1) :: st)).monitorRoom = 2 * (F0 m pc ls st).monitorRoom := rfl
      rw [h2, h3]
      show _ + (13 * (2 + 1) + 42) ≤ R.locals
      omega)
  have hlt : ad D F.1.1 < (T.setVm vm').heap.size := by show _ < T.heap.size; rw [hT, z1]; exact Nat.lt_succ_self _
  have hP1 : k_Pt D (fnx F 0, h, g) μ' R s ((T.setVm vm').setCell (ad D F.1.1) ce).heap (locs ++ L) (cells + 1) (slots + 6) :=
    k_thrownPt P hLb (P.1.newx (by decide) rfl (by rw [size_setCell]; show T.heap.size = _; rw [hT, hz]) (fun q hq => by rw [heapAt_setCell_ne _ (fun hh : ad D F.1.1 = q => by have h9 := P.1.1; have z9 : zn (F, h, g) = F.1.1 := rfl; unfold ad at hh; omega)]; show T.heap[q]? = _; rw [hT]; exact ho q hq) (heapAt_setCell_self _ hlt) (hc1.trans rfl) hc2 rfl) (by rw [size_setCell]; show T.heap.size = _; rw [hT, hz])
  obtain ⟨t, a1, b1⟩ := kk _ _ _ _ ls hP1 hl _ rfl X'
  exact ⟨t, hstep t a1, b1⟩
theorem G_throw_v0 {D : DE} {M : MI} {f : Nat} {pc i0 i1 : Nat} {l : List (Nat × Value)} {st : List Value} {F : Frm} {h : HI} {g : HL} {T : Nat → Frm → HI → HL → Prop} {Q : Frm → HI → HL → Prop} (hF : k_Fix F) (hn : 160 ≤ F.1.1) (hf : 6 ≤ f) (hh : mH M = []) (hst : (st.map fun v => v.category).sum ≤ 7) (q1 : Cond.classLink (mN M).cls i0 "java/lang/IllegalStateException" ∈ lw_all) (q2 : Cond.methodLink (mN M).cls i1 ⟨"java/lang/IllegalStateException", "<init>", "()V"⟩ ∈ lw_all) (d0 : decode (mC M) pc = .ok (.new i0, 3)) (d1 : decode (mC M) (pc + 3) = .ok (.dup, 1)) (d2 : decode (mC M) (pc + 4) = .ok (.invokespecial i1, 3)) (d3 : decode (mC M) (pc + 7) = .ok (.athrow, 1)) (H : T 0 (fnx F 0) h g) : V D M f (gv Q T) pc l st (F, h, g) :=
  G_throwB0 hf hst q1 q2 d0 d1 d2 d3 (GT_v (hF.newx hn 0) hh (by simp [fnx, up0]) H)
theorem G_throw_i0 {D : DE} {M : MI} {f : Nat} {pc i0 i1 : Nat} {l : List (Nat × Value)} {st : List Value} {F : Frm} {h : HI} {g : HL} {T : Nat → Frm → HI → HL → Prop} {Q : Int32 → Frm → HI → HL → Prop} (hF : k_Fix F) (hn : 160 ≤ F.1.1) (hf : 6 ≤ f) (hh : mH M = []) (hst : (st.map fun v => v.category).sum ≤ 7) (q1 : Cond.classLink (mN M).cls i0 "java/lang/IllegalStateException" ∈ lw_all) (q2 : Cond.methodLink (mN M).cls i1 ⟨"java/lang/IllegalStateException", "<init>", "()V"⟩ ∈ lw_all) (d0 : decode (mC M) pc = .ok (.new i0, 3)) (d1 : decode (mC M) (pc + 3) = .ok (.dup, 1)) (d2 : decode (mC M) (pc + 4) = .ok (.invokespecial i1, 3)) (d3 : decode (mC M) (pc + 7) = .ok (.athrow, 1)) (H : T 0 (fnx F 0) h g) : V D M f (gi Q T) pc l st (F, h, g) :=
  G_throwB0 hf hst q1 q2 d0 d1 d2 d3 (GT_i (hF.newx hn 0) hh (by simp [fnx, up0]) H)
theorem G_throw_r0 {D : DE} {M : MI} {f : Nat} {pc i0 i1 : Nat} {l : List (Nat × Value)} {st : List Value} {F : Frm} {h : HI} {g : HL} {T : Nat → Frm → HI → HL → Prop} {Q : Nat → Frm → HI → HL → Prop} (hF : k_Fix F) (hn : 160 ≤ F.1.1) (hf : 6 ≤ f) (hh : mH M = []) (hst : (st.map fun v => v.category).sum ≤ 7) (q1 : Cond.classLink (mN M).cls i0 "java/lang/IllegalStateException" ∈ lw_all) (q2 : Cond.methodLink (mN M).cls i1 ⟨"java/lang/IllegalStateException", "<init>", "()V"⟩ ∈ lw_all) (d0 : decode (mC M) pc = .ok (.new i0, 3)) (d1 : decode (mC M) (pc + 3) = .ok (.dup, 1)) (d2 : decode (mC M) (pc + 4) = .ok (.invokespecial i1, 3)) (d3 : decode (mC M) (pc + 7) = .ok (.athrow, 1)) (H : T 0 (fnx F 0) h g) : V D M f (gr D Q T) pc l st (F, h, g) :=
  G_throwB0 hf hst q1 q2 d0 d1 d2 d3 (GT_r (hF.newx hn 0) hh (by simp [fnx, up0]) H)
theorem G_throw_v1 {D : DE} {M : MI} {f : Nat} {pc i0 i1 : Nat} {l : List (Nat × Value)} {st : List Value} {F : Frm} {h : HI} {g : HL} {T : Nat → Frm → HI → HL → Prop} {Q : Frm → HI → HL → Prop} (hF : k_Fix F) (hn : 160 ≤ F.1.1) (hf : 6 ≤ f) (hh : mH M = []) (hst : (st.map fun v => v.category).sum ≤ 7) (q1 : Cond.classLink (mN M).cls i0 "java/lang/IllegalArgumentException" ∈ lw_all) (q2 : Cond.methodLink (mN M).cls i1 ⟨"java/lang/IllegalArgumentException", "<init>", "()V"⟩ ∈ lw_all) (d0 : decode (mC M) pc = .ok (.new i0, 3)) (d1 : decode (mC M) (pc + 3) = .ok (.dup, 1)) (d2 : decode (mC M) (pc + 4) = .ok (.invokespecial i1, 3)) (d3 : decode (mC M) (pc + 7) = .ok (.athrow, 1)) (H : T 1 (fnx F 1) h g) : V D M f (gv Q T) pc l st (F, h, g) :=
  G_throwB1 hf hst q1 q2 d0 d1 d2 d3 (GT_v (hF.newx hn 1) hh (by simp [fnx, up0]) H)
theorem G_throw_i1 {D : DE} {M : MI} {f : Nat} {pc i0 i1 : Nat} {l : List (Nat × Value)} {st : List Value} {F : Frm} {h : HI} {g : HL} {T : Nat → Frm → HI → HL → Prop} {Q : Int32 → Frm → HI → HL → Prop} (hF : k_Fix F) (hn : 160 ≤ F.1.1) (hf : 6 ≤ f) (hh : mH M = []) (hst : (st.map fun v => v.category).sum ≤ 7) (q1 : Cond.classLink (mN M).cls i0 "java/lang/IllegalArgumentException" ∈ lw_all) (q2 : Cond.methodLink (mN M).cls i1 ⟨"java/lang/IllegalArgumentException", "<init>", "()V"⟩ ∈ lw_all) (d0 : decode (mC M) pc = .ok (.new i0, 3)) (d1 : decode (mC M) (pc + 3) = .ok (.dup, 1)) (d2 : decode (mC M) (pc + 4) = .ok (.invokespecial i1, 3)) (d3 : decode (mC M) (pc + 7) = .ok (.athrow, 1)) (H : T 1 (fnx F 1) h g) : V D M f (gi Q T) pc l st (F, h, g) :=
  G_throwB1 hf hst q1 q2 d0 d1 d2 d3 (GT_i (hF.newx hn 1) hh (by simp [fnx, up0]) H)
theorem G_throw_r1 {D : DE} {M : MI} {f : Nat} {pc i0 i1 : Nat} {l : List (Nat × Value)} {st : List Value} {F : Frm} {h : HI} {g : HL} {T : Nat → Frm → HI → HL → Prop} {Q : Nat → Frm → HI → HL → Prop} (hF : k_Fix F) (hn : 160 ≤ F.1.1) (hf : 6 ≤ f) (hh : mH M = []) (hst : (st.map fun v => v.category).sum ≤ 7) (q1 : Cond.classLink (mN M).cls i0 "java/lang/IllegalArgumentException" ∈ lw_all) (q2 : Cond.methodLink (mN M).cls i1 ⟨"java/lang/IllegalArgumentException", "<init>", "()V"⟩ ∈ lw_all) (d0 : decode (mC M) pc = .ok (.new i0, 3)) (d1 : decode (mC M) (pc + 3) = .ok (.dup, 1)) (d2 : decode (mC M) (pc + 4) = .ok (.invokespecial i1, 3)) (d3 : decode (mC M) (pc + 7) = .ok (.athrow, 1)) (H : T 1 (fnx F 1) h g) : V D M f (gr D Q T) pc l st (F, h, g) :=
  G_throwB1 hf hst q1 q2 d0 d1 d2 d3 (GT_r (hF.newx hn 1) hh (by simp [fnx, up0]) H)
theorem G_throw_v2 {D : DE} {M : MI} {f : Nat} {pc i0 i1 : Nat} {l : List (Nat × Value)} {st : List Value} {F : Frm} {h : HI} {g : HL} {T : Nat → Frm → HI → HL → Prop} {Q : Frm → HI → HL → Prop} (hF : k_Fix F) (hn : 160 ≤ F.1.1) (hf : 6 ≤ f) (hh : mH M = []) (hst : (st.map fun v => v.category).sum ≤ 7) (q1 : Cond.classLink (mN M).cls i0 "java/lang/IndexOutOfBoundsException" ∈ lw_all) (q2 : Cond.methodLink (mN M).cls i1 ⟨"java/lang/IndexOutOfBoundsException", "<init>", "()V"⟩ ∈ lw_all) (d0 : decode (mC M) pc = .ok (.new i0, 3)) (d1 : decode (mC M) (pc + 3) = .ok (.dup, 1)) (d2 : decode (mC M) (pc + 4) = .ok (.invokespecial i1, 3)) (d3 : decode (mC M) (pc + 7) = .ok (.athrow, 1)) (H : T 2 (fnx F 2) h g) : V D M f (gv Q T) pc l st (F, h, g) :=
  G_throwB2 hf hst q1 q2 d0 d1 d2 d3 (GT_v (hF.newx hn 2) hh (by simp [fnx, up0]) H)
theorem G_throw_i2 {D : DE} {M : MI} {f : Nat} {pc i0 i1 : Nat} {l : List (Nat × Value)} {st : List Value} {F : Frm} {h : HI} {g : HL} {T : Nat → Frm → HI → HL → Prop} {Q : Int32 → Frm → HI → HL → Prop} (hF : k_Fix F) (hn : 160 ≤ F.1.1) (hf : 6 ≤ f) (hh : mH M = []) (hst : (st.map fun v => v.category).sum ≤ 7) (q1 : Cond.classLink (mN M).cls i0 "java/lang/IndexOutOfBoundsException" ∈ lw_all) (q2 : Cond.methodLink (mN M).cls i1 ⟨"java/lang/IndexOutOfBoundsException", "<init>", "()V"⟩ ∈ lw_all) (d0 : decode (mC M) pc = .ok (.new i0, 3)) (d1 : decode (mC M) (pc + 3) = .ok (.dup, 1)) (d2 : decode (mC M) (pc + 4) = .ok (.invokespecial i1, 3)) (d3 : decode (mC M) (pc + 7) = .ok (.athrow, 1)) (H : T 2 (fnx F 2) h g) : V D M f (gi Q T) pc l st (F, h, g) :=
  G_throwB2 hf hst q1 q2 d0 d1 d2 d3 (GT_i (hF.newx hn 2) hh (by simp [fnx, up0]) H)
theorem G_throw_r2 {D : DE} {M : MI} {f : Nat} {pc i0 i1 : Nat} {l : List (Nat × Value)} {st : List Value} {F : Frm} {h : HI} {g : HL} {T : Nat → Frm → HI → HL → Prop} {Q : Nat → Frm → HI → HL → Prop} (hF : k_Fix F) (hn : 160 ≤ F.1.1) (hf : 6 ≤ f) (hh : mH M = []) (hst : (st.map fun v => v.category).sum ≤ 7) (q1 : Cond.classLink (mN M).cls i0 "java/lang/IndexOutOfBoundsException" ∈ lw_all) (q2 : Cond.methodLink (mN M).cls i1 ⟨"java/lang/IndexOutOfBoundsException", "<init>", "()V"⟩ ∈ lw_all) (d0 : decode (mC M) pc = .ok (.new i0, 3)) (d1 : decode (mC M) (pc + 3) = .ok (.dup, 1)) (d2 : decode (mC M) (pc + 4) = .ok (.invokespecial i1, 3)) (d3 : decode (mC M) (pc + 7) = .ok (.athrow, 1)) (H : T 2 (fnx F 2) h g) : V D M f (gr D Q T) pc l st (F, h, g) :=
  G_throwB2 hf hst q1 q2 d0 d1 d2 d3 (GT_r (hF.newx hn 2) hh (by simp [fnx, up0]) H)
theorem G_throwM_v0 {D : DE} {M : MI} {f : Nat} {pc i0 i1 : Nat} {l : List (Nat × Value)} {st : List Value} {F : Frm} {h : HI} {g : HL} {T : Nat → Frm → HI → HL → Prop} {i2 : Nat} {Q : Frm → HI → HL → Prop} (hF : k_Fix F) (hn : 160 ≤ F.1.1) (hf : 6 ≤ f) (hh : mH M = []) (hst : (st.map fun v => v.category).sum ≤ 7) (q1 : Cond.classLink (mN M).cls i0 "java/lang/IllegalStateException" ∈ lw_all) (q2 : Cond.methodLink (mN M).cls i1 ⟨"java/lang/IllegalStateException", "<init>", "(Ljava/lang/String;)V"⟩ ∈ lw_all) (q3 : ∀ s, k_Env D s → vk_R (mN M).cls i2 "a fault" (dO D 3) s) (d0 : decode (mC M) pc = .ok (.new i0, 3)) (d1 : decode (mC M) (pc + 3) = .ok (.dup, 1)) (d2 : decode (mC M) (pc + 4) = .ok (.ldc i2, 2)) (d3 : decode (mC M) (pc + 6) = .ok (.invokespecial i1, 3)) (d4 : decode (mC M) (pc + 9) = .ok (.athrow, 1)) (H : T 0 (fnx F 0) h g) : V D M f (gv Q T) pc l st (F, h, g) :=
  G_throwMB hf hst q1 q2 q3 d0 d1 d2 d3 d4 (GT_v (hF.newx hn 0) hh (by simp [fnx, up0]) H)
