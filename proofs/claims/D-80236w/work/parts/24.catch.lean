/-! HANDLERS (what is thrown is caught here), AND System.arraycopy of bytes -/
/-- a row of the table that covers the place: its class is found, warm or cold; then it takes the object, or the search goes on, with the class noted -/
theorem kf_row {Q : Handler → Pre} {E : CtlPost} {e : Env} {d : Bool} {acts : List Action} {S : State} {g : JFrame} {a : Addr} {x : ExceptionTableEntry} {t : List ExceptionTableEntry} {c : ClassId} {cell : Cell} (b : Bool) (hx : covers x g.pc = true) (h0 : x.catchType ≠ 0)
    (hl : S.vm.ClassLinks e.platform g.method.cls x.catchType c) (hcell : S.heap[a]? = some cell) (hobj : ∀ k, cell.vm ≠ .statics k) (hk : ∃ k, S.vm.classes[cell.cls]? = some k) (hc : ∃ k, S.vm.classes[c]? = some k) (hb : S.vm.assignable cell.cls c = b) :
    wp (findHandler.go g a (x :: t)) Q E e d acts S ↔ (if b = true then Q (.found x.handlerPc) d acts (S.setVm (S.vm.noted g.method.cls x.catchType (.cls c))) else wp (findHandler.go g a t) Q E e d acts (S.setVm (S.vm.noted g.method.cls x.catchType (.cls c)))) := by
  obtain ⟨r1, r2⟩ := (resolveClass_links e.toSetting hl).op (op := VmOp.resolveClass g.method.cls x.catchType) rfl
  have al : S.vm.Alike (S.vm.noted g.method.cls x.catchType (.cls c)) := (Vm.Alike.refl S.vm).noted _ _ _
  obtain ⟨k1, w1⟩ := hk
  obtain ⟨k2, w2⟩ := hc
  obtain ⟨k3, w3, -⟩ := al.2.2 _ _ w1
  obtain ⟨k4, w4, -⟩ := al.2.2 _ _ w2
  have hb2 : (S.vm.noted g.method.cls x.catchType (.cls c)).assignable cell.cls c = b := by rw [al.assignable]; exact hb
  simp only [covers] at hx
  cases b <;> simp [findHandler.go, hx, h0, r1, r2, hcell, hobj, w3, w4, hb2, VmOp.dirties, VmOp.acts]
/-- which handler the rows give for an object of a class -/
def kf_takes (pl : Platform) (s : State) (d : ClassId) (pc : Nat) (th : ClassId) (hp : Nat) : List ExceptionTableEntry → Prop
  | [] => False
  | x :: t => covers x pc = true ∧ x.catchType ≠ 0 ∧ ∃ c, s.vm.ClassLinks pl d x.catchType c ∧ ((s.vm.assignable th c = true ∧ x.handlerPc = hp) ∨ (s.vm.assignable th c = false ∧ kf_takes pl s d pc th hp t))
theorem kf_tab {e : Env} {s : State} {g : JFrame} {a : Addr} {cell : Cell} {hp : Nat} (hobj : ∀ k, cell.vm ≠ .statics k) (hk : ∃ k, s.vm.classes[cell.cls]? = some k) : ∀ (t : List ExceptionTableEntry) (S : State), s.WarmedH S.vm → S.heap[a]? = some cell → kf_takes e.platform s g.method.cls g.pc cell.cls hp t →
    ∃ vm', s.WarmedH vm' ∧ ∀ (Q : Handler → Pre) (E : CtlPost) (d : Bool) (acts : List Action), wp (findHandler.go g a t) Q E e d acts S ↔ Q (.found hp) d acts (S.setVm vm') := by
  intro t
  induction t with
  | nil => intro S _ _ h; exact h.elim
  | cons x t ih =>
    intro S hW hcell h
    obtain ⟨hx, h0, c, hl, h⟩ := h
    obtain ⟨k0, hk0⟩ := hk
    obtain ⟨k1, hk1, -⟩ := hW.alike.2.2 _ _ hk0
    obtain ⟨_, _, _, kt, hd, _, _, _, _, hkt, _, hopen⟩ := hl.here
    obtain ⟨k2, hk2, -⟩ := hW.alike.2.2 _ _ hkt
    have hW2 := hW.noted hd hopen (State.rightAt_cls hl)
    rcases h with ⟨h1, h2⟩ | ⟨h1, h2⟩
    · subst h2
      exact ⟨_, hW2, fun Q E d acts => (kf_row true hx h0 (hW.classLinks hl) hcell hobj ⟨k1, hk1⟩ ⟨k2, hk2⟩ (by rw [hW.alike.assignable]; exact h1)).trans (by rw [if_pos rfl])⟩
    · obtain ⟨vm', w1, w2⟩ := ih (S.setVm (S.vm.noted g.method.cls x.catchType (.cls c))) hW2 hcell h2
      exact ⟨vm', w1, fun Q E d acts => (kf_row false hx h0 (hW.classLinks hl) hcell hobj ⟨k1, hk1⟩ ⟨k2, hk2⟩ (by rw [hW.alike.assignable]; exact h1)).trans (by rw [if_neg (by decide)]; exact w2 Q E d acts)⟩
/-- from the note that a is being thrown to the handler -/
theorem kf_caught {p : Program} {l : Launch} {e : Env} {R : Room} {s : State} {m : MethodId} {args : Array Value} {below : List Frame} {meth : Method} {c : Code} {T : State} {locs : List Loc} {cells slots : Nat} (X : Stand p l e R s m args below meth c T locs cells slots) {g : JFrame} (hg : g.method = m) {a : Addr} {cell : Cell} {hp : Nat} (hcell : T.heap[a]? = some cell) (hobj : cell.vm.isStatics = false) (hk : ∃ k, s.vm.classes[cell.cls]? = some k)
    (ht : kf_takes e.platform s m.cls g.pc cell.cls hp c.exceptionTable.toList) :
    ∃ vm', Stand p l e R s m args below meth c (T.setVm vm') locs cells slots ∧ ∀ target, Steps p.tables e below ((T.setVm vm').setTop { g with pc := hp, stack := [.ref a] }) target → Steps p.tables e below ((T.setTop g).pushFrame (.throwing a)) target := by
  subst hg
  obtain ⟨vm', hW, hq⟩ := kf_tab (e := e) (s := s) (g := g) (a := a) (VmData.ne_statics_of hobj) hk c.exceptionTable.toList ((T.setTop g).pushFrame (.throwing a)) X.warmed hcell ht
  refine ⟨vm', X.noted hW, fun target hr => ?_⟩
  have h := X.here
  obtain ⟨go1, go2⟩ := h.throwing a
  refine Steps.head go1 go2 ?_
  obtain ⟨g0, hg0⟩ := Option.isSome_iff_exists.mp h.top
  obtain ⟨r, hr0⟩ := State.topJava?_eq_some.mp hg0
  have hfr : ((T.setTop g).pushFrame (.throwing a)).frames = .throwing a :: .java g :: T.frames.tail := frames_entered h.top _
  have hfind : ∀ (Q : Handler → Pre) (E : CtlPost) (d : Bool) (acts : List Action), wp (findHandler g a) Q E e d acts ((T.setTop g).pushFrame (.throwing a)) ↔ Q (.found hp) d acts (((T.setTop g).pushFrame (.throwing a)).setVm vm') := fun Q E d acts => by
    rw [W.findHandler_eq (s := (T.setTop g).pushFrame (.throwing a)) (meth := meth) (code := c) X.method' X.code]
    exact hq Q E d acts
  have sf : ∀ (u : State) (F G : List Frame), ((u.setFrames F).setVm vm').setFrames G = (u.setVm vm').setFrames G := fun u F G => by
    show ((u.setVm vm').setFrames F).setFrames G = _
    rw [State.setFrames_setFrames]
  have step1 : (stepThrowing e ((T.setTop g).pushFrame (.throwing a)) a (.java g :: T.frames.tail)).Is ((((T.setTop g).pushFrame (.throwing a)).setVm vm').setFrames (.java { g with pc := hp, stack := [.ref a] } :: T.frames.tail)) [] := by
    simp only [stepThrowing, searchFrame, vmDo]
    generalize hz : Sem.go _ e false [] ((T.setTop g).pushFrame (.throwing a)) = res
    obtain ⟨as, rfl, ha⟩ := Sem.eq_ok_of hz (a := Handler.found hp) (s' := ((T.setTop g).pushFrame (.throwing a)).setVm vm') (acts' := []) (by simp [hfind _ _ _ _])
    exact ⟨rfl, ha⟩
  rw [stepThread_throwing hfr, step1.1]
  have hr1 : (T.setVm vm').frames = .java g0 :: r := hr0
  rw [State.setTop_of_frames _ hr1] at hr
  have e1 : (((T.setTop g).pushFrame (.throwing a)).setVm vm').setFrames (.java { g with pc := hp, stack := [.ref a] } :: T.frames.tail) = (T.setVm vm').setFrames (.java { g with pc := hp, stack := [.ref a] } :: r) := by
    rw [hr0, List.tail_cons, State.pushFrame, State.setTop_of_frames _ hr0, sf, sf]
  rw [e1]
  exact hr
section VCA
variable {D : DE} {M M1 : MI} {f : Nat} {Q : Out → Mem → Prop} {pc : Nat} {l : List (Nat × Value)} {st rest av : List Value} {μ : Mem}
/-- thrown, and caught: the rows ahead are passed, the row x catches -/
theorem VT_catch {a ci n N : Nat} {C : String} {T : u_T} (pre : List (Nat × Nat × Nat × Nat)) (x : Nat × Nat × Nat × Nat) (post : List (Nat × Nat × Nat × Nat)) (hh : mH M = pre ++ x :: post) (hs : zs μ a = (10 + ci, n)) (h99 : ci ≠ 89) (hci : k_cl[ci]? = some (C, T, N))
    (hpass : ∀ y ∈ pre, y.2.2.2 ≠ 0 ∧ (y.1 ≤ pc ∧ pc < y.2.1) ∧ ∃ C2, Cond.classLink (mN M).cls y.2.2.2 C2 ∈ lw_all ∧ ∀ s, k_Env D s → va_Nc C C2 s) (hx : x.1 ≤ pc ∧ pc < x.2.1) (h0 : x.2.2.2 ≠ 0) (q : Cond.classLink (mN M).cls x.2.2.2 C ∈ lw_all)
    (kk : V D M f Q x.2.2.1 l [.ref (ad D a)] μ) : VT D M f Q pc l a μ := by
  obtain ⟨o, μ', hq, h1, h2, hw⟩ := kk
  refine ⟨o, μ', hq, h1, h2, fun p la e R s m args below meth c H locs cells slots ls Cx P hl rs T hT X => ?_⟩
  have hts := Cx.2.2.2.2.2.1
  obtain ⟨cell, hc1, hc2, hc3⟩ := k_recv Cx.2.2.2.2.2.2.1 P.1 hs h99 hci
  have htab := Cx.2.2.2.2.2.2.2.2.1
  rw [hh] at htab
  have hpl : e.platform.magicAccessors = ({} : Platform).magicAccessors := by rw [X.admits.platform]
  obtain ⟨cx, hcx, hclx⟩ := Cond.classLink_spec Cx.2.2.2.2.1 (hts _ q) e.platform hpl
  cases hc3.symm.trans hcx
  obtain ⟨_, _, _, kt, _, _, _, _, _, hkt, _, _⟩ := hclx.here
  have htk : ∀ (pr : List (Nat × Nat × Nat × Nat)) (t : List ExceptionTableEntry), (∀ y ∈ pr, y ∈ pre) → t.map (fun h => (h.startPc, h.endPc, h.handlerPc, h.catchType)) = pr ++ x :: post → kf_takes e.platform s m.cls pc cell.cls x.2.2.1 t := by
    intro pr
    induction pr with
    | nil =>
      intro t _ ht
      obtain ⟨x0, t0, rfl, e5, -⟩ := List.map_eq_cons_iff.mp ht
      subst e5
      exact ⟨by show (decide (x0.startPc ≤ pc) && decide (pc < x0.endPc)) = true; simp [hx.1, hx.2], h0, _, hclx, Or.inl ⟨va_asg _ _, rfl⟩⟩
    | cons y pr ih =>
      intro t hin ht
      obtain ⟨x0, t0, rfl, e5, e6⟩ := List.map_eq_cons_iff.mp ht
      subst e5
      obtain ⟨y0, yc, C2, y1, y2⟩ := hpass _ (hin _ List.mem_cons_self)
      obtain ⟨c', hc', hcl⟩ := Cond.classLink_spec Cx.2.2.2.2.1 (hts _ y1) e.platform hpl
      obtain ⟨ca, cb, z1, z2, z3⟩ := y2 s Cx.2.2.2.2.2.2.1
      cases hc'.symm.trans z2
      cases hc3.symm.trans z1
      exact ⟨by show (decide (x0.startPc ≤ pc) && decide (pc < x0.endPc)) = true; simp [yc.1, yc.2], y0, _, hcl, Or.inr ⟨z3, ih t0 (fun z hz => hin z (List.mem_cons_of_mem _ hz)) e6⟩⟩
  obtain ⟨vm', X', st⟩ := kf_caught X (g := F0 m pc ls rs) rfl (by rw [hT]; exact hc1) hc2 ⟨kt, hkt⟩ (htk pre c.exceptionTable.toList (fun _ h => h) htab)
  obtain ⟨t, a1, b1⟩ := hw p la e R s m args below meth c H locs cells slots ls Cx P hl (T.setVm vm') hT X'
  exact ⟨t, st t a1, b1⟩
/-- bytes copied from the start of one array to the start of another -/
def wcp (μ : Mem) (a0 a1 n : Nat) : Mem := (μ.1, up1 μ.2.1 a1 (va_cpy (μ.2.1 a0) (μ.2.1 a1) 0 0 n), μ.2.2)
theorem V_copyb {a0 a1 n0 n1 idx : Nat} {x : Int32} (ha0 : zs μ a0 = (1, n0)) (ha1 : zs μ a1 = (1, n1)) (h3 : ¬ x < 0) (h4 : ix x ≤ n0) (h5 : ix x ≤ n1) (hfit : ∀ i, i < ix x → fits .byte (.int (zi μ a0 i)) = true) (hf : 1 ≤ f) (hst : (rest.map fun v => v.category).sum ≤ 8)
    (q1 : Cond.methodLink (mN M).cls idx arraycopyName ∈ lw_all) (q2 : Cond.native arraycopyName ∈ lw_all) (q3 : Cond.static arraycopyName ∈ lw_all) (q4 : Cond.initialized "java/lang/System" ∈ lw_all) (d : decode (mC M) pc = .ok (.invokestatic idx, 3))
    (kk : V D M f Q (pc + 3) l rest (wcp μ a0 a1 (ix x))) : V D M f Q pc l (.int x :: .int 0 :: .ref (ad D a1) :: .int 0 :: .ref (ad D a0) :: rest) μ :=
  V.step (μ1 := wcp μ a0 a1 (ix x)) (Nat.le_refl _) (Nat.le_refl _) kk fun μ' p la e R s m args below meth c H locs cells slots ls Qf _ _ Cx P hl kk => by
    have nn : ∀ z : Int32, ¬ z < 0 → z.toInt = (z.toNatClampNeg : Int) := by
      intro z hz
      have hz0 : (0 : Int) ≤ z.toInt := by
        have := Int32.not_lt.mp hz
        simpa using Int32.le_iff_toInt_le.mp this
      show z.toInt = ((z.toInt.toNat : Nat) : Int)
      omega
    have hts := Cx.2.2.2.2.2.1
    have hE := Cx.2.2.2.2.2.2.1
    have c0 := P.1.cell ha0 (by decide)
    rw [k_ent_i ha0 (by decide)] at c0
    have c1 := P.1.cell ha1 (by decide)
    rw [k_ent_i ha1 (by decide)] at c1
    have c0 : H[ad D a0]? = some (vp_cell (dA D 1) (n0, .inl (zi μ a0))) := c0
    have c1 : H[ad D a1]? = some (vp_cell (dA D 1) (n1, .inl (zi μ a1))) := c1
    obtain ⟨-, k0, hk0, cm0, hkk0⟩ := (hE.1.2 1 _ rfl).1 n0 (fun j => .int (zi μ a0 j))
    obtain ⟨-, k1, hk1, cm1, hkk1⟩ := (hE.1.2 1 _ rfl).1 n1 (fun j => .int (zi μ a1 j))
    intro T hT X
    have hR : 46 * f ≤ R.locals := Cx.2.2.2.2.2.2.2.2.2.2.2.1
    have hR2 : f ≤ R.frames := Cx.2.2.2.2.2.2.2.2.2.2.1
    have z0 : (0 : Int32).toNatClampNeg = 0 := by decide
    have hw : nativeFrameWords "java/lang/System" "arraycopy" 5 ≤ 20 := by decide +kernel
    obtain ⟨vm', X', step⟩ := X.arraycopy Cx.1 Cx.2.2.2.2.1 (hts _ q1) (hts _ q2) (hts _ q3) (hts _ q4) (src := ad D a0) (dst := ad D a1) (cs := vp_cell (dA D 1) (n0, .inl (zi μ a0))) (cd := vp_cell (dA D 1) (n1, .inl (zi μ a1))) (srcPos := 0) (destPos := 0) (n := x) (by rw [hT]; exact c0) (by rw [hT]; exact c1)
      (fun _ h => by cases h) (fun _ h => by cases h) (fun h => by cases h) (fun h => by cases h) hk0 hk1 hkk0 hkk1 (by simp) (by decide) (by decide) h3
      (by rw [nn x h3]; show ¬ _ > ((arrV (dA D 1) n0 (fun j => .int (zi μ a0 j))).slots.size : Int); rw [arrV_size]; have : (0 : Int32).toInt = 0 := by decide
          unfold ix at h4; omega)
      (by rw [nn x h3]; show ¬ _ > ((arrV (dA D 1) n1 (fun j => .int (zi μ a1 j))).slots.size : Int); rw [arrV_size]; have : (0 : Int32).toInt = 0 := by decide
          unfold ix at h5; omega)
      (fun vm₁ _ i hi => by
        have e : (vp_cell (dA D 1) (n0, .inl (zi μ a0))).slots.getD ((0 : Int32).toNatClampNeg + i) .null = .int (zi μ a0 i) := by
          show (arrV (dA D 1) n0 (fun j => .int (zi μ a0 j))).slots.getD _ _ = _
          rw [z0, Nat.zero_add, Array.getD_eq_getD_getElem?, arrV_read _ _ (by unfold ix at h4; omega)]
          rfl
        refine ⟨?_, ?_⟩
        · rw [e]
          exact hfit i hi
        · rw [e]
          exact trivial)
      (g := F0 m pc ls (.int x :: .int 0 :: .ref (ad D a1) :: .int 0 :: .ref (ad D a0) :: rest)) rfl (by show ls.size = c.maxLocals; rw [Cx.2.2.2.1]; exact hl.1) (rest := rest) rfl (by rw [Cx.2.1]; exact d) (by omega) (by show 2 * 0 + _ + _ ≤ _; omega)
    have e1 : copied (vp_cell (dA D 1) (n0, .inl (zi μ a0))) (vp_cell (dA D 1) (n1, .inl (zi μ a1))) 0 0 x = vp_cell (dA D 1) (n1, .inl (va_cpy (zi μ a0) (zi μ a1) (0 : Int32).toNatClampNeg (0 : Int32).toNatClampNeg x.toNatClampNeg)) := va_copied (fun z => .int z) _ _ _ _ (by rw [z0]; unfold ix at h4; omega)
    rw [e1, z0] at X' step
    have hl2 : ad D a1 < H.size := (Array.getElem?_eq_some_iff.mp c1).1
    have oq : ∀ q : Nat, q ≠ ad D a1 → (H.setIfInBounds (ad D a1) (vp_cell (dA D 1) (n1, .inl (va_cpy (zi μ a0) (zi μ a1) 0 0 x.toNatClampNeg))))[q]? = H[q]? := fun q hq => by simp [Array.getElem?_setIfInBounds, Ne.symm hq]
    have hheap : ((T.setVm vm').setCell (ad D a1) (vp_cell (dA D 1) (n1, .inl (va_cpy (zi μ a0) (zi μ a1) 0 0 x.toNatClampNeg)))).heap = H.setIfInBounds (ad D a1) (vp_cell (dA D 1) (n1, .inl (va_cpy (zi μ a0) (zi μ a1) 0 0 x.toNatClampNeg))) := by rw [← hT]; rfl
    have hrep : k_Rep D (wcp μ a0 a1 (ix x)) (H.setIfInBounds (ad D a1) (vp_cell (dA D 1) (n1, .inl (va_cpy (zi μ a0) (zi μ a1) 0 0 x.toNatClampNeg)))) := by
      refine P.1.set (μ1 := wcp μ a0 a1 (ix x)) (a := a1) rfl (fun _ => rfl) (fun b hb => ?_) (P.1.lt ha1 (by decide)) ?_ (by simp) oq
      · have f1 : zi (wcp μ a0 a1 (ix x)) b = zi μ b := by funext j; simp [zi, wcp, up1, hb]
        have f2 : zl (wcp μ a0 a1 (ix x)) = zl μ := rfl
        have f3 : zr (wcp μ a0 a1 (ix x)) = zr μ := rfl
        have f4 : zs (wcp μ a0 a1 (ix x)) = zs μ := rfl
        unfold k_ent k_fs k_fv
        rw [f1, f2, f3, f4]
      · rw [k_ent_i (show zs (wcp μ a0 a1 (ix x)) a1 = (1, n1) from ha1) (by decide)]
        show (H.setIfInBounds (ad D a1) _)[ad D a1]? = some (vp_cell _ _)
        have f1 : zi (wcp μ a0 a1 (ix x)) a1 = va_cpy (zi μ a0) (zi μ a1) 0 0 x.toNatClampNeg := by funext j; simp [zi, wcp, up1, ix]; rfl
        rw [f1]
        simp [Array.getElem?_setIfInBounds, hl2]
    obtain ⟨hR0, hS, s0, p1, p2, p3, p4⟩ := P
    obtain ⟨t, a9, b9⟩ := kk _ _ cells slots ls ⟨hrep, ⟨by simp; exact hS.1, fun q g1 g2 => by
        rw [oq q (fun e => g2 (by rw [e]; exact Nat.le_add_right _ _))]
        exact hS.2.1 q g1 g2, fun q hq => by
        rcases List.mem_append.mp hq with h | h
        · exact hS.2.2 q h
        · obtain ⟨z, -, hz⟩ := List.mem_map.mp h
          rw [← hz]
          exact Nat.le_add_right _ _⟩, s0, p1, p2, p3, p4⟩ hl _ hheap X'
    exact ⟨t, step t a9, b9⟩
theorem H_copyb {F : Frm} {h : HI} {g : HL} {a0 a1 n0 n1 idx : Nat} {x : Int32} (ha0 : F.2.1 a0 = (1, n0)) (ha1 : F.2.1 a1 = (1, n1)) (h3 : ¬ x < 0) (h4 : ix x ≤ n0) (h5 : ix x ≤ n1) (hfit : ∀ i, i < ix x → fits .byte (.int (h a0 i)) = true) (hf : 1 ≤ f) (hst : (rest.map fun v => v.category).sum ≤ 8)
    (q1 : Cond.methodLink (mN M).cls idx arraycopyName ∈ lw_all) (q2 : Cond.native arraycopyName ∈ lw_all) (q3 : Cond.static arraycopyName ∈ lw_all) (q4 : Cond.initialized "java/lang/System" ∈ lw_all) (d : decode (mC M) pc = .ok (.invokestatic idx, 3))
    (kk : ∀ h1, h1 = up1 h a1 (va_cpy (h a0) (h a1) 0 0 (ix x)) → V D M f Q (pc + 3) l rest (F, h1, g)) : V D M f Q pc l (.int x :: .int 0 :: .ref (ad D a1) :: .int 0 :: .ref (ad D a0) :: rest) (F, h, g) := V_copyb ha0 ha1 h3 h4 h5 hfit hf hst q1 q2 q3 q4 d (kk _ rfl)
end VCA
