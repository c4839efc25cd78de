/-! THE LIGHT WALK, 7: calls that return or throw -/
section KC
variable {p : Program} {la : Launch} {e : Env} {R : Room} {s : State} {m : MethodId} {args : Array Value} {below : List Frame} {meth : Method} {c : Code} {T : State} {locs : List Loc} {cells slots : Nat}
/-- the call has been resolved: what is left is to invoke y -/
def k_Res (p : Program) (la : Launch) (e : Env) (R : Room) (s : State) (m : MethodId) (args : Array Value) (below : List Frame) (meth : Method) (c : Code) (T : State) (locs : List Loc) (cells slots : Nat) (g : JFrame) (y : MethodName) (av rest : List Value) : Prop :=
  ∃ (vm₁ : Vm) (mk : MethodId) (ig : Instr), Stand p la e R s m args below meth c (T.setVm vm₁) locs cells slots ∧ (T.setVm vm₁).methodNamed? y = some mk ∧ decode c.code g.pc = .ok (ig, 3) ∧
    ∀ target, Steps p.tables e below (doInvoke e ((T.setVm vm₁).setTop { g with stack := rest }) [] mk av.toArray).1 target → Steps p.tables e below (T.setTop g) target
/-- where the caller stands behind the call -/
def k_Behind (D : DE) (g : JFrame) (rest : List Value) (o : Out) (T' : State) : State := match o with
  | .inl v => T'.setTop { g with pc := g.pc + 3, stack := v.toList ++ rest }
  | .inr a => (T'.setTop { g with stack := rest }).pushFrame (.throwing (ad D a))
theorem k_call {D : DE} {f : Nat} {M : MI} {av rest : List Value} {μ μ1 : Mem} {o : Out} {g : JFrame} (hM : k_Met D f M av μ o μ1) (hq : mW M ∈ lw_all) (hin : Cond.initialized (mN M).cls ∈ lw_all) (hL : mL M ≤ 27) (hla : la.flags = flags0) (hts : ∀ w ∈ lw_all, w.before args s = true) (hE : k_Env D s)
    (hRf : f + 1 ≤ R.frames) (hRl : 46 * (f + 1) ≤ R.locals) (hg : g.method = m) (hsize : g.locals.size = c.maxLocals) (hW : 2 * g.monitorRoom + (rest.map fun v => v.category).sum ≤ 8)
    (hrep : k_Rep D μ T.heap) (hc1 : cells + (zn μ1 - zn μ) ≤ R.cells) (hc2 : slots + (zc μ1 - zc μ) ≤ R.slots) (hres : k_Res p la e R s m args below meth c T locs cells slots g (mN M) av rest) :
    ∃ (T' : State) (L : List Loc), Stand p la e R s m args below meth c T' (locs ++ L) (cells + (zn μ1 - zn μ)) (slots + (zc μ1 - zc μ)) ∧ (∀ q ∈ L, dB D ≤ q.base) ∧ k_Rep D μ1 T'.heap ∧
      ∀ target, Steps p.tables e below (k_Behind D g rest o T') target → Steps p.tables e below (T.setTop g) target := by
  obtain ⟨vm₁, mk, ig, X, hn, hdg, hst⟩ := hres
  have hpay : ∀ w ∈ k_ws M, ∀ (a' : Array Value) (U : State), s.WarmedH U.vm → w.before a' U = true := pay_in hts (lw_good (fun w h => by
    rcases List.mem_cons.mp h with rfl | h
    · exact hq
    · exact h))
  have hini : (Cond.initialized (mN M).cls).before av.toArray (T.setVm vm₁) = true := word_at X.warmed (Or.inl (by first | rfl | simp [Cond.onTables, Cond.keeps, Cond.steady])) (hts _ hin)
  generalize hU : T.setVm vm₁ = U at X hn hst hini
  have hUh : U.heap = T.heap := by rw [← hU]; rfl
  obtain ⟨methY, cY, hmY, hcY, -, hlY, -, -, -, -⟩ := mW_spec hn (hpay _ List.mem_cons_self av.toArray U X.warmed)
  obtain ⟨kY, hkY, -⟩ := className_of_methodNamed hn
  have hinitY : kY.init = .initialized := Cond.initialized_spec (findClass_of_methodNamed hn) hkY hini
  generalize hg2 : ({ g with stack := rest } : JFrame) = g2 at hst
  have hgm : g2.method = m := by rw [← hg2]; exact hg
  have hgl : g2.locals.size = c.maxLocals := by rw [← hg2]; exact hsize
  have hgs : 2 * g2.monitorRoom + (g2.stack.map fun v => v.category).sum ≤ 8 := by rw [← hg2]; exact hW
  have hgd : decode c.code g2.pc = .ok (ig, 3) := by rw [← hg2]; exact hdg
  have h : At U g2.method c below := by rw [hgm]; exact X.here
  have happ : (headSpec (k_ws M) (k_rm f (zn μ1 - zn μ) (zc μ1 - zc μ))).appliesLoose (mN M) e.platform (U.calling g2 mk av.toArray) = true :=
    Spec.appliesLoose_calling (g := g2) h hgd hn hkY hinitY
      (X.room_calling (g := g2) (R' := (headSpec (k_ws M) (k_rm f (zn μ1 - zn μ) (zc μ1 - zc μ))).room) hgl hmY hcY (by show f + 1 ≤ R.frames; omega)
        (by
          show 2 * g2.monitorRoom + (g2.stack.map fun v => v.category).sum + (cY.maxLocals + 11) + 46 * f ≤ R.locals
          rw [hlY]; omega) hc1 hc2) (atoms_intro fun w hw => hpay w hw _ _ X.warmed)
  obtain ⟨mid, hmid⟩ := h.above
  have hfr : (U.setTop g2).frames = (.java g2 :: mid) ++ below := by rw [State.frames_setTop' g2 h.top, hmid]; rfl
  obtain ⟨oc, s₂, hsteps, -, hend, hqq⟩ := Steps.callFree (hM la hla) p X.admits X.cas X.clock (acts := []) (s := U.setTop g2) (m := mk) (args := av.toArray) hfr happ
    ⟨rfl, by
      have e1 : ((U.setTop g2).pushFrame (.invoking mk av.toArray)).heap = U.heap := rfl
      rw [e1, hUh]; exact hrep, k_Env.same (s := U) rfl (hE.warm X.warmed)⟩ trivial
  rw [State.frames_setTop' g2 h.top] at hend
  obtain ⟨rfl, hrep1, hW₂, L, ⟨e2, q2, q3, q4, q5, q6⟩, hLb⟩ := hqq
  have e3 : s₂ = ({ (U.calling g2 mk av.toArray).setFrames s₂.frames with heap := s₂.heap, slotsUsed := s₂.slotsUsed } : State).setVm s₂.vm := by
    have : s₂ = ({ s₂ with vm := (U.calling g2 mk av.toArray).vm } : State).setVm s₂.vm := rfl
    rw [show (U.calling g2 mk av.toArray) = (U.setTop g2).pushFrame (.invoking mk av.toArray) from rfl] at this ⊢
    rw [e2] at this
    exact this
  have hW' : U.WarmedH s₂.vm := hW₂
  obtain ⟨g₀, hg0⟩ := Option.isSome_iff_exists.mp h.top
  obtain ⟨r, hr⟩ := State.topJava?_eq_some.mp hg0
  have hr' : (({ U with heap := s₂.heap, slotsUsed := s₂.slotsUsed } : State).setVm s₂.vm).frames = .java g₀ :: r := hr
  have hsame : U.sameButNew ({ U with heap := s₂.heap, slotsUsed := s₂.slotsUsed } : State) L (zn μ1 - zn μ) (zc μ1 - zc μ) := by
    refine ⟨?_, q2, q3, q4, q5, q6⟩
    obtain ⟨t, ht, -⟩ := State.frames_cons hr
    show ({ U with heap := s₂.heap, slotsUsed := s₂.slotsUsed } : State) = { U.setFrames U.frames with heap := s₂.heap, slotsUsed := s₂.slotsUsed }
    rw [State.setFrames_self ht]
  refine ⟨(({ U with heap := s₂.heap, slotsUsed := s₂.slotsUsed } : State).setVm s₂.vm), L,
    ⟨X.admits, X.cas, X.clock, X.frames, X.room, X.hears, X.method, X.code, (X.here.setHeapUsed s₂.heap s₂.slotsUsed).setVm hW'.alike, X.tail, State.WarmedH.trans X.warmed hW', X.limits, X.bytes, X.same.trans (hsame.setVm s.vm)⟩,
    hLb, hrep1, fun target ht => hst target (hsteps.trans ?_)⟩
  suffices hs₂ : s₂ = k_Behind D g rest o (({ U with heap := s₂.heap, slotsUsed := s₂.slotsUsed } : State).setVm s₂.vm) by
    rw [← hs₂] at ht
    exact ht
  cases o with
  | inl v =>
    obtain ⟨c₂, i₂, len₂, hc₂, hd₂, hf₂⟩ := (hend : Ended s₂ (.java g2 :: U.frames.tail) (.returned v))
    have hcc : c₂ = c := by
      have h1 : s₂.code? g2.method = U.code? g2.method := by
        rw [State.code?_eq, State.code?_eq, hW'.alike.method?]
      exact Option.some.inj (hc₂.symm.trans (h1.trans h.code))
    subst hcc
    have hlen : len₂ = 3 := by rw [hgd] at hd₂; cases hd₂; rfl
    subst hlen
    have hG : ({ g with pc := g.pc + 3, stack := v.toList ++ rest } : JFrame) = { g2 with pc := g2.pc + 3, stack := v.toList ++ g2.stack } := by rw [← hg2]
    show s₂ = (({ U with heap := s₂.heap, slotsUsed := s₂.slotsUsed } : State).setVm s₂.vm).setTop { g with pc := g.pc + 3, stack := v.toList ++ rest }
    rw [hG]
    refine e3.trans ?_
    rw [hf₂, State.calling_eq h.top, State.setFrames_setFrames, State.setTop_of_frames _ hr', hr]
    rfl
  | inr a =>
    have hf₂ : s₂.frames = .throwing (ad D a) :: (.java g2 :: U.frames.tail) := hend
    show s₂ = ((({ U with heap := s₂.heap, slotsUsed := s₂.slotsUsed } : State).setVm s₂.vm).setTop { g with stack := rest }).pushFrame (.throwing (ad D a))
    rw [hg2]
    refine e3.trans ?_
    rw [hf₂, State.calling_eq h.top, State.setFrames_setFrames, State.pushFrame, State.frames_setTop _ hr', State.setTop_of_frames _ hr', State.setFrames_setFrames, hr]
    rfl
end KC
