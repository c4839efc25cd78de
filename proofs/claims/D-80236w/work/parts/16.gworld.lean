/-! THE LIGHT WALK, 10: methods that make cells, write references, or throw -/
def fwr (F : Frm) (a k : Nat) (x : Option Nat) : Frm := (F.1, F.2.1, up2 F.2.2 a k x)
def fnw (F : Frm) (t : Nat × Nat) (N : Nat) : Frm := ((F.1.1 + 1, F.1.2 + N), up0 F.2.1 F.1.1 t, up1 F.2.2 F.1.1 (fun _ => none))
/-- a thrown object is made: of kind e (0 IllegalState, 1 IllegalArgument, 2 IndexOutOfBounds) -/
def fnx (F : Frm) (e : Nat) : Frm := ((F.1.1 + 1, F.1.2 + 6), up0 F.2.1 F.1.1 (28 + e, 0), F.2.2)
set_option maxRecDepth 100000 in
theorem fx_shl : fx_sh.length = 160 := by decide +kernel
theorem k_Fix.lt {a : Nat} {t : Nat × Nat} (h : fx_sh[a]? = some t) : a < 160 := by
  have := (List.getElem?_eq_some_iff.mp h).1
  rwa [fx_shl] at this
theorem fx_rf_lt : ∀ q ∈ fx_rf, q.1 < 160 := by decide +kernel
theorem k_Fix.rlt {i : Nat} {q : Nat × Nat × Nat} (h : fx_rf[i]? = some q) : q.1 < 160 := fx_rf_lt q (List.mem_of_getElem? h)
theorem k_Fix.new {F : Frm} (h : k_Fix F) (hn : 160 ≤ F.1.1) (t : Nat × Nat) (N : Nat) : k_Fix (fnw F t N) := by
  refine ⟨fun a x ha => ?_, fun i q hq => ?_⟩
  · have := k_Fix.lt ha
    show up0 F.2.1 F.1.1 t a = x
    unfold up0
    rw [if_neg (by omega)]
    exact h.1 a x ha
  · have := k_Fix.rlt hq
    show up1 F.2.2 F.1.1 (fun _ => none) q.1 q.2.1 = _
    unfold up1
    rw [if_neg (by omega)]
    exact h.2 i q hq
theorem k_Fix.newx {F : Frm} (h : k_Fix F) (hn : 160 ≤ F.1.1) (e : Nat) : k_Fix (fnx F e) := by
  refine ⟨fun a x ha => ?_, h.2⟩
  have := k_Fix.lt ha
  show up0 F.2.1 F.1.1 _ a = x
  unfold up0
  rw [if_neg (by omega)]
  exact h.1 a x ha
def fx_ok (a k : Nat) : Bool := fx_rf.all (fun q => !(q.1 == a && q.2.1 == k))
theorem k_Fix.wr {F : Frm} (h : k_Fix F) {a k : Nat} (hk : fx_ok a k = true) (x : Option Nat) : k_Fix (fwr F a k x) := by
  refine ⟨h.1, fun i q hq => ?_⟩
  have h1 := List.all_eq_true.mp hk q (List.mem_of_getElem? hq)
  show up2 F.2.2 a k x q.1 q.2.1 = _
  unfold up2
  by_cases ha : q.1 = a
  · rw [if_pos ha]
    by_cases hb : q.2.1 = k
    · exfalso
      simp [ha, hb] at h1
    · rw [if_neg hb]
      exact h.2 i q hq
  · rw [if_neg ha]
    exact h.2 i q hq
theorem fx_okD {a k : Nat} (h : 160 ≤ a) : fx_ok a k = true := by
  refine List.all_eq_true.mpr fun q hq => ?_
  have := fx_rf_lt q hq
  have : ¬ q.1 = a := by omega
  simp [this]
/-- ends: returned (nothing, a number, a reference) with Q, or threw an object of kind e with T -/
def gx (T : Nat → Frm → HI → HL → Prop) (o : Out) (μ1 : Mem) : Prop := ∃ a e F1 h1 g1, o = .inr a ∧ μ1 = (F1, h1, g1) ∧ k_Fix F1 ∧ F1.2.1 a = (28 + e, 0) ∧ T e F1 h1 g1
def gv (Q : Frm → HI → HL → Prop) (T : Nat → Frm → HI → HL → Prop) : Out → Mem → Prop := fun o μ1 => (∃ F1 h1 g1, o = .inl none ∧ μ1 = (F1, h1, g1) ∧ k_Fix F1 ∧ Q F1 h1 g1) ∨ gx T o μ1
def gi (Q : Int32 → Frm → HI → HL → Prop) (T : Nat → Frm → HI → HL → Prop) : Out → Mem → Prop := fun o μ1 => (∃ x F1 h1 g1, o = .inl (some (.int x)) ∧ μ1 = (F1, h1, g1) ∧ k_Fix F1 ∧ Q x F1 h1 g1) ∨ gx T o μ1
def gr (D : DE) (Q : Nat → Frm → HI → HL → Prop) (T : Nat → Frm → HI → HL → Prop) : Out → Mem → Prop := fun o μ1 => (∃ b F1 h1 g1, o = .inl (some (.ref (ad D b))) ∧ μ1 = (F1, h1, g1) ∧ k_Fix F1 ∧ Q b F1 h1 g1) ∨ gx T o μ1
def Gv (D : DE) (f : Nat) (M : MI) (av : List Value) (F : Frm) (h : HI) (g : HL) (Q : Frm → HI → HL → Prop) (T : Nat → Frm → HI → HL → Prop) : Prop := Cl D f M av (F, h, g) (gv Q T)
def Gi (D : DE) (f : Nat) (M : MI) (av : List Value) (F : Frm) (h : HI) (g : HL) (Q : Int32 → Frm → HI → HL → Prop) (T : Nat → Frm → HI → HL → Prop) : Prop := Cl D f M av (F, h, g) (gi Q T)
def Gr (D : DE) (f : Nat) (M : MI) (av : List Value) (F : Frm) (h : HI) (g : HL) (Q : Nat → Frm → HI → HL → Prop) (T : Nat → Frm → HI → HL → Prop) : Prop := Cl D f M av (F, h, g) (gr D Q T)
theorem gx.mono {T T1 : Nat → Frm → HI → HL → Prop} {o : Out} {μ : Mem} (k : gx T o μ) (h : ∀ e F h g, T e F h g → T1 e F h g) : gx T1 o μ := by
  obtain ⟨a, e, F1, h1, g1, e1, e2, e3, e4, e5⟩ := k
  exact ⟨a, e, F1, h1, g1, e1, e2, e3, e4, h _ _ _ _ e5⟩
theorem Gv.mono {D : DE} {f : Nat} {M : MI} {av : List Value} {F : Frm} {h : HI} {g : HL} {Q Q1 : Frm → HI → HL → Prop} {T T1 : Nat → Frm → HI → HL → Prop} (k : Gv D f M av F h g Q T) (hq : ∀ F1 h1 g1, Q F1 h1 g1 → Q1 F1 h1 g1) (ht : ∀ e F1 h1 g1, T e F1 h1 g1 → T1 e F1 h1 g1) : Gv D f M av F h g Q1 T1 :=
  Cl.mono k fun o μ' z => z.imp (fun ⟨F1, h1, g1, e1, e2, e3, e4⟩ => ⟨F1, h1, g1, e1, e2, e3, hq _ _ _ e4⟩) (fun z => z.mono ht)
theorem Gi.mono {D : DE} {f : Nat} {M : MI} {av : List Value} {F : Frm} {h : HI} {g : HL} {Q Q1 : Int32 → Frm → HI → HL → Prop} {T T1 : Nat → Frm → HI → HL → Prop} (k : Gi D f M av F h g Q T) (hq : ∀ x F1 h1 g1, Q x F1 h1 g1 → Q1 x F1 h1 g1) (ht : ∀ e F1 h1 g1, T e F1 h1 g1 → T1 e F1 h1 g1) : Gi D f M av F h g Q1 T1 :=
  Cl.mono k fun o μ' z => z.imp (fun ⟨x, F1, h1, g1, e1, e2, e3, e4⟩ => ⟨x, F1, h1, g1, e1, e2, e3, hq _ _ _ _ e4⟩) (fun z => z.mono ht)
theorem Gr.mono {D : DE} {f : Nat} {M : MI} {av : List Value} {F : Frm} {h : HI} {g : HL} {Q Q1 : Nat → Frm → HI → HL → Prop} {T T1 : Nat → Frm → HI → HL → Prop} (k : Gr D f M av F h g Q T) (hq : ∀ x F1 h1 g1, Q x F1 h1 g1 → Q1 x F1 h1 g1) (ht : ∀ e F1 h1 g1, T e F1 h1 g1 → T1 e F1 h1 g1) : Gr D f M av F h g Q1 T1 :=
  Cl.mono k fun o μ' z => z.imp (fun ⟨x, F1, h1, g1, e1, e2, e3, e4⟩ => ⟨x, F1, h1, g1, e1, e2, e3, hq _ _ _ _ e4⟩) (fun z => z.mono ht)
section GR
variable {D : DE} {M M1 : MI} {f : Nat} {Q : Out → Mem → Prop} {pc : Nat} {l : List (Nat × Value)} {st rest av : List Value} {F : Frm} {h : HI} {g : HL} {a b ci n idx N : Nat} {C host : String} {T : u_T}
theorem G_putr {x : Nat} (ck : k_CK ci C T N) (k : Nat) (hk : k < N) (hs : F.2.1 a = (10 + ci, n)) (h99 : ci ≠ 89) (hkd : k_kd (k_ty ci k) = 2) (hn : ∀ z, narrow (k_ty ci k) (.ref z) = .ref z) (hft : ∀ z, fits (k_ty ci k) (.ref z) = true) (hfin : (T k).2.2.2 = false) (q : Cond.fieldLink (mN M).cls idx (T k).1 (T k).2.1 (T k).2.2.1 ∈ lw_all) (d : decode (mC M) pc = .ok (.putfield idx, 3)) (kk : ∀ F1, F1 = fwr F a k (some x) → V D M f Q (pc + 3) l st (F1, h, g)) : V D M f Q pc l (.ref (ad D x) :: .ref (ad D a) :: st) (F, h, g) := V_putr ck k hk hs h99 hkd hfin (hn _) (hft _) q d (kk _ rfl)
theorem G_putrN {x : Nat} (ck : k_CK ci C T N) (k : Nat) (hk : k < N) (hs : F.2.1 a = (10 + ci, n)) (h99 : ci ≠ 89) (hkd : k_kd (k_ty ci k) = 2) (hn : ∀ z, narrow (k_ty ci k) (.ref z) = .ref z) (hft : ∀ z, fits (k_ty ci k) (.ref z) = true) (hfin : (T k).2.2.2 = false) (q : Cond.fieldLinkNest (mN M).cls idx (T k).1 (T k).2.1 (T k).2.2.1 host ∈ lw_tbl) (d : decode (mC M) pc = .ok (.putfield idx, 3)) (kk : ∀ F1, F1 = fwr F a k (some x) → V D M f Q (pc + 3) l st (F1, h, g)) : V D M f Q pc l (.ref (ad D x) :: .ref (ad D a) :: st) (F, h, g) := V_putrN ck k hk hs h99 hkd hfin (hn _) (hft _) q d (kk _ rfl)
theorem G_putrF {x : Nat} (ck : k_CK ci C T N) (k : Nat) (hk : k < N) (hs : F.2.1 a = (10 + ci, n)) (h99 : ci ≠ 89) (hkd : k_kd (k_ty ci k) = 2) (hn : ∀ z, narrow (k_ty ci k) (.ref z) = .ref z) (hft : ∀ z, fits (k_ty ci k) (.ref z) = true) (hfin : (T k).2.2.2 = true) (hini : (mN M).name = "<init>") (hdecl : (T k).1 = (mN M).cls) (q : Cond.fieldLink (mN M).cls idx (T k).1 (T k).2.1 (T k).2.2.1 ∈ lw_all) (d : decode (mC M) pc = .ok (.putfield idx, 3)) (kk : ∀ F1, F1 = fwr F a k (some x) → V D M f Q (pc + 3) l st (F1, h, g)) : V D M f Q pc l (.ref (ad D x) :: .ref (ad D a) :: st) (F, h, g) := V_putrF ck k hk hs h99 hkd hfin hini hdecl (hn _) (hft _) q d (kk _ rfl)
theorem G_putiF {x : Int32} (ck : k_CK ci C T N) (k : Nat) (hk : k < N) (hs : F.2.1 a = (10 + ci, n)) (h99 : ci ≠ 89) (hkd : k_ty ci k = .int) (hfin : (T k).2.2.2 = true) (hini : (mN M).name = "<init>") (hdecl : (T k).1 = (mN M).cls) (q : Cond.fieldLink (mN M).cls idx (T k).1 (T k).2.1 (T k).2.2.1 ∈ lw_all) (d : decode (mC M) pc = .ok (.putfield idx, 3)) (kk : ∀ h1, h1 = up2 h a k x → V D M f Q (pc + 3) l st (F, h1, g)) : V D M f Q pc l (.int x :: .ref (ad D a) :: st) (F, h, g) := V_putiF ck k hk hs h99 (by rw [hkd]; rfl) hfin hini hdecl (by rw [hkd]; rfl) (by rw [hkd]; rfl) q d (kk _ rfl)
theorem G_aast {i : Int32} {t cb nb : Nat} {E : String} {r : vw_C} (hs : F.2.1 a = (t, n)) (ht1 : 3 < t) (ht2 : t < 10) (ht : (k_tys D)[t]? = some (dA D t, .object E)) (hin : vp_in i n) (hb : F.2.1 b = (10 + cb, nb)) (h99 : cb ≠ 89) (hcb : k_cl[cb]? = some r) (hasg : ∀ s, k_Env D s → ∀ comp, s.vm.findClass E = some comp → s.vm.assignable ((dG D).1 cb) comp = true) (d : decode (mC M) pc = .ok (.aastore, 1)) (kk : ∀ F1, F1 = fwr F a (ix i) (some b) → V D M f Q (pc + 1) l st (F1, h, g)) : V D M f Q pc l (.ref (ad D b) :: .int i :: .ref (ad D a) :: st) (F, h, g) := V_aast hs ht1 ht2 ht hin hb h99 hcb hasg d (kk _ rfl)
theorem G_new (ck : k_CK ci C T N) (h99 : ci ≠ 89) (hd : ∀ j, j < N → defaultValue (k_ty ci j) = (match k_kd (k_ty ci j) with | 0 => .int 0 | 1 => .long 0 | _ => .null)) (q1 : Cond.classLink (mN M).cls idx C ∈ lw_all) (q2 : Cond.instantiable C N ∈ lw_all) (q3 : Cond.initialized C ∈ lw_all) (d : decode (mC M) pc = .ok (.new idx, 3))
    (kk : ∀ F1 h1 g1, F1 = fnw F (10 + ci, 0) N → h1 = up1 h F.1.1 (fun _ => 0) → g1 = up1 g F.1.1 (fun _ => 0) → V D M f Q (pc + 3) l (.ref (ad D F.1.1) :: st) (F1, h1, g1)) : V D M f Q pc l st (F, h, g) := V_new ck h99 hd q1 q2 q3 d (kk _ _ _ rfl rfl rfl)
theorem G_newa {atype : ArrayType} {t : Nat} {ty : FieldType} {x : Int32} (ht : (k_tys D)[t]? = some (dA D t, ty)) (ht3 : t < 4) (hty : newarray.typeOf atype = ty) (hra : ∀ s, va_RA s (dA D t) ty → s.vm.findClass ("[" ++ ty.toString) = some (dA D t)) (q : Cond.arrayClass ty ∈ lw_all) (hx : ¬ x < 0) (hN : x.toNatClampNeg = N) (hby : N * componentBytes ty ≤ 536870912) (hdv : defaultValue ty = if t = 3 then .long 0 else .int 0) (d : decode (mC M) pc = .ok (.newarray atype, 2))
    (kk : ∀ F1 h1 g1, F1 = fnw F (t, N) N → h1 = up1 h F.1.1 (fun _ => 0) → g1 = up1 g F.1.1 (fun _ => 0) → V D M f Q (pc + 2) l (.ref (ad D F.1.1) :: st) (F1, h1, g1)) : V D M f Q pc l (.int x :: st) (F, h, g) := V_newa ht ht3 hty hra q hx hN hby hdv d (kk _ _ _ rfl rfl rfl)
theorem G_anew {t : Nat} {E : String} {x : Int32} (ht : (k_tys D)[t]? = some (dA D t, .object E)) (ht1 : 3 < t) (ht2 : t < 10) (q1 : Cond.classLink (mN M).cls idx E ∈ lw_all) (hao : ∀ s, k_Env D s → va_AO E s) (hx : ¬ x < 0) (hN : x.toNatClampNeg = N) (hby : N * 4 ≤ 536870912) (d : decode (mC M) pc = .ok (.anewarray idx, 3))
    (kk : ∀ F1 h1 g1, F1 = fnw F (t, N) N → h1 = up1 h F.1.1 (fun _ => 0) → g1 = up1 g F.1.1 (fun _ => 0) → V D M f Q (pc + 3) l (.ref (ad D F.1.1) :: st) (F1, h1, g1)) : V D M f Q pc l (.int x :: st) (F, h, g) := V_anew ht ht1 ht2 q1 hao hx hN hby d (kk _ _ _ rfl rfl rfl)
theorem G_vret {Q : Frm → HI → HL → Prop} {T : Nat → Frm → HI → HL → Prop} (hF : k_Fix F) (hr : mR M = none) (d : decode (mC M) pc = .ok (.return_, 1)) (hq : Q F h g) : V D M f (gv Q T) pc l [] (F, h, g) := V_vret hr d (Or.inl ⟨F, h, g, rfl, rfl, hF, hq⟩)
theorem G_iret {Q : Int32 → Frm → HI → HL → Prop} {T : Nat → Frm → HI → HL → Prop} {x : Int32} (hF : k_Fix F) (hr : mR M = some .int) (d : decode (mC M) pc = .ok (.ireturn, 1)) (hq : Q x F h g) : V D M f (gi Q T) pc l [.int x] (F, h, g) := V_iret hr d (Or.inl ⟨x, F, h, g, rfl, rfl, hF, hq⟩)
theorem G_zret {Q : Int32 → Frm → HI → HL → Prop} {T : Nat → Frm → HI → HL → Prop} {x : Int32} (hF : k_Fix F) (hr : mR M = some .boolean) (hx : isB x) (d : decode (mC M) pc = .ok (.ireturn, 1)) (hq : Q x F h g) : V D M f (gi Q T) pc l [.int x] (F, h, g) := V_zret hr hx d (Or.inl ⟨x, F, h, g, rfl, rfl, hF, hq⟩)
theorem G_aret {Q : Nat → Frm → HI → HL → Prop} {T : Nat → Frm → HI → HL → Prop} {E : String} (hF : k_Fix F) (hr : mR M = some (.object E)) (d : decode (mC M) pc = .ok (.areturn, 1)) (hq : Q b F h g) : V D M f (gr D Q T) pc l [.ref (ad D b)] (F, h, g) := V_aret hr (Or.inl ⟨_, rfl⟩) d (Or.inl ⟨b, F, h, g, rfl, rfl, hF, hq⟩)
/-- calls of methods of this kind; what they throw is handed to kt -/
theorem G_callv {Q1 : Frm → HI → HL → Prop} {T1 : Nat → Frm → HI → HL → Prop} (hc : Gv D f M1 av F h g Q1 T1) (hq : mW M1 ∈ lw_all) (hin : Cond.initialized (mN M1).cls ∈ lw_all) (hL : mL M1 ≤ 27) (hst : (rest.map fun v => v.category).sum ≤ 8) (res : k_RES D M (f + 1) pc l st (F, h, g) (mN M1) av rest) (kr : ∀ F1 h1 g1, k_Fix F1 → Q1 F1 h1 g1 → V D M (f + 1) Q (pc + 3) l rest (F1, h1, g1)) (kt : ∀ a e F1 h1 g1, k_Fix F1 → F1.2.1 a = (28 + e, 0) → T1 e F1 h1 g1 → VT D M (f + 1) Q pc l a (F1, h1, g1)) : V D M (f + 1) Q pc l st (F, h, g) := by
  refine V_call hc hq hin hL hst res (fun v μ1 z => ?_) (fun a μ1 z => ?_)
  · rcases z with ⟨F1, h1, g1, e1, e2, e3, e4⟩ | ⟨a, e, F1, h1, g1, e1, -⟩
    · cases e1; subst e2; exact kr F1 h1 g1 e3 e4
    · cases e1
  · rcases z with ⟨F1, h1, g1, e1, -⟩ | ⟨a2, e, F1, h1, g1, e1, e2, e3, e4, e5⟩
    · cases e1
    · cases e1; subst e2; exact kt a e F1 h1 g1 e3 e4 e5
theorem G_calli {Q1 : Int32 → Frm → HI → HL → Prop} {T1 : Nat → Frm → HI → HL → Prop} (hc : Gi D f M1 av F h g Q1 T1) (hq : mW M1 ∈ lw_all) (hin : Cond.initialized (mN M1).cls ∈ lw_all) (hL : mL M1 ≤ 27) (hst : (rest.map fun v => v.category).sum ≤ 8) (res : k_RES D M (f + 1) pc l st (F, h, g) (mN M1) av rest) (kr : ∀ x F1 h1 g1, k_Fix F1 → Q1 x F1 h1 g1 → V D M (f + 1) Q (pc + 3) l (.int x :: rest) (F1, h1, g1)) (kt : ∀ a e F1 h1 g1, k_Fix F1 → F1.2.1 a = (28 + e, 0) → T1 e F1 h1 g1 → VT D M (f + 1) Q pc l a (F1, h1, g1)) : V D M (f + 1) Q pc l st (F, h, g) := by
  refine V_call hc hq hin hL hst res (fun v μ1 z => ?_) (fun a μ1 z => ?_)
  · rcases z with ⟨x, F1, h1, g1, e1, e2, e3, e4⟩ | ⟨a, e, F1, h1, g1, e1, -⟩
    · cases e1; subst e2; exact kr x F1 h1 g1 e3 e4
    · cases e1
  · rcases z with ⟨x, F1, h1, g1, e1, -⟩ | ⟨a2, e, F1, h1, g1, e1, e2, e3, e4, e5⟩
    · cases e1
    · cases e1; subst e2; exact kt a e F1 h1 g1 e3 e4 e5
theorem G_callr {Q1 : Nat → Frm → HI → HL → Prop} {T1 : Nat → Frm → HI → HL → Prop} (hc : Gr D f M1 av F h g Q1 T1) (hq : mW M1 ∈ lw_all) (hin : Cond.initialized (mN M1).cls ∈ lw_all) (hL : mL M1 ≤ 27) (hst : (rest.map fun v => v.category).sum ≤ 8) (res : k_RES D M (f + 1) pc l st (F, h, g) (mN M1) av rest) (kr : ∀ b F1 h1 g1, k_Fix F1 → Q1 b F1 h1 g1 → V D M (f + 1) Q (pc + 3) l (.ref (ad D b) :: rest) (F1, h1, g1)) (kt : ∀ a e F1 h1 g1, k_Fix F1 → F1.2.1 a = (28 + e, 0) → T1 e F1 h1 g1 → VT D M (f + 1) Q pc l a (F1, h1, g1)) : V D M (f + 1) Q pc l st (F, h, g) := by
  refine V_call hc hq hin hL hst res (fun v μ1 z => ?_) (fun a μ1 z => ?_)
  · rcases z with ⟨x, F1, h1, g1, e1, e2, e3, e4⟩ | ⟨a, e, F1, h1, g1, e1, -⟩
    · cases e1; subst e2; exact kr x F1 h1 g1 e3 e4
    · cases e1
  · rcases z with ⟨x, F1, h1, g1, e1, -⟩ | ⟨a2, e, F1, h1, g1, e1, e2, e3, e4, e5⟩
    · cases e1
    · cases e1; subst e2; exact kt a e F1 h1 g1 e3 e4 e5
theorem GT_v {Q : Frm → HI → HL → Prop} {T : Nat → Frm → HI → HL → Prop} {e : Nat} (hF : k_Fix F) (hh : mH M = []) (ha : F.2.1 a = (28 + e, 0)) (hq : T e F h g) : VT D M f (gv Q T) pc l a (F, h, g) := VT_leave hh (Or.inr ⟨a, e, F, h, g, rfl, rfl, hF, ha, hq⟩)
theorem GT_i {Q : Int32 → Frm → HI → HL → Prop} {T : Nat → Frm → HI → HL → Prop} {e : Nat} (hF : k_Fix F) (hh : mH M = []) (ha : F.2.1 a = (28 + e, 0)) (hq : T e F h g) : VT D M f (gi Q T) pc l a (F, h, g) := VT_leave hh (Or.inr ⟨a, e, F, h, g, rfl, rfl, hF, ha, hq⟩)
theorem GT_r {Q : Nat → Frm → HI → HL → Prop} {T : Nat → Frm → HI → HL → Prop} {e : Nat} (hF : k_Fix F) (hh : mH M = []) (ha : F.2.1 a = (28 + e, 0)) (hq : T e F h g) : VT D M f (gr D Q T) pc l a (F, h, g) := VT_leave hh (Or.inr ⟨a, e, F, h, g, rfl, rfl, hF, ha, hq⟩)
theorem H_max {x y : Int32} (hf : 1 ≤ f) (hst : (st.map fun v => v.category).sum ≤ 8) (q1 : Cond.methodLink (mN M).cls idx Lib.Math.max.name ∈ lw_all) (q2 : Cond.static Lib.Math.max.name ∈ lw_all) (q3 : Cond.initialized "java/lang/Math" ∈ lw_all) (q4 : Cond.code Lib.Math.max.name Lib.Math.max.code 2 (some .int) ∈ lw_all) (d : decode (mC M) pc = .ok (.invokestatic idx, 3)) (kk : V D M f Q (pc + 3) l (.int (if x < y then y else x) :: st) (F, h, g)) : V D M f Q pc l (.int y :: .int x :: st) (F, h, g) :=
  V.step (Nat.le_refl _) (Nat.le_refl _) kk fun μ' p la e R s m args below meth c H locs cells slots ls Qf h1 h2 Cx P hl kk => by
    have hr : cells ≤ R.cells ∧ slots ≤ R.slots := by
      obtain ⟨hR, hS, s0, p1, p2, p3, p4⟩ := P
      omega
    have e1 : f ≤ R.frames := Cx.2.2.2.2.2.2.2.2.2.2.1
    have e2 : 46 * f ≤ R.locals := Cx.2.2.2.2.2.2.2.2.2.2.2.1
    exact va_mmax Cx.1 Cx.2.1 (by rw [Cx.2.2.2.1]; exact hl.1.symm) Cx.2.2.2.2.1 (Cx.2.2.2.2.2.1 _ q1) (Cx.2.2.2.2.2.1 _ q2) (Cx.2.2.2.2.2.1 _ q3) (Cx.2.2.2.2.2.1 _ q4) (by omega) (by omega) hr.1 hr.2 d (kk H locs cells slots ls P hl)
theorem H_min {x y : Int32} (hf : 1 ≤ f) (hst : (st.map fun v => v.category).sum ≤ 8) (q1 : Cond.methodLink (mN M).cls idx Lib.Math.min.name ∈ lw_all) (q2 : Cond.static Lib.Math.min.name ∈ lw_all) (q3 : Cond.initialized "java/lang/Math" ∈ lw_all) (q4 : Cond.code Lib.Math.min.name Lib.Math.min.code 2 (some .int) ∈ lw_all) (d : decode (mC M) pc = .ok (.invokestatic idx, 3)) (kk : V D M f Q (pc + 3) l (.int (if y < x then y else x) :: st) (F, h, g)) : V D M f Q pc l (.int y :: .int x :: st) (F, h, g) :=
  V.step (Nat.le_refl _) (Nat.le_refl _) kk fun μ' p la e R s m args below meth c H locs cells slots ls Qf h1 h2 Cx P hl kk => by
    have hr : cells ≤ R.cells ∧ slots ≤ R.slots := by
      obtain ⟨hR, hS, s0, p1, p2, p3, p4⟩ := P
      omega
    have e1 : f ≤ R.frames := Cx.2.2.2.2.2.2.2.2.2.2.1
    have e2 : 46 * f ≤ R.locals := Cx.2.2.2.2.2.2.2.2.2.2.2.1
    exact va_mmin Cx.1 Cx.2.1 (by rw [Cx.2.2.2.1]; exact hl.1.symm) Cx.2.2.2.2.1 (Cx.2.2.2.2.2.1 _ q1) (Cx.2.2.2.2.2.1 _ q2) (Cx.2.2.2.2.2.1 _ q3) (Cx.2.2.2.2.2.1 _ q4) (by omega) (by omega) hr.1 hr.2 d (kk H locs cells slots ls P hl)
end GR
