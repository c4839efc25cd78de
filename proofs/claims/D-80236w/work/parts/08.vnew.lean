/-! THE LIGHT WALK, 6: references into arrays, new cells, ends -/
theorem W.mono {p : Program} {l : Launch} {e : Env} {R : Room} {s : State} {m : MethodId} {args : Array Value} {below : List Frame} {meth : Method} {c : Code} {H : Heap} {locs : List Loc} {cells slots : Nat} {Q Q' : State → Prop} {g : JFrame} (h : W p l e R s m args below meth c H locs cells slots Q g) (hq : ∀ t, Q t → Q' t) : W p l e R s m args below meth c H locs cells slots Q' g := by
  intro T hT X
  obtain ⟨t, a, b⟩ := h T hT X
  exact ⟨t, a, hq t b⟩
theorem k_asgS {D : DE} {ci N : Nat} {C : String} {T : u_T} (h : k_cl[ci]? = some (C, T, N)) (s : State) (hE : k_Env D s) (comp : ClassId) (hc : s.vm.findClass C = some comp) : s.vm.assignable ((dG D).1 ci) comp = true := by
  have h1 := (hE.1.1 ci _ h).2.1
  rw [Option.some.inj (hc.symm.trans h1)]
  exact va_asg _ _
theorem k_asgC {D : DE} {ci N : Nat} {C E : String} {T : u_T} (h : k_cl[ci]? = some (C, T, N)) (q : Cond.castable C E ∈ lw_tbl) (s : State) (hE : k_Env D s) (comp : ClassId) (hc : s.vm.findClass E = some comp) : s.vm.assignable ((dG D).1 ci) comp = true :=
  vb_asgC (hE.2.1 _ q rfl) comp _ hc (hE.1.1 ci _ h).2.1
theorem zs_wn {μ : Mem} {t : Nat × Nat} {n : Nat} : zs (wn μ t n) (zn μ) = t := by simp [zs, wn, up0]
theorem zs_wn_ne {μ : Mem} {t : Nat × Nat} {n b : Nat} (h : b ≠ zn μ) : zs (wn μ t n) b = zs μ b := by simp [zs, wn, up0, h]
theorem k_ent_wn {D : DE} {μ : Mem} {t : Nat × Nat} {n b : Nat} (h : b ≠ zn μ) : k_ent D (wn μ t n) b = k_ent D μ b := by
  have e1 : zi (wn μ t n) b = zi μ b := by funext i; simp [zi, wn, up1, h]
  have e2 : zl (wn μ t n) b = zl μ b := by funext i; simp [zl, wn, up1, h]
  have e3 : zr (wn μ t n) b = zr μ b := by funext i; simp [zr, wn, up1, h]
  have e4 : zs (wn μ t n) b = zs μ b := zs_wn_ne h
  unfold k_ent k_fs k_fv
  rw [e1, e2, e3, e4]
theorem k_Rep.new {D : DE} {μ : Mem} {H H1 : Heap} {t : Nat × Nat} {n : Nat} (h : k_Rep D μ H) (ht : t.1 ≠ 99) (z : H1.size = H.size + 1) (oq : ∀ q : Nat, q < H.size → H1[q]? = H[q]?) (h1 : va_at (dG D) k_cl (ad D (zn μ), k_ent D (wn μ t n) (zn μ)) H1) : k_Rep D (wn μ t n) H1 := by
  obtain ⟨g1, g2, g3, g4⟩ := h
  have hz : zn (wn μ t n) = zn μ + 1 := rfl
  refine ⟨by rw [z, g1, hz]; omega, fun q hq => ?_, fun b hb => ?_, fun b hb => ?_⟩
  · rw [oq q (by omega)]
    exact g2 q hq
  · rw [zs_wn_ne (by omega)]
    exact g3 b (by omega)
  · by_cases hba : b = zn μ
    · subst hba
      exact h1
    · rw [k_ent_wn hba]
      have hb2 : b < zn μ := by omega
      exact (g4 b hb2).kept (oq _ (by show ad D b < _; unfold ad; omega))
theorem k_Pt.new {D : DE} {μ μ' : Mem} {R : Room} {s : State} {H H1 : Heap} {locs : List Loc} {cells slots n : Nat} {t : Nat × Nat} (P : k_Pt D μ μ' R s H locs cells slots) (h : k_Rep D (wn μ t n) H1) (z : H1.size = H.size + 1) (oq : ∀ q : Nat, q < H.size → H1[q]? = H[q]?) : k_Pt D (wn μ t n) μ' R s H1 locs (cells + 1) (slots + n) := by
  obtain ⟨hR, hS, s0, p1, p2, p3, p4⟩ := P
  refine ⟨h, ⟨by have := hS.1; omega, fun q h1 h2 => (oq q (Nat.lt_of_lt_of_le h1 hS.1)).trans (hS.2.1 q h1 h2), hS.2.2⟩, s0, ?_, ?_, p3, p4⟩
  · show s.heap.size + (cells + 1) = dB D + (zn μ + 1)
    omega
  · show s0 + (slots + n) = zc μ + n
    omega
theorem k_Pt.room {D : DE} {μ μ' : Mem} {R : Room} {s : State} {H : Heap} {locs : List Loc} {cells slots n : Nat} (P : k_Pt D μ μ' R s H locs cells slots) (h1 : zn μ + 1 ≤ zn μ') (h2 : zc μ + n ≤ zc μ') : cells + 1 ≤ R.cells ∧ slots + n ≤ R.slots := by
  obtain ⟨hR, hS, s0, p1, p2, p3, p4⟩ := P
  omega
section VN
variable {D : DE} {M : MI} {f : Nat} {Q : Out → Mem → Prop} {pc : Nat} {l : List (Nat × Value)} {st : List Value} {μ : Mem} {a ci n idx N : Nat} {C host : String} {T : u_T}
theorem V_aast {i : Int32} {t b cb nb : Nat} {E : String} {r : vw_C} (hs : zs μ a = (t, n)) (ht1 : 3 < t) (ht2 : t < 10) (ht : (k_tys D)[t]? = some (dA D t, .object E)) (hin : vp_in i n) (hb : zs μ b = (10 + cb, nb)) (h99 : cb ≠ 89) (hcb : k_cl[cb]? = some r) (hasg : ∀ s, k_Env D s → ∀ comp, s.vm.findClass E = some comp → s.vm.assignable ((dG D).1 cb) comp = true)
    (d : decode (mC M) pc = .ok (.aastore, 1)) (kk : V D M f Q (pc + 1) l st (wr μ a i.toNatClampNeg (some b))) : V D M f Q pc l (.ref (ad D b) :: .int i :: .ref (ad D a) :: st) μ :=
  V.step (μ1 := wr μ a i.toNatClampNeg (some b)) (Nat.le_refl _) (Nat.le_refl _) kk fun μ' p la e R s m args below meth c H locs cells slots ls Qf _ _ Cx P hl kk => by
    have h1 := P.1.cell hs (by omega)
    rw [k_ent_q hs ht1 ht2] at h1
    have h2 := P.1.cell hb (by omega)
    rw [k_ent_obj hb] at h2
    obtain ⟨r', hr', cellV, g1, g2, g3, -⟩ := h2
    have hE := Cx.2.2.2.2.2.2.1
    obtain ⟨kA, comp, k1, k2, k3, -⟩ := (hE.1.2 t _ ht).2
    obtain ⟨kV, hkV, -⟩ := (hE.1.1 cb r hcb).2.2
    obtain ⟨kC, hkC⟩ := Vm.classAt_of_findClass k3
    refine W.aast Cx.1 Cx.2.1 h1 (fun q h => by cases h) (fun h => by cases h) k1 k2 rfl hkC ⟨fun q => hin (Or.inl q), by show _ < (arrV _ _ _).slots.size; rw [arrV_size]; exact Nat.not_le.mp fun q => hin (Or.inr q)⟩ g1 (fun q h => by rw [g3] at h; cases h) (by rw [g2]; exact hkV) (by rw [g2]; exact hasg s hE comp k3) rfl rfl d fun H1 e z oq => ?_
    refine kk H1 _ cells slots ls (P.put (μ1 := wr μ a i.toNatClampNeg (some b)) rfl rfl (P.1.set (μ1 := wr μ a i.toNatClampNeg (some b)) rfl (fun _ => rfl) (fun _ h => k_ent_wr h) (P.1.lt hs (by omega)) ?_ z oq) z oq) hl
    rw [k_ent_q (show zs (wr μ a i.toNatClampNeg (some b)) a = (t, n) from hs) ht1 ht2]
    show H1[ad D a]? = some (vp_cell _ _)
    rw [e, vp_cell_q, vp_cell_q, arrV_store, k_updr]
    rfl
theorem V_new (ck : k_CK ci C T N) (h99 : ci ≠ 89) (hd : ∀ j, j < N → defaultValue (k_ty ci j) = (match k_kd (k_ty ci j) with | 0 => .int 0 | 1 => .long 0 | _ => .null)) (q1 : Cond.classLink (mN M).cls idx C ∈ lw_all) (q2 : Cond.instantiable C N ∈ lw_all) (q3 : Cond.initialized C ∈ lw_all) (d : decode (mC M) pc = .ok (.new idx, 3))
    (kk : V D M f Q (pc + 3) l (.ref (ad D (zn μ)) :: st) (wn μ (10 + ci, 0) N)) : V D M f Q pc l st μ :=
  V.step (μ1 := wn μ (10 + ci, 0) N) (Nat.le_succ _) (Nat.le_add_right _ _) kk fun μ' p la e R s m args below meth c H locs cells slots ls Qf hz1 hz2 Cx P hl kk => by
    have hKn := Cx.2.2.2.2.2.2.1.1.1 ci _ ck.1
    obtain ⟨r1, r2⟩ := P.room (n := N) hz1 hz2
    refine W.newcK Cx.1 Cx.2.1 Cx.2.2.2.2.1 (Cx.2.2.2.2.2.1 _ q1) (Cx.2.2.2.2.2.1 _ q2) (Cx.2.2.2.2.2.1 _ q3) rfl d r1 r2 hKn.2.1 (h := ad D (zn μ)) P.1.1 fun H1 kC hkC e1 z1 o1 => ?_
    have hz : H1.size = H.size + 1 := by rw [z1, P.1.1]; rfl
    have ho : ∀ q : Nat, q < H.size → H1[q]? = H[q]? := fun q hq => o1 q (by rw [P.1.1] at hq; exact hq)
    refine kk H1 locs _ _ ls (P.new (P.1.new (t := (10 + ci, 0)) (by show 10 + ci ≠ 99; omega) hz ho ?_) hz ho) hl
    rw [k_ent_obj zs_wn]
    refine ⟨_, ck.1, (u_born (k_ty ci) Cx.2.2.2.2.2.1 ck.2.1 hKn hkC e1 ck.2.2.1).to (fun j hj => ?_)⟩
    have w1 : vp_V (k_fs D (wn μ (10 + ci, 0) N) (zn μ) ci) j = k_fv D (wn μ (10 + ci, 0) N) (zn μ) (k_ty ci j) j := by simp [vp_V, k_fs_at (D := D) (μ := wn μ (10 + ci, 0) N) (a := zn μ) ck.1 hj]
    rw [w1, hd j hj]
    unfold k_fv
    generalize k_kd (k_ty ci j) = kd
    match kd with
    | 0 => simp [zi, wn, up1]
    | 1 => simp [zl, wn, up1]
    | k + 2 => simp [zr, wn, up1, rv, va_rf]
theorem V_newa {atype : ArrayType} {t : Nat} {ty : FieldType} {x : Int32} (ht : (k_tys D)[t]? = some (dA D t, ty)) (ht3 : t < 4) (hty : newarray.typeOf atype = ty) (hra : ∀ s, va_RA s (dA D t) ty → s.vm.findClass ("[" ++ ty.toString) = some (dA D t)) (q : Cond.arrayClass ty ∈ lw_all) (hx : ¬ x < 0) (hN : x.toNatClampNeg = N) (hby : N * componentBytes ty ≤ 536870912) (hdv : defaultValue ty = if t = 3 then .long 0 else .int 0) (d : decode (mC M) pc = .ok (.newarray atype, 2))
    (kk : V D M f Q (pc + 2) l (.ref (ad D (zn μ)) :: st) (wn μ (t, N) N)) : V D M f Q pc l (.int x :: st) μ :=
  V.step (μ1 := wn μ (t, N) N) (Nat.le_succ _) (Nat.le_add_right _ _) kk fun μ' p la e R s m args below meth c H locs cells slots ls Qf hz1 hz2 Cx P hl kk => by
    subst hty
    obtain ⟨r1, r2⟩ := P.room (n := N) hz1 hz2
    refine va_newaK Cx.1 Cx.2.1 (Cx.2.2.2.2.2.1 _ q) rfl d rfl hx hN hby r1 r2 (h := ad D (zn μ)) P.1.1 fun H1 cA e1 z1 o1 hAr hNm => ?_
    have hcA : cA = dA D t := Option.some.inj (hNm.symm.trans (hra s (Cx.2.2.2.2.2.2.1.1.2 t _ ht).2))
    subst hcA
    have hz : H1.size = H.size + 1 := by rw [z1, P.1.1]; rfl
    have ho : ∀ q : Nat, q < H.size → H1[q]? = H[q]? := fun q hq => o1 q (by rw [P.1.1] at hq; exact hq)
    refine kk H1 locs _ _ ls (P.new (P.1.new (t := (t, N)) (by show t ≠ 99; omega) hz ho ?_) hz ho) hl
    by_cases h3 : t = 3
    · subst h3
      rw [k_ent_l (n := N) zs_wn]
      show H1[ad D (zn μ)]? = some (vp_cell _ _)
      rw [e1, vp_cell_l, hdv]
      simp [zl, wn, up1]
    · rw [k_ent_i (n := N) zs_wn (by omega)]
      show H1[ad D (zn μ)]? = some (vp_cell _ _)
      rw [e1, vp_cell_i, hdv]
      simp [zi, wn, up1, h3]
theorem V_anew {t : Nat} {E : String} {x : Int32} (ht : (k_tys D)[t]? = some (dA D t, .object E)) (ht1 : 3 < t) (ht2 : t < 10) (q1 : Cond.classLink (mN M).cls idx E ∈ lw_all) (hao : ∀ s, k_Env D s → va_AO E s) (hx : ¬ x < 0) (hN : x.toNatClampNeg = N) (hby : N * 4 ≤ 536870912) (d : decode (mC M) pc = .ok (.anewarray idx, 3))
    (kk : V D M f Q (pc + 3) l (.ref (ad D (zn μ)) :: st) (wn μ (t, N) N)) : V D M f Q pc l (.int x :: st) μ :=
  V.step (μ1 := wn μ (t, N) N) (Nat.le_succ _) (Nat.le_add_right _ _) kk fun μ' p la e R s m args below meth c H locs cells slots ls Qf hz1 hz2 Cx P hl kk => by
    subst hN
    obtain ⟨r1, r2⟩ := P.room (n := x.toNatClampNeg) hz1 hz2
    refine W.anew Cx.1 Cx.2.1 Cx.2.2.2.2.1 (Cx.2.2.2.2.2.1 _ q1) (va_AO.use (hao s Cx.2.2.2.2.2.2.1)) rfl d rfl hx hby r1 r2 fun cA kA comp h1 h2 h3 h4 => ?_
    obtain ⟨kA', comp', k1, k2, k3, k4⟩ := (Cx.2.2.2.2.2.2.1.1.2 t _ ht).2
    have hcA : cA = dA D t := Option.some.inj (h1.symm.trans k4)
    subst hcA
    have hz : (H.push { cls := dA D t, slots := Array.replicate x.toNatClampNeg .null, vm := .none }).size = H.size + 1 := by simp
    have ho : ∀ q : Nat, q < H.size → (H.push { cls := dA D t, slots := Array.replicate x.toNatClampNeg .null, vm := .none })[q]? = H[q]? := fun q hq => by rw [Array.getElem?_push, if_neg (Nat.ne_of_lt hq)]
    have hsz : H.size = ad D (zn μ) := P.1.1
    have hg : W p la e R s m args below meth c (H.push { cls := dA D t, slots := Array.replicate x.toNatClampNeg .null, vm := .none }) locs (cells + 1) (slots + x.toNatClampNeg) Qf (F0 m (pc + 3) ls (.ref (ad D (zn μ)) :: st)) := by
      refine kk _ locs _ _ ls (P.new (P.1.new (t := (t, x.toNatClampNeg)) (by show t ≠ 99; omega) hz ho ?_) hz ho) hl
      rw [k_ent_q (n := x.toNatClampNeg) zs_wn ht1 ht2]
      show (H.push _)[ad D (zn μ)]? = some (vp_cell _ _)
      rw [← hsz, vp_cell_q, Array.getElem?_push_size]
      congr 1
      unfold arrV
      congr 1
      apply Array.ext
      · simp
      · intro j h1 h2
        simp [zr, wn, up1, va_rf]
    rw [← hsz] at hg
    exact hg
theorem V_objInit (hf : 1 ≤ f) (hst : (st.map fun v => v.category).sum ≤ 8) (q1 : Cond.methodLink (mN M).cls idx Lib.objectInit ∈ lw_all) (q2 : Cond.instanceMethod Lib.objectInit ∈ lw_all) (q3 : Cond.code Lib.objectInit ⟨#[0xb1]⟩ 1 none ∈ lw_all) {x : Addr} (d : decode (mC M) pc = .ok (.invokespecial idx, 3)) (kk : V D M f Q (pc + 3) l st μ) : V D M f Q pc l (.ref x :: st) μ :=
  V.go kk fun p la e R s m args below meth c H locs cells slots ls Qf Cx hl k => by
    refine W.objInit Cx.1 Cx.2.1 Cx.2.2.2.2.1 (Cx.2.2.2.2.2.1 _ q1) (Cx.2.2.2.2.2.1 _ q2) (Cx.2.2.2.2.2.1 _ q3) rfl (by rw [Cx.2.2.2.1]; exact hl.1) rfl d ?_ ?_ k
    · exact Nat.le_trans hf Cx.2.2.2.2.2.2.2.2.2.2.1
    · have h1 := lv_room (m := m) (pc := pc) (ls := ls) (rest := st) (st := st) hst
      have h2 : 46 * f ≤ R.locals := Cx.2.2.2.2.2.2.2.2.2.2.2.1
      have h3 : 2 * (F0 m pc ls (Value.ref x :: st)).monitorRoom = 2 * (F0 m pc ls st).monitorRoom := rfl
      rw [h3]
      omega
theorem k_fin {s : State} {below : List Frame} {R : Room} {H : Heap} {locs : List Loc} {cells slots : Nat} {args : Array Value} {o : Out} {t : State} (P : k_Pt D μ μ R s H locs cells slots) (h : MQ below (fun _ _ oc u => oc = k_oc D o ∧ k_Rep D μ u.heap) args s cells slots (k_A D) t) : k_Fin D s below o μ R.cells R.slots t := by
  obtain ⟨hR, hS, s0, p1, p2, p3, p4⟩ := P
  obtain ⟨oc, b1, b2, ⟨rfl, b3⟩, L, ⟨-, b4, b5⟩, b6⟩ := h
  have e1 : cells ≤ R.cells := by omega
  have e2 : slots ≤ R.slots := by omega
  exact ⟨b1, b2, b3, b4, L, b5.mono e1 e2, b6⟩
theorem V_vret (hr : mR M = none) (d : decode (mC M) pc = .ok (.return_, 1)) (hq : Q (.inl none) μ) : V D M f Q pc l [] μ :=
  ⟨.inl none, μ, hq, Nat.le_refl _, Nat.le_refl _, fun p la e R s m args below meth c H locs cells slots ls Cx P hl =>
    (W.vret (Qc := fun _ _ oc u => oc = k_oc D (.inl none) ∧ k_Rep D μ u.heap) (free := k_A D) Cx.1 Cx.2.1 (Cx.2.2.1.trans hr) (fun t ht _ => ⟨rfl, by rw [ht]; exact P.1⟩) P.2.1.2.2 d (hlocks := Cx.2.2.2.2.2.2.2.1)).mono (fun t => k_fin P)⟩
theorem V_iret {x : Int32} (hr : mR M = some .int) (d : decode (mC M) pc = .ok (.ireturn, 1)) (hq : Q (.inl (some (.int x))) μ) : V D M f Q pc l [.int x] μ :=
  ⟨.inl (some (.int x)), μ, hq, Nat.le_refl _, Nat.le_refl _, fun p la e R s m args below meth c H locs cells slots ls Cx P hl =>
    (W.iret (Qc := fun _ _ oc u => oc = k_oc D (.inl (some (.int x))) ∧ k_Rep D μ u.heap) (free := k_A D) Cx.1 Cx.2.1 (Cx.2.2.1.trans hr) (fun t ht _ => ⟨rfl, by rw [ht]; exact P.1⟩) P.2.1.2.2 d (hlocks := Cx.2.2.2.2.2.2.2.1)).mono (fun t => k_fin P)⟩
theorem V_zret {x : Int32} (hr : mR M = some .boolean) (hx : narrow .boolean (.int x) = .int x) (d : decode (mC M) pc = .ok (.ireturn, 1)) (hq : Q (.inl (some (.int x))) μ) : V D M f Q pc l [.int x] μ :=
  ⟨.inl (some (.int x)), μ, hq, Nat.le_refl _, Nat.le_refl _, fun p la e R s m args below meth c H locs cells slots ls Cx P hl =>
    (W.zret (Qc := fun _ _ oc u => oc = k_oc D (.inl (some (.int x))) ∧ k_Rep D μ u.heap) (free := k_A D) Cx.1 Cx.2.1 (Cx.2.2.1.trans hr) hx (fun t ht _ => ⟨rfl, by rw [ht]; exact P.1⟩) P.2.1.2.2 d (hlocks := Cx.2.2.2.2.2.2.2.1)).mono (fun t => k_fin P)⟩
theorem V_lret {x : Int64} (hr : mR M = some .long) (d : decode (mC M) pc = .ok (.lreturn, 1)) (hq : Q (.inl (some (.long x))) μ) : V D M f Q pc l [.long x] μ :=
  ⟨.inl (some (.long x)), μ, hq, Nat.le_refl _, Nat.le_refl _, fun p la e R s m args below meth c H locs cells slots ls Cx P hl =>
    (W.lret (Qc := fun _ _ oc u => oc = k_oc D (.inl (some (.long x))) ∧ k_Rep D μ u.heap) (free := k_A D) Cx.1 Cx.2.1 (Cx.2.2.1.trans hr) (fun t ht _ => ⟨rfl, by rw [ht]; exact P.1⟩) P.2.1.2.2 d (hlocks := Cx.2.2.2.2.2.2.2.1)).mono (fun t => k_fin P)⟩
theorem V_aret {rt : FieldType} {b : Nat} (hr : mR M = some rt) (hrt : (∃ n, rt = .object n) ∨ ∃ t, rt = .array t) (d : decode (mC M) pc = .ok (.areturn, 1)) (hq : Q (.inl (some (.ref (ad D b)))) μ) : V D M f Q pc l [.ref (ad D b)] μ :=
  ⟨.inl (some (.ref (ad D b))), μ, hq, Nat.le_refl _, Nat.le_refl _, fun p la e R s m args below meth c H locs cells slots ls Cx P hl =>
    (W.aret (Qc := fun _ _ oc u => oc = k_oc D (.inl (some (.ref (ad D b)))) ∧ k_Rep D μ u.heap) (free := k_A D) Cx.1 Cx.2.1 (Cx.2.2.1.trans hr) hrt (Or.inr ⟨_, rfl⟩) (fun t ht _ => ⟨rfl, by rw [ht]; exact P.1⟩) P.2.1.2.2 d (hlocks := Cx.2.2.2.2.2.2.2.1)).mono (fun t => k_fin P)⟩
end VN
