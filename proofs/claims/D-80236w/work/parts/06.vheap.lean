/-! THE LIGHT WALK, 4: fields -/
theorem k_Rep.lt {D : DE} {μ : Mem} {H : Heap} (h : k_Rep D μ H) {a t n : Nat} (hs : zs μ a = (t, n)) (ht : t ≠ 99) : a < zn μ := by
  rcases Nat.lt_or_ge a (zn μ) with q | q
  · exact q
  · have h1 := h.2.2.1 a q
    rw [hs] at h1
    exact absurd h1 ht
theorem k_P1 {G : va_G} {x : Nat × va_E} {H : Heap} (h : va_at G k_cl x H) : va_P G k_cl [x] H := by
  intro k q hk
  cases k with
  | zero => cases hk; exact h
  | succ k => simp at hk
theorem k_ent_obj {D : DE} {μ : Mem} {a ci n : Nat} (hs : zs μ a = (10 + ci, n)) : k_ent D μ a = .inr (ci, k_fs D μ a ci) := by
  have h1 : ¬ 10 + ci < 3 := by omega
  have h2 : ¬ 10 + ci = 3 := by omega
  have h3 : ¬ 10 + ci < 10 := by omega
  have h4 : 10 + ci - 10 = ci := by omega
  simp [k_ent, hs, h1, h2, h3, h4]
theorem k_ent_i {D : DE} {μ : Mem} {a t n : Nat} (hs : zs μ a = (t, n)) (ht : t < 3) : k_ent D μ a = .inl (dA D t, n, .inl (zi μ a)) := by
  simp [k_ent, hs, ht]
theorem k_ent_l {D : DE} {μ : Mem} {a n : Nat} (hs : zs μ a = (3, n)) : k_ent D μ a = .inl (dA D 3, n, .inr (.inl (zl μ a))) := by
  simp [k_ent, hs]
theorem k_ent_q {D : DE} {μ : Mem} {a t n : Nat} (hs : zs μ a = (t, n)) (h1 : 3 < t) (h2 : t < 10) : k_ent D μ a = .inl (dA D t, n, .inr (.inr (.inr (.inr (fun i => (zr μ a i).map (ad D)))))) := by
  have e1 : ¬ t < 3 := by omega
  have e2 : ¬ t = 3 := by omega
  simp [k_ent, hs, e1, e2, h2]
theorem k_Rep.cell {D : DE} {μ : Mem} {H : Heap} (h : k_Rep D μ H) {a t n : Nat} (hs : zs μ a = (t, n)) (ht : t ≠ 99) : va_at (dG D) k_cl (ad D a, k_ent D μ a) H := h.2.2.2 a (h.lt hs ht)
/-- one cell changes -/
theorem k_Rep.set {D : DE} {μ μ1 : Mem} {H H1 : Heap} {a : Nat} (h : k_Rep D μ H) (e1 : zn μ1 = zn μ) (e2 : ∀ b, zs μ1 b = zs μ b) (e3 : ∀ b, b ≠ a → k_ent D μ1 b = k_ent D μ b) (ha : a < zn μ) (h1 : va_at (dG D) k_cl (ad D a, k_ent D μ1 a) H1) (z : H1.size = H.size) (oq : ∀ q : Nat, q ≠ ad D a → H1[q]? = H[q]?) : k_Rep D μ1 H1 := by
  obtain ⟨g1, g2, g3, g4⟩ := h
  refine ⟨by rw [z, g1, e1], fun q hq => ?_, fun b hb => by rw [e2]; exact g3 b (by rw [← e1]; exact hb), fun b hb => ?_⟩
  · rw [oq q (by unfold ad; omega)]
    exact g2 q hq
  · by_cases hba : b = a
    · subst hba
      exact h1
    · rw [e3 b hba]
      exact (g4 b (by rw [← e1]; exact hb)).kept (oq _ (by show ad D b ≠ ad D a; unfold ad; omega))
theorem zi_ne {μ : Mem} {a b i : Nat} {x : Int32} (h : b ≠ a) : zi (wi μ a i x) b = zi μ b := by funext j; simp [zi, wi, up2, h]
theorem zl_ne {μ : Mem} {a b i : Nat} {x : Int64} (h : b ≠ a) : zl (wl μ a i x) b = zl μ b := by funext j; simp [zl, wl, up2, h]
theorem zr_ne {μ : Mem} {a b i : Nat} {x : Option Nat} (h : b ≠ a) : zr (wr μ a i x) b = zr μ b := by funext j; simp [zr, wr, up2, h]
theorem k_ent_wi {D : DE} {μ : Mem} {a b i : Nat} {x : Int32} (h : b ≠ a) : k_ent D (wi μ a i x) b = k_ent D μ b := by
  have e1 : zi (wi μ a i x) b = zi μ b := zi_ne h
  have e2 : zl (wi μ a i x) = zl μ := rfl
  have e3 : zr (wi μ a i x) = zr μ := rfl
  have e4 : zs (wi μ a i x) = zs μ := rfl
  unfold k_ent k_fs k_fv
  rw [e1, e2, e3, e4]
theorem k_ent_wl {D : DE} {μ : Mem} {a b i : Nat} {x : Int64} (h : b ≠ a) : k_ent D (wl μ a i x) b = k_ent D μ b := by
  have e1 : zl (wl μ a i x) b = zl μ b := zl_ne h
  have e2 : zi (wl μ a i x) = zi μ := rfl
  have e3 : zr (wl μ a i x) = zr μ := rfl
  have e4 : zs (wl μ a i x) = zs μ := rfl
  unfold k_ent k_fs k_fv
  rw [e1, e2, e3, e4]
theorem k_ent_wr {D : DE} {μ : Mem} {a b i : Nat} {x : Option Nat} (h : b ≠ a) : k_ent D (wr μ a i x) b = k_ent D μ b := by
  have e1 : zr (wr μ a i x) b = zr μ b := zr_ne h
  have e2 : zi (wr μ a i x) = zi μ := rfl
  have e3 : zl (wr μ a i x) = zl μ := rfl
  have e4 : zs (wr μ a i x) = zs μ := rfl
  unfold k_ent k_fs k_fv
  rw [e1, e2, e3, e4]
/-- what the tables say of a class by number -/
def k_CK (ci : Nat) (C : String) (T : u_T) (N : Nat) : Prop := k_cl[ci]? = some (C, T, N) ∧ (∀ w ∈ u_ws C T N, w ∈ lw_all) ∧ (∀ k, k < N → parseFieldDescriptor (T k).2.2.1 = some (k_ty ci k)) ∧ (∀ a, a < N → ∀ b, b < N → a ≠ b → (T a).2.1 ≠ (T b).2.1)
theorem ck0 : k_CK 0 RX1 TX1 14 := ⟨rfl, in_X1, tyX1_ok, nmX1⟩
theorem ck1 : k_CK 1 RX2 TX2 11 := ⟨rfl, in_X2, tyX2_ok, nmX2⟩
theorem ck2 : k_CK 2 RX3 TX3 5 := ⟨rfl, in_X3, tyX3_ok, nmX3⟩
theorem ck3 : k_CK 3 RX4 TX4 6 := ⟨rfl, in_X4, tyX4_ok, nmX4⟩
theorem ck4 : k_CK 4 RX5 TX5 3 := ⟨rfl, in_X5, tyX5_ok, nmX5⟩
theorem ck5 : k_CK 5 RX6 TX6 2 := ⟨rfl, in_X6, tyX6_ok, nmX6⟩
theorem ck6 : k_CK 6 RX7 TX7 23 := ⟨rfl, in_X7, tyX7_ok, nmX7⟩
theorem ck7 : k_CK 7 RX8 TX8 83 := ⟨rfl, in_X8, tyX8_ok, nmX8⟩
theorem ck8 : k_CK 8 RX9 TX9 9 := ⟨rfl, in_X9, tyX9_ok, nmX9⟩
theorem ck9 : k_CK 9 RX11 TX11 5 := ⟨rfl, in_X11, tyX11_ok, nmX11⟩
theorem ck10 : k_CK 10 RX12 TX12 5 := ⟨rfl, in_X12, tyX12_ok, nmX12⟩
theorem ck11 : k_CK 11 RX13 TX13 5 := ⟨rfl, in_X13, tyX13_ok, nmX13⟩
theorem ck12 : k_CK 12 RX14 TX14 3 := ⟨rfl, in_X14, tyX14_ok, nmX14⟩
theorem ck13 : k_CK 13 RX15 TX15 2 := ⟨rfl, in_X15, tyX15_ok, nmX15⟩
theorem ck14 : k_CK 14 RX16 TX16 4 := ⟨rfl, in_X16, tyX16_ok, nmX16⟩
theorem ck15 : k_CK 15 RX17 TX17 5 := ⟨rfl, in_X17, tyX17_ok, nmX17⟩
theorem ck16 : k_CK 16 RX18 TX18 3 := ⟨rfl, in_X18, tyX18_ok, nmX18⟩
theorem ck17 : k_CK 17 RX19 TX19 5 := ⟨rfl, in_X19, tyX19_ok, nmX19⟩
theorem k_nf_of {ci N : Nat} {C : String} {T : u_T} (h : k_cl[ci]? = some (C, T, N)) : k_nf ci = N := by
  show (k_cl.getD ci (RJ3, TJ3, 0)).2.2 = N
  rw [List.getD_eq_getElem?_getD, h]
  rfl
theorem k_fs_at {D : DE} {μ : Mem} {a ci N k : Nat} {C : String} {T : u_T} (h : k_cl[ci]? = some (C, T, N)) (hk : k < N) : (k_fs D μ a ci)[k]? = some (k_fv D μ a (k_ty ci k) k) := by
  have hn : k < k_nf ci := by rw [k_nf_of h]; exact hk
  simp [k_fs, hn]
section VF
variable {D : DE} {M : MI} {f : Nat} {Q : Out → Mem → Prop} {pc : Nat} {l : List (Nat × Value)} {st : List Value} {μ : Mem} {a ci n idx N : Nat} {C : String} {T : u_T}
theorem V_get (ck : k_CK ci C T N) (k : Nat) (hk : k < N) (hs : zs μ a = (10 + ci, n)) (h99 : ci ≠ 89) (q : Cond.fieldLink (mN M).cls idx (T k).1 (T k).2.1 (T k).2.2.1 ∈ lw_all) (d : decode (mC M) pc = .ok (.getfield idx, 3))
    (kk : V D M f Q (pc + 3) l (k_fv D μ a (k_ty ci k) k :: st) μ) : V D M f Q pc l (.ref (ad D a) :: st) μ :=
  V.step (Nat.le_refl _) (Nat.le_refl _) kk fun μ' p la e R s m args below meth c H locs cells slots ls Qf _ _ Cx P hl kk => by
    have h1 := P.1.cell hs (by omega)
    rw [k_ent_obj hs] at h1
    exact va_get (v := k_fv D μ a (k_ty ci k) k) Cx.1 Cx.2.1 Cx.2.2.2.2.2.1 ck.2.1 Cx.2.2.2.2.1 Cx.2.2.2.2.2.2.1.1 (k_P1 h1) 0 rfl ck.1 k hk (Cx.2.2.2.2.2.1 _ q) (fun _ h => h) (k_fs_at ck.1 hk) d (kk H locs cells slots ls P hl)
theorem V_getN {host : String} (ck : k_CK ci C T N) (k : Nat) (hk : k < N) (hs : zs μ a = (10 + ci, n)) (h99 : ci ≠ 89) (q : Cond.fieldLinkNest (mN M).cls idx (T k).1 (T k).2.1 (T k).2.2.1 host ∈ lw_tbl) (d : decode (mC M) pc = .ok (.getfield idx, 3))
    (kk : V D M f Q (pc + 3) l (k_fv D μ a (k_ty ci k) k :: st) μ) : V D M f Q pc l (.ref (ad D a) :: st) μ :=
  V.step (Nat.le_refl _) (Nat.le_refl _) kk fun μ' p la e R s m args below meth c H locs cells slots ls Qf _ _ Cx P hl kk => by
    have h1 := P.1.cell hs (by omega)
    rw [k_ent_obj hs] at h1
    exact va_getN (v := k_fv D μ a (k_ty ci k) k) Cx.1 Cx.2.1 Cx.2.2.2.2.2.1 ck.2.1 Cx.2.2.2.2.1 Cx.2.2.2.2.2.2.1.1 (k_P1 h1) 0 rfl ck.1 k hk (va_Nw.use rfl (Cx.2.2.2.2.2.2.1.2.1 _ q rfl)) (fun _ h => h) (k_fs_at ck.1 hk) d (kk H locs cells slots ls P hl)
/-- a field's new value in the heap -/
theorem k_putAt {μ1 : Mem} {v : Value} {H H1 : Heap} {cell : Cell} {k : Nat} {s : State} {args : Array Value} (ck : k_CK ci C T N) (hk : k < N) (hE : k_Env D s) (hts : ∀ w ∈ lw_all, w.before args s = true) (hR : k_Rep D μ H) (hs : zs μ a = (10 + ci, n)) (h99 : ci ≠ 89)
    (e1 : zn μ1 = zn μ) (e2 : ∀ b, zs μ1 b = zs μ b) (e3 : ∀ b, b ≠ a → k_ent D μ1 b = k_ent D μ b) (hfv : ∀ j, j < N → k_fv D μ1 a (k_ty ci j) j = if j = k then v else k_fv D μ a (k_ty ci j) j)
    (q2 : cell.cls = (dG D).1 ci) (q3 : cell.vm = .none) (q4 : ∀ j, j < N → cell.slots[(dG D).2 ci j]? = some (vp_V (k_fs D μ a ci) j))
    (g1 : H1[ad D a]? = some (cell.setSlot ((dG D).2 ci k) v)) (z : H1.size = H.size) (oq : ∀ q : Nat, q ≠ ad D a → H1[q]? = H[q]?) : k_Rep D μ1 H1 := by
  have hap := va_apart (own := C) hts ck.2.1 (k_ty ci) ck.2.2.1 ck.2.2.2 hE.1 ck.1
  refine hR.set e1 e2 e3 (hR.lt hs (by omega)) ?_ z oq
  rw [k_ent_obj (by rw [e2]; exact hs)]
  refine ⟨_, ck.1, t_OB.to (V := updV (vp_V (k_fs D μ a ci)) k v) ⟨_, g1, q2, q3, t_set q4 hap hk v⟩ (fun j hj => ?_)⟩
  have w1 : vp_V (k_fs D μ1 a ci) j = k_fv D μ1 a (k_ty ci j) j := by simp [vp_V, k_fs_at (D := D) (μ := μ1) (a := a) ck.1 hj]
  have w2 : vp_V (k_fs D μ a ci) j = k_fv D μ a (k_ty ci j) j := by simp [vp_V, k_fs_at (D := D) (μ := μ) (a := a) ck.1 hj]
  rw [w1, hfv j hj]
  unfold updV
  rw [w2]
theorem k_Pt.put {μ1 μ' : Mem} {R : Room} {s : State} {H H1 : Heap} {locs : List Loc} {cells slots i : Nat} (P : k_Pt D μ μ' R s H locs cells slots) (e1 : zn μ1 = zn μ) (e2 : zc μ1 = zc μ) (h : k_Rep D μ1 H1) (z : H1.size = H.size) (oq : ∀ q : Nat, q ≠ ad D a → H1[q]? = H[q]?) : k_Pt D μ1 μ' R s H1 (locs ++ [⟨ad D a, i⟩]) cells slots :=
  ⟨h, P.2.1.put z oq (Nat.le_add_right _ _), by rw [e1, e2]; exact P.2.2⟩
theorem V_put {μ1 : Mem} {v : Value} (ck : k_CK ci C T N) (k : Nat) (hk : k < N) (hs : zs μ a = (10 + ci, n)) (h99 : ci ≠ 89) (hfin : (T k).2.2.2 = false) (hn : narrow (k_ty ci k) v = v) (hfit : fits (k_ty ci k) v = true) (q : Cond.fieldLink (mN M).cls idx (T k).1 (T k).2.1 (T k).2.2.1 ∈ lw_all) (d : decode (mC M) pc = .ok (.putfield idx, 3))
    (e1 : zn μ1 = zn μ) (e0 : zc μ1 = zc μ) (e2 : ∀ b, zs μ1 b = zs μ b) (e3 : ∀ b, b ≠ a → k_ent D μ1 b = k_ent D μ b) (hfv : ∀ j, j < N → k_fv D μ1 a (k_ty ci j) j = if j = k then v else k_fv D μ a (k_ty ci j) j)
    (kk : V D M f Q (pc + 3) l st μ1) : V D M f Q pc l (v :: .ref (ad D a) :: st) μ :=
  V.step (Nat.le_of_eq e1.symm) (Nat.le_of_eq e0.symm) kk fun μ' p la e R s m args below meth c H locs cells slots ls Qf _ _ Cx P hl kk => by
    have h1 := P.1.cell hs (by omega)
    rw [k_ent_obj hs] at h1
    obtain ⟨r, h1, cell, q1, q2, q3, q4⟩ := h1
    have hr : r = (C, T, N) := Option.some.inj (h1.symm.trans ck.1)
    subst hr
    obtain ⟨hS, hfc, kC, hkC, hkind⟩ := Cx.2.2.2.2.2.2.1.1.1 ci _ ck.1
    obtain ⟨cf, kf, fi, fd, hi, hsl⟩ := hS k hk
    have hlay := Cx.2.2.2.2.2.1 _ (ck.2.1 _ (u_in_lay hk))
    unfold u_lay at hlay
    rw [if_neg (by rw [hfin]; decide)] at hlay
    have hst := (u_facts hfc hkC (u_lays Cx.2.2.2.2.2.1 ck.2.1 hk) hi).1
    have h6 := u_store hfc hkC hkind hlay hi (ck.2.2.1 k hk) hn hfit
    refine W.putK Cx.1 Cx.2.1 (f := fd) ⟨Cx.2.2.2.2.1, Cx.2.2.2.2.2.1 _ q, ⟨_, _, _, hi⟩, hst⟩ (by rw [q2]; exact h6) q1 q3 (by rw [hsl]; exact k2_hasslot (q4 k hk)) rfl rfl d fun H1 g1 z oq => ?_
    rw [hsl] at g1 ⊢
    exact kk H1 _ cells slots ls (P.put e1 e0 (k_putAt ck hk Cx.2.2.2.2.2.2.1 Cx.2.2.2.2.2.1 P.1 hs h99 e1 e2 e3 hfv q2 q3 q4 g1 z oq) z oq) hl
theorem V_putN {host : String} {μ1 : Mem} {v : Value} (ck : k_CK ci C T N) (k : Nat) (hk : k < N) (hs : zs μ a = (10 + ci, n)) (h99 : ci ≠ 89) (hfin : (T k).2.2.2 = false) (hn : narrow (k_ty ci k) v = v) (hfit : fits (k_ty ci k) v = true) (q : Cond.fieldLinkNest (mN M).cls idx (T k).1 (T k).2.1 (T k).2.2.1 host ∈ lw_tbl) (d : decode (mC M) pc = .ok (.putfield idx, 3))
    (e1 : zn μ1 = zn μ) (e0 : zc μ1 = zc μ) (e2 : ∀ b, zs μ1 b = zs μ b) (e3 : ∀ b, b ≠ a → k_ent D μ1 b = k_ent D μ b) (hfv : ∀ j, j < N → k_fv D μ1 a (k_ty ci j) j = if j = k then v else k_fv D μ a (k_ty ci j) j)
    (kk : V D M f Q (pc + 3) l st μ1) : V D M f Q pc l (v :: .ref (ad D a) :: st) μ :=
  V.step (Nat.le_of_eq e1.symm) (Nat.le_of_eq e0.symm) kk fun μ' p la e R s m args below meth c H locs cells slots ls Qf _ _ Cx P hl kk => by
    have h1 := P.1.cell hs (by omega)
    rw [k_ent_obj hs] at h1
    obtain ⟨r, h1, cell, q1, q2, q3, q4⟩ := h1
    have hr : r = (C, T, N) := Option.some.inj (h1.symm.trans ck.1)
    subst hr
    obtain ⟨hS, hfc, kC, hkC, hkind⟩ := Cx.2.2.2.2.2.2.1.1.1 ci _ ck.1
    obtain ⟨cf, kf, fi, fd, hi, hsl⟩ := hS k hk
    have hlay := Cx.2.2.2.2.2.1 _ (ck.2.1 _ (u_in_lay hk))
    unfold u_lay at hlay
    rw [if_neg (by rw [hfin]; decide)] at hlay
    have hst := (u_facts hfc hkC (u_lays Cx.2.2.2.2.2.1 ck.2.1 hk) hi).1
    have h6 := u_store hfc hkC hkind hlay hi (ck.2.2.1 k hk) hn hfit
    refine va_WputK Cx.1 Cx.2.1 (f := fd) Cx.2.2.2.2.1 (va_Nw.use rfl (Cx.2.2.2.2.2.2.1.2.1 _ q rfl)) hi hst (by rw [q2]; exact h6) q1 q3 (by rw [hsl]; exact k2_hasslot (q4 k hk)) rfl rfl d fun H1 g1 z oq => ?_
    rw [hsl] at g1 ⊢
    exact kk H1 _ cells slots ls (P.put e1 e0 (k_putAt ck hk Cx.2.2.2.2.2.2.1 Cx.2.2.2.2.2.1 P.1 hs h99 e1 e2 e3 hfv q2 q3 q4 g1 z oq) z oq) hl
theorem V_putF {μ1 : Mem} {v : Value} (ck : k_CK ci C T N) (k : Nat) (hk : k < N) (hs : zs μ a = (10 + ci, n)) (h99 : ci ≠ 89) (hfin : (T k).2.2.2 = true) (hini : (mN M).name = "<init>") (hdecl : (T k).1 = (mN M).cls) (hn : narrow (k_ty ci k) v = v) (hfit : fits (k_ty ci k) v = true) (q : Cond.fieldLink (mN M).cls idx (T k).1 (T k).2.1 (T k).2.2.1 ∈ lw_all) (d : decode (mC M) pc = .ok (.putfield idx, 3))
    (e1 : zn μ1 = zn μ) (e0 : zc μ1 = zc μ) (e2 : ∀ b, zs μ1 b = zs μ b) (e3 : ∀ b, b ≠ a → k_ent D μ1 b = k_ent D μ b) (hfv : ∀ j, j < N → k_fv D μ1 a (k_ty ci j) j = if j = k then v else k_fv D μ a (k_ty ci j) j)
    (kk : V D M f Q (pc + 3) l st μ1) : V D M f Q pc l (v :: .ref (ad D a) :: st) μ :=
  V.step (Nat.le_of_eq e1.symm) (Nat.le_of_eq e0.symm) kk fun μ' p la e R s m args below meth c H locs cells slots ls Qf _ _ Cx P hl kk => by
    have h1 := P.1.cell hs (by omega)
    rw [k_ent_obj hs] at h1
    obtain ⟨r, h1, cell, q1, q2, q3, q4⟩ := h1
    have hr : r = (C, T, N) := Option.some.inj (h1.symm.trans ck.1)
    subst hr
    obtain ⟨hS, hfc, kC, hkC, hkind⟩ := Cx.2.2.2.2.2.2.1.1.1 ci _ ck.1
    obtain ⟨cf, kf, fi, fd, hi, hsl⟩ := hS k hk
    have hlay := Cx.2.2.2.2.2.1 _ (ck.2.1 _ (u_in_lay hk))
    unfold u_lay at hlay
    rw [if_pos hfin] at hlay
    have hst := (u_facts hfc hkC (u_lays Cx.2.2.2.2.2.1 ck.2.1 hk) hi).1
    have hcf : m.cls = cf := by
      obtain ⟨_, _, c', _, _, _, -, -, hf', -, -, -, hown2, -⟩ := Cond.laysFinal_spec hlay
      have e1 : c' = cf := by have := hi.symm.trans hf'; simp at this; exact this.1.symm
      rw [hdecl] at hown2
      rw [← e1]; exact Option.some.inj (Cx.2.2.2.2.1.symm.trans hown2)
    have h6 := u_fits hfc hkC hkind (Or.inr hlay) hi (ck.2.2.1 k hk) hn hfit
    refine W.putFinK Cx.1 Cx.2.1 Cx.2.2.2.2.1 (Cx.2.2.2.2.2.1 _ q) hi hst hcf (Cx.2.2.2.2.2.2.2.2.2.1.trans hini) (by rw [q2]; exact h6) q1 q3 (by rw [hsl]; exact k2_hasslot (q4 k hk)) rfl rfl d fun H1 g1 z oq => ?_
    rw [hsl] at g1 ⊢
    exact kk H1 _ cells slots ls (P.put e1 e0 (k_putAt ck hk Cx.2.2.2.2.2.2.1 Cx.2.2.2.2.2.1 P.1 hs h99 e1 e2 e3 hfv q2 q3 q4 g1 z oq) z oq) hl
end VF
