/-! THE LIGHT WALK, 5: fields by kind, arrays, new cells, ends -/
theorem k_fv_wi {D : DE} {μ : Mem} {a k : Nat} {x : Int32} {ty : Nat → FieldType} (h : k_kd (ty k) = 0) (j : Nat) : k_fv D (wi μ a k x) a (ty j) j = if j = k then .int x else k_fv D μ a (ty j) j := by
  by_cases hj : j = k
  · subst hj
    simp [k_fv, h, zi, wi, up2]
  · simp [k_fv, hj, zi, zl, zr, wi, up2]
theorem k_fv_wl {D : DE} {μ : Mem} {a k : Nat} {x : Int64} {ty : Nat → FieldType} (h : k_kd (ty k) = 1) (j : Nat) : k_fv D (wl μ a k x) a (ty j) j = if j = k then .long x else k_fv D μ a (ty j) j := by
  by_cases hj : j = k
  · subst hj
    simp [k_fv, h, zl, wl, up2]
  · simp [k_fv, hj, zi, zl, zr, wl, up2]
theorem k_fv_wr {D : DE} {μ : Mem} {a k : Nat} {x : Option Nat} {ty : Nat → FieldType} (h : k_kd (ty k) = 2) (j : Nat) : k_fv D (wr μ a k x) a (ty j) j = if j = k then rv D x else k_fv D μ a (ty j) j := by
  by_cases hj : j = k
  · subst hj
    simp [k_fv, h, zr, wr, up2]
  · simp [k_fv, hj, zi, zl, zr, wr, up2]
section VK
variable {D : DE} {M : MI} {f : Nat} {Q : Out → Mem → Prop} {pc : Nat} {l : List (Nat × Value)} {st : List Value} {μ : Mem} {a ci n idx N : Nat} {C host : String} {T : u_T}
theorem V_geti (ck : k_CK ci C T N) (k : Nat) (hk : k < N) (hs : zs μ a = (10 + ci, n)) (h99 : ci ≠ 89) (hkd : k_kd (k_ty ci k) = 0) (q : Cond.fieldLink (mN M).cls idx (T k).1 (T k).2.1 (T k).2.2.1 ∈ lw_all) (d : decode (mC M) pc = .ok (.getfield idx, 3)) (kk : V D M f Q (pc + 3) l (.int (zi μ a k) :: st) μ) : V D M f Q pc l (.ref (ad D a) :: st) μ :=
  V_get ck k hk hs h99 q d (by rw [show k_fv D μ a (k_ty ci k) k = .int (zi μ a k) by simp [k_fv, hkd]]; exact kk)
theorem V_getl (ck : k_CK ci C T N) (k : Nat) (hk : k < N) (hs : zs μ a = (10 + ci, n)) (h99 : ci ≠ 89) (hkd : k_kd (k_ty ci k) = 1) (q : Cond.fieldLink (mN M).cls idx (T k).1 (T k).2.1 (T k).2.2.1 ∈ lw_all) (d : decode (mC M) pc = .ok (.getfield idx, 3)) (kk : V D M f Q (pc + 3) l (.long (zl μ a k) :: st) μ) : V D M f Q pc l (.ref (ad D a) :: st) μ :=
  V_get ck k hk hs h99 q d (by rw [show k_fv D μ a (k_ty ci k) k = .long (zl μ a k) by simp [k_fv, hkd]]; exact kk)
theorem V_getr (ck : k_CK ci C T N) (k : Nat) (hk : k < N) (hs : zs μ a = (10 + ci, n)) (h99 : ci ≠ 89) (hkd : k_kd (k_ty ci k) = 2) (q : Cond.fieldLink (mN M).cls idx (T k).1 (T k).2.1 (T k).2.2.1 ∈ lw_all) (d : decode (mC M) pc = .ok (.getfield idx, 3)) {b : Nat} (hb : zr μ a k = some b) (kk : V D M f Q (pc + 3) l (.ref (ad D b) :: st) μ) : V D M f Q pc l (.ref (ad D a) :: st) μ :=
  V_get ck k hk hs h99 q d (by rw [show k_fv D μ a (k_ty ci k) k = .ref (ad D b) by simp [k_fv, hkd, hb, rv, va_rf]]; exact kk)
theorem V_getiN (ck : k_CK ci C T N) (k : Nat) (hk : k < N) (hs : zs μ a = (10 + ci, n)) (h99 : ci ≠ 89) (hkd : k_kd (k_ty ci k) = 0) (q : Cond.fieldLinkNest (mN M).cls idx (T k).1 (T k).2.1 (T k).2.2.1 host ∈ lw_tbl) (d : decode (mC M) pc = .ok (.getfield idx, 3)) (kk : V D M f Q (pc + 3) l (.int (zi μ a k) :: st) μ) : V D M f Q pc l (.ref (ad D a) :: st) μ :=
  V_getN ck k hk hs h99 q d (by rw [show k_fv D μ a (k_ty ci k) k = .int (zi μ a k) by simp [k_fv, hkd]]; exact kk)
theorem V_getrN (ck : k_CK ci C T N) (k : Nat) (hk : k < N) (hs : zs μ a = (10 + ci, n)) (h99 : ci ≠ 89) (hkd : k_kd (k_ty ci k) = 2) (q : Cond.fieldLinkNest (mN M).cls idx (T k).1 (T k).2.1 (T k).2.2.1 host ∈ lw_tbl) (d : decode (mC M) pc = .ok (.getfield idx, 3)) {b : Nat} (hb : zr μ a k = some b) (kk : V D M f Q (pc + 3) l (.ref (ad D b) :: st) μ) : V D M f Q pc l (.ref (ad D a) :: st) μ :=
  V_getN ck k hk hs h99 q d (by rw [show k_fv D μ a (k_ty ci k) k = .ref (ad D b) by simp [k_fv, hkd, hb, rv, va_rf]]; exact kk)
theorem V_puti {x : Int32} (ck : k_CK ci C T N) (k : Nat) (hk : k < N) (hs : zs μ a = (10 + ci, n)) (h99 : ci ≠ 89) (hkd : k_kd (k_ty ci k) = 0) (hfin : (T k).2.2.2 = false) (hn : narrow (k_ty ci k) (.int x) = .int x) (hfit : fits (k_ty ci k) (.int x) = true) (q : Cond.fieldLink (mN M).cls idx (T k).1 (T k).2.1 (T k).2.2.1 ∈ lw_all) (d : decode (mC M) pc = .ok (.putfield idx, 3))
    (kk : V D M f Q (pc + 3) l st (wi μ a k x)) : V D M f Q pc l (.int x :: .ref (ad D a) :: st) μ :=
  V_put (μ1 := wi μ a k x) ck k hk hs h99 hfin hn hfit q d rfl rfl (fun _ => rfl) (fun _ h => k_ent_wi h) (fun j _ => k_fv_wi hkd j) kk
theorem V_putl {x : Int64} (ck : k_CK ci C T N) (k : Nat) (hk : k < N) (hs : zs μ a = (10 + ci, n)) (h99 : ci ≠ 89) (hkd : k_kd (k_ty ci k) = 1) (hfin : (T k).2.2.2 = false) (hn : narrow (k_ty ci k) (.long x) = .long x) (hfit : fits (k_ty ci k) (.long x) = true) (q : Cond.fieldLink (mN M).cls idx (T k).1 (T k).2.1 (T k).2.2.1 ∈ lw_all) (d : decode (mC M) pc = .ok (.putfield idx, 3))
    (kk : V D M f Q (pc + 3) l st (wl μ a k x)) : V D M f Q pc l (.long x :: .ref (ad D a) :: st) μ :=
  V_put (μ1 := wl μ a k x) ck k hk hs h99 hfin hn hfit q d rfl rfl (fun _ => rfl) (fun _ h => k_ent_wl h) (fun j _ => k_fv_wl hkd j) kk
theorem V_putr {x : Nat} (ck : k_CK ci C T N) (k : Nat) (hk : k < N) (hs : zs μ a = (10 + ci, n)) (h99 : ci ≠ 89) (hkd : k_kd (k_ty ci k) = 2) (hfin : (T k).2.2.2 = false) (hn : narrow (k_ty ci k) (.ref (ad D x)) = .ref (ad D x)) (hfit : fits (k_ty ci k) (.ref (ad D x)) = true) (q : Cond.fieldLink (mN M).cls idx (T k).1 (T k).2.1 (T k).2.2.1 ∈ lw_all) (d : decode (mC M) pc = .ok (.putfield idx, 3))
    (kk : V D M f Q (pc + 3) l st (wr μ a k (some x))) : V D M f Q pc l (.ref (ad D x) :: .ref (ad D a) :: st) μ :=
  V_put (μ1 := wr μ a k (some x)) ck k hk hs h99 hfin hn hfit q d rfl rfl (fun _ => rfl) (fun _ h => k_ent_wr h) (fun j _ => k_fv_wr hkd j) kk
theorem V_putiN {x : Int32} (ck : k_CK ci C T N) (k : Nat) (hk : k < N) (hs : zs μ a = (10 + ci, n)) (h99 : ci ≠ 89) (hkd : k_kd (k_ty ci k) = 0) (hfin : (T k).2.2.2 = false) (hn : narrow (k_ty ci k) (.int x) = .int x) (hfit : fits (k_ty ci k) (.int x) = true) (q : Cond.fieldLinkNest (mN M).cls idx (T k).1 (T k).2.1 (T k).2.2.1 host ∈ lw_tbl) (d : decode (mC M) pc = .ok (.putfield idx, 3))
    (kk : V D M f Q (pc + 3) l st (wi μ a k x)) : V D M f Q pc l (.int x :: .ref (ad D a) :: st) μ :=
  V_putN (μ1 := wi μ a k x) ck k hk hs h99 hfin hn hfit q d rfl rfl (fun _ => rfl) (fun _ h => k_ent_wi h) (fun j _ => k_fv_wi hkd j) kk
theorem V_putrN {x : Nat} (ck : k_CK ci C T N) (k : Nat) (hk : k < N) (hs : zs μ a = (10 + ci, n)) (h99 : ci ≠ 89) (hkd : k_kd (k_ty ci k) = 2) (hfin : (T k).2.2.2 = false) (hn : narrow (k_ty ci k) (.ref (ad D x)) = .ref (ad D x)) (hfit : fits (k_ty ci k) (.ref (ad D x)) = true) (q : Cond.fieldLinkNest (mN M).cls idx (T k).1 (T k).2.1 (T k).2.2.1 host ∈ lw_tbl) (d : decode (mC M) pc = .ok (.putfield idx, 3))
    (kk : V D M f Q (pc + 3) l st (wr μ a k (some x))) : V D M f Q pc l (.ref (ad D x) :: .ref (ad D a) :: st) μ :=
  V_putN (μ1 := wr μ a k (some x)) ck k hk hs h99 hfin hn hfit q d rfl rfl (fun _ => rfl) (fun _ h => k_ent_wr h) (fun j _ => k_fv_wr hkd j) kk
theorem V_putiF {x : Int32} (ck : k_CK ci C T N) (k : Nat) (hk : k < N) (hs : zs μ a = (10 + ci, n)) (h99 : ci ≠ 89) (hkd : k_kd (k_ty ci k) = 0) (hfin : (T k).2.2.2 = true) (hini : (mN M).name = "<init>") (hdecl : (T k).1 = (mN M).cls) (hn : narrow (k_ty ci k) (.int x) = .int x) (hfit : fits (k_ty ci k) (.int x) = true) (q : Cond.fieldLink (mN M).cls idx (T k).1 (T k).2.1 (T k).2.2.1 ∈ lw_all) (d : decode (mC M) pc = .ok (.putfield idx, 3))
    (kk : V D M f Q (pc + 3) l st (wi μ a k x)) : V D M f Q pc l (.int x :: .ref (ad D a) :: st) μ :=
  V_putF (μ1 := wi μ a k x) ck k hk hs h99 hfin hini hdecl hn hfit q d rfl rfl (fun _ => rfl) (fun _ h => k_ent_wi h) (fun j _ => k_fv_wi hkd j) kk
theorem V_putrF {x : Nat} (ck : k_CK ci C T N) (k : Nat) (hk : k < N) (hs : zs μ a = (10 + ci, n)) (h99 : ci ≠ 89) (hkd : k_kd (k_ty ci k) = 2) (hfin : (T k).2.2.2 = true) (hini : (mN M).name = "<init>") (hdecl : (T k).1 = (mN M).cls) (hn : narrow (k_ty ci k) (.ref (ad D x)) = .ref (ad D x)) (hfit : fits (k_ty ci k) (.ref (ad D x)) = true) (q : Cond.fieldLink (mN M).cls idx (T k).1 (T k).2.1 (T k).2.2.1 ∈ lw_all) (d : decode (mC M) pc = .ok (.putfield idx, 3))
    (kk : V D M f Q (pc + 3) l st (wr μ a k (some x))) : V D M f Q pc l (.ref (ad D x) :: .ref (ad D a) :: st) μ :=
  V_putF (μ1 := wr μ a k (some x)) ck k hk hs h99 hfin hini hdecl hn hfit q d rfl rfl (fun _ => rfl) (fun _ h => k_ent_wr h) (fun j _ => k_fv_wr hkd j) kk
theorem V_iald {i : Int32} (hs : zs μ a = (0, n)) (hin : vp_in i n) (d : decode (mC M) pc = .ok (.iaload, 1)) (kk : V D M f Q (pc + 1) l (.int (zi μ a i.toNatClampNeg) :: st) μ) : V D M f Q pc l (.int i :: .ref (ad D a) :: st) μ :=
  V.step (Nat.le_refl _) (Nat.le_refl _) kk fun μ' p la e R s m args below meth c H locs cells slots ls Qf _ _ Cx P hl kk => by
    have h1 := P.1.cell hs (by decide)
    rw [k_ent_i hs (by decide)] at h1
    exact va_iald Cx.1 Cx.2.1 Cx.2.2.2.2.2.2.1.1 (k_P1 h1) 0 0 rfl rfl hin d (kk H locs cells slots ls P hl)
theorem V_bald {i : Int32} (hs : zs μ a = (1, n)) (hin : vp_in i n) (d : decode (mC M) pc = .ok (.baload, 1)) (kk : V D M f Q (pc + 1) l (.int (zi μ a i.toNatClampNeg) :: st) μ) : V D M f Q pc l (.int i :: .ref (ad D a) :: st) μ :=
  V.step (Nat.le_refl _) (Nat.le_refl _) kk fun μ' p la e R s m args below meth c H locs cells slots ls Qf _ _ Cx P hl kk => by
    have h1 := P.1.cell hs (by decide)
    rw [k_ent_i hs (by decide)] at h1
    exact va_bald Cx.1 Cx.2.1 Cx.2.2.2.2.2.2.1.1 (k_P1 h1) 0 1 rfl rfl hin d (kk H locs cells slots ls P hl)
theorem V_zald {i : Int32} (hs : zs μ a = (2, n)) (hin : vp_in i n) (d : decode (mC M) pc = .ok (.baload, 1)) (kk : V D M f Q (pc + 1) l (.int (zi μ a i.toNatClampNeg) :: st) μ) : V D M f Q pc l (.int i :: .ref (ad D a) :: st) μ :=
  V.step (Nat.le_refl _) (Nat.le_refl _) kk fun μ' p la e R s m args below meth c H locs cells slots ls Qf _ _ Cx P hl kk => by
    have h1 := P.1.cell hs (by decide)
    rw [k_ent_i hs (by decide)] at h1
    exact va_zald Cx.1 Cx.2.1 Cx.2.2.2.2.2.2.1.1 (k_P1 h1) 0 2 rfl rfl hin d (kk H locs cells slots ls P hl)
theorem V_lald {i : Int32} (hs : zs μ a = (3, n)) (hin : vp_in i n) (d : decode (mC M) pc = .ok (.laload, 1)) (kk : V D M f Q (pc + 1) l (.long (zl μ a i.toNatClampNeg) :: st) μ) : V D M f Q pc l (.int i :: .ref (ad D a) :: st) μ :=
  V.step (Nat.le_refl _) (Nat.le_refl _) kk fun μ' p la e R s m args below meth c H locs cells slots ls Qf _ _ Cx P hl kk => by
    have h1 := P.1.cell hs (by decide)
    rw [k_ent_l hs] at h1
    exact va_lald Cx.1 Cx.2.1 Cx.2.2.2.2.2.2.1.1 (k_P1 h1) 0 3 rfl rfl hin d (kk H locs cells slots ls P hl)
/-- an element that is no null -/
theorem V_aald {i : Int32} {t b : Nat} {E : String} (hs : zs μ a = (t, n)) (ht1 : 3 < t) (ht2 : t < 10) (ht : (k_tys D)[t]? = some (dA D t, .object E)) (hin : vp_in i n) (d : decode (mC M) pc = .ok (.aaload, 1)) (hb : zr μ a i.toNatClampNeg = some b) (kk : V D M f Q (pc + 1) l (.ref (ad D b) :: st) μ) : V D M f Q pc l (.int i :: .ref (ad D a) :: st) μ :=
  V.step (Nat.le_refl _) (Nat.le_refl _) kk fun μ' p la e R s m args below meth c H locs cells slots ls Qf _ _ Cx P hl kk => by
    have h1 := P.1.cell hs (by omega)
    rw [k_ent_q hs ht1 ht2] at h1
    refine va_aldq Cx.1 Cx.2.1 Cx.2.2.2.2.2.2.1.1 (k_P1 h1) 0 t rfl ht hin d ?_
    rw [hb]
    exact kk H locs cells slots ls P hl
theorem V_alen {t : Nat} {ty : FieldType} {x : Int32} (hs : zs μ a = (t, n)) (ht2 : t < 7) (ht : (k_tys D)[t]? = some (dA D t, ty)) (hx : Int32.ofNat n = x) (d : decode (mC M) pc = .ok (.arraylength, 1)) (kk : V D M f Q (pc + 1) l (.int x :: st) μ) : V D M f Q pc l (.ref (ad D a) :: st) μ :=
  V.step (Nat.le_refl _) (Nat.le_refl _) kk fun μ' p la e R s m args below meth c H locs cells slots ls Qf _ _ Cx P hl kk => by
    have h1 := P.1.cell hs (by omega)
    rcases Nat.lt_or_ge t 3 with q | q
    · rw [k_ent_i hs q] at h1
      exact va_alen Cx.1 Cx.2.1 Cx.2.2.2.2.2.2.1.1 (k_P1 h1) 0 t rfl ht hx d (kk H locs cells slots ls P hl)
    · by_cases q3 : t = 3
      · subst q3
        rw [k_ent_l hs] at h1
        exact va_alen Cx.1 Cx.2.1 Cx.2.2.2.2.2.2.1.1 (k_P1 h1) 0 3 rfl ht hx d (kk H locs cells slots ls P hl)
      · rw [k_ent_q hs (by omega) (by omega)] at h1
        exact va_alen Cx.1 Cx.2.1 Cx.2.2.2.2.2.2.1.1 (k_P1 h1) 0 t rfl ht hx d (kk H locs cells slots ls P hl)
theorem k_upd {μ : Mem} {a i : Nat} {x : Int32} : (fun j => Value.int (zi (wi μ a i x) a j)) = updV (fun j => .int (zi μ a j)) i (.int x) := by
  funext j
  by_cases h : j = i
  · simp [zi, wi, up2, updV, h]
  · simp [zi, wi, up2, updV, h]
theorem k_updl {μ : Mem} {a i : Nat} {x : Int64} : (fun j => Value.long (zl (wl μ a i x) a j)) = updV (fun j => .long (zl μ a j)) i (.long x) := by
  funext j
  by_cases h : j = i
  · simp [zl, wl, up2, updV, h]
  · simp [zl, wl, up2, updV, h]
theorem k_updr {D : DE} {μ : Mem} {a i : Nat} {x : Option Nat} : (fun j => va_rf ((zr (wr μ a i x) a j).map (ad D))) = updV (fun j => va_rf ((zr μ a j).map (ad D))) i (rv D x) := by
  funext j
  by_cases h : j = i
  · simp [zr, wr, up2, updV, h, rv]
  · simp [zr, wr, up2, updV, h]
theorem V_iast {i x : Int32} (hs : zs μ a = (0, n)) (hin : vp_in i n) (d : decode (mC M) pc = .ok (.iastore, 1)) (kk : V D M f Q (pc + 1) l st (wi μ a i.toNatClampNeg x)) : V D M f Q pc l (.int x :: .int i :: .ref (ad D a) :: st) μ :=
  V.step (μ1 := wi μ a i.toNatClampNeg x) (Nat.le_refl _) (Nat.le_refl _) kk fun μ' p la e R s m args below meth c H locs cells slots ls Qf _ _ Cx P hl kk => by
    have h1 := P.1.cell hs (by decide)
    rw [k_ent_i hs (by decide)] at h1
    refine W.iast Cx.1 Cx.2.1 h1 ((Cx.2.2.2.2.2.2.1.1.2 0 _ rfl).1 n (fun j => .int (zi μ a j))) (fun q => by cases q) (by show ¬ (i < 0 ∨ (arrV _ _ _).slots.size ≤ _); rw [arrV_size]; exact hin) rfl rfl d fun H1 e z oq => ?_
    refine kk H1 _ cells slots ls (P.put (μ1 := wi μ a i.toNatClampNeg x) rfl rfl (P.1.set (μ1 := wi μ a i.toNatClampNeg x) rfl (fun _ => rfl) (fun _ h => k_ent_wi h) (P.1.lt hs (by decide)) ?_ z oq) z oq) hl
    rw [k_ent_i (show zs (wi μ a i.toNatClampNeg x) a = (0, n) from hs) (by decide)]
    show H1[ad D a]? = some (vp_cell _ _)
    rw [e, vp_cell_i, vp_cell_i, arrV_store, k_upd]
theorem V_bast {i x : Int32} (hs : zs μ a = (1, n)) (hin : vp_in i n) (d : decode (mC M) pc = .ok (.bastore, 1)) (kk : V D M f Q (pc + 1) l st (wi μ a i.toNatClampNeg x.toInt8.toInt32)) : V D M f Q pc l (.int x :: .int i :: .ref (ad D a) :: st) μ :=
  V.step (μ1 := wi μ a i.toNatClampNeg x.toInt8.toInt32) (Nat.le_refl _) (Nat.le_refl _) kk fun μ' p la e R s m args below meth c H locs cells slots ls Qf _ _ Cx P hl kk => by
    have h1 := P.1.cell hs (by decide)
    rw [k_ent_i hs (by decide)] at h1
    refine W.bast Cx.1 Cx.2.1 h1 ((Cx.2.2.2.2.2.2.1.1.2 1 _ rfl).1 n (fun j => .int (zi μ a j))) (fun q => by cases q) (by show ¬ (i < 0 ∨ (arrV _ _ _).slots.size ≤ _); rw [arrV_size]; exact hin) rfl rfl d fun H1 e z oq => ?_
    refine kk H1 _ cells slots ls (P.put (μ1 := wi μ a i.toNatClampNeg x.toInt8.toInt32) rfl rfl (P.1.set (μ1 := wi μ a i.toNatClampNeg x.toInt8.toInt32) rfl (fun _ => rfl) (fun _ h => k_ent_wi h) (P.1.lt hs (by decide)) ?_ z oq) z oq) hl
    rw [k_ent_i (show zs (wi μ a i.toNatClampNeg x.toInt8.toInt32) a = (1, n) from hs) (by decide)]
    show H1[ad D a]? = some (vp_cell _ _)
    rw [e, vp_cell_i, vp_cell_i, arrV_store, k_upd]
    rfl
theorem V_zast {i x : Int32} (hs : zs μ a = (2, n)) (hin : vp_in i n) (hx : narrow .boolean (.int x) = .int x) (d : decode (mC M) pc = .ok (.bastore, 1)) (kk : V D M f Q (pc + 1) l st (wi μ a i.toNatClampNeg x)) : V D M f Q pc l (.int x :: .int i :: .ref (ad D a) :: st) μ :=
  V.step (μ1 := wi μ a i.toNatClampNeg x) (Nat.le_refl _) (Nat.le_refl _) kk fun μ' p la e R s m args below meth c H locs cells slots ls Qf _ _ Cx P hl kk => by
    have h1 := P.1.cell hs (by decide)
    rw [k_ent_i hs (by decide)] at h1
    refine W.zast Cx.1 Cx.2.1 h1 ((Cx.2.2.2.2.2.2.1.1.2 2 _ rfl).1 n (fun j => .int (zi μ a j))) (fun q => by cases q) (by show ¬ (i < 0 ∨ (arrV _ _ _).slots.size ≤ _); rw [arrV_size]; exact hin) rfl rfl d fun H1 e z oq => ?_
    refine kk H1 _ cells slots ls (P.put (μ1 := wi μ a i.toNatClampNeg x) rfl rfl (P.1.set (μ1 := wi μ a i.toNatClampNeg x) rfl (fun _ => rfl) (fun _ h => k_ent_wi h) (P.1.lt hs (by decide)) ?_ z oq) z oq) hl
    rw [k_ent_i (show zs (wi μ a i.toNatClampNeg x) a = (2, n) from hs) (by decide)]
    show H1[ad D a]? = some (vp_cell _ _)
    rw [e, hx, vp_cell_i, vp_cell_i, arrV_store, k_upd]
theorem V_last {i : Int32} {x : Int64} (hs : zs μ a = (3, n)) (hin : vp_in i n) (d : decode (mC M) pc = .ok (.lastore, 1)) (kk : V D M f Q (pc + 1) l st (wl μ a i.toNatClampNeg x)) : V D M f Q pc l (.long x :: .int i :: .ref (ad D a) :: st) μ :=
  V.step (μ1 := wl μ a i.toNatClampNeg x) (Nat.le_refl _) (Nat.le_refl _) kk fun μ' p la e R s m args below meth c H locs cells slots ls Qf _ _ Cx P hl kk => by
    have h1 := P.1.cell hs (by decide)
    rw [k_ent_l hs] at h1
    refine W.last Cx.1 Cx.2.1 h1 ((Cx.2.2.2.2.2.2.1.1.2 3 _ rfl).1 n (fun j => .long (zl μ a j))) (fun q => by cases q) (by show ¬ (i < 0 ∨ (arrV _ _ _).slots.size ≤ _); rw [arrV_size]; exact hin) rfl rfl d fun H1 e z oq => ?_
    refine kk H1 _ cells slots ls (P.put (μ1 := wl μ a i.toNatClampNeg x) rfl rfl (P.1.set (μ1 := wl μ a i.toNatClampNeg x) rfl (fun _ => rfl) (fun _ h => k_ent_wl h) (P.1.lt hs (by decide)) ?_ z oq) z oq) hl
    rw [k_ent_l (show zs (wl μ a i.toNatClampNeg x) a = (3, n) from hs)]
    show H1[ad D a]? = some (vp_cell _ _)
    rw [e, vp_cell_l, vp_cell_l, arrV_store, k_updl]
end VK
