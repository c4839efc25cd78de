/-! THE LIGHT WALK, 12: null, expressions into arrays, new objects' fields, references as answers -/
theorem fx_okA {a k : Nat} (h : fx_rf.all (fun q => !(q.1 == a)) = true) : fx_ok a k = true := by
  refine List.all_eq_true.mpr fun q hq => ?_
  have h1 := List.all_eq_true.mp h q hq
  simp only [Bool.not_eq_true', beq_eq_false_iff_ne, ne_eq] at h1
  simp [h1]
def qr (D : DE) (F : Frm) (Q : Nat → HI → HL → Prop) : Out → Mem → Prop := fun o μ1 => ∃ b h1 g1, o = .inl (some (.ref (ad D b))) ∧ μ1 = (F, h1, g1) ∧ Q b h1 g1
def Sr (D : DE) (f : Nat) (M : MI) (av : List Value) (F : Frm) (h : HI) (g : HL) (Q : Nat → HI → HL → Prop) : Prop := Cl D f M av (F, h, g) (qr D F Q)
theorem Sr.mono {D : DE} {f : Nat} {M : MI} {av : List Value} {F : Frm} {h : HI} {g : HL} {Q Q1 : Nat → HI → HL → Prop} (k : Sr D f M av F h g Q) (hq : ∀ x h1 g1, Q x h1 g1 → Q1 x h1 g1) : Sr D f M av F h g Q1 :=
  Cl.mono k fun o μ' ⟨x, h1, g1, e1, e2, e3⟩ => ⟨x, h1, g1, e1, e2, hq _ _ _ e3⟩
section CR
variable {D : DE} {M M1 : MI} {f : Nat} {Q : Out → Mem → Prop} {pc : Nat} {l : List (Nat × Value)} {st rest av : List Value} {F : Frm} {h : HI} {g : HL} {a b ci n idx N : Nat} {μ : Mem}
theorem H_aret {Q : Nat → HI → HL → Prop} {E : String} (hr : mR M = some (.object E)) (d : decode (mC M) pc = .ok (.areturn, 1)) (hq : Q b h g) : V D M f (qr D F Q) pc l [.ref (ad D b)] (F, h, g) := V_aret hr (Or.inl ⟨_, rfl⟩) d ⟨b, h, g, rfl, rfl, hq⟩
theorem H_callr {Q1 : Nat → HI → HL → Prop} (hc : Sr D f M1 av F h g Q1) (hq : mW M1 ∈ lw_all) (hin : Cond.initialized (mN M1).cls ∈ lw_all) (hL : mL M1 ≤ 27) (hst : (rest.map fun v => v.category).sum ≤ 8) (res : k_RES D M (f + 1) pc l st (F, h, g) (mN M1) av rest) (kr : ∀ x h1 g1, Q1 x h1 g1 → V D M (f + 1) Q (pc + 3) l (.ref (ad D x) :: rest) (F, h1, g1)) : V D M (f + 1) Q pc l st (F, h, g) :=
  V_call hc hq hin hL hst res (fun v μ1 ⟨x, h1, g1, e1, e2, e3⟩ => by cases e1; subst e2; exact kr x h1 g1 e3) (fun a μ1 ⟨x, h1, g1, e1, _⟩ => by cases e1)
theorem V_aload_nN {k : Fin 4} {i : Nat} (d : decode (mC M) pc = .ok (.aload_n k, 1)) (hi : (k : Nat) = i) (j : Nat) (hj : l[j]? = some (i, .null)) (k : V D M f Q (pc + 1) l (.null :: st) μ) : V D M f Q pc l st μ :=
  V.go k fun _ _ _ _ _ _ _ _ _ _ _ _ _ _ _ _ C hl k => lv_aload_nN C.1 C.2.1 d hi (lv_at hl j hj) k
theorem V_aastN {t n : Nat} {i : Int32} {E : String} (hs : zs μ a = (t, n)) (ht1 : 3 < t) (ht2 : t < 10) (ht : (k_tys D)[t]? = some (dA D t, .object E)) (hin : vp_in i n) (d : decode (mC M) pc = .ok (.aastore, 1)) (kk : V D M f Q (pc + 1) l st (wr μ a i.toNatClampNeg none)) : V D M f Q pc l (.null :: .int i :: .ref (ad D a) :: st) μ :=
  V.step (μ1 := wr μ a i.toNatClampNeg none) (Nat.le_refl _) (Nat.le_refl _) kk fun μ' p la e R s m args below meth c H locs cells slots ls Qf _ _ Cx P hl kk => by
    have h1 := P.1.cell hs (by omega)
    rw [k_ent_q hs ht1 ht2] at h1
    have hE := Cx.2.2.2.2.2.2.1
    refine va_WaastN (C := E) Cx.1 Cx.2.1 h1 ((hE.1.2 t _ ht).1 n (fun j => va_rf ((zr μ a j).map (ad D)))) (fun q => by cases q) (by show ¬ (i < 0 ∨ (arrV _ _ _).slots.size ≤ _); rw [arrV_size]; exact hin) rfl rfl d fun H1 e z oq => ?_
    refine kk H1 _ cells slots ls (P.put (μ1 := wr μ a i.toNatClampNeg none) rfl rfl (P.1.set (μ1 := wr μ a i.toNatClampNeg none) rfl (fun _ => rfl) (fun _ h => k_ent_wr h) (P.1.lt hs (by omega)) ?_ z oq) z oq) hl
    rw [k_ent_q (show zs (wr μ a i.toNatClampNeg none) a = (t, n) from hs) ht1 ht2]
    show H1[ad D a]? = some (vp_cell _ _)
    rw [e, vp_cell_q, vp_cell_q, arrV_store, k_updr]
    rfl
theorem G_aastN {t : Nat} {i : Int32} {E : String} (hs : F.2.1 a = (t, n)) (ht1 : 3 < t) (ht2 : t < 10) (ht : (k_tys D)[t]? = some (dA D t, .object E)) (hin : vp_in i n) (d : decode (mC M) pc = .ok (.aastore, 1)) (kk : ∀ F1, F1 = fwr F a (ix i) none → V D M f Q (pc + 1) l st (F1, h, g)) : V D M f Q pc l (.null :: .int i :: .ref (ad D a) :: st) (F, h, g) := V_aastN hs ht1 ht2 ht hin d (kk _ rfl)
theorem G_aastE {t ci : Nat} {i : Int32} (hs : F.2.1 a = (t, n)) (ht1 : 3 < t) (ht2 : t < 10) (ht : (k_tys D)[t]? = some (dA D t, .object "StrictProofs$Expression")) (hin : vp_in i n) (hb : isE F b ci) (d : decode (mC M) pc = .ok (.aastore, 1)) (kk : ∀ F1, F1 = fwr F a (ix i) (some b) → V D M f Q (pc + 1) l st (F1, h, g)) : V D M f Q pc l (.ref (ad D b) :: .int i :: .ref (ad D a) :: st) (F, h, g) := by
  obtain ⟨hb, h1, h2⟩ := hb
  rcases isE.cases h1 h2 with rfl | rfl | rfl | rfl | rfl | rfl | rfl | rfl | rfl
  · exact G_aast (cb := 9) hs ht1 ht2 ht hin hb (by decide) rfl (k_asgC rfl q2025) d kk
  · exact G_aast (cb := 10) hs ht1 ht2 ht hin hb (by decide) rfl (k_asgC rfl q2026) d kk
  · exact G_aast (cb := 11) hs ht1 ht2 ht hin hb (by decide) rfl (k_asgC rfl q2027) d kk
  · exact G_aast (cb := 12) hs ht1 ht2 ht hin hb (by decide) rfl (k_asgC rfl q2028) d kk
  · exact G_aast (cb := 13) hs ht1 ht2 ht hin hb (by decide) rfl (k_asgC rfl q2029) d kk
  · exact G_aast (cb := 14) hs ht1 ht2 ht hin hb (by decide) rfl (k_asgC rfl q2030) d kk
  · exact G_aast (cb := 15) hs ht1 ht2 ht hin hb (by decide) rfl (k_asgC rfl q2031) d kk
  · exact G_aast (cb := 16) hs ht1 ht2 ht hin hb (by decide) rfl (k_asgC rfl q2032) d kk
  · exact G_aast (cb := 17) hs ht1 ht2 ht hin hb (by decide) rfl (k_asgC rfl q2033) d kk
end CR
theorem k_df0 : ∀ j, j < 14 → defaultValue (k_ty 0 j) = (match k_kd (k_ty 0 j) with | 0 => .int 0 | 1 => .long 0 | _ => .null) := by decide +kernel
theorem k_df1 : ∀ j, j < 11 → defaultValue (k_ty 1 j) = (match k_kd (k_ty 1 j) with | 0 => .int 0 | 1 => .long 0 | _ => .null) := by decide +kernel
theorem k_df2 : ∀ j, j < 5 → defaultValue (k_ty 2 j) = (match k_kd (k_ty 2 j) with | 0 => .int 0 | 1 => .long 0 | _ => .null) := by decide +kernel
theorem k_df3 : ∀ j, j < 6 → defaultValue (k_ty 3 j) = (match k_kd (k_ty 3 j) with | 0 => .int 0 | 1 => .long 0 | _ => .null) := by decide +kernel
theorem k_df4 : ∀ j, j < 3 → defaultValue (k_ty 4 j) = (match k_kd (k_ty 4 j) with | 0 => .int 0 | 1 => .long 0 | _ => .null) := by decide +kernel
theorem k_df5 : ∀ j, j < 2 → defaultValue (k_ty 5 j) = (match k_kd (k_ty 5 j) with | 0 => .int 0 | 1 => .long 0 | _ => .null) := by decide +kernel
theorem k_df6 : ∀ j, j < 23 → defaultValue (k_ty 6 j) = (match k_kd (k_ty 6 j) with | 0 => .int 0 | 1 => .long 0 | _ => .null) := by decide +kernel
theorem k_df7 : ∀ j, j < 83 → defaultValue (k_ty 7 j) = (match k_kd (k_ty 7 j) with | 0 => .int 0 | 1 => .long 0 | _ => .null) := by decide +kernel
theorem k_df8 : ∀ j, j < 9 → defaultValue (k_ty 8 j) = (match k_kd (k_ty 8 j) with | 0 => .int 0 | 1 => .long 0 | _ => .null) := by decide +kernel
theorem k_df9 : ∀ j, j < 5 → defaultValue (k_ty 9 j) = (match k_kd (k_ty 9 j) with | 0 => .int 0 | 1 => .long 0 | _ => .null) := by decide +kernel
theorem k_df10 : ∀ j, j < 5 → defaultValue (k_ty 10 j) = (match k_kd (k_ty 10 j) with | 0 => .int 0 | 1 => .long 0 | _ => .null) := by decide +kernel
theorem k_df11 : ∀ j, j < 5 → defaultValue (k_ty 11 j) = (match k_kd (k_ty 11 j) with | 0 => .int 0 | 1 => .long 0 | _ => .null) := by decide +kernel
theorem k_df12 : ∀ j, j < 3 → defaultValue (k_ty 12 j) = (match k_kd (k_ty 12 j) with | 0 => .int 0 | 1 => .long 0 | _ => .null) := by decide +kernel
theorem k_df13 : ∀ j, j < 2 → defaultValue (k_ty 13 j) = (match k_kd (k_ty 13 j) with | 0 => .int 0 | 1 => .long 0 | _ => .null) := by decide +kernel
theorem k_df14 : ∀ j, j < 4 → defaultValue (k_ty 14 j) = (match k_kd (k_ty 14 j) with | 0 => .int 0 | 1 => .long 0 | _ => .null) := by decide +kernel
theorem k_df15 : ∀ j, j < 5 → defaultValue (k_ty 15 j) = (match k_kd (k_ty 15 j) with | 0 => .int 0 | 1 => .long 0 | _ => .null) := by decide +kernel
theorem k_df16 : ∀ j, j < 3 → defaultValue (k_ty 16 j) = (match k_kd (k_ty 16 j) with | 0 => .int 0 | 1 => .long 0 | _ => .null) := by decide +kernel
theorem k_df17 : ∀ j, j < 5 → defaultValue (k_ty 17 j) = (match k_kd (k_ty 17 j) with | 0 => .int 0 | 1 => .long 0 | _ => .null) := by decide +kernel
section CU
variable {D : DE} {M : MI} {f : Nat} {Q : Out → Mem → Prop} {pc : Nat} {l : List (Nat × Value)} {st : List Value} {F : Frm} {h : HI} {g : HL} {a ci n idx N : Nat} {C ref : String} {T : u_T}
/-- a field that a class above declares, named by the class itself -/
theorem H_getiU (ck : k_CK ci C T N) (k : Nat) (hk : k < N) (hs : F.2.1 a = (10 + ci, n)) (h99 : ci ≠ 89) (hkd : k_kd (k_ty ci k) = 0) (q : Cond.fieldLink (mN M).cls idx ref (T k).2.1 (T k).2.2.1 ∈ lw_all) (qs : Cond.sameField ref (T k).1 (T k).2.1 (T k).2.2.1 ∈ lw_all) (d : decode (mC M) pc = .ok (.getfield idx, 3)) (kk : V D M f Q (pc + 3) l (.int (h a k) :: st) (F, h, g)) : V D M f Q pc l (.ref (ad D a) :: st) (F, h, g) :=
  V.step (Nat.le_refl _) (Nat.le_refl _) kk fun μ' p la e R s m args below meth c H locs cells slots ls Qf _ _ Cx P hl kk => by
    have hs' : zs (F, h, g) a = (10 + ci, n) := hs
    have h1 := P.1.cell hs' (by omega)
    rw [k_ent_obj hs'] at h1
    refine va_get (v := .int (h a k)) Cx.1 Cx.2.1 Cx.2.2.2.2.2.1 ck.2.1 Cx.2.2.2.2.1 Cx.2.2.2.2.2.2.1.1 (k_P1 h1) 0 rfl ck.1 k hk (Cx.2.2.2.2.2.1 _ q) (u_same (Cx.2.2.2.2.2.1 _ qs)) ?_ d (kk H locs cells slots ls P hl)
    rw [k_fs_at ck.1 hk]
    simp [k_fv, hkd, zi]
theorem H_putiU {x : Int32} (ck : k_CK ci C T N) (k : Nat) (hk : k < N) (hs : F.2.1 a = (10 + ci, n)) (h99 : ci ≠ 89) (hkd : k_ty ci k = .int) (hfin : (T k).2.2.2 = false) (q : Cond.fieldLink (mN M).cls idx ref (T k).2.1 (T k).2.2.1 ∈ lw_all) (qs : Cond.sameField ref (T k).1 (T k).2.1 (T k).2.2.1 ∈ lw_all) (d : decode (mC M) pc = .ok (.putfield idx, 3)) (kk : ∀ h1, h1 = up2 h a k x → V D M f Q (pc + 3) l st (F, h1, g)) : V D M f Q pc l (.int x :: .ref (ad D a) :: st) (F, h, g) :=
  V.step (μ1 := wi (F, h, g) a k x) (Nat.le_refl _) (Nat.le_refl _) (kk _ rfl : V D M f Q (pc + 3) l st (F, up2 h a k x, g)) fun μ' p la e R s m args below meth c H locs cells slots ls Qf _ _ Cx P hl kk => by
    have hs' : zs (F, h, g) a = (10 + ci, n) := hs
    have h1 := P.1.cell hs' (by omega)
    rw [k_ent_obj hs'] at h1
    obtain ⟨r, h1, cell, q1, q2, q3, q4⟩ := h1
    have hr : r = (C, T, N) := Option.some.inj (h1.symm.trans ck.1)
    subst hr
    obtain ⟨hS, hfc, kC, hkC, hkind⟩ := Cx.2.2.2.2.2.2.1.1.1 ci _ ck.1
    obtain ⟨cf, kf, fi, fd, hi, hsl⟩ := hS k hk
    have hlay := Cx.2.2.2.2.2.1 _ (ck.2.1 _ (u_in_lay hk))
    unfold u_lay at hlay
    rw [if_neg (by rw [hfin]; decide)] at hlay
    have hst := (u_facts hfc hkC (u_lays Cx.2.2.2.2.2.1 ck.2.1 hk) hi).1
    have h6 := u_store hfc hkC hkind hlay hi (ck.2.2.1 k hk) (v := .int x) (by rw [hkd]; rfl) (by rw [hkd]; rfl)
    refine W.putK Cx.1 Cx.2.1 (f := fd) ⟨Cx.2.2.2.2.1, Cx.2.2.2.2.2.1 _ q, ⟨_, _, _, u_same (Cx.2.2.2.2.2.1 _ qs) _ hi⟩, hst⟩ (by rw [q2]; exact h6) q1 q3 (by rw [hsl]; exact k2_hasslot (q4 k hk)) rfl rfl d fun H1 g1 z oq => ?_
    rw [hsl] at g1 ⊢
    exact kk H1 _ cells slots ls (P.put (μ1 := wi (F, h, g) a k x) rfl rfl (k_putAt (μ1 := wi (F, h, g) a k x) (v := .int x) ck hk Cx.2.2.2.2.2.2.1 Cx.2.2.2.2.2.1 P.1 hs' h99 rfl (fun _ => rfl) (fun _ h => k_ent_wi h) (fun j _ => k_fv_wi (by rw [hkd]; rfl) j) q2 q3 q4 g1 z oq) z oq) hl
end CU
