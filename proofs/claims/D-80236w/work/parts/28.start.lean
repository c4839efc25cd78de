/-! THE LAW'S ENTRY (printed by gen/mkstart.py): the environment out of the Statement's premises; the claim out of one V of the law -/
set_option maxRecDepth 100000
def st_tm (i : Nat) : Term := .string "StrictProofs$Text" ([81, 68, 31].getD i 0)
def st_f : List Cond := flatC (Jvm.Cond.and given_1 narrow_1)
def st_v (i : Nat) : Term := .field (st_tm i) "java/lang/String" "value" "[B"
def st_z : Term := .static "StrictProofs" "SIZES" "[I"
theorem st_ex : ∀ i, i < 3 → Cond.exactly (st_tm i) "java/lang/String" ∈ st_f := by decide +kernel
theorem st_co : ∀ i, i < 3 → Cond.eq (.field (st_tm i) "java/lang/String" "coder" "B") (.int 0) ∈ st_f := by decide +kernel
theorem st_ar : ∀ i, i < 3 → Cond.arrayOf (st_v i) .byte ∈ st_f := by decide +kernel
theorem st_le : ∀ i, i < 3 → Cond.eq (.length (st_v i)) (.int (Int32.ofNat (k_slen.getD i 0))) ∈ st_f := by decide +kernel
theorem st_el : ∀ i, i < 3 → ∀ j, j < k_slen.getD i 0 → Cond.eq (.elem (st_v i) (.int (Int32.ofNat j))) (.int ((k_sbyt.getD i []).getD j 0)) ∈ st_f := by decide +kernel
theorem st_ne : ∀ i, i < 3 → ∀ j, j < 3 → i ≠ j → (Cond.not (Cond.eq (st_tm i) (st_tm j)) ∈ st_f ∨ Cond.not (Cond.eq (st_tm j) (st_tm i)) ∈ st_f) := by decide +kernel
theorem st_sz : ∀ j, j < 5 → Cond.eq (.elem st_z (.int (Int32.ofNat j))) (.int (k_sizes j)) ∈ st_f := by decide +kernel
theorem st_sa : Cond.arrayOf st_z .int ∈ st_f := by decide +kernel
theorem st_sl : Cond.eq (.length st_z) (.int (Int32.ofNat 5)) ∈ st_f := by decide +kernel
theorem st_cs : Cond.eq (.static "java/lang/String" "COMPACT_STRINGS" "Z") (.int 1) ∈ st_f := by decide +kernel
theorem st_sf : Cond.isRef (.static "jdk/internal/util/Preconditions" "SIOOBE_FORMATTER" "Ljava/util/function/BiFunction;") ∈ st_f := by decide +kernel
theorem st_us : Cond.isRef (.static "java/lang/Throwable" "UNASSIGNED_STACK" "[Ljava/lang/StackTraceElement;") ∈ st_f := by decide +kernel
theorem st_ss : Cond.isRef (.static "java/lang/Throwable" "SUPPRESSED_SENTINEL" "Ljava/util/List;") ∈ st_f := by decide +kernel
theorem st_n1 : Cond.not (.castable RJ3 RJ4) ∈ st_f := by decide +kernel
theorem st_n2 : Cond.not (.castable RJ3 RJ11) ∈ st_f := by decide +kernel
theorem st_n3 : Cond.not (.castable RJ4 RJ3) ∈ st_f := by decide +kernel
theorem st_n4 : Cond.not (.castable RJ4 RJ11) ∈ st_f := by decide +kernel
theorem st_n5 : Cond.not (.castable RJ11 RJ3) ∈ st_f := by decide +kernel
theorem st_n6 : Cond.not (.castable RJ11 RJ4) ∈ st_f := by decide +kernel
theorem st_isRef {v : Value} (h : v.isRef = true) : k_isRef v := by
  cases v <;> first | exact Or.inl rfl | exact Or.inr ⟨_, rfl⟩ | (cases h; done)
theorem st_cl {s : State} {A : Array Value} (hall : ∀ w ∈ lw_all, w.before A s = true) (c : Nat) : ∃ q : ClassId × (Nat → Nat), ∀ r, k_cl[c]? = some r → u_Kn s r.1 r.2.1 r.2.2 q.1 q.2 := by
  match c with
  | 0 =>
    obtain ⟨cC, iS, hK⟩ := u_known (C := RX1) (T := TX1) (N := 14) hall in_X1 (hall _ q115)
    exact ⟨(cC, iS), fun r h => by cases h; exact hK⟩
  | 1 =>
    obtain ⟨cC, iS, hK⟩ := u_known (C := RX2) (T := TX2) (N := 11) hall in_X2 (hall _ q123)
    exact ⟨(cC, iS), fun r h => by cases h; exact hK⟩
  | 2 =>
    obtain ⟨cC, iS, hK⟩ := u_known (C := RX3) (T := TX3) (N := 5) hall in_X3 (hall _ q173)
    exact ⟨(cC, iS), fun r h => by cases h; exact hK⟩
  | 3 =>
    obtain ⟨cC, iS, hK⟩ := u_known (C := RX4) (T := TX4) (N := 6) hall in_X4 (hall _ q199)
    exact ⟨(cC, iS), fun r h => by cases h; exact hK⟩
  | 4 =>
    obtain ⟨cC, iS, hK⟩ := u_known (C := RX5) (T := TX5) (N := 3) hall in_X5 (hall _ q227)
    exact ⟨(cC, iS), fun r h => by cases h; exact hK⟩
  | 5 =>
    obtain ⟨cC, iS, hK⟩ := u_known (C := RX6) (T := TX6) (N := 2) hall in_X6 (hall _ q234)
    exact ⟨(cC, iS), fun r h => by cases h; exact hK⟩
  | 6 =>
    obtain ⟨cC, iS, hK⟩ := u_known (C := RX7) (T := TX7) (N := 23) hall in_X7 (hall _ q267)
    exact ⟨(cC, iS), fun r h => by cases h; exact hK⟩
  | 7 =>
    obtain ⟨cC, iS, hK⟩ := u_known (C := RX8) (T := TX8) (N := 83) hall in_X8 (hall _ q1453)
    exact ⟨(cC, iS), fun r h => by cases h; exact hK⟩
  | 8 =>
    obtain ⟨cC, iS, hK⟩ := u_known (C := RX9) (T := TX9) (N := 9) hall in_X9 (hall _ q655)
    exact ⟨(cC, iS), fun r h => by cases h; exact hK⟩
  | 9 =>
    obtain ⟨cC, iS, hK⟩ := u_known (C := RX11) (T := TX11) (N := 5) hall in_X11 (hall _ q776)
    exact ⟨(cC, iS), fun r h => by cases h; exact hK⟩
  | 10 =>
    obtain ⟨cC, iS, hK⟩ := u_known (C := RX12) (T := TX12) (N := 5) hall in_X12 (hall _ q816)
    exact ⟨(cC, iS), fun r h => by cases h; exact hK⟩
  | 11 =>
    obtain ⟨cC, iS, hK⟩ := u_known (C := RX13) (T := TX13) (N := 5) hall in_X13 (hall _ q838)
    exact ⟨(cC, iS), fun r h => by cases h; exact hK⟩
  | 12 =>
    obtain ⟨cC, iS, hK⟩ := u_known (C := RX14) (T := TX14) (N := 3) hall in_X14 (hall _ q872)
    exact ⟨(cC, iS), fun r h => by cases h; exact hK⟩
  | 13 =>
    obtain ⟨cC, iS, hK⟩ := u_known (C := RX15) (T := TX15) (N := 2) hall in_X15 (hall _ q884)
    exact ⟨(cC, iS), fun r h => by cases h; exact hK⟩
  | 14 =>
    obtain ⟨cC, iS, hK⟩ := u_known (C := RX16) (T := TX16) (N := 4) hall in_X16 (hall _ q897)
    exact ⟨(cC, iS), fun r h => by cases h; exact hK⟩
  | 15 =>
    obtain ⟨cC, iS, hK⟩ := u_known (C := RX17) (T := TX17) (N := 5) hall in_X17 (hall _ q916)
    exact ⟨(cC, iS), fun r h => by cases h; exact hK⟩
  | 16 =>
    obtain ⟨cC, iS, hK⟩ := u_known (C := RX18) (T := TX18) (N := 3) hall in_X18 (hall _ q941)
    exact ⟨(cC, iS), fun r h => by cases h; exact hK⟩
  | 17 =>
    obtain ⟨cC, iS, hK⟩ := u_known (C := RX19) (T := TX19) (N := 5) hall in_X19 (hall _ q953)
    exact ⟨(cC, iS), fun r h => by cases h; exact hK⟩
  | 18 =>
    obtain ⟨cC, iS, hK⟩ := u_known (C := RJ3) (T := TJ3) (N := 0) hall (fun w hw => by cases hw) (hall _ q579)
    exact ⟨(cC, iS), fun r h => by cases h; exact hK⟩
  | 19 =>
    obtain ⟨cC, iS, hK⟩ := u_known (C := RJ4) (T := TJ4) (N := 0) hall (fun w hw => by cases hw) (hall _ q1094)
    exact ⟨(cC, iS), fun r h => by cases h; exact hK⟩
  | 20 =>
    obtain ⟨cC, iS, hK⟩ := u_known (C := RJ11) (T := TJ11) (N := 0) hall (fun w hw => by cases hw) (hall _ q1147)
    exact ⟨(cC, iS), fun r h => by cases h; exact hK⟩
  | n + 21 => exact ⟨(0, fun _ => 0), fun r h => by cases h⟩
def st_ty (t : Nat) : FieldType := match t with
  | 0 => .int
  | 1 => .byte
  | 2 => .boolean
  | 3 => .long
  | 4 => .object RX9
  | 5 => .object RX10
  | _ => .object RX6
theorem st_arP {s : State} {A : Array Value} {ty : FieldType} (h : (Cond.arrayClass ty).before A s = true) (hp : ∀ c, s.vm.findClass ("[" ++ ty.toString) = some c → va_RA s c ty) : ∃ cA : ClassId, ArrOfT s cA ty ∧ va_RA s cA ty := by
  obtain ⟨c, k, comp, h1, h2, h3⟩ := Cond.arrayClass_spec h
  exact ⟨c, fun n z => ⟨fun k h => (by cases h), k, h2, comp, h3⟩, hp c h1⟩
theorem st_arO {s : State} {A : Array Value} {C : String} (h : (Cond.arrayOver (.object C)).before A s = true) : ∃ cA : ClassId, ArrOfT s cA (.object C) ∧ va_RA s cA (.object C) := by
  obtain ⟨comp, c, k, h1, -, h2, h3, h4⟩ := Cond.arrayOver_spec h
  exact ⟨c, fun n z => ⟨fun k h => (by cases h), k, h2, comp, h3⟩, k, comp, h2, h3, h1, h4⟩
theorem st_arr {s : State} {A : Array Value} (hts : ∀ w ∈ lw_tbl, w.before A s = true) (hall : ∀ w ∈ lw_all, w.before A s = true) (t : Nat) : ∃ cA : ClassId, ArrOfT s cA (st_ty t) ∧ va_RA s cA (st_ty t) := by
  match t with
  | 0 => exact st_arP (hall _ q171) (fun _ h => h)
  | 1 => exact st_arP (hall _ q170) (fun _ h => h)
  | 2 => exact st_arP (hall _ q370) (fun _ h => h)
  | 3 => exact st_arP (hall _ q1708) (fun _ h => h)
  | 4 => exact st_arO (hts _ q179)
  | 5 => exact st_arO (hts _ q273)
  | n + 6 => exact st_arO (hts _ q233)
theorem st_LS {s : State} {A : Array Value} {D : DE} {C n d : String} (h1 : dB D = s.heap.size) (h2 : dH D = s.heap) (hl : (Cond.laysStatic C n d).before A s = true) (hr : (Cond.isRef (.static C n d)).before A s = true) : k_LS C n d D s := by
  obtain ⟨c, k, i, f, a, cell, hc, hi, hst, ha, hcell, hs, hcls, hlt, hty⟩ := Cond.laysStatic_spec hl
  obtain ⟨v, hv, hvr⟩ := Cond.isRef_spec hr
  obtain ⟨hst', a', cell', ha', hcell', -, hslot⟩ := Term.static_spec hi hv
  cases ha.symm.trans ha'
  cases hcell.symm.trans hcell'
  exact ⟨c, k, i, f, a, cell, hc, hi, hst, ha, by rw [h2]; exact hcell, by rw [h1]; exact (Array.getElem?_eq_some_iff.mp hcell).1, hs, hcls, hlt, hty, v, st_isRef hvr, hslot⟩
theorem k_start {s : State} {b L : Nat} {xs : Nat → Int32} (hts : ∀ w ∈ lw_tbl, w.before #[Value.ref b] s = true) (hX : va_X b L xs s s.heap) (hbl : b < s.heap.size) (hgv : (Jvm.Cond.and given_1 narrow_1).before #[Value.ref b] s = true) : ∃ D : DE, dB D = s.heap.size ∧ dH D = s.heap ∧ dO D 7 = b ∧ dL D = L ∧ dX D = xs ∧ k_Env D s := by
  have hg : ∀ w ∈ st_f, w.before #[Value.ref b] s = true := flat_of_before _ hgv
  have hall : ∀ w ∈ lw_all, w.before #[Value.ref b] s = true := fun w hw => hts w (List.mem_filter.mp hw).1
  have hA : ∀ a : Nat, a < s.heap.size → ¬ (fun q : Nat => s.heap.size ≤ q) a := fun a h => Nat.not_le.mpr h
  obtain ⟨qc, hqc⟩ := Classical.axiomOfChoice (st_cl hall)
  obtain ⟨ca, hca⟩ := Classical.axiomOfChoice (st_arr hts hall)
  obtain ⟨adK, adV, hS, hR⟩ := vk_Sof (A := fun q : Nat => s.heap.size ≤ q) (N := 3) (tm := st_tm) (len := k_slen) (byt := k_sbyt) (by decide) (fun i hi => hg _ (st_ex i hi)) (fun i hi => hg _ (st_co i hi)) (fun i hi => hg _ (st_ar i hi)) (fun i hi => hg _ (st_le i hi)) (fun i hi j hj => hg _ (st_el i hi j hj))
    (fun i j hi hj hij => (st_ne i hi j hj hij).imp (fun h => hg _ h) (fun h => hg _ h)) hA
  obtain ⟨t0, ht0, hT0⟩ := va_Tof (N := 5) (f := fun j => .int (k_sizes j)) (A := fun q : Nat => s.heap.size ≤ q) (by decide) (hg _ st_sa) (va_eqt (hg _ st_sl)) (fun j hj => va_eqt (hg _ (st_sz j hj))) hA
  obtain ⟨v8, hv8, hr8⟩ := Cond.isRef_spec (hg _ st_sf)
  obtain ⟨o8, ho8⟩ : ∃ k : Nat, (match k with | 0 => Value.null | k + 1 => Value.ref k) = v8 := by
    rcases st_isRef hr8 with rfl | ⟨a, rfl⟩
    · exact ⟨0, rfl⟩
    · exact ⟨a + 1, rfl⟩
  obtain ⟨D, hD⟩ : ∃ D : DE, D = ((fun c => (qc c).1, fun c => (qc c).2), ca, s.heap.size, s.heap, (fun i => if i = 0 then t0 else if i < 4 then adK (i - 1) else if i < 7 then adV (i - 4) else if i = 7 then b else o8), L, xs) := ⟨_, rfl⟩
  have eK : ∀ i, i < 3 → dO D (1 + i) = adK i := fun i hi => by
    rw [hD]
    show (if 1 + i = 0 then t0 else if 1 + i < 4 then adK (1 + i - 1) else _) = _
    rw [if_neg (by omega), if_pos (by omega), Nat.add_sub_cancel_left]
  have eV : ∀ i, i < 3 → dO D (4 + i) = adV i := fun i hi => by
    rw [hD]
    show (if 4 + i = 0 then t0 else if 4 + i < 4 then adK (4 + i - 1) else if 4 + i < 7 then adV (4 + i - 4) else _) = _
    rw [if_neg (by omega), if_neg (by omega), if_pos (by omega), Nat.add_sub_cancel_left]
  have e0 : dO D 0 = t0 := by rw [hD]; rfl
  have e7 : dO D 7 = b := by rw [hD]; rfl
  have e8 : k_sio D = v8 := by
    rw [← ho8, hD]
    rfl
  have eB : dB D = s.heap.size := by rw [hD]
  have eH : dH D = s.heap := by rw [hD]
  have eA : k_A D = fun q : Nat => s.heap.size ≤ q := by rw [hD]
  refine ⟨D, eB, eH, e7, by rw [hD], by rw [hD], ⟨?_, ?_⟩, fun w hw hk => ?_, va_AO.of (hts _ q179), va_AO.of (hts _ q273), va_AO.of (hts _ q233), ?_⟩
  · intro c r hc
    have h1 := hqc c r hc
    rw [hD]
    exact h1
  · intro t q hq
    have key : ∀ j, j < 7 → (k_tys D)[j]? = some (ca j, st_ty j) := by
      intro j hj
      rw [hD]
      rcases (show j = 0 ∨ j = 1 ∨ j = 2 ∨ j = 3 ∨ j = 4 ∨ j = 5 ∨ j = 6 by omega) with rfl | rfl | rfl | rfl | rfl | rfl | rfl <;> rfl
    have ht : t < 7 := by
      have := (List.getElem?_eq_some_iff.mp hq).1
      simpa using this
    have h2 := (key t ht).symm.trans hq
    cases h2
    exact hca t
  · cases w <;> first | (simp [k_nwOK] at hk; done) | exact va_Nw.of rfl (hts _ hw)
  · have hvK : vk_S 3 k_slen k_sbyt (fun i => dO D (1 + i)) (fun i => dO D (4 + i)) (k_A D) s (dH D) := by
      rw [eA, eH]
      refine ⟨fun i hi => ?_, fun i j hi hj h => ?_⟩
      · have h1 := hS.1 i hi
        rw [← eK i hi, ← eV i hi] at h1
        exact h1
      · have h1 : dO D (1 + i) = dO D (1 + j) := h
        rw [eK i hi, eK j hj] at h1
        exact hS.2 i j hi hj h1
    refine ⟨by rw [eB, eH], ?_, ?_, hvK, ?_, ?_, ?_, ?_, st_LS eB eH (hts _ q605) (hg _ st_us), st_LS eB eH (hts _ q607) (hg _ st_ss), ?_, by rw [e7, eB]; exact hbl, va_Nc.of (hg _ st_n1), va_Nc.of (hg _ st_n2), va_Nc.of (hg _ st_n3), va_Nc.of (hg _ st_n4), va_Nc.of (hg _ st_n5), va_Nc.of (hg _ st_n6), ?_⟩
    · rw [e0, eA, eH]; exact va_Zof (hts _ q1165) (hall _ q81) ht0 hA
    · rw [e0, eA, eH]; exact hT0
    · rw [show dO D 1 = adK 0 from eK 0 (by decide)]; exact vk_R.of (hts _ q457) (hR 0 (by decide))
    · rw [show dO D 2 = adK 1 from eK 1 (by decide)]; exact vk_R.of (hts _ q506) (hR 1 (by decide))
    · rw [show dO D 3 = adK 2 from eK 2 (by decide)]; exact vk_R.of (hts _ q620) (hR 2 (by decide))
    · rw [eA, eH]; exact va_Zof (hts _ q467) (hall _ q95) (va_eqt (hg _ st_cs)) hA
    · rw [e7, eH, show dL D = L by rw [hD], show dX D = xs by rw [hD]]; exact hX
    · rw [e8, eA, eH]; exact va_Zof (hts _ q483) (hall _ q97) hv8 hA
