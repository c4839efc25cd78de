/-! RUNS, 2: things, by both -/
theorem sC.tag {G : PG} {k0 nf x : Nat} {F : Frm} {h : HI} (H : sC G k0 nf F h) (hw : nWF G k0 nf x) (hx : G 17 x = 1) : ∃ τ, F.2.1 (G 5 x) = (τ, 0) ∧ 19 ≤ τ ∧ τ ≤ 27 ∧ (¬ G 0 x = 7 → ¬ τ = 26) := by
  obtain ⟨-, -, b1, b2, b3, b4, b5, b6, b7, b8, b9⟩ := H.2 x hx
  have h1 : G 0 x = 1 ∨ G 0 x = 2 ∨ G 0 x = 3 ∨ G 0 x = 4 ∨ G 0 x = 5 ∨ G 0 x = 6 ∨ G 0 x = 7 ∨ G 0 x = 8 ∨ G 0 x = 9 := by
    obtain ⟨-, -, -, -, q1, q2, -⟩ := hw; omega
  rcases h1 with e | e | e | e | e | e | e | e | e
  · exact ⟨27, (b1 e).1, by decide, by decide, fun _ => by decide⟩
  · exact ⟨21, (b2 e).1, by decide, by decide, fun _ => by decide⟩
  · exact ⟨19, (b3 e).1, by decide, by decide, fun _ => by decide⟩
  · exact ⟨20, (b4 e).1, by decide, by decide, fun _ => by decide⟩
  · exact ⟨22, (b5 e).1, by decide, by decide, fun _ => by decide⟩
  · exact ⟨23, (b6 e), by decide, by decide, fun _ => by decide⟩
  · exact ⟨26, (b7 e).1, by decide, by decide, fun q => absurd e q⟩
  · exact ⟨25, (b8 e).1, by decide, by decide, fun _ => by decide⟩
  · exact ⟨24, (b9 e).1, by decide, by decide, fun _ => by decide⟩
theorem alone_no {N R τ : Nat} {F : Frm} {a : Nat} {h : HI} {g : HL} (h1 : 19 ≤ τ) (h2 : τ ≤ 27) (h3 : ¬ τ = 26) : pv_alone N R (τ - 10) F a h g = some (-1, h, g) := by
  have : τ = 19 ∨ τ = 20 ∨ τ = 21 ∨ τ = 22 ∨ τ = 23 ∨ τ = 24 ∨ τ = 25 ∨ τ = 27 := by omega
  rcases this with e | e | e | e | e | e | e | e <;> subst e <;> rfl
theorem ne1_lt : (-1 : Int32) < 0 := by decide
/-- what making a thing may change -/
def frT (F : Frm) (h m : HI) (F' : Frm) (h' m' : HI) : Prop := F'.1 = F.1 ∧ F'.2.1 = F.2.1 ∧ (∀ a k, a ≠ 102 → F'.2.2 a k = F.2.2 a k) ∧ (∀ a k, a ≠ 103 → a ≠ 104 → ¬ (a = 101 ∧ (k = 4 ∨ k = 16)) → h' a k = h a k) ∧ ∀ a k, ¬ (148 ≤ a ∧ a ≤ 150) → a ≠ 153 → ¬ (a = 115 ∧ (k = 67 ∨ k = 74)) → m' a k = m a k
theorem frT.refl (F : Frm) (h m : HI) : frT F h m F h m := ⟨rfl, rfl, fun _ _ _ => rfl, fun _ _ _ _ _ => rfl, fun _ _ _ _ _ => rfl⟩
theorem frT.C {F F' : Frm} {h m h' m' : HI} (e : frT F h m F' h' m') : frC F h F' h' := ⟨⟨e.1, e.2.2.2.1 101 19 (by decide) (by decide) (by decide), fun k _ => e.2.2.2.1 108 k (by decide) (by decide) (by omega), e.2.2.2.1 101 18 (by decide) (by decide) (by decide), e.2.2.2.1 101 17 (by decide) (by decide) (by decide)⟩, e.2.1, e.2.2.1, fun a k q => e.2.2.2.1 a k (by omega) (by omega) (by omega)⟩
theorem frT.M {F F' : Frm} {h m h' m' : HI} (e : frT F h m F' h' m') : frM m m' := fun a k q1 q2 q3 q4 q5 => e.2.2.2.2 a k (by omega) (by omega) (by omega)
theorem mt_alone {N x e s j I : Nat} {m : HI} {g : HL} (d7 : m 115 74 = nI 0) (n1 : m 124 x = nI 7) (n2 : m 125 x = nI s) (hx : x < 2002) (hl : 16 * e + s < 24032) (j3 : m 156 (16 * e + s) = nI (th I j)) : pX8_thing N (nI x) (nI e) m g = some (nI (th I j), m, g) := by
  show pX8_thing_0 N (nI x) (nI e) m g = _
  rw [pX8_thing_0]
  simp (disch := omega) only [q_lit, q_le, q_lt, q_inj, q_add, q_mul, q_sub, q_div, q_vin, q_ix, gd_true, ↓bnd_eq, ↓ob1_some, ↓obv_some, ↓obi_some, ↓obl_some, ↓obr_some, ↓ogv_l, ↓ogi_l, ↓ogr_l, ↓ogv_r, ↓ogi_r, ↓ogr_r, up2_at, decide_true, decide_eq_true_eq, ite_true, ite_false, if_true, if_false, ↓reduceIte, Nat.reduceEqDiff, Nat.reduceLeDiff, Nat.reduceLT, Nat.reduceAdd, Nat.reduceSub, Nat.reduceMul, not_true_eq_false, not_false_eq_true, true_and, and_true, false_and, and_false, or_true, true_or, or_false, false_or, d7, n1, n2, hx, hl, j3]
theorem mt_full {N x e k : Nat} {m : HI} {g : HL} (d7 : m 115 74 = nI 0) (n1 : m 124 x = nI k) (hk : k ≤ 9) (k7 : ¬ k = 7) (hx : x < 2002) (d1 : m 115 67 = nI 1500) : pX8_thing N (nI x) (nI e) m g = some (0, up2 m 115 74 (nI 5), g) := by
  show pX8_thing_0 N (nI x) (nI e) m g = _
  rw [pX8_thing_0]
  simp (disch := omega) only [q_lit, q_le, q_lt, q_inj, q_add, q_mul, q_sub, q_div, q_vin, q_ix, gd_true, ↓bnd_eq, ↓ob1_some, ↓obv_some, ↓obi_some, ↓obl_some, ↓obr_some, ↓ogv_l, ↓ogi_l, ↓ogr_l, ↓ogv_r, ↓ogi_r, ↓ogr_r, up2_at, decide_true, decide_eq_true_eq, ite_true, ite_false, if_true, if_false, ↓reduceIte, Nat.reduceEqDiff, Nat.reduceLeDiff, Nat.reduceLT, Nat.reduceAdd, Nat.reduceSub, Nat.reduceMul, not_true_eq_false, not_false_eq_true, true_and, and_true, false_and, and_false, or_true, true_or, or_false, false_or, d7, n1, k7, hx, d1]
theorem mt_put {N x e k t : Nat} {m : HI} {g : HL} (d7 : m 115 74 = nI 0) (n1 : m 124 x = nI k) (hk : k ≤ 9) (k7 : ¬ k = 7) (hx : x < 2002) (d1 : m 115 67 = nI t) (ht : t < 1500) : pX8_thing N (nI x) (nI e) m g = some (nI (40 + t), up2 (up2 (up2 (up2 (up2 m 115 67 (nI (t + 1))) 148 (40 + t) (nI x)) 149 (40 + t) (nI e)) 150 (40 + t) (nI 0)) 153 (40 + t) (nI 0), g) := by
  show pX8_thing_0 N (nI x) (nI e) m g = _
  rw [pX8_thing_0]
  have hl : 40 + t < 1540 := by omega
  have full : ¬ t = 1500 := by omega
  simp (disch := omega) only [q_lit, q_le, q_lt, q_inj, q_add, q_mul, q_sub, q_div, q_vin, q_ix, gd_true, ↓bnd_eq, ↓ob1_some, ↓obv_some, ↓obi_some, ↓obl_some, ↓obr_some, ↓ogv_l, ↓ogi_l, ↓ogr_l, ↓ogv_r, ↓ogi_r, ↓ogr_r, up2_at, decide_true, decide_eq_true_eq, ite_true, ite_false, if_true, if_false, ↓reduceIte, Nat.reduceEqDiff, Nat.reduceLeDiff, Nat.reduceLT, Nat.reduceAdd, Nat.reduceSub, Nat.reduceMul, not_true_eq_false, not_false_eq_true, true_and, and_true, false_and, and_false, or_true, true_or, or_false, false_or, d7, n1, k7, hx, d1, full, hl]
theorem ct_alone {N R a e s j : Nat} {F : Frm} {h : HI} {g : HL} (o1 : F.2.1 a = (26, 0)) (o2 : h a 2 = nI s) (hl : 16 * e + s < 24016) (j2 : h 108 (16 * e + s) = nI j) : ppX7_thing N R F a (nI (16 * e)) h g = some (.inl (nI j, F, h, g)) := by
  have hB := isEb_t o1 (by decide) (by decide)
  show pX7_thing_0 N R F a (nI (16 * e)) h g = _
  rw [pX7_thing_0, hB, o1]
  simp (disch := omega) only [q_lit, q_le, q_lt, q_inj, q_add, q_mul, q_sub, q_div, q_vin, q_ix, gd_true, ↓bnd_eq, ↓ob1_some, ↓obv_some, ↓obi_some, ↓obl_some, ↓obr_some, ↓ogv_l, ↓ogi_l, ↓ogr_l, ↓ogv_r, ↓ogi_r, ↓ogr_r, up2_at, decide_true, decide_eq_true_eq, ite_true, ite_false, if_true, if_false, ↓reduceIte, Nat.reduceEqDiff, Nat.reduceLeDiff, Nat.reduceLT, Nat.reduceAdd, Nat.reduceSub, Nat.reduceMul, not_true_eq_false, not_false_eq_true, true_and, and_true, false_and, and_false, or_true, true_or, or_false, false_or, pv_alone, pX18_alone_0, o1, o2, hl, j2, Nat.not_lt_zero]
theorem ct_full {N R a τ I : Nat} {x2 : Int32} {F : Frm} {h : HI} {g : HL} (t1 : F.2.1 a = (τ, 0)) (t2 : 19 ≤ τ) (t3 : τ ≤ 27) (t5 : ¬ τ = 26) (c9 : h 101 16 = nI 0) (c1 : h 101 4 = nI (I + 1500)) (c4 : h 101 10 = nI I) (hI : I ≤ 40) : ppX7_thing N R F a x2 h g = some (.inl (0, F, up2 h 101 16 (nI 5), g)) := by
  have hB := isEb_t t1 t2 t3
  show pX7_thing_0 N R F a x2 h g = _
  rw [pX7_thing_0, hB, t1]
  dsimp only
  rw [gd_true, bnd_eq, alone_no t2 t3 t5, obi_some]
  rw [if_pos ne1_lt]
  simp (disch := omega) only [q_lit, q_le, q_lt, q_inj, q_add, q_mul, q_sub, q_div, q_vin, q_ix, gd_true, ↓bnd_eq, ↓ob1_some, ↓obv_some, ↓obi_some, ↓obl_some, ↓obr_some, ↓ogv_l, ↓ogi_l, ↓ogr_l, ↓ogv_r, ↓ogi_r, ↓ogr_r, up2_at, decide_true, decide_eq_true_eq, ite_true, ite_false, if_true, if_false, ↓reduceIte, Nat.reduceEqDiff, Nat.reduceLeDiff, Nat.reduceLT, Nat.reduceAdd, Nat.reduceSub, Nat.reduceMul, not_true_eq_false, not_false_eq_true, true_and, and_true, false_and, and_false, or_true, true_or, or_false, false_or, c9, c1, c4, pX7_thing_41, pX7_ends_0, show I + 1500 - I = 1500 by omega]
theorem i8_0 : (nI 0).toInt8.toInt32.toInt8.toInt32 = nI 0 := by decide
theorem ct_put {N R a τ I t : Nat} {x2 : Int32} {F : Frm} {h : HI} {g : HL} (t1 : F.2.1 a = (τ, 0)) (t2 : 19 ≤ τ) (t3 : τ ≤ 27) (t5 : ¬ τ = 26) (c9 : h 101 16 = nI 0) (c1 : h 101 4 = nI (I + t)) (c4 : h 101 10 = nI I) (hI : I ≤ 40) (ht : t < 1500) : ppX7_thing N R F a x2 h g = some (.inl (nI (I + t), fwr F 102 (I + t) (some a), up2 (up2 (up2 h 103 (I + t) x2) 104 (I + t) (nI 0)) 101 4 (nI (I + t + 1)), g)) := by
  have hB := isEb_t t1 t2 t3
  show pX7_thing_0 N R F a x2 h g = _
  rw [pX7_thing_0, hB, t1]
  dsimp only
  rw [gd_true, bnd_eq, alone_no t2 t3 t5, obi_some]
  rw [if_pos ne1_lt]
  have hl : I + t < 1540 := by omega
  have full : ¬ t = 1500 := by omega
  simp (disch := omega) only [q_lit, q_le, q_lt, q_inj, q_add, q_mul, q_sub, q_div, q_vin, q_ix, gd_true, ↓bnd_eq, ↓ob1_some, ↓obv_some, ↓obi_some, ↓obl_some, ↓obr_some, ↓ogv_l, ↓ogi_l, ↓ogr_l, ↓ogv_r, ↓ogi_r, ↓ogr_r, up2_at, decide_true, decide_eq_true_eq, ite_true, ite_false, if_true, if_false, ↓reduceIte, Nat.reduceEqDiff, Nat.reduceLeDiff, Nat.reduceLT, Nat.reduceAdd, Nat.reduceSub, Nat.reduceMul, not_true_eq_false, not_false_eq_true, true_and, and_true, false_and, and_false, or_true, true_or, or_false, false_or, c9, c1, c4, pX7_put_0, hB, hl, i8_0, show I + t - I = t by omega, full, show I + t + 1 - 1 = I + t by omega]
theorem x_thing {G W : PG} {k0 nf I IP t p pc cl s dd lim x e : Nat} {F : Frm} {h m : HI} (hP : pWF G k0 nf) (hM : sM G k0 nf m) (hC : sC G k0 nf F h) (H : RC G W I IP t p cl F h m) (hc : CT I IP t pc cl s dd 0 lim h m) (he : eok G W cl x e) :
    ∃ yC yM F' h' m' W' t' en, (∀ N R g, ppX7_thing N R F (G 5 x) (nI (16 * e)) h g = some (.inl (yC, F', h', g))) ∧ (∀ N g, pX8_thing N (nI x) (nI e) m g = some (yM, m', g)) ∧
      frT F h m F' h' m' ∧ CT I IP t' pc cl s dd en lim h' m' ∧ t ≤ t' ∧ ext W W' I IP t p cl ∧ RC G W' I IP t' p cl F' h' m' ∧ (en = 0 ∨ en = 5) ∧ (en = 0 → ∃ j, j < I + t' ∧ yC = nI j ∧ yM = nI (th I j) ∧ W' 1 j = G 4 x) := by
  have hw := hP.2.2.2 x he.1
  have hx := hw.x
  obtain ⟨c1, c2, c3, c4, c5, c6, c7, c8, c9, d1, d2, d3, d4, d5, d6, d7, d8, d9, f1, f2⟩ := id hc
  obtain ⟨⟨hI, hIP, ht, hp, hcl, hW, hV⟩, H1, H2, H3⟩ := id H
  obtain ⟨n1, n2, n3, n4, n5, n6⟩ := hM.2 x he.1
  obtain ⟨τ, t1, t2, t3, t4⟩ := hC.tag hw he.1
  have hB := isEb_t t1 t2 t3
  by_cases k7 : G 0 x = 7
  · obtain ⟨-, -, -, -, -, -, -, -, -, -, -, -, -, -, -, w7, -⟩ := id hw
    obtain ⟨w1, w2, w3⟩ := w7 k7
    obtain ⟨-, -, -, -, -, -, -, -, o7, -⟩ := hC.2 x he.1
    obtain ⟨o1, o2⟩ := o7 k7
    obtain ⟨j, j1, j2, j3, j4⟩ := H3 e he.2.1 (G 1 x) w1 (he.2.2.2 _ w1 w2)
    have he2 := he.2.1
    refine ⟨nI j, nI (th I j), F, h, m, W, t, 0, fun N R g => ?_, fun N g => ?_, frT.refl _ _ _, hc, Nat.le_refl _, ext.refl _ _ _ _ _ _, H, Or.inl rfl, fun _ => ⟨j, j1, rfl, rfl, ?_⟩⟩
    · exact ct_alone o1 o2 (by omega) j2
    · exact mt_alone d7 (by rw [n1, k7]) n2 hx (by omega) j3
    · rw [j4, he.2.2.1]; exact w3.symm
  · have t5 := t4 k7
    by_cases full : t = 1500
    · subst full
      refine ⟨0, 0, F, up2 h 101 16 (nI 5), up2 m 115 74 (nI 5), W, 1500, 5, fun N R g => ?_, fun N g => ?_, ⟨rfl, rfl, fun _ _ _ => rfl, fun a k q1 q2 q3 => ?_, fun a k q1 q2 q3 => ?_⟩, ?_, Nat.le_refl _, ext.refl _ _ _ _ _ _, ?_, Or.inr rfl, fun q => by omega⟩
      · exact ct_full t1 t2 t3 t5 c9 c1 c4 hI
      · exact mt_full d7 n1 hw.2.2.2.2.2.1 k7 hx d1
      · rw [up2_at]; split
        · rw [if_neg (by omega)]
        · rfl
      · rw [up2_at]; split
        · rw [if_neg (by omega)]
        · rfl
      · exact ⟨c1, c2, c3, c4, c5, c6, c7, c8, rfl, d1, d2, d3, d4, d5, d6, rfl, d8, d9, f1, Nat.le_refl _⟩
      · exact H.same (fun _ => rfl) (fun a k q1 q2 => up2_ne (by omega)) (fun a k q1 q2 => up2_ne (by omega))
    · have ht2 : t < 1500 := by omega
      have hy : G 4 x ≤ 4 := hw.2.2.1
      have eF : ∀ k, (fwr F 102 (I + t) (some (G 5 x))).2.2 102 k = if k = I + t then some (G 5 x) else F.2.2 102 k := fun k => by
        show up2 F.2.2 102 (I + t) _ 102 k = _
        rw [up2_at, if_pos rfl]
      obtain ⟨F1, hF1⟩ : ∃ F1, F1 = fwr F 102 (I + t) (some (G 5 x)) := ⟨_, rfl⟩
      obtain ⟨h1, hh1⟩ : ∃ h1, h1 = up2 (up2 (up2 h 103 (I + t) (nI (16 * e))) 104 (I + t) (nI 0)) 101 4 (nI (I + t + 1)) := ⟨_, rfl⟩
      obtain ⟨m1, hm1⟩ : ∃ m1, m1 = up2 (up2 (up2 (up2 (up2 m 115 67 (nI (t + 1))) 148 (40 + t) (nI x)) 149 (40 + t) (nI e)) 150 (40 + t) (nI 0)) 153 (40 + t) (nI 0) := ⟨_, rfl⟩
      rw [← hF1] at eF
      have z1 : ∀ k, h1 103 k = if k = I + t then nI (16 * e) else h 103 k := fun k => by subst hh1; simp (disch := omega) only [q_lit, q_le, q_lt, q_inj, q_add, q_mul, q_sub, q_div, q_vin, q_ix, gd_true, ↓bnd_eq, ↓ob1_some, ↓obv_some, ↓obi_some, ↓obl_some, ↓obr_some, ↓ogv_l, ↓ogi_l, ↓ogr_l, ↓ogv_r, ↓ogi_r, ↓ogr_r, up2_at, decide_true, decide_eq_true_eq, ite_true, ite_false, if_true, if_false, ↓reduceIte, Nat.reduceEqDiff, Nat.reduceLeDiff, Nat.reduceLT, Nat.reduceAdd, Nat.reduceSub, Nat.reduceMul, not_true_eq_false, not_false_eq_true, true_and, and_true, false_and, and_false, or_true, true_or, or_false, false_or]
      have z2 : ∀ k, h1 104 k = if k = I + t then nI 0 else h 104 k := fun k => by subst hh1; simp (disch := omega) only [q_lit, q_le, q_lt, q_inj, q_add, q_mul, q_sub, q_div, q_vin, q_ix, gd_true, ↓bnd_eq, ↓ob1_some, ↓obv_some, ↓obi_some, ↓obl_some, ↓obr_some, ↓ogv_l, ↓ogi_l, ↓ogr_l, ↓ogv_r, ↓ogi_r, ↓ogr_r, up2_at, decide_true, decide_eq_true_eq, ite_true, ite_false, if_true, if_false, ↓reduceIte, Nat.reduceEqDiff, Nat.reduceLeDiff, Nat.reduceLT, Nat.reduceAdd, Nat.reduceSub, Nat.reduceMul, not_true_eq_false, not_false_eq_true, true_and, and_true, false_and, and_false, or_true, true_or, or_false, false_or]
      have z3 : ∀ a k, 105 ≤ a → a ≤ 109 → h1 a k = h a k := fun a k q1 q2 => by subst hh1; rw [up2_ne (by omega), up2_ne (by omega), up2_ne (by omega)]
      have z4 : ∀ k, m1 148 k = if k = 40 + t then nI x else m 148 k := fun k => by subst hm1; simp (disch := omega) only [q_lit, q_le, q_lt, q_inj, q_add, q_mul, q_sub, q_div, q_vin, q_ix, gd_true, ↓bnd_eq, ↓ob1_some, ↓obv_some, ↓obi_some, ↓obl_some, ↓obr_some, ↓ogv_l, ↓ogi_l, ↓ogr_l, ↓ogv_r, ↓ogi_r, ↓ogr_r, up2_at, decide_true, decide_eq_true_eq, ite_true, ite_false, if_true, if_false, ↓reduceIte, Nat.reduceEqDiff, Nat.reduceLeDiff, Nat.reduceLT, Nat.reduceAdd, Nat.reduceSub, Nat.reduceMul, not_true_eq_false, not_false_eq_true, true_and, and_true, false_and, and_false, or_true, true_or, or_false, false_or]
      have z5 : ∀ k, m1 149 k = if k = 40 + t then nI e else m 149 k := fun k => by subst hm1; simp (disch := omega) only [q_lit, q_le, q_lt, q_inj, q_add, q_mul, q_sub, q_div, q_vin, q_ix, gd_true, ↓bnd_eq, ↓ob1_some, ↓obv_some, ↓obi_some, ↓obl_some, ↓obr_some, ↓ogv_l, ↓ogi_l, ↓ogr_l, ↓ogv_r, ↓ogi_r, ↓ogr_r, up2_at, decide_true, decide_eq_true_eq, ite_true, ite_false, if_true, if_false, ↓reduceIte, Nat.reduceEqDiff, Nat.reduceLeDiff, Nat.reduceLT, Nat.reduceAdd, Nat.reduceSub, Nat.reduceMul, not_true_eq_false, not_false_eq_true, true_and, and_true, false_and, and_false, or_true, true_or, or_false, false_or]
      have z6 : ∀ k, m1 150 k = if k = 40 + t then nI 0 else m 150 k := fun k => by subst hm1; simp (disch := omega) only [q_lit, q_le, q_lt, q_inj, q_add, q_mul, q_sub, q_div, q_vin, q_ix, gd_true, ↓bnd_eq, ↓ob1_some, ↓obv_some, ↓obi_some, ↓obl_some, ↓obr_some, ↓ogv_l, ↓ogi_l, ↓ogr_l, ↓ogv_r, ↓ogi_r, ↓ogr_r, up2_at, decide_true, decide_eq_true_eq, ite_true, ite_false, if_true, if_false, ↓reduceIte, Nat.reduceEqDiff, Nat.reduceLeDiff, Nat.reduceLT, Nat.reduceAdd, Nat.reduceSub, Nat.reduceMul, not_true_eq_false, not_false_eq_true, true_and, and_true, false_and, and_false, or_true, true_or, or_false, false_or]
      have z7 : ∀ k, m1 153 k = if k = 40 + t then nI 0 else m 153 k := fun k => by subst hm1; simp (disch := omega) only [q_lit, q_le, q_lt, q_inj, q_add, q_mul, q_sub, q_div, q_vin, q_ix, gd_true, ↓bnd_eq, ↓ob1_some, ↓obv_some, ↓obi_some, ↓obl_some, ↓obr_some, ↓ogv_l, ↓ogi_l, ↓ogr_l, ↓ogv_r, ↓ogi_r, ↓ogr_r, up2_at, decide_true, decide_eq_true_eq, ite_true, ite_false, if_true, if_false, ↓reduceIte, Nat.reduceEqDiff, Nat.reduceLeDiff, Nat.reduceLT, Nat.reduceAdd, Nat.reduceSub, Nat.reduceMul, not_true_eq_false, not_false_eq_true, true_and, and_true, false_and, and_false, or_true, true_or, or_false, false_or]
      have z8 : ∀ a k, 151 ≤ a → a ≤ 156 → a ≠ 153 → m1 a k = m a k := fun a k q1 q2 q3 => by subst hm1; rw [up2_ne (by omega), up2_ne (by omega), up2_ne (by omega), up2_ne (by omega), up2_ne (by omega)]
      obtain ⟨R1, R2⟩ := H.put ht2 he hy eF z1 z2 z3 z4 z5 z6 z7 z8
      refine ⟨nI (I + t), nI (40 + t), F1, h1, m1, _, t + 1, 0, fun N R g => ?_, fun N g => ?_, ⟨by rw [hF1]; rfl, by rw [hF1]; rfl, fun a k q => ?_, fun a k q1 q2 q3 => ?_, fun a k q1 q2 q3 => ?_⟩, ?_, by omega, R2, R1, Or.inl rfl, fun _ => ⟨I + t, by omega, rfl, by rw [th_new], by rw [up2_eq]⟩⟩
      · rw [hF1, hh1]; exact ct_put t1 t2 t3 t5 c9 c1 c4 hI ht2
      · rw [hm1]; exact mt_put d7 n1 hw.2.2.2.2.2.1 k7 hx d1 ht2
      · rw [hF1]; show up2 F.2.2 102 (I + t) _ a k = _
        rw [up2_ne q]
      · rw [hh1, up2_at]; split
        · rw [if_neg (by omega), up2_ne (by omega), up2_ne (by omega)]
        · rw [up2_ne q2, up2_ne q1]
      · rw [hm1, up2_ne q2, up2_ne (by omega), up2_ne (by omega), up2_ne (by omega), up2_at]; split
        · rw [if_neg (by omega)]
        · rfl
      · rw [hh1, hm1]; exact ⟨rfl, c2, c3, c4, c5, c6, c7, c8, c9, rfl, d2, d3, d4, d5, d6, d7, d8, d9, f1, f2⟩
