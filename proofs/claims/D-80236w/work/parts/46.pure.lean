/-! RUNS, 12: calls; work -/
theorem m34_end {N q x c f b t0 k B : Nat} {e : Int32} {m : HI} {g : HL} (hx : x < 2002) (h1 : m 126 x = nI B) (h2 : m 127 x = nI f) (h3 : m 121 f = nI b) (hf : f < 24) (h36 : m 115 36 = nI t0) (ht : t0 < 3000) (hB : B ≤ 4) (hk : k = B) : pX8_called_34 N (q + 1) (nI x) e (nI c) (nI k) m g = some (tk m t0 (nI 1) (nI b) (nI c), g) := by
  subst hk
  rw [pX8_called_34]
  simp (disch := omega) only [q_lit, q_le, q_lt, q_inj, q_add, q_mul, q_sub, q_div, q_vin, q_ix, gd_true, ↓bnd_eq, ↓ob1_some, ↓obv_some, ↓obi_some, ↓obl_some, ↓obr_some, ↓ogv_l, ↓ogi_l, ↓ogr_l, ↓ogv_r, ↓ogi_r, ↓ogr_r, up2_at, decide_true, decide_eq_true_eq, ite_true, ite_false, if_true, if_false, ↓reduceIte, Nat.reduceEqDiff, Nat.reduceLeDiff, Nat.reduceLT, Nat.reduceAdd, Nat.reduceSub, Nat.reduceMul, not_true_eq_false, not_false_eq_true, true_and, and_true, false_and, and_false, or_true, true_or, or_false, false_or, hx, h1, h2, h3, hf, Nat.le_refl]
  rw [tk_eq h36 ht, obv_some]
theorem m34_step {N q x c k e B A a : Nat} {y : Int32} {m m1 : HI} {g : HL} (hx : x < 2002) (h1 : m 126 x = nI B) (h2 : m 125 x = nI A) (h3 : m 131 (A + k) = nI a) (hA : A + k < 2002) (hB : B ≤ 4) (hk : k < B) (hc : c ≤ 1500) (E : pX8_thing N (nI a) (nI e) m g = some (y, m1, g)) : pX8_called_34 N (q + 1) (nI x) (nI e) (nI c) (nI k) m g = pX8_called_34 N q (nI x) (nI e) (nI c) (nI (k + 1)) (up2 m1 156 (16 * c + k) y) g := by
  rw [pX8_called_34]
  have hl : 16 * c + k < 24032 := by omega
  simp (disch := omega) only [q_lit, q_le, q_lt, q_inj, q_add, q_mul, q_sub, q_div, q_vin, q_ix, gd_true, ↓bnd_eq, ↓ob1_some, ↓obv_some, ↓obi_some, ↓obl_some, ↓obr_some, ↓ogv_l, ↓ogi_l, ↓ogr_l, ↓ogv_r, ↓ogi_r, ↓ogr_r, up2_at, decide_true, decide_eq_true_eq, ite_true, ite_false, if_true, if_false, ↓reduceIte, Nat.reduceEqDiff, Nat.reduceLeDiff, Nat.reduceLT, Nat.reduceAdd, Nat.reduceSub, Nat.reduceMul, not_true_eq_false, not_false_eq_true, true_and, and_true, false_and, and_false, or_true, true_or, or_false, false_or, hx, h1, h2, h3, hA, Nat.not_le.mpr hk]
  rw [E, obi_some]
  simp (disch := omega) only [q_lit, q_le, q_lt, q_inj, q_add, q_mul, q_sub, q_div, q_vin, q_ix, gd_true, ↓bnd_eq, ↓ob1_some, ↓obv_some, ↓obi_some, ↓obl_some, ↓obr_some, ↓ogv_l, ↓ogi_l, ↓ogr_l, ↓ogv_r, ↓ogi_r, ↓ogr_r, up2_at, decide_true, decide_eq_true_eq, ite_true, ite_false, if_true, if_false, ↓reduceIte, Nat.reduceEqDiff, Nat.reduceLeDiff, Nat.reduceLT, Nat.reduceAdd, Nat.reduceSub, Nat.reduceMul, not_true_eq_false, not_false_eq_true, true_and, and_true, false_and, and_false, or_true, true_or, or_false, false_or, hl]
theorem c8_end {N R q a k B : Nat} {x2 x3 : Int32} {C : ty4} {F : Frm} {h : HI} {g : HL} (o1 : F.2.1 a = (25, 0)) (o2 : h a 4 = nI B) (hB : B ≤ 4) (hk : k = B) : pX17_work_8 N R C (q + 1) F a x2 x3 (nI k) h g = pX17_work_51 N R C F a x3 h g := by
  subst hk
  rw [pX17_work_8, o1, o2]
  simp (disch := omega) only [q_lit, q_le, q_lt, q_inj, q_add, q_mul, q_sub, q_div, q_vin, q_ix, gd_true, ↓bnd_eq, ↓ob1_some, ↓obv_some, ↓obi_some, ↓obl_some, ↓obr_some, ↓ogv_l, ↓ogi_l, ↓ogr_l, ↓ogv_r, ↓ogi_r, ↓ogr_r, up2_at, decide_true, decide_eq_true_eq, ite_true, ite_false, if_true, if_false, ↓reduceIte, Nat.reduceEqDiff, Nat.reduceLeDiff, Nat.reduceLT, Nat.reduceAdd, Nat.reduceSub, Nat.reduceMul, not_true_eq_false, not_false_eq_true, true_and, and_true, false_and, and_false, or_true, true_or, or_false, false_or, Nat.le_refl]
theorem c8_over {N R q a k en : Nat} {x2 x3 : Int32} {C : ty4} {F : Frm} {h : HI} {g : HL} (o1 : F.2.1 a = (25, 0)) (o3 : h 101 16 = nI en) (h0 : ¬ en = 0) (h5 : en ≤ 5) : pX17_work_8 N R C (q + 1) F a x2 x3 (nI k) h g = some (.inl (0, F, h, g)) := by
  have z : pX17_work_51 N R C F a x3 h g = some (.inl (0, F, h, g)) := by
    rw [pX17_work_51]
    simp (disch := omega) only [q_lit, q_le, q_lt, q_inj, q_add, q_mul, q_sub, q_div, q_vin, q_ix, gd_true, ↓bnd_eq, ↓ob1_some, ↓obv_some, ↓obi_some, ↓obl_some, ↓obr_some, ↓ogv_l, ↓ogi_l, ↓ogr_l, ↓ogv_r, ↓ogi_r, ↓ogr_r, up2_at, decide_true, decide_eq_true_eq, ite_true, ite_false, if_true, if_false, ↓reduceIte, Nat.reduceEqDiff, Nat.reduceLeDiff, Nat.reduceLT, Nat.reduceAdd, Nat.reduceSub, Nat.reduceMul, not_true_eq_false, not_false_eq_true, true_and, and_true, false_and, and_false, or_true, true_or, or_false, false_or, o3, h0]
  rw [pX17_work_8, o1, gd_t (decide_eq_true rfl), z, if_neg (show ¬ h 101 16 = 0 from by rw [o3]; show ¬ nI en = nI 0; rw [q_inj (by omega) (by omega)]; exact h0)]
  split <;> rfl
theorem c8_step {N R q a k B e c w b : Nat} {y : Int32} {C : ty4} {F F1 : Frm} {h h1 : HI} {g : HL} (o1 : F.2.1 a = (25, 0)) (o2 : h a 4 = nI B) (hB : B ≤ 4) (hk : k < B) (o3 : h 101 16 = nI 0) (o4 : F.2.2 a 3 = some w) (o5 : F.2.1 w = (5, 4)) (o6 : F.2.2 w k = some b) (hc : c ≤ 1500) (E : ppX7_thing N R F b (nI (16 * e)) h g = some (.inl (y, F1, h1, g))) :
    pX17_work_8 N R C (q + 1) F a (nI (16 * e)) (nI (16 * c)) (nI k) h g = pX17_work_8 N R C q F1 a (nI (16 * e)) (nI (16 * c)) (nI (k + 1)) (up2 h1 108 (16 * c + k) y) g := by
  rw [pX17_work_8, o1, o2]
  have hl : 16 * c + k < 24016 := by omega
  have h4 : k < 4 := by omega
  simp (disch := omega) only [q_lit, q_le, q_lt, q_inj, q_add, q_mul, q_sub, q_div, q_vin, q_ix, gd_true, ↓bnd_eq, ↓ob1_some, ↓obv_some, ↓obi_some, ↓obl_some, ↓obr_some, ↓ogv_l, ↓ogi_l, ↓ogr_l, ↓ogv_r, ↓ogi_r, ↓ogr_r, up2_at, decide_true, decide_eq_true_eq, ite_true, ite_false, if_true, if_false, ↓reduceIte, Nat.reduceEqDiff, Nat.reduceLeDiff, Nat.reduceLT, Nat.reduceAdd, Nat.reduceSub, Nat.reduceMul, not_true_eq_false, not_false_eq_true, true_and, and_true, false_and, and_false, or_true, true_or, or_false, false_or, Nat.not_le.mpr hk, o3, o4, o5, h4, o6]
  rw [E, ogi_l]
  simp (disch := omega) only [q_lit, q_le, q_lt, q_inj, q_add, q_mul, q_sub, q_div, q_vin, q_ix, gd_true, ↓bnd_eq, ↓ob1_some, ↓obv_some, ↓obi_some, ↓obl_some, ↓obr_some, ↓ogv_l, ↓ogi_l, ↓ogr_l, ↓ogv_r, ↓ogi_r, ↓ogr_r, up2_at, decide_true, decide_eq_true_eq, ite_true, ite_false, if_true, if_false, ↓reduceIte, Nat.reduceEqDiff, Nat.reduceLeDiff, Nat.reduceLT, Nat.reduceAdd, Nat.reduceSub, Nat.reduceMul, not_true_eq_false, not_false_eq_true, true_and, and_true, false_and, and_false, or_true, true_or, or_false, false_or, hl]
/-- the run has ended: the model's rest of a call -/
theorem m34_over {G : PG} {k0 nf x e c t0 en : Nat} (hP : pWF G k0 nf) (hx1 : G 17 x = 1) (hk : G 0 x = 8) (hc : c ≤ 1500) (ht : t0 < 3000) (h0 : ¬ en = 0) (h5 : en ≤ 5) : ∀ (r k : Nat), k + r = G 2 x → ∀ m, sM G k0 nf m → m 115 74 = nI en → m 115 36 = nI t0 →
    ∃ m', (∀ a i, ¬ a = 156 → m' a i = m a i) ∧ ∀ N q g, r < q → pX8_called_34 N q (nI x) (nI e) (nI c) (nI k) m g = some (tk m' t0 (nI 1) (nI (G 13 (G 3 x))) (nI c), g) := by
  have hw := hP.2.2.2 x hx1
  obtain ⟨-, -, -, hx, -, -, -, -, -, -, -, -, -, -, -, -, w8, -⟩ := id hw
  obtain ⟨z1, z2, z3, z4, z5, z6, -⟩ := w8 hk
  have hB := (hP.2.2.1 _ z1 z2).1
  have h24 : G 3 x < 24 := by have := hP.1; have := hP.2.1; omega
  intro r
  induction r with
  | zero =>
    intro k hkr m hM q1 q2
    obtain ⟨n1, n2, n3, n4, n5, n6⟩ := hM.2 x hx1
    obtain ⟨n7, n8⟩ := n6 hk
    refine ⟨m, fun _ _ _ => rfl, fun N q g hq => ?_⟩
    obtain ⟨q, rfl⟩ : ∃ r0, q = r0 + 1 := ⟨q - 1, by omega⟩
    exact m34_end hx (n4 (by omega) (by omega) (by omega)) n7 (hM.1 _ z1 z2).2.2.2.1 h24 q2 ht (by omega) (by omega)
  | succ r ih =>
    intro k hkr m hM q1 q2
    obtain ⟨n1, n2, n3, n4, n5, n6⟩ := hM.2 x hx1
    obtain ⟨n7, n8⟩ := n6 hk
    obtain ⟨m', a1, a2⟩ := ih (k + 1) (by omega) (up2 m 156 (16 * c + k) 0) (hM.fr (fun a k q1 q2 q3 q4 q5 => up2_ne (by omega))) q1 q2
    refine ⟨m', fun a i q => by rw [a1 a i q, up2_ne q], fun N q g hq => ?_⟩
    obtain ⟨q, rfl⟩ : ∃ r0, q = r0 + 1 := ⟨q - 1, by omega⟩
    rw [m34_step hx (n4 (by omega) (by omega) (by omega)) n2 (n8 k (by omega)) (by omega) (by omega) (by omega) hc (mt_over q1 h0 h5)]
    exact a2 N q g (by omega)
theorem call_loop {G : PG} {k0 nf I IP lim p d t0 kp x e c : Nat} (hP : pWF G k0 nf) (hx1 : G 17 x = 1) (hk : G 0 x = 8) (hc : c ≤ 1500) (hc1 : 1 ≤ c) (ht : t0 < 3000) : ∀ (r k : Nat), k + r = G 2 x → ∀ (W : PG) (t : Nat) (F : Frm) (h m : HI), RunS G W k0 nf I IP lim t p c d t0 kp F h m → W 3 c = G 3 x → (∀ i, i < k → W 4 (16 * c + i) = 1) → eok G W c x e →
    ∃ F' h' m', frC F h F' h' ∧ frM m m' ∧ (∀ N q g, r < q → pX8_called_34 N q (nI x) (nI e) (nI c) (nI k) m g = some (tk m' t0 (nI 1) (nI (G 13 (G 3 x))) (nI c), g)) ∧
      ((∃ W' t', t ≤ t' ∧ ext W W' I IP t p c ∧ RunS G W' k0 nf I IP lim t' p c d t0 kp F' h' m' ∧ (∀ i, i < G 2 x → W' 4 (16 * c + i) = 1) ∧ sb t0 kp m m' ∧ ∀ N R C q g, r < q → pX17_work_8 N R C q F (G 5 x) (nI (16 * e)) (nI (16 * c)) (nI k) h g = pX17_work_51 N R C F' (G 5 x) (nI (16 * c)) h' g) ∨
       (PE I IP lim h' m' ∧ ∀ N R C q g, r + 1 < q → pX17_work_8 N R C q F (G 5 x) (nI (16 * e)) (nI (16 * c)) (nI k) h g = some (.inl (0, F', h', g)))) := by
  have hw := hP.2.2.2 x hx1
  obtain ⟨-, -, -, hx, -, -, -, -, -, -, -, -, -, -, -, -, w8, -⟩ := id hw
  obtain ⟨z1, z2, z3, z4, z5, z6, -⟩ := w8 hk
  have hB := (hP.2.2.1 _ z1 z2).1
  have h24 : G 3 x < 24 := by have := hP.1; have := hP.2.1; omega
  intro r
  induction r with
  | zero =>
    intro k hkr W t F h m H w3 w4 he
    obtain ⟨H1, H2, H3, H4, H5, H6, H7, H8, H9⟩ := id H
    obtain ⟨n1, n2, n3, n4, n5, n6⟩ := H7.2 x hx1
    obtain ⟨n7, n8⟩ := n6 hk
    obtain ⟨-, -, -, -, -, -, -, -, -, b8, -⟩ := H8.2 x hx1
    obtain ⟨o1, o2, o3, -⟩ := b8 hk
    refine ⟨F, h, m, frC.refl _ _, frM.refl _, fun N q g hq => ?_, Or.inl ⟨W, t, Nat.le_refl _, ext.refl _ _ _ _ _ _, H, fun i hi => w4 i (by omega), sb.refl _ _ _, fun N R C q g hq => ?_⟩⟩
    · obtain ⟨q, rfl⟩ : ∃ r0, q = r0 + 1 := ⟨q - 1, by omega⟩
      exact m34_end hx (n4 (by omega) (by omega) (by omega)) n7 (H7.1 _ z1 z2).2.2.2.1 h24 H5 ht (by omega) (by omega)
    · obtain ⟨q, rfl⟩ : ∃ r0, q = r0 + 1 := ⟨q - 1, by omega⟩
      exact c8_end o1 o3 (by omega) (by omega)
  | succ r ih =>
    intro k hkr W t F h m H w3 w4 he
    obtain ⟨H1, H2, H3, H4, H5, H6, H7, H8, H9⟩ := id H
    obtain ⟨n1, n2, n3, n4, n5, n6⟩ := H7.2 x hx1
    obtain ⟨n7, n8⟩ := n6 hk
    obtain ⟨ox, -, -, -, -, -, -, -, -, b8, -⟩ := H8.2 x hx1
    obtain ⟨o1, o2, o3, w, o4, o5, o6, o7⟩ := b8 hk
    obtain ⟨za, zb, zc⟩ := z6 k (by omega)
    obtain ⟨yC, yM, F1, h1, m1, W1, t1, E1, E2, fT, R⟩ := H.thing hP (he.sub za zb)
    have hne : ∀ i, i < G 10 (W 3 0) → ¬ i = 16 * c + k := fun i hi => by have := H9.2; omega
    have fC1 : frC F h F1 (up2 h1 108 (16 * c + k) yC) := fT.C.trans (frC.slot (G := G) (W := W) (by rw [fT.C.1.2.1]; exact H9) hne)
    have fM1 : frM m (up2 m1 156 (16 * c + k) yM) := fT.M.trans (fun a k q1 q2 q3 q4 q5 => up2_ne (by omega))
    have SM : ∀ N q g, pX8_called_34 N (q + 1) (nI x) (nI e) (nI c) (nI k) m g = pX8_called_34 N q (nI x) (nI e) (nI c) (nI (k + 1)) (up2 m1 156 (16 * c + k) yM) g := fun N q g => m34_step hx (n4 (by omega) (by omega) (by omega)) n2 (n8 k (by omega)) (by omega) (by omega) (by omega) hc (E2 N g)
    have SC : ∀ N R C q g, pX17_work_8 N R C (q + 1) F (G 5 x) (nI (16 * e)) (nI (16 * c)) (nI k) h g = pX17_work_8 N R C q F1 (G 5 x) (nI (16 * e)) (nI (16 * c)) (nI (k + 1)) (up2 h1 108 (16 * c + k) yC) g := fun N R C q g => c8_step o1 o3 (by omega) (by omega) H.e16 o4 o5 (o7 k (by omega)) hc (E1 N R g)
    rcases R with ⟨j, j1, rfl, rfl, j4, l1, X, Q⟩ | R
    · obtain ⟨S, Y⟩ := Q.slot (e := c) (s := k) (Nat.le_refl _) (by omega) j1 (by rw [j4, X.2.2.2.1 c (Nat.le_refl _), w3]; exact zc) (by rw [X.2.2.2.1 0 (Nat.zero_le _)]; exact hne)
      obtain ⟨F2, h2, m2, a1, a2, a3, a4⟩ := ih (k + 1) (by omega) _ t1 F1 _ _ S (by rw [up2_ne (by decide), X.2.2.2.1 c (Nat.le_refl _), w3]) (fun i hi => by
        by_cases q : i = k
        · rw [q, up2_eq]
        · exact Y.2.2.2.2 _ (X.2.2.2.2 _ (w4 i (by omega)))) ((he.ext X (Nat.le_refl _)).ext Y (Nat.le_refl _))
      refine ⟨F2, h2, m2, fC1.trans a1, fM1.trans a2, fun N q g hq => ?_, ?_⟩
      · obtain ⟨q, rfl⟩ : ∃ r0, q = r0 + 1 := ⟨q - 1, by omega⟩
        rw [SM]; exact a3 N q g (by omega)
      · rcases a4 with ⟨W', t', l2, X2, Q2, w5, bb, E3⟩ | ⟨P, E3⟩
        · refine Or.inl ⟨W', t', by omega, (X.trans Y l1 (Nat.le_refl _) (Nat.le_refl _)).trans X2 l1 (Nat.le_refl _) (Nat.le_refl _), Q2, w5, (show sb t0 kp m _ from ⟨fun i hi => ⟨?_, ?_, ?_⟩, fun i hi => ?_⟩).trans bb (Nat.le_refl _) (Nat.le_refl _), fun N R C q g hq => ?_⟩
          · rw [up2_ne (by decide), fT.2.2.2.2 _ _ (by decide) (by decide) (by omega)]
          · rw [up2_ne (by decide), fT.2.2.2.2 _ _ (by decide) (by decide) (by omega)]
          · rw [up2_ne (by decide), fT.2.2.2.2 _ _ (by decide) (by decide) (by omega)]
          · rw [up2_ne (by decide), fT.2.2.2.2 _ _ (by decide) (by decide) (by omega)]
          · obtain ⟨q, rfl⟩ : ∃ r0, q = r0 + 1 := ⟨q - 1, by omega⟩
            rw [SC]; exact E3 N R C q g (by omega)
        · refine Or.inr ⟨P, fun N R C q g hq => ?_⟩
          obtain ⟨q, rfl⟩ : ∃ r0, q = r0 + 1 := ⟨q - 1, by omega⟩
          rw [SC]; exact E3 N R C q g (by omega)
    · obtain ⟨en, q1, q2, q3, q4⟩ := R.ended
      have m36 : up2 m1 156 (16 * c + k) yM 115 36 = nI t0 := by
        rw [up2_ne (by decide), fT.2.2.2.2 _ _ (by decide) (by decide) (by decide)]; exact H5
      obtain ⟨m2, a1, a2⟩ := m34_over (e := e) hP hx1 hk hc ht q1 q2 r (k + 1) (by omega) (up2 m1 156 (16 * c + k) yM) (H7.fr fM1) q4 m36
      have o8 : F1.2.1 (G 5 x) = (25, 0) := by rw [fT.2.1]; exact o1
      refine ⟨F1, up2 h1 108 (16 * c + k) yC, m2, fC1, fM1.trans (fun a k q1 q2 q3 q4 q5 => a1 a k (by omega)), fun N q g hq => ?_, Or.inr ⟨R.mv2 (fun k q => up2_ne (by decide)) (fun k => ⟨up2_ne (by decide), up2_ne (by decide)⟩) (fun k => by rw [a1 _ _ (by decide), up2_ne (by decide)]) (fun k k1 k2 k3 => by rw [a1 _ _ (by decide), up2_ne (by decide)]), fun N R C q g hq => ?_⟩⟩
      · obtain ⟨q, rfl⟩ : ∃ r0, q = r0 + 1 := ⟨q - 1, by omega⟩
        rw [SM]; exact a2 N q g (by omega)
      · obtain ⟨q, rfl⟩ : ∃ r0, q = r0 + 1 := ⟨q - 1, by omega⟩
        obtain ⟨q, rfl⟩ : ∃ r0, q = r0 + 1 := ⟨q - 1, by omega⟩
        rw [SC]; exact c8_over o8 (show up2 h1 108 (16 * c + k) yC 101 16 = nI en from q3) q1 q2
theorem act_8 {N x : Nat} {w : Int32} {m : HI} {g : HL} (hx : x < 2002) (n1 : m 124 x = nI 8) : mAct N (nI x) w m g = obv (pX8_called_0 N (nI x) w m g) fun h1 g2 => some (h1, g2) := by
  rw [mAct]
  simp (disch := omega) only [q_lit, q_le, q_lt, q_inj, q_add, q_mul, q_sub, q_div, q_vin, q_ix, gd_true, ↓bnd_eq, ↓ob1_some, ↓obv_some, ↓obi_some, ↓obl_some, ↓obr_some, ↓ogv_l, ↓ogi_l, ↓ogr_l, ↓ogv_r, ↓ogi_r, ↓ogr_r, up2_at, decide_true, decide_eq_true_eq, ite_true, ite_false, if_true, if_false, ↓reduceIte, Nat.reduceEqDiff, Nat.reduceLeDiff, Nat.reduceLT, Nat.reduceAdd, Nat.reduceSub, Nat.reduceMul, not_true_eq_false, not_false_eq_true, true_and, and_true, false_and, and_false, or_true, true_or, or_false, false_or, hx, n1, ti8, Int.reduceLT, Int.lt_irrefl]
theorem mc_full {N : Nat} {x w : Int32} {m : HI} {g : HL} (g3 : m 115 69 = nI 1500) : pX8_called_0 N x w m g = some (up2 m 115 74 (nI 5), g) := by
  rw [pX8_called_0]
  simp (disch := omega) only [q_lit, q_le, q_lt, q_inj, q_add, q_mul, q_sub, q_div, q_vin, q_ix, gd_true, ↓bnd_eq, ↓ob1_some, ↓obv_some, ↓obi_some, ↓obl_some, ↓obr_some, ↓ogv_l, ↓ogi_l, ↓ogr_l, ↓ogv_r, ↓ogi_r, ↓ogr_r, up2_at, decide_true, decide_eq_true_eq, ite_true, ite_false, if_true, if_false, ↓reduceIte, Nat.reduceEqDiff, Nat.reduceLeDiff, Nat.reduceLT, Nat.reduceAdd, Nat.reduceSub, Nat.reduceMul, not_true_eq_false, not_false_eq_true, true_and, and_true, false_and, and_false, or_true, true_or, or_false, false_or, g3]
theorem mc_go {N cl : Nat} {x w : Int32} {m : HI} {g : HL} (g3 : m 115 69 = nI cl) (hc : cl < 1500) : pX8_called_0 N x w m g = pX8_called_34 N N x w (nI (cl + 1)) (nI 0) (up2 m 115 69 (nI (cl + 1))) g := by
  rw [pX8_called_0]
  have : ¬ cl = 1500 := by omega
  simp (disch := omega) only [q_lit, q_le, q_lt, q_inj, q_add, q_mul, q_sub, q_div, q_vin, q_ix, gd_true, ↓bnd_eq, ↓ob1_some, ↓obv_some, ↓obi_some, ↓obl_some, ↓obr_some, ↓ogv_l, ↓ogi_l, ↓ogr_l, ↓ogv_r, ↓ogi_r, ↓ogr_r, up2_at, decide_true, decide_eq_true_eq, ite_true, ite_false, if_true, if_false, ↓reduceIte, Nat.reduceEqDiff, Nat.reduceLeDiff, Nat.reduceLT, Nat.reduceAdd, Nat.reduceSub, Nat.reduceMul, not_true_eq_false, not_false_eq_true, true_and, and_true, false_and, and_false, or_true, true_or, or_false, false_or, g3, this]
theorem pv_8f {N R r a e B : Nat} {F : Frm} {h : HI} {g : HL} (hN : 8 ≤ N) (o1 : F.2.1 a = (25, 0)) (c3 : h 101 9 = nI 1500) (c9 : h 101 16 = nI 0) : pv_work N R (tie4 N R (r + 1)) 15 F a (nI (16 * e)) h g = some (.inl (0, F, up2 h 101 16 (nI 5), g)) := by
  show pX17_work_0 N R (tie4 N R r) F a (nI (16 * e)) h g = _
  have : pX7_call_0 N R F h g = some (0, up2 h 101 16 (nI 5), g) := by
    rw [pX7_call_0]
    simp (disch := omega) only [q_lit, q_le, q_lt, q_inj, q_add, q_mul, q_sub, q_div, q_vin, q_ix, gd_true, ↓bnd_eq, ↓ob1_some, ↓obv_some, ↓obi_some, ↓obl_some, ↓obr_some, ↓ogv_l, ↓ogi_l, ↓ogr_l, ↓ogv_r, ↓ogi_r, ↓ogr_r, up2_at, decide_true, decide_eq_true_eq, ite_true, ite_false, if_true, if_false, ↓reduceIte, Nat.reduceEqDiff, Nat.reduceLeDiff, Nat.reduceLT, Nat.reduceAdd, Nat.reduceSub, Nat.reduceMul, not_true_eq_false, not_false_eq_true, true_and, and_true, false_and, and_false, or_true, true_or, or_false, false_or, c3, c9, pX7_ends_0]
  obtain ⟨N, rfl⟩ : ∃ n, N = n + 1 := ⟨N - 1, by omega⟩
  rw [pX17_work_0]
  show obi (pX7_call_0 (N + 1) R F h g) _ = _
  rw [this, obi_some]
  exact c8_over (k := 0) o1 (show up2 h 101 16 (nI 5) 101 16 = nI 5 from up2_eq) (by decide) (by decide)
theorem pv_8 {N R r a e cl : Nat} {F : Frm} {h : HI} {g : HL} (c3 : h 101 9 = nI cl) (hc : cl < 1500) : pv_work N R (tie4 N R (r + 1)) 15 F a (nI (16 * e)) h g = pX17_work_8 N R (tie4 N R r) N F a (nI (16 * e)) (nI (16 * (cl + 1))) (nI 0) (up2 h 101 9 (nI (cl + 1))) g := by
  show pX17_work_0 N R (tie4 N R r) F a (nI (16 * e)) h g = _
  have : ¬ cl = 1500 := by omega
  have : pX7_call_0 N R F h g = some (nI (16 * (cl + 1)), up2 h 101 9 (nI (cl + 1)), g) := by
    rw [pX7_call_0]
    simp (disch := omega) only [q_lit, q_le, q_lt, q_inj, q_add, q_mul, q_sub, q_div, q_vin, q_ix, gd_true, ↓bnd_eq, ↓ob1_some, ↓obv_some, ↓obi_some, ↓obl_some, ↓obr_some, ↓ogv_l, ↓ogi_l, ↓ogr_l, ↓ogv_r, ↓ogi_r, ↓ogr_r, up2_at, decide_true, decide_eq_true_eq, ite_true, ite_false, if_true, if_false, ↓reduceIte, Nat.reduceEqDiff, Nat.reduceLeDiff, Nat.reduceLT, Nat.reduceAdd, Nat.reduceSub, Nat.reduceMul, not_true_eq_false, not_false_eq_true, true_and, and_true, false_and, and_false, or_true, true_or, or_false, false_or, c3, this]
  rw [pX17_work_0]
  show obi (pX7_call_0 N R F h g) _ = _
  rw [this, obi_some]
  rfl
theorem wi_8 {G W : PG} {k0 nf I IP lim n t p cl d t0 kp x e : Nat} {F : Frm} {h m : HI} (hP : pWF G k0 nf) (ih : WK G k0 nf I IP lim n d) (H : RunS G W k0 nf I IP lim t p cl d t0 kp F h m) (he : eok G W cl x e) (ht : t0 ≤ 6 * d + 5) (hd : d ≤ 150) (hkp : kp + 1 ≤ d) (hk : G 0 x = 8) : WI G W k0 nf I IP lim (n + 1) t p cl d t0 kp x e F h m := by
  have hw := hP.2.2.2 x he.1
  obtain ⟨cc1, cc2, cc3, cc4, cc5⟩ := H.cap
  obtain ⟨H1, ⟨s0, dd, hc⟩, H3, H4, H5, H6, H7, H8, H9⟩ := id H
  obtain ⟨c1, c2, c3, c4, c5, c6, c7, c8, c9, g1, g2, g3, g4, g5, g6, g7, d8, d9, i1, i2⟩ := id hc
  obtain ⟨n1, -⟩ := H7.2 x he.1
  obtain ⟨ox, -, -, -, -, -, -, -, -, b8, -⟩ := H8.2 x he.1
  obtain ⟨o1, o2, o3, w, o4, o5, o6, o7⟩ := b8 hk
  have hb := he.bound
  obtain ⟨-, -, -, hx, -, -, -, -, -, -, -, -, -, -, -, -, w8, -⟩ := id hw
  obtain ⟨z1, z2, z3, z4, z5, z6, -⟩ := w8 hk
  obtain ⟨f1, f2, f3, f4, f5, f6, f7, -, -, f8⟩ := hP.2.2.1 _ z1 z2
  by_cases full : cl = 1500
  · subst full
    refine ⟨25, 0, F, up2 h 101 16 (nI 5), _, _, o1, by decide, by decide, fun N hN R r g hr => ?_, fun N hN g => by rw [act_8 hx (by rw [n1, hk]), mc_full g3, obv_some], gto.refl _, ⟨⟨rfl, rfl, fun _ _ => rfl, rfl, rfl⟩, rfl, fun _ _ _ => rfl, fun a k q => up2_ne (by omega)⟩, ?_, Or.inr ?_⟩
    · obtain ⟨r, rfl⟩ : ∃ r0, r = r0 + 1 := ⟨r - 1, by omega⟩
      exact pv_8f (B := 0) hN o1 c3 c9
    · intro a k q1 q2 q3 q4 q5
      by_cases c : a = 115
      · rw [up2_nj (by omega)]
      · rw [up2_ne c]
    · refine H.end (en := 5) (by decide) (by decide) (fun a k q => ?_) rfl (fun k q => up2_nj (by omega)) (fun a k q1 q2 => up2_ne (by omega)) rfl
      by_cases c : a = 101
      · rw [up2_nj (by omega)]
      · rw [up2_ne c]
  · have hcl : cl < 1500 := by omega
    have fC0 : frC F h F (up2 h 101 9 (nI (cl + 1))) := ⟨⟨rfl, rfl, fun _ _ => rfl, rfl, rfl⟩, rfl, fun _ _ _ => rfl, fun a k q => up2_ne (by omega)⟩
    have fM0 : frM m (up2 m 115 69 (nI (cl + 1))) := fun a k q1 q2 q3 q4 q5 => by
      by_cases c : a = 115
      · rw [up2_nj (by omega)]
      · rw [up2_ne c]
    obtain ⟨R1, X1⟩ := H1.call (k := G 3 x) hcl
    have R2 := R1.same (F' := F) (h' := up2 h 101 9 (nI (cl + 1))) (m' := up2 m 115 69 (nI (cl + 1))) (fun _ => rfl) (fun a k q1 q2 => up2_ne (by omega)) (fun a k q1 q2 => up2_ne (by omega))
    have S0 : RunS G _ k0 nf I IP lim t p (cl + 1) d t0 kp F (up2 h 101 9 (nI (cl + 1))) (up2 m 115 69 (nI (cl + 1))) := ⟨R2, ⟨s0, dd, c1, c2, rfl, c4, c5, c6, c7, c8, c9, g1, g2, rfl, g4, g5, g6, g7, d8, d9, i1, i2⟩, H3, H4, H5, H6, H7.fr fM0, H8.fr fC0, H9⟩
    obtain ⟨F1, h1, m1, a1, a2, a3, a4⟩ := call_loop (e := e) hP he.1 hk (show cl + 1 ≤ 1500 by omega) (show 1 ≤ cl + 1 by omega) (show t0 < 3000 by omega) (G 2 x) 0 (by omega) _ t F _ _ S0 up2_eq (fun i hi => by omega) (he.ext X1 (by omega))
    have A : ∀ N, 8 ≤ N → ∀ g, mAct N (nI x) (nI e) m g = some (tk m1 t0 (nI 1) (nI (G 13 (G 3 x))) (nI (cl + 1)), g) := fun N hN g => by
      rw [act_8 hx (by rw [n1, hk]), mc_go g3 hcl, a3 N N g (by omega), obv_some]
    rcases a4 with ⟨W1, t1, l1, X2, Q, w5, bb, E3⟩ | ⟨P, E3⟩
    · have S1 := Q.task (s := nI 1) (x := nI (G 13 (G 3 x))) (w := nI (cl + 1))
      have heB : eok G W1 (cl + 1) (G 13 (G 3 x)) (cl + 1) := ⟨f5, Nat.le_refl _, by rw [X2.2.2.2.1 _ (Nat.le_refl _), up2_eq, f6], fun s q1 q2 => w5 s (by have := f8 s q1 q2; omega)⟩
      obtain ⟨v, F2, h2, m2, E4, E5, P⟩ := ih W1 t1 p (cl + 1) t0 kp F1 h1 _ (G 13 (G 3 x)) (cl + 1) S1 (Q.top (by omega)) heB (by omega) (by omega)
      have o8 : F1.2.1 (G 5 x) = (25, 0) := by rw [a1.2.1]; exact o1
      have o9 : F1.2.2 (G 5 x) 2 = some (G 9 (G 3 x)) := by rw [a1.2.2.1 _ _ (by omega)]; exact o2
      obtain ⟨p1, p2, p3, -⟩ := H8.1 _ z1 z2
      have p4 : F1.2.1 (G 9 (G 3 x)) = (18, 0) := by rw [a1.2.1]; exact p2
      have p5 : F1.2.2 (G 9 (G 3 x)) 6 = some (G 5 (G 13 (G 3 x))) := by rw [a1.2.2.1 _ _ (by omega)]; exact p3
      refine ⟨25, v, F2, h2, _, m2, o1, by decide, by decide, fun N hN R r g hr => ?_, A, E5, P.pre (by rw [f7, z5]) rfl rfl l1 (Nat.le_refl _) (by omega) (X1.trans X2 (Nat.le_refl _) (Nat.le_refl _) (by omega)) (fC0.trans a1) ((fM0.trans a2).trans frM.task) ?_⟩
      · obtain ⟨r, rfl⟩ : ∃ r0, r = r0 + 1 := ⟨r - 1, by omega⟩
        show pv_work N R (tie4 N R (r + 1)) 15 F (G 5 x) (nI (16 * e)) h g = _
        rw [pv_8 c3 hcl, E3 N R _ N g (by omega), pX17_work_51, if_pos (show h1 101 16 = 0 from Q.e16), o8, gd_t (decide_eq_true rfl), o9, ob1_some, p4, gd_t (decide_eq_true rfl), p5, ob1_some, E4 N hN R r g (by omega), ogi_l]
      · exact ((show sb t0 kp m _ from ⟨fun _ _ => ⟨rfl, rfl, rfl⟩, fun _ _ => rfl⟩).trans bb (Nat.le_refl _) (Nat.le_refl _)).trans sb.task (Nat.le_refl _) (Nat.le_refl _)
    · refine ⟨25, 0, F1, h1, _, _, o1, by decide, by decide, fun N hN R r g hr => ?_, A, gto.refl _, fC0.trans a1, (fM0.trans a2).trans frM.task, Or.inr (P.mv2 (fun _ _ => rfl) (fun _ => ⟨rfl, rfl⟩) (fun k => tk_a (by decide) (by decide) (by decide) (by decide)) (fun k k1 k2 k3 => tk_f (by omega)))⟩
      obtain ⟨r, rfl⟩ : ∃ r0, r = r0 + 1 := ⟨r - 1, by omega⟩
      show pv_work N R (tie4 N R (r + 1)) 15 F (G 5 x) (nI (16 * e)) h g = _
      rw [pv_8 c3 hcl, E3 N R _ N g (by omega)]
/-- WORK: the component's recursion and the model's loop do the same -/
theorem work_ok {G : PG} {k0 nf I IP lim : Nat} (hP : pWF G k0 nf) : ∀ (n d : Nat), d ≤ 150 → 150 - d ≤ n → WK G k0 nf I IP lim n d := by
  intro n
  induction n with
  | zero => intro d h1 h2; exact wk_of h1 (fun q => by omega)
  | succ n ih =>
    intro d h1 h2
    refine wk_of h1 (fun hd W t p cl t0 kp F h m x e H he ht hkp => ?_)
    have hW := ih (d + 1) (by omega) (by omega)
    have hw := hP.2.2.2 x he.1
    have h9 : G 0 x = 1 ∨ G 0 x = 2 ∨ G 0 x = 3 ∨ G 0 x = 4 ∨ G 0 x = 5 ∨ G 0 x = 6 ∨ G 0 x = 7 ∨ G 0 x = 8 ∨ G 0 x = 9 := by
      obtain ⟨-, -, -, -, q1, q2, -⟩ := hw; omega
    rcases h9 with e | e | e | e | e | e | e | e | e
    · exact wi_1 hP hW H he (by omega) (by omega) (by omega) e
    · exact wi_2 hP hW H he (by omega) (by omega) (by omega) e
    · exact wi_3 hP hW H he (by omega) (by omega) (by omega) e
    · exact wi_4 hP hW H he (by omega) (by omega) (by omega) e
    · exact wi_5 hP H he e
    · exact wi_6 hP H he e
    · exact wi_7 hP hW H he (by omega) (by omega) (by omega) e
    · exact wi_8 hP hW H he (by omega) (by omega) (by omega) e
    · exact wi_9 hP H he e
