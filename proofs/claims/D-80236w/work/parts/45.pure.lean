/-! RUNS, 11: names, pairs -/
theorem act_7 {N x e s c : Nat} {m m1 : HI} {g : HL} (hx : x < 2002) (n1 : m 124 x = nI 7) (n2 : m 125 x = nI s) (hl : 16 * e + s < 24032) (hc : m 156 (16 * e + s) = nI c) (E : pX8_need N (nI c) m g = some (m1, g)) : mAct N (nI x) (nI e) m g = some (m1, g) := by
  rw [mAct]
  simp (disch := omega) only [q_lit, q_le, q_lt, q_inj, q_add, q_mul, q_sub, q_div, q_vin, q_ix, gd_true, ↓bnd_eq, ↓ob1_some, ↓obv_some, ↓obi_some, ↓obl_some, ↓obr_some, ↓ogv_l, ↓ogi_l, ↓ogr_l, ↓ogv_r, ↓ogi_r, ↓ogr_r, up2_at, decide_true, decide_eq_true_eq, ite_true, ite_false, if_true, if_false, ↓reduceIte, Nat.reduceEqDiff, Nat.reduceLeDiff, Nat.reduceLT, Nat.reduceAdd, Nat.reduceSub, Nat.reduceMul, not_true_eq_false, not_false_eq_true, true_and, and_true, false_and, and_false, or_true, true_or, or_false, false_or, hx, n1, n2, ti7, hl, hc, Int.reduceLT, Int.lt_irrefl]
  rw [E, obv_some]
theorem pv_7 {N R r a e s j : Nat} {v : Int32} {F F1 : Frm} {h h1 : HI} {g : HL} (o1 : F.2.1 a = (26, 0)) (o2 : h a 2 = nI s) (hl : 16 * e + s < 24016) (j2 : h 108 (16 * e + s) = nI j) (E : (tie4 N R r).2.2.2.2.2.2.1 F (nI j) h g = some (.inl (v, F1, h1, g))) : pv_work N R (tie4 N R (r + 1)) 16 F a (nI (16 * e)) h g = some (.inl (v, F1, h1, g)) := by
  show pX18_work_0 N R (tie4 N R r) F a (nI (16 * e)) h g = _
  rw [pX18_work_0, o1]
  simp (disch := omega) only [q_lit, q_le, q_lt, q_inj, q_add, q_mul, q_sub, q_div, q_vin, q_ix, gd_true, ↓bnd_eq, ↓ob1_some, ↓obv_some, ↓obi_some, ↓obl_some, ↓obr_some, ↓ogv_l, ↓ogi_l, ↓ogr_l, ↓ogv_r, ↓ogi_r, ↓ogr_r, up2_at, decide_true, decide_eq_true_eq, ite_true, ite_false, if_true, if_false, ↓reduceIte, Nat.reduceEqDiff, Nat.reduceLeDiff, Nat.reduceLT, Nat.reduceAdd, Nat.reduceSub, Nat.reduceMul, not_true_eq_false, not_false_eq_true, true_and, and_true, false_and, and_false, or_true, true_or, or_false, false_or, o2, hl, j2]
  rw [E, ogi_l]
theorem wi_7 {G W : PG} {k0 nf I IP lim n t p cl d t0 kp x e : Nat} {F : Frm} {h m : HI} (hP : pWF G k0 nf) (ih : WK G k0 nf I IP lim n d) (H : RunS G W k0 nf I IP lim t p cl d t0 kp F h m) (he : eok G W cl x e) (ht : t0 ≤ 6 * d + 5) (hd : d ≤ 150) (hkp : kp + 1 ≤ d) (hk : G 0 x = 7) : WI G W k0 nf I IP lim (n + 1) t p cl d t0 kp x e F h m := by
  have hw := hP.2.2.2 x he.1
  obtain ⟨cc, -⟩ := H.cap
  obtain ⟨H1, H2, H3, H4, H5, H6, H7, H8, H9⟩ := id H
  obtain ⟨n1, n2, -⟩ := H7.2 x he.1
  obtain ⟨-, -, -, -, -, -, -, -, b7, -⟩ := H8.2 x he.1
  obtain ⟨o1, o2⟩ := b7 hk
  have hb := he.bound
  obtain ⟨-, -, -, hx, -, -, -, -, -, -, -, -, -, -, -, w7, -⟩ := id hw
  obtain ⟨z1, z2, z3⟩ := w7 hk
  obtain ⟨j, j1, j2, j3, j4⟩ := H1.2.2.2 e hb (G 1 x) z1 (he.2.2.2 _ z1 z2)
  obtain ⟨v, F', h', m1, m', E1, E2, E3, P⟩ := need_ok hP ih H j1 (by omega) hd (by omega)
  refine ⟨26, v, F', h', m1, m', o1, by decide, by decide, fun N hN R r g hr => ?_, fun N hN g => act_7 hx (by rw [n1, hk]) n2 (by omega) j3 (E2 N hN g), E3, ?_⟩
  · obtain ⟨r, rfl⟩ : ∃ r0, r = r0 + 1 := ⟨r - 1, by omega⟩
    exact pv_7 o1 o2 (by omega) j2 (E1 N hN R r g (by omega))
  · rw [z3, ← he.2.2.1, ← j4]; exact P
-- pairs
theorem up2_self {h : HI} {a i : Nat} : up2 h a i (h a i) = h := by
  funext b j
  rw [up2_at]
  split
  · rename_i e; subst e
    split
    · rename_i e; rw [e]
    · rfl
  · rfl
/-- when the run has ended, no thing is made -/
theorem ct_over {F : Frm} {h : HI} {G : PG} {k0 nf x e en : Nat} (hC : sC G k0 nf F h) (hw : nWF G k0 nf x) (hx : G 17 x = 1) (he : e ≤ 1500) (c9 : h 101 16 = nI en) (h0 : ¬ en = 0) (h5 : en ≤ 5) : ∃ y, ∀ N R g, ppX7_thing N R F (G 5 x) (nI (16 * e)) h g = some (.inl (y, F, h, g)) := by
  obtain ⟨τ, t1, t2, t3, t4⟩ := hC.tag hw hx
  by_cases k7 : G 0 x = 7
  · obtain ⟨-, -, -, -, -, -, -, -, b7, -⟩ := hC.2 x hx
    obtain ⟨o1, o2⟩ := b7 k7
    obtain ⟨-, -, -, -, -, -, -, -, -, -, -, -, -, -, -, w7, -⟩ := id hw
    obtain ⟨z1, z2, z3⟩ := w7 k7
    refine ⟨h 108 (16 * e + G 1 x), fun N R g => ?_⟩
    have hB := isEb_t o1 (by decide) (by decide)
    have hl : 16 * e + G 1 x < 24016 := by omega
    show pX7_thing_0 N R F (G 5 x) (nI (16 * e)) h g = _
    rw [pX7_thing_0, hB, o1]
    simp (disch := omega) only [q_lit, q_le, q_lt, q_inj, q_add, q_mul, q_sub, q_div, q_vin, q_ix, gd_true, ↓bnd_eq, ↓ob1_some, ↓obv_some, ↓obi_some, ↓obl_some, ↓obr_some, ↓ogv_l, ↓ogi_l, ↓ogr_l, ↓ogv_r, ↓ogi_r, ↓ogr_r, up2_at, decide_true, decide_eq_true_eq, ite_true, ite_false, if_true, if_false, ↓reduceIte, Nat.reduceEqDiff, Nat.reduceLeDiff, Nat.reduceLT, Nat.reduceAdd, Nat.reduceSub, Nat.reduceMul, not_true_eq_false, not_false_eq_true, true_and, and_true, false_and, and_false, or_true, true_or, or_false, false_or, pv_alone, pX18_alone_0, o1, o2, hl, Nat.not_lt_zero]
  · refine ⟨0, fun N R g => ?_⟩
    have hB := isEb_t t1 t2 t3
    show pX7_thing_0 N R F (G 5 x) (nI (16 * e)) h g = _
    rw [pX7_thing_0, hB, t1]
    dsimp only
    rw [gd_true, bnd_eq, alone_no t2 t3 (t4 k7), obi_some, if_pos ne1_lt]
    simp (disch := omega) only [q_lit, q_le, q_lt, q_inj, q_add, q_mul, q_sub, q_div, q_vin, q_ix, gd_true, ↓bnd_eq, ↓ob1_some, ↓obv_some, ↓obi_some, ↓obl_some, ↓obr_some, ↓ogv_l, ↓ogi_l, ↓ogr_l, ↓ogv_r, ↓ogi_r, ↓ogr_r, up2_at, decide_true, decide_eq_true_eq, ite_true, ite_false, if_true, if_false, ↓reduceIte, Nat.reduceEqDiff, Nat.reduceLeDiff, Nat.reduceLT, Nat.reduceAdd, Nat.reduceSub, Nat.reduceMul, not_true_eq_false, not_false_eq_true, true_and, and_true, false_and, and_false, or_true, true_or, or_false, false_or, c9, h0, pX7_thing_41, pX7_ends_0]
    rw [← c9, up2_self]
theorem mt_over {N en : Nat} {x e : Int32} {m : HI} {g : HL} (d7 : m 115 74 = nI en) (h0 : ¬ en = 0) (h5 : en ≤ 5) : pX8_thing N x e m g = some (0, m, g) := by
  show pX8_thing_0 N x e m g = _
  rw [pX8_thing_0]
  simp (disch := omega) only [q_lit, q_le, q_lt, q_inj, q_add, q_mul, q_sub, q_div, q_vin, q_ix, gd_true, ↓bnd_eq, ↓ob1_some, ↓obv_some, ↓obi_some, ↓obl_some, ↓obr_some, ↓ogv_l, ↓ogi_l, ↓ogr_l, ↓ogv_r, ↓ogi_r, ↓ogr_r, up2_at, decide_true, decide_eq_true_eq, ite_true, ite_false, if_true, if_false, ↓reduceIte, Nat.reduceEqDiff, Nat.reduceLeDiff, Nat.reduceLT, Nat.reduceAdd, Nat.reduceSub, Nat.reduceMul, not_true_eq_false, not_false_eq_true, true_and, and_true, false_and, and_false, or_true, true_or, or_false, false_or, d7, h0]
theorem pv_9f {N R IP e a : Nat} {C : ty4} {F : Frm} {h : HI} {g : HL} (c9 : h 101 16 = nI 0) (c2 : h 101 7 = nI (IP + 1500)) (c5 : h 101 11 = nI IP) (hI : IP ≤ 40) : pv_work N R C 14 F a (nI (16 * e)) h g = some (.inl (0, F, up2 h 101 16 (nI 5), g)) := by
  show pX16_work_0 N R F a (nI (16 * e)) h g = _
  rw [pX16_work_0]
  have : pX7_pair_0 N R F h g = some (0, up2 h 101 16 (nI 5), g) := by
    rw [pX7_pair_0]
    simp (disch := omega) only [q_lit, q_le, q_lt, q_inj, q_add, q_mul, q_sub, q_div, q_vin, q_ix, gd_true, ↓bnd_eq, ↓ob1_some, ↓obv_some, ↓obi_some, ↓obl_some, ↓obr_some, ↓ogv_l, ↓ogi_l, ↓ogr_l, ↓ogv_r, ↓ogi_r, ↓ogr_r, up2_at, decide_true, decide_eq_true_eq, ite_true, ite_false, if_true, if_false, ↓reduceIte, Nat.reduceEqDiff, Nat.reduceLeDiff, Nat.reduceLT, Nat.reduceAdd, Nat.reduceSub, Nat.reduceMul, not_true_eq_false, not_false_eq_true, true_and, and_true, false_and, and_false, or_true, true_or, or_false, false_or, c9, c2, c5, show IP + 1500 - IP = 1500 by omega, pX7_ends_0]
  show obi (pX7_pair_0 N R F h g) _ = _
  rw [this, obi_some]
  simp (disch := omega) only [q_lit, q_le, q_lt, q_inj, q_add, q_mul, q_sub, q_div, q_vin, q_ix, gd_true, ↓bnd_eq, ↓ob1_some, ↓obv_some, ↓obi_some, ↓obl_some, ↓obr_some, ↓ogv_l, ↓ogi_l, ↓ogr_l, ↓ogv_r, ↓ogi_r, ↓ogr_r, up2_at, decide_true, decide_eq_true_eq, ite_true, ite_false, if_true, if_false, ↓reduceIte, Nat.reduceEqDiff, Nat.reduceLeDiff, Nat.reduceLT, Nat.reduceAdd, Nat.reduceSub, Nat.reduceMul, not_true_eq_false, not_false_eq_true, true_and, and_true, false_and, and_false, or_true, true_or, or_false, false_or]
theorem pv_9 {N R IP p e a b1 b2 : Nat} {y1 y2 : Int32} {C : ty4} {F F1 F2 : Frm} {h h3 h5 : HI} {g : HL} (c9 : h 101 16 = nI 0) (c2 : h 101 7 = nI (IP + p)) (c5 : h 101 11 = nI IP) (hI : IP ≤ 40) (hp : p < 1500) (o1 : F.2.1 a = (24, 0)) (o2 : F.2.2 a 2 = some b1)
    (E1 : ppX7_thing N R F b1 (nI (16 * e)) (up2 h 101 7 (nI (IP + p + 1))) g = some (.inl (y1, F1, h3, g))) (o3 : F1.2.1 a = (24, 0)) (o4 : F1.2.2 a 3 = some b2) (E2 : ppX7_thing N R F1 b2 (nI (16 * e)) (up2 h3 106 (IP + p) y1) g = some (.inl (y2, F2, h5, g))) :
    pv_work N R C 14 F a (nI (16 * e)) h g = some (.inl (nI (IP + p), F2, up2 h5 107 (IP + p) y2, g)) := by
  show pX16_work_0 N R F a (nI (16 * e)) h g = _
  have full : ¬ p = 1500 := by omega
  have hl : IP + p < 1540 := by omega
  have : pX7_pair_0 N R F h g = some (nI (IP + p), up2 h 101 7 (nI (IP + p + 1)), g) := by
    rw [pX7_pair_0]
    simp (disch := omega) only [q_lit, q_le, q_lt, q_inj, q_add, q_mul, q_sub, q_div, q_vin, q_ix, gd_true, ↓bnd_eq, ↓ob1_some, ↓obv_some, ↓obi_some, ↓obl_some, ↓obr_some, ↓ogv_l, ↓ogi_l, ↓ogr_l, ↓ogv_r, ↓ogi_r, ↓ogr_r, up2_at, decide_true, decide_eq_true_eq, ite_true, ite_false, if_true, if_false, ↓reduceIte, Nat.reduceEqDiff, Nat.reduceLeDiff, Nat.reduceLT, Nat.reduceAdd, Nat.reduceSub, Nat.reduceMul, not_true_eq_false, not_false_eq_true, true_and, and_true, false_and, and_false, or_true, true_or, or_false, false_or, c9, c2, c5, show IP + p - IP = p by omega, full, show IP + p + 1 - 1 = IP + p by omega]
  rw [pX16_work_0]
  show obi (pX7_pair_0 N R F h g) _ = _
  rw [this, obi_some, if_pos (show up2 h 101 7 (nI (IP + p + 1)) 101 16 = 0 from c9), o1, o2, ob1_some, E1, ogi_l, q_vin (by omega), decide_eq_true hl, gd_true, gd_t (decide_eq_true rfl), bnd_eq, show ix (nI (IP + p)) = IP + p from q_ix (by omega), o3, gd_t (decide_eq_true rfl), o4, ob1_some, E2, ogi_l, gd_true, bnd_eq]
theorem act_9f {N x : Nat} {w : Int32} {m : HI} {g : HL} (hx : x < 2002) (n1 : m 124 x = nI 9) (d2 : m 115 68 = nI 1500) : mAct N (nI x) w m g = some (up2 m 115 74 (nI 5), g) := by
  rw [mAct]
  simp (disch := omega) only [q_lit, q_le, q_lt, q_inj, q_add, q_mul, q_sub, q_div, q_vin, q_ix, gd_true, ↓bnd_eq, ↓ob1_some, ↓obv_some, ↓obi_some, ↓obl_some, ↓obr_some, ↓ogv_l, ↓ogi_l, ↓ogr_l, ↓ogv_r, ↓ogi_r, ↓ogr_r, up2_at, decide_true, decide_eq_true_eq, ite_true, ite_false, if_true, if_false, ↓reduceIte, Nat.reduceEqDiff, Nat.reduceLeDiff, Nat.reduceLT, Nat.reduceAdd, Nat.reduceSub, Nat.reduceMul, not_true_eq_false, not_false_eq_true, true_and, and_true, false_and, and_false, or_true, true_or, or_false, false_or, hx, n1, ti9, Int.reduceLT, Int.lt_irrefl, pX8_paired_0, d2]
theorem act_9 {N x e a b p : Nat} {y1 y2 : Int32} {m m3 m5 : HI} {g : HL} (hx : x < 2002) (n1 : m 124 x = nI 9) (d2 : m 115 68 = nI p) (hp : p < 1500) (n2 : m 125 x = nI a) (E1 : pX8_thing N (nI a) (nI e) (up2 m 115 68 (nI (p + 1))) g = some (y1, m3, g)) (n3 : m3 126 x = nI b) (E2 : pX8_thing N (nI b) (nI e) (up2 m3 154 p y1) g = some (y2, m5, g)) :
    mAct N (nI x) (nI e) m g = some (up2 (up2 (up2 m5 155 p y2) 115 77 (nI 1)) 115 78 (nI p), g) := by
  have full : ¬ p = 1500 := by omega
  have hl : p < 1540 := by omega
  have : pX8_paired_0 N (nI x) (nI e) m g = some (up2 (up2 (up2 m5 155 p y2) 115 77 (nI 1)) 115 78 (nI p), g) := by
    rw [pX8_paired_0]
    have e1 : up2 m 115 68 (nI (p + 1)) 125 x = nI a := n2
    have e2 : up2 m3 154 p y1 126 x = nI b := n3
    rw [d2, if_neg (by show ¬ nI p = nI 1500; rw [q_inj (by omega) (by omega)]; exact full), bnd_eq, bnd_eq, q_vin (by omega), decide_eq_true hx, gd_true, show nI p + 1 = nI (p + 1) from q_add p 1, show ix (nI x) = x from q_ix (by omega), e1, E1, obi_some, q_vin (by omega), decide_eq_true hl, gd_true, bnd_eq, gd_true, show ix (nI p) = p from q_ix (by omega), e2, E2, obi_some, gd_true, bnd_eq]
    rfl
  rw [mAct]
  simp (disch := omega) only [q_lit, q_le, q_lt, q_inj, q_add, q_mul, q_sub, q_div, q_vin, q_ix, gd_true, ↓bnd_eq, ↓ob1_some, ↓obv_some, ↓obi_some, ↓obl_some, ↓obr_some, ↓ogv_l, ↓ogi_l, ↓ogr_l, ↓ogv_r, ↓ogi_r, ↓ogr_r, up2_at, decide_true, decide_eq_true_eq, ite_true, ite_false, if_true, if_false, ↓reduceIte, Nat.reduceEqDiff, Nat.reduceLeDiff, Nat.reduceLT, Nat.reduceAdd, Nat.reduceSub, Nat.reduceMul, not_true_eq_false, not_false_eq_true, true_and, and_true, false_and, and_false, or_true, true_or, or_false, false_or, hx, n1, ti9, Int.reduceLT, Int.lt_irrefl]
  show obv (pX8_paired_0 N (nI x) (nI e) m g) _ = _
  rw [this, obv_some]
theorem wi_9 {G W : PG} {k0 nf I IP lim n t p cl d t0 kp x e : Nat} {F : Frm} {h m : HI} (hP : pWF G k0 nf) (H : RunS G W k0 nf I IP lim t p cl d t0 kp F h m) (he : eok G W cl x e) (hk : G 0 x = 9) : WI G W k0 nf I IP lim n t p cl d t0 kp x e F h m := by
  have hw := hP.2.2.2 x he.1
  obtain ⟨cc1, cc2, cc3, cc4, cc5⟩ := H.cap
  obtain ⟨H1, ⟨s0, dd, hc⟩, H3, H4, H5, H6, H7, H8, H9⟩ := id H
  obtain ⟨c1, c2, c3, c4, c5, c6, c7, c8, c9, g1, g2, g3, g4, g5, g6, g7, d8, d9, i1, i2⟩ := id hc
  obtain ⟨n1, n2, n3, n4, n5, -⟩ := H7.2 x he.1
  obtain ⟨ox, -, -, -, -, -, -, -, -, -, b9⟩ := H8.2 x he.1
  obtain ⟨o1, o2, o3⟩ := b9 hk
  have hb := he.bound
  obtain ⟨-, -, hy4, hx, -, -, -, -, -, -, -, -, -, -, -, -, -, w9⟩ := id hw
  obtain ⟨z1, z2, y1, y2, -, z6, z7, z8⟩ := w9 hk
  by_cases full : p = 1500
  · subst full
    refine ⟨24, 0, F, _, _, _, o1, by decide, by decide, fun N hN R r g hr => pv_9f c9 c2 c5 cc5, fun N hN g => act_9f hx (by rw [n1, hk]) g2, gto.refl _, ⟨⟨rfl, rfl, fun _ _ => rfl, rfl, rfl⟩, rfl, fun _ _ _ => rfl, fun a k q => up2_ne (by omega)⟩, ?_, Or.inr ?_⟩
    · intro a k q1 q2 q3 q4 q5
      by_cases c : a = 115
      · rw [up2_nj (by omega)]
      · rw [up2_ne c]
    · refine H.end (en := 5) (by decide) (by decide) (fun a k q => ?_) rfl (fun k q => up2_nj (by omega)) (fun a k q1 q2 => up2_ne (by omega)) rfl
      by_cases c : a = 101
      · rw [up2_nj (by omega)]
      · rw [up2_ne c]
  · have hp : p < 1500 := by omega
    have hc2 : CT I IP t (p + 1) cl s0 dd 0 lim (up2 h 101 7 (nI (IP + p + 1))) (up2 m 115 68 (nI (p + 1))) := ⟨c1, rfl, c3, c4, c5, c6, c7, c8, c9, g1, rfl, g3, g4, g5, g6, g7, d8, d9, i1, i2⟩
    have fC0 : frC F h F (up2 h 101 7 (nI (IP + p + 1))) := ⟨⟨rfl, rfl, fun _ _ => rfl, rfl, rfl⟩, rfl, fun _ _ _ => rfl, fun a k q => up2_ne (by omega)⟩
    have fM0 : frM m (up2 m 115 68 (nI (p + 1))) := fun a k q1 q2 q3 q4 q5 => by
      by_cases c : a = 115
      · rw [up2_nj (by omega)]
      · rw [up2_ne c]
    have R0 := H1.same (F' := F) (h' := up2 h 101 7 (nI (IP + p + 1))) (m' := up2 m 115 68 (nI (p + 1))) (fun _ => rfl) (fun a k q1 q2 => up2_ne (by omega)) (fun a k q1 q2 => up2_ne (by omega))
    obtain ⟨yC, yM, F1, h3, m3, W1, t1, en, E1, E2, fT, hc3, l1, X, R1, e0, J⟩ := x_thing hP (H7.fr fM0) (H8.fr fC0) R0 hc2 (he.sub z1 y1)
    have fC1 : frC F h F1 (up2 h3 106 (IP + p) yC) := (fC0.trans fT.C).trans ⟨⟨rfl, rfl, fun _ _ => rfl, rfl, rfl⟩, rfl, fun _ _ _ => rfl, fun a k q => up2_ne (by omega)⟩
    have fM1 : frM m (up2 m3 154 p yM) := (fM0.trans fT.M).trans (fun a k q1 q2 q3 q4 q5 => up2_ne (by omega))
    have o5 : F1.2.1 (G 5 x) = (24, 0) := by rw [fT.2.1]; exact o1
    have o6 : F1.2.2 (G 5 x) 3 = some (G 5 (G 2 x)) := by rw [fT.2.2.1 _ _ (by omega)]; exact o3
    have m126 : m3 126 x = nI (G 2 x) := by rw [fT.2.2.2.2 126 x (by decide) (by decide) (by omega)]; exact n4 (by omega) (by omega) (by omega)
    by_cases c : en = 0
    · subst c
      obtain ⟨i, j1, rfl, rfl, j4⟩ := J rfl
      have R2 := R1.fresh (F' := F1) (h' := up2 h3 106 (IP + p) (nI i)) (m' := up2 m3 154 p (nI (th I i))) hp (fun _ => rfl)
        (fun a k q1 q2 q3 => by
          by_cases c : a = 106
          · subst c; rw [up2_nj (by omega)]
          · rw [up2_ne c])
        (fun a k q1 q2 q3 => by
          by_cases c : a = 154
          · subst c; rw [up2_nj (by omega)]
          · rw [up2_ne c])
      have hc4 : CT I IP t1 (p + 1) cl s0 dd 0 lim (up2 h3 106 (IP + p) (nI i)) (up2 m3 154 p (nI (th I i))) := hc3
      obtain ⟨yC2, yM2, F2, h5, m5, W2, t2, en2, E3, E4, fT2, hc5, l2, X2, R3, e02, J2⟩ := x_thing hP (H7.fr fM1) (H8.fr fC1) R2 hc4 ((he.sub z2 y2).ext X (Nat.le_refl _))
      have fC2 : frC F h F2 (up2 h5 107 (IP + p) yC2) := (fC1.trans fT2.C).trans ⟨⟨rfl, rfl, fun _ _ => rfl, rfl, rfl⟩, rfl, fun _ _ _ => rfl, fun a k q => up2_ne (by omega)⟩
      have fM2 : frM m (up2 (up2 (up2 m5 155 p yM2) 115 77 (nI 1)) 115 78 (nI p)) := by
        refine (fM1.trans fT2.M).trans (fun a k q1 q2 q3 q4 q5 => ?_)
        by_cases c : a = 115
        · subst c; rw [up2_nj (by omega), up2_nj (by omega), up2_ne (by decide)]
        · rw [up2_ne c, up2_ne c, up2_ne (by omega)]
      have EC : ∀ N, 8 ≤ N → ∀ R r g, 3 * n + 2 ≤ r → pv_work N R (tie4 N R r) (24 - 10) F (G 5 x) (nI (16 * e)) h g = some (.inl (nI (IP + p), F2, up2 h5 107 (IP + p) yC2, g)) := fun N hN R r g hr => pv_9 c9 c2 c5 cc5 hp o1 o2 (E1 N R g) o5 o6 (E3 N R g)
      have EM : ∀ N, 8 ≤ N → ∀ g, mAct N (nI x) (nI e) m g = some (up2 (up2 (up2 m5 155 p yM2) 115 77 (nI 1)) 115 78 (nI p), g) := fun N hN g => act_9 hx (by rw [n1, hk]) g2 hp n2 (E2 N g) m126 (E4 N g)
      by_cases c2 : en2 = 0
      · subst c2
        obtain ⟨j, k1, rfl, rfl, k4⟩ := J2 rfl
        have yy : 1 ≤ G 4 x ∧ G 4 x ≤ 4 := by omega
        have ff : fOf (G 4 x) = G 4 (G 1 x) ∧ sOf (G 4 x) = G 4 (G 2 x) := by
          rw [z8]
          have u1 : G 4 (G 1 x) = 0 ∨ G 4 (G 1 x) = 1 := by omega
          have u2 : G 4 (G 2 x) = 0 ∨ G 4 (G 2 x) = 1 := by omega
          rcases u1 with u1 | u1 <;> rcases u2 with u2 | u2 <;> rw [u1, u2] <;> decide
        have h106 : h5 106 (IP + p) = nI i := by rw [fT2.2.2.2.1 106 _ (by decide) (by decide) (by omega), up2_eq]
        have m154 : m5 154 p = nI (th I i) := by rw [fT2.2.2.2.2 154 _ (by decide) (by decide) (by omega), up2_eq]
        obtain ⟨R5, X5⟩ := R3.pair (y := G 4 x) (i := i) (j := j) (F' := F2) (h' := up2 h5 107 (IP + p) (nI j)) (m' := up2 (up2 (up2 m5 155 p (nI (th I j))) 115 77 (nI 1)) 115 78 (nI p)) hp yy (by omega) k1 (by rw [X2.2.1 i j1, j4]; exact ff.1.symm) (by rw [k4]; exact ff.2.symm) (fun _ => rfl) (fun a k q1 q2 q3 q4 => up2_ne q4)
          (fun k => by
            rw [up2_ne (by decide)]
            split
            · rename_i q; rw [q]; exact h106
            · rfl)
          (fun k => by rw [up2_at, if_pos rfl])
          (fun a k q1 q2 q3 q4 => by rw [up2_ne (by omega), up2_ne (by omega), up2_ne q4])
          (fun k => by
            rw [up2_ne (by decide), up2_ne (by decide), up2_ne (by decide)]
            split
            · rename_i q; rw [q]; exact m154
            · rfl)
          (fun k => by rw [up2_ne (by decide), up2_ne (by decide), up2_at, if_pos rfl])
        have hq : pi' (up2 (up2 W2 2 (IP + p) (G 4 x)) 6 (IP + p) j) IP (IP + p) = p := by unfold pi'; rw [if_neg (by omega)]; omega
        have e14 : h5 101 14 = nI d := by rw [fT2.2.2.2.1 101 14 (by decide) (by decide) (by decide)]; show h3 101 14 = _; rw [fT.2.2.2.1 101 14 (by decide) (by decide) (by decide)]; exact H3
        have M : ∀ k, ¬ k = 67 → ¬ k = 74 → ¬ k = 68 → m5 115 k = m 115 k := fun k q1 q2 q3 => by
          rw [fT2.2.2.2.2 115 k (by decide) (by decide) (by omega)]; show m3 115 k = _; rw [fT.2.2.2.2 115 k (by decide) (by decide) (by omega), up2_nj q3]
        have SBk : ∀ a k, (a = 134 ∨ a = 135 ∨ a = 138 ∨ a = 158) → m5 a k = m a k := fun a k q => by
          rw [fT2.2.2.2.2 a k (by omega) (by omega) (by omega), up2_ne (by omega), fT.2.2.2.2 a k (by omega) (by omega) (by omega), up2_ne (by omega)]
        refine ⟨24, _, F2, _, _, _, o1, by decide, by decide, EC, EM, gto.refl _, fC2, fM2, Or.inl ⟨_, t2, p + 1, cl, by omega, by omega, Nat.le_refl _, (X.trans X2 l1 (Nat.le_refl _) (Nat.le_refl _)).trans X5 (by omega) (Nat.le_refl _) (Nat.le_refl _), ⟨R5, ⟨s0, dd, hc5⟩, e14, ?_, ?_, ?_, H7.fr fM2, H8.fr fC2, ?_, ?_⟩, ?_, ?_⟩⟩
        · show m5 115 72 = _; rw [M 72 (by decide) (by decide) (by decide)]; exact H4
        · show m5 115 36 = _; rw [M 36 (by decide) (by decide) (by decide)]; exact H5
        · show m5 115 82 = _; rw [M 82 (by decide) (by decide) (by decide)]; exact H6
        · rw [fC2.1.2.1, up2_ne (by decide), up2_ne (by decide), X2.2.2.2.1 0 (Nat.zero_le _), X.2.2.2.1 0 (Nat.zero_le _)]; exact H9.1
        · rw [up2_ne (by decide), up2_ne (by decide), X2.2.2.2.1 0 (Nat.zero_le _), X.2.2.2.1 0 (Nat.zero_le _)]; exact H9.2
        · exact Or.inr ⟨by omega, rfl, IP + p, rfl, by omega, by rw [hq]; rfl, by rw [up2_ne (by decide), up2_eq]⟩
        · exact ⟨fun i hi => ⟨SBk 134 i (by omega), SBk 135 i (by omega), SBk 138 i (by omega)⟩, fun i hi => SBk 158 i (by omega)⟩
      · refine ⟨24, _, F2, _, _, _, o1, by decide, by decide, EC, EM, gto.refl _, fC2, fM2, Or.inr ((show PE I IP lim h5 m5 from ⟨t2, p + 1, cl, s0, dd, en2, ⟨c2, by omega⟩, hc5, R3.FI⟩).mv2 (fun k q => up2_ne (by decide)) (fun k => ⟨up2_ne (by decide), up2_ne (by decide)⟩) (fun k => ?_) (fun k q1 q2 q3 => ?_))⟩
        · rw [up2_ne (by decide), up2_ne (by decide), up2_ne (by decide)]
        · rw [up2_nj (by omega), up2_nj (by omega), up2_ne (by decide)]
    · have hen : h3 101 16 = nI en ∧ m3 115 74 = nI en ∧ en ≤ 5 := ⟨hc3.2.2.2.2.2.2.2.2.1, hc3.2.2.2.2.2.2.2.2.2.2.2.2.2.2.2.1, by omega⟩
      obtain ⟨y, E3⟩ := ct_over (H8.fr fC1) (hP.2.2.2 _ z2.1) z2.1 (e := e) (by omega) (show up2 h3 106 (IP + p) yC 101 16 = nI en from hen.1) c hen.2.2
      have E4 : ∀ N g, pX8_thing N (nI (G 2 x)) (nI e) (up2 m3 154 p yM) g = some (0, up2 m3 154 p yM, g) := fun N g => mt_over (show up2 m3 154 p yM 115 74 = nI en from hen.2.1) c hen.2.2
      refine ⟨24, _, F1, _, _, _, o1, by decide, by decide, fun N hN R r g hr => pv_9 c9 c2 c5 cc5 hp o1 o2 (E1 N R g) o5 o6 (E3 N R g), fun N hN g => act_9 hx (by rw [n1, hk]) g2 hp n2 (E2 N g) m126 (E4 N g), gto.refl _, fC1.trans ⟨⟨rfl, rfl, fun _ _ => rfl, rfl, rfl⟩, rfl, fun _ _ _ => rfl, fun a k q => up2_ne (by omega)⟩, fM1.trans (fun a k q1 q2 q3 q4 q5 => ?_), Or.inr ((show PE I IP lim h3 m3 from ⟨t1, p + 1, cl, s0, dd, en, ⟨c, by omega⟩, hc3, R1.FI⟩).mv2 (fun k q => ?_) (fun k => ⟨?_, ?_⟩) (fun k => ?_) (fun k q1 q2 q3 => ?_))⟩
      · by_cases c : a = 115
        · subst c; rw [up2_nj (by omega), up2_nj (by omega), up2_ne (by decide)]
        · rw [up2_ne c, up2_ne c, up2_ne (by omega)]
      · rw [up2_ne (by decide), up2_ne (by decide)]
      · rw [up2_ne (by decide), up2_ne (by decide)]
      · rw [up2_ne (by decide), up2_ne (by decide)]
      · rw [up2_ne (by decide), up2_ne (by decide), up2_ne (by decide), up2_ne (by decide)]
      · rw [up2_nj (by omega), up2_nj (by omega), up2_ne (by decide), up2_ne (by decide)]
