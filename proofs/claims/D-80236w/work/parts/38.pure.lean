/-! RUNS, 4: the beginning and the end of a step of work -/
/-- what the model's work does behind its first task -/
def mAct (N : Nat) (x1 : Int32) (x2 : Int32) (h2 : HI) (g3 : HL) : Option (HI × HL) :=
  gd (vin x1 2002) <|
  bnd (h2 124 (ix x1)) fun (y4 : Int32) =>
  if y4.toInt < 1 ∨ 8 < y4.toInt then
    obv (pX8_paired N x1 x2 h2 g3) fun (h5 : HI) (g6 : HL) =>
    some (h5, g6)
  else if y4 = 1 then
    gd (vin x1 2002) <|
    obv (pX8_task N 5 (h2 127 (ix x1)) 0 h2 g3) fun (h7 : HI) (g8 : HL) =>
    gd (vin x1 2002) <|
    obv (pX8_task N 1 (h7 126 (ix x1)) x2 h7 g8) fun (h9 : HI) (g10 : HL) =>
    obv (pX8_task N 4 0 0 h9 g10) fun (h11 : HI) (g12 : HL) =>
    gd (vin x1 2002) <|
    obv (pX8_task N 1 (h11 125 (ix x1)) x2 h11 g12) fun (h13 : HI) (g14 : HL) =>
    some (h13, g14)
  else if y4 = 2 then
    obv (pX8_task N 6 x1 x2 h2 g3) fun (h15 : HI) (g16 : HL) =>
    gd (vin x1 2002) <|
    obv (pX8_task N 1 (h15 125 (ix x1)) x2 h15 g16) fun (h17 : HI) (g18 : HL) =>
    some (h17, g18)
  else if y4 = 3 then
    gd (vin x1 2002) <|
    gd (vin x1 2002) <|
    obi (pX8_thing N (h2 125 (ix x1)) x2 h2 g3) fun (y21 : Int32) (h19 : HI) (g20 : HL) =>
    gd (vin ((16 * x2) + (h2 127 (ix x1))) 24032) <|
    bnd (up2 h19 156 (ix ((16 * x2) + (h2 127 (ix x1)))) y21) fun (h22 : HI) =>
    gd (vin x1 2002) <|
    obv (pX8_task N 1 (h22 126 (ix x1)) x2 h22 g20) fun (h23 : HI) (g24 : HL) =>
    some (h23, g24)
  else if y4 = 4 then
    obv (pX8_task N 7 x1 x2 h2 g3) fun (h25 : HI) (g26 : HL) =>
    gd (vin x1 2002) <|
    obv (pX8_task N 1 (h25 125 (ix x1)) x2 h25 g26) fun (h27 : HI) (g28 : HL) =>
    some (h27, g28)
  else if y4 = 5 then
    gd (vin x1 2002) <|
    obv (pX8_gives N 0 (h2 125 (ix x1)) h2 g3) fun (h29 : HI) (g30 : HL) =>
    some (h29, g30)
  else if y4 = 6 then
    bnd (up2 h2 115 74 2) fun (h31 : HI) =>
    some (h31, g3)
  else if y4 = 7 then
    gd (vin x1 2002) <|
    gd (vin ((16 * x2) + (h2 125 (ix x1))) 24032) <|
    obv (pX8_need N (h2 156 (ix ((16 * x2) + (h2 125 (ix x1))))) h2 g3) fun (h32 : HI) (g33 : HL) =>
    some (h32, g33)
  else
    obv (pX8_called N x1 x2 h2 g3) fun (h34 : HI) (g35 : HL) =>
    some (h34, g35)
def pm (m : HI) (s d dd t : Nat) : HI := tk (up2 (up2 (up2 (up2 m 115 74 (nI 0)) 115 70 (nI (s + 1))) 115 72 (nI (d + 1))) 115 73 (nI (max dd (d + 1)))) t (nI 2) (nI 0) (nI 0)
def ph (h : HI) (s d dd : Nat) : HI := up2 (up2 (up2 h 101 13 (nI (s + 1))) 101 14 (nI (d + 1))) 101 15 (nI (max dd (d + 1)))
theorem mw_85 {N t : Nat} {x w v : Int32} {m : HI} {g : HL} (e : m 115 36 = nI t) (ht : t < 3000) : pX8_work_85 N x w v m g = mAct N x w (tk (up2 m 115 73 v) t (nI 2) (nI 0) (nI 0)) g := by
  have e1 : up2 m 115 73 v 115 36 = nI t := e
  rw [pX8_work_85, bnd_eq, tk_eq e1 ht, obv_some]
  rfl
theorem mw_31 {N s d dd : Nat} {x w : Int32} {m : HI} {g : HL} (a1 : m 115 70 = nI s) (a5 : m 115 72 = nI d) (a6 : d < 150) (a7 : m 115 73 = nI dd) (a8 : dd ≤ 150) :
    pX8_work_31 N x w 0 m g = pX8_work_85 N x w (nI (max dd (d + 1))) (up2 (up2 (up2 m 115 74 (nI 0)) 115 70 (nI (s + 1))) 115 72 (nI (d + 1))) g := by
  have z3 : up2 (up2 (up2 m 115 74 (0 : Int32)) 115 70 (m 115 70 + 1)) 115 72 (m 115 72 + 1) = up2 (up2 (up2 m 115 74 (nI 0)) 115 70 (nI (s + 1))) 115 72 (nI (d + 1)) := by
    rw [a1, a5, ← q_add, ← q_add]
    rfl
  have r2 : up2 (up2 (up2 m 115 74 (nI 0)) 115 70 (nI (s + 1))) 115 72 (nI (d + 1)) 115 73 = nI dd := a7
  have r1 : up2 (up2 (up2 m 115 74 (nI 0)) 115 70 (nI (s + 1))) 115 72 (nI (d + 1)) 115 72 = nI (d + 1) := up2_eq
  have zz := q_le (a := d + 1) (b := dd) (by omega) (by omega)
  rw [pX8_work_31, bnd_eq, if_pos (show up2 m 115 74 (0 : Int32) 115 74 = 0 from up2_eq), bnd_eq, bnd_eq]
  show (if up2 (up2 (up2 m 115 74 (0 : Int32)) 115 70 (m 115 70 + 1)) 115 72 (m 115 72 + 1) 115 72 ≤ up2 (up2 (up2 m 115 74 (0 : Int32)) 115 70 (m 115 70 + 1)) 115 72 (m 115 72 + 1) 115 73 then pX8_work_85 N x w (up2 (up2 (up2 m 115 74 (0 : Int32)) 115 70 (m 115 70 + 1)) 115 72 (m 115 72 + 1) 115 73) (up2 (up2 (up2 m 115 74 (0 : Int32)) 115 70 (m 115 70 + 1)) 115 72 (m 115 72 + 1)) g else pX8_work_85 N x w (up2 (up2 (up2 m 115 74 (0 : Int32)) 115 70 (m 115 70 + 1)) 115 72 (m 115 72 + 1) 115 72) (up2 (up2 (up2 m 115 74 (0 : Int32)) 115 70 (m 115 70 + 1)) 115 72 (m 115 72 + 1)) g) = _
  rw [z3, r1, r2]
  by_cases c : d + 1 ≤ dd
  · rw [if_pos (by rw [zz]; exact c), show max dd (d + 1) = dd by omega]
  · rw [if_neg (by rw [zz]; exact c), show max dd (d + 1) = d + 1 by omega]
theorem mw_pre {N x s d dd lim t : Nat} {w : Int32} {m : HI} {g : HL} (a1 : m 115 70 = nI s) (a2 : m 115 71 = nI lim) (a3 : s < lim) (a4 : lim ≤ 20000) (a5 : m 115 72 = nI d) (a6 : d < 150) (a7 : m 115 73 = nI dd) (a8 : dd ≤ 150) (a9 : m 115 36 = nI t) (b1 : t < 3000) :
    pX8_work N (nI x) w m g = mAct N (nI x) w (pm m s d dd t) g := by
  show pX8_work_0 N (nI x) w m g = _
  have z1 : ¬ s = lim := by omega
  have z2 : ¬ d = 150 := by omega
  have z3 : up2 (up2 (up2 m 115 74 (nI 0)) 115 70 (nI (s + 1))) 115 72 (nI (d + 1)) 115 36 = nI t := a9
  rw [pX8_work_0, if_neg (by rw [a1, a2, q_inj (by omega) (by omega)]; exact z1), if_neg (by rw [a5]; show ¬ nI d = nI 150; rw [q_inj (by omega) (by omega)]; exact z2), mw_31 a1 a5 a6 a7 a8, mw_85 z3 b1, pm]
theorem mw_end {N x s d lim k : Nat} {w : Int32} {m : HI} {g : HL} (a1 : m 115 70 = nI s) (a2 : m 115 71 = nI lim) (a3 : s ≤ lim) (a4 : lim ≤ 20000) (a5 : m 115 72 = nI d) (a6 : d ≤ 150) (hk : s = lim ∧ k = 3 ∨ ¬ s = lim ∧ d = 150 ∧ k = 4) : pX8_work N (nI x) w m g = some (up2 m 115 74 (nI k), g) := by
  show pX8_work_0 N (nI x) w m g = _
  rw [pX8_work_0]
  rcases hk with ⟨e1, e2⟩ | ⟨e1, e2, e3⟩
  · subst e1; subst e2
    simp (disch := omega) only [q_lit, q_le, q_lt, q_inj, q_add, q_mul, q_sub, q_div, q_vin, q_ix, gd_true, ↓bnd_eq, ↓ob1_some, ↓obv_some, ↓obi_some, ↓obl_some, ↓obr_some, ↓ogv_l, ↓ogi_l, ↓ogr_l, ↓ogv_r, ↓ogi_r, ↓ogr_r, up2_at, decide_true, decide_eq_true_eq, ite_true, ite_false, if_true, if_false, ↓reduceIte, Nat.reduceEqDiff, Nat.reduceLeDiff, Nat.reduceLT, Nat.reduceAdd, Nat.reduceSub, Nat.reduceMul, not_true_eq_false, not_false_eq_true, true_and, and_true, false_and, and_false, or_true, true_or, or_false, false_or, a1, a2, pX8_work_31]
  · subst e2; subst e3
    simp (disch := omega) only [q_lit, q_le, q_lt, q_inj, q_add, q_mul, q_sub, q_div, q_vin, q_ix, gd_true, ↓bnd_eq, ↓ob1_some, ↓obv_some, ↓obi_some, ↓obl_some, ↓obr_some, ↓ogv_l, ↓ogi_l, ↓ogr_l, ↓ogv_r, ↓ogi_r, ↓ogr_r, up2_at, decide_true, decide_eq_true_eq, ite_true, ite_false, if_true, if_false, ↓reduceIte, Nat.reduceEqDiff, Nat.reduceLeDiff, Nat.reduceLT, Nat.reduceAdd, Nat.reduceSub, Nat.reduceMul, not_true_eq_false, not_false_eq_true, true_and, and_true, false_and, and_false, or_true, true_or, or_false, false_or, a1, a2, a5, e1, pX8_work_31]
theorem cw_end {N R r a s d lim k : Nat} {w : Int32} {F : Frm} {h : HI} {g : HL} (a0 : h 101 16 = nI 0) (a1 : h 101 13 = nI s) (a2 : h 101 12 = nI lim) (a3 : s ≤ lim) (a4 : lim ≤ 20000) (a5 : h 101 14 = nI d) (a6 : d ≤ 150) (hk : s = lim ∧ k = 3 ∨ ¬ s = lim ∧ d = 150 ∧ k = 4) :
    (tie4 N R (r + 1)).2.2.2.2.2.2.2 F a w h g = some (.inl (0, F, up2 h 101 16 (nI k), g)) := by
  show pX7_work_0 N R (tie4 N R r) F a w h g = _
  rw [pX7_work_0]
  rcases hk with ⟨e1, e2⟩ | ⟨e1, e2, e3⟩
  · subst e1; subst e2
    simp (disch := omega) only [q_lit, q_le, q_lt, q_inj, q_add, q_mul, q_sub, q_div, q_vin, q_ix, gd_true, ↓bnd_eq, ↓ob1_some, ↓obv_some, ↓obi_some, ↓obl_some, ↓obr_some, ↓ogv_l, ↓ogi_l, ↓ogr_l, ↓ogv_r, ↓ogi_r, ↓ogr_r, up2_at, decide_true, decide_eq_true_eq, ite_true, ite_false, if_true, if_false, ↓reduceIte, Nat.reduceEqDiff, Nat.reduceLeDiff, Nat.reduceLT, Nat.reduceAdd, Nat.reduceSub, Nat.reduceMul, not_true_eq_false, not_false_eq_true, true_and, and_true, false_and, and_false, or_true, true_or, or_false, false_or, a0, a1, a2, pX7_work_30, pX7_ends_0]
  · subst e2; subst e3
    simp (disch := omega) only [q_lit, q_le, q_lt, q_inj, q_add, q_mul, q_sub, q_div, q_vin, q_ix, gd_true, ↓bnd_eq, ↓ob1_some, ↓obv_some, ↓obi_some, ↓obl_some, ↓obr_some, ↓ogv_l, ↓ogi_l, ↓ogr_l, ↓ogv_r, ↓ogi_r, ↓ogr_r, up2_at, decide_true, decide_eq_true_eq, ite_true, ite_false, if_true, if_false, ↓reduceIte, Nat.reduceEqDiff, Nat.reduceLeDiff, Nat.reduceLT, Nat.reduceAdd, Nat.reduceSub, Nat.reduceMul, not_true_eq_false, not_false_eq_true, true_and, and_true, false_and, and_false, or_true, true_or, or_false, false_or, a0, a1, a2, a5, e1, pX7_work_30, pX7_ends_0]
theorem cw_over {N R r a k : Nat} {w : Int32} {F : Frm} {h : HI} {g : HL} (a0 : h 101 16 = nI k) (hk : ¬ k = 0) (hk5 : k ≤ 5) : (tie4 N R (r + 1)).2.2.2.2.2.2.2 F a w h g = some (.inl (0, F, h, g)) := by
  show pX7_work_0 N R (tie4 N R r) F a w h g = _
  rw [pX7_work_0]
  simp (disch := omega) only [q_lit, q_le, q_lt, q_inj, q_add, q_mul, q_sub, q_div, q_vin, q_ix, gd_true, ↓bnd_eq, ↓ob1_some, ↓obv_some, ↓obi_some, ↓obl_some, ↓obr_some, ↓ogv_l, ↓ogi_l, ↓ogr_l, ↓ogv_r, ↓ogi_r, ↓ogr_r, up2_at, decide_true, decide_eq_true_eq, ite_true, ite_false, if_true, if_false, ↓reduceIte, Nat.reduceEqDiff, Nat.reduceLeDiff, Nat.reduceLT, Nat.reduceAdd, Nat.reduceSub, Nat.reduceMul, not_true_eq_false, not_false_eq_true, true_and, and_true, false_and, and_false, or_true, true_or, or_false, false_or, a0, hk]
theorem cw_pre {N R r a s d dd lim τ : Nat} {v w : Int32} {F F' : Frm} {h h' : HI} {g : HL} (a0 : h 101 16 = nI 0) (a1 : h 101 13 = nI s) (a2 : h 101 12 = nI lim) (a3 : s < lim) (a4 : lim ≤ 20000) (a5 : h 101 14 = nI d) (a6 : d < 150) (a7 : h 101 15 = nI dd) (a8 : dd ≤ 150) (t1 : F.2.1 a = (τ, 0)) (t2 : 19 ≤ τ) (t3 : τ ≤ 27)
    (E : pv_work N R (tie4 N R r) (τ - 10) F a w (ph h s d dd) g = some (.inl (v, F', h', g))) :
    (tie4 N R (r + 1)).2.2.2.2.2.2.2 F a w h g = some (.inl (v, F', up2 h' 101 14 (h' 101 14 - 1), g)) := by
  show pX7_work_0 N R (tie4 N R r) F a w h g = _
  have z1 : ¬ s = lim := by omega
  have z2 : ¬ d = 150 := by omega
  have z3 : (if nI dd < nI (d + 1) then nI (d + 1) else nI dd) = nI (max dd (d + 1)) := by
    have zz := q_lt (a := dd) (b := d + 1) (by omega) (by omega)
    by_cases c : dd < d + 1
    · rw [if_pos (by rw [zz]; exact c), show max dd (d + 1) = d + 1 by omega]
    · rw [if_neg (by rw [zz]; exact c), show max dd (d + 1) = dd by omega]
  have hB := isEb_t t1 t2 t3
  rw [pX7_work_0]
  simp only [a0, a1, a2, a5, a7, q_lit, ↓reduceIte, q_inj (show s < 2147483648 by omega) (show lim < 2147483648 by omega), q_inj (show d < 2147483648 by omega) (show 150 < 2147483648 by omega), z1, z2, ↓bnd_eq, q_add, up2_at, Nat.reduceEqDiff, z3, hB, gd_true, t1]
  rw [show up2 (up2 (up2 h 101 13 (nI (s + 1))) 101 14 (nI (d + 1))) 101 15 (nI (max dd (d + 1))) = ph h s d dd from rfl, E, ogi_l]
