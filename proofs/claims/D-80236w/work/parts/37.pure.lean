/-! RUNS, 3: the model's tasks -/
def tk (m : HI) (t : Nat) (s x w : Int32) : HI := up2 (up2 (up2 (up2 m 138 t w) 134 t s) 135 t x) 115 36 (nI (t + 1))
theorem push_eq {N t : Nat} {s w : Int32} {h : HI} {g : HL} (e : h 115 36 = nI t) (ht : t < 3000) : pX8_push N s w h g = some (up2 (up2 (up2 h 134 t s) 135 t w) 115 36 (nI (t + 1)), g) := by
  show pX8_push_0 N s w h g = _
  rw [pX8_push_0]
  simp (disch := omega) only [q_lit, q_le, q_lt, q_inj, q_add, q_mul, q_sub, q_div, q_vin, q_ix, gd_true, ↓bnd_eq, ↓ob1_some, ↓obv_some, ↓obi_some, ↓obl_some, ↓obr_some, ↓ogv_l, ↓ogi_l, ↓ogr_l, ↓ogv_r, ↓ogi_r, ↓ogr_r, up2_at, decide_true, decide_eq_true_eq, ite_true, ite_false, if_true, if_false, ↓reduceIte, Nat.reduceEqDiff, Nat.reduceLeDiff, Nat.reduceLT, Nat.reduceAdd, Nat.reduceSub, Nat.reduceMul, not_true_eq_false, not_false_eq_true, true_and, and_true, false_and, and_false, or_true, true_or, or_false, false_or, e, ht, Nat.not_le.mpr ht]
theorem tk_eq {N t : Nat} {s x w : Int32} {m : HI} {g : HL} (e : m 115 36 = nI t) (ht : t < 3000) : pX8_task N s x w m g = some (tk m t s x w, g) := by
  show pX8_task_0 N s x w m g = _
  have e1 : up2 m 138 t w 115 36 = nI t := e
  rw [pX8_task_0]
  simp (disch := omega) only [q_lit, q_le, q_lt, q_inj, q_add, q_mul, q_sub, q_div, q_vin, q_ix, gd_true, ↓bnd_eq, ↓ob1_some, ↓obv_some, ↓obi_some, ↓obl_some, ↓obr_some, ↓ogv_l, ↓ogi_l, ↓ogr_l, ↓ogv_r, ↓ogi_r, ↓ogr_r, up2_at, decide_true, decide_eq_true_eq, ite_true, ite_false, if_true, if_false, ↓reduceIte, Nat.reduceEqDiff, Nat.reduceLeDiff, Nat.reduceLT, Nat.reduceAdd, Nat.reduceSub, Nat.reduceMul, not_true_eq_false, not_false_eq_true, true_and, and_true, false_and, and_false, or_true, true_or, or_false, false_or, e, ht, Nat.not_le.mpr ht, push_eq e1 ht, tk]
theorem tk_36 {m : HI} {t : Nat} {s x w : Int32} : tk m t s x w 115 36 = nI (t + 1) := rfl
theorem tk_f {m : HI} {t k : Nat} {s x w : Int32} (h : ¬ k = 36) : tk m t s x w 115 k = m 115 k := by
  unfold tk; rw [up2_nj h, up2_ne (by decide), up2_ne (by decide), up2_ne (by decide)]
theorem tk_a {m : HI} {t a k : Nat} {s x w : Int32} (h1 : ¬ a = 115) (h2 : ¬ a = 134) (h3 : ¬ a = 135) (h4 : ¬ a = 138) : tk m t s x w a k = m a k := by
  unfold tk; rw [up2_ne h1, up2_ne h3, up2_ne h2, up2_ne h4]
theorem tk_s {m : HI} {t i : Nat} {s x w : Int32} : tk m t s x w 134 i = if i = t then s else m 134 i := by unfold tk; simp (disch := omega) only [q_lit, q_le, q_lt, q_inj, q_add, q_mul, q_sub, q_div, q_vin, q_ix, gd_true, ↓bnd_eq, ↓ob1_some, ↓obv_some, ↓obi_some, ↓obl_some, ↓obr_some, ↓ogv_l, ↓ogi_l, ↓ogr_l, ↓ogv_r, ↓ogi_r, ↓ogr_r, up2_at, decide_true, decide_eq_true_eq, ite_true, ite_false, if_true, if_false, ↓reduceIte, Nat.reduceEqDiff, Nat.reduceLeDiff, Nat.reduceLT, Nat.reduceAdd, Nat.reduceSub, Nat.reduceMul, not_true_eq_false, not_false_eq_true, true_and, and_true, false_and, and_false, or_true, true_or, or_false, false_or]
theorem tk_x {m : HI} {t i : Nat} {s x w : Int32} : tk m t s x w 135 i = if i = t then x else m 135 i := by unfold tk; simp (disch := omega) only [q_lit, q_le, q_lt, q_inj, q_add, q_mul, q_sub, q_div, q_vin, q_ix, gd_true, ↓bnd_eq, ↓ob1_some, ↓obv_some, ↓obi_some, ↓obl_some, ↓obr_some, ↓ogv_l, ↓ogi_l, ↓ogr_l, ↓ogv_r, ↓ogi_r, ↓ogr_r, up2_at, decide_true, decide_eq_true_eq, ite_true, ite_false, if_true, if_false, ↓reduceIte, Nat.reduceEqDiff, Nat.reduceLeDiff, Nat.reduceLT, Nat.reduceAdd, Nat.reduceSub, Nat.reduceMul, not_true_eq_false, not_false_eq_true, true_and, and_true, false_and, and_false, or_true, true_or, or_false, false_or]
theorem tk_w {m : HI} {t i : Nat} {s x w : Int32} : tk m t s x w 138 i = if i = t then w else m 138 i := by unfold tk; simp (disch := omega) only [q_lit, q_le, q_lt, q_inj, q_add, q_mul, q_sub, q_div, q_vin, q_ix, gd_true, ↓bnd_eq, ↓ob1_some, ↓obv_some, ↓obi_some, ↓obl_some, ↓obr_some, ↓ogv_l, ↓ogi_l, ↓ogr_l, ↓ogv_r, ↓ogi_r, ↓ogr_r, up2_at, decide_true, decide_eq_true_eq, ite_true, ite_false, if_true, if_false, ↓reduceIte, Nat.reduceEqDiff, Nat.reduceLeDiff, Nat.reduceLT, Nat.reduceAdd, Nat.reduceSub, Nat.reduceMul, not_true_eq_false, not_false_eq_true, true_and, and_true, false_and, and_false, or_true, true_or, or_false, false_or]
/-- the model's loop goes from m to m' -/
def gto (m m' : HI) : Prop := ∃ k, ∀ N, 8 ≤ N → ∀ q g, pX8_goes_0 N (q + k) m g = pX8_goes_0 N q m' g
theorem gto.refl (m : HI) : gto m m := ⟨0, fun _ _ _ _ => rfl⟩
theorem gto.trans {m m1 m2 : HI} (a : gto m m1) (b : gto m1 m2) : gto m m2 := by
  obtain ⟨k1, h1⟩ := a
  obtain ⟨k2, h2⟩ := b
  refine ⟨k2 + k1, fun N hN q g => ?_⟩
  rw [← Nat.add_assoc, h1 N hN, h2 N hN]
/-- a task lies on top -/
def top (m : HI) (t : Nat) (s x w : Int32) : Prop := m 115 36 = nI (t + 1) ∧ t < 3000 ∧ m 115 74 = nI 0 ∧ m 134 t = s ∧ m 135 t = x ∧ m 138 t = w
theorem ti1 : (nI 1).toInt = 1 := by decide
theorem ti2 : (nI 2).toInt = 2 := by decide
theorem ti3 : (nI 3).toInt = 3 := by decide
theorem ti4 : (nI 4).toInt = 4 := by decide
theorem ti5 : (nI 5).toInt = 5 := by decide
theorem ti6 : (nI 6).toInt = 6 := by decide
theorem ti7 : (nI 7).toInt = 7 := by decide
theorem ti8 : (nI 8).toInt = 8 := by decide
theorem ti9 : (nI 9).toInt = 9 := by decide
theorem go_work {m m' : HI} {t : Nat} {x w : Int32} (T : top m t (nI 1) x w) (hw : ∀ N, 8 ≤ N → ∀ g, pX8_work N x w (up2 m 115 36 (nI t)) g = some (m', g)) : gto m m' := by
  obtain ⟨a1, a2, a3, a4, a5, a6⟩ := T
  refine ⟨1, fun N hN q g => ?_⟩
  rw [pX8_goes_0]
  simp (disch := omega) only [q_lit, q_le, q_lt, q_inj, q_add, q_mul, q_sub, q_div, q_vin, q_ix, gd_true, ↓bnd_eq, ↓ob1_some, ↓obv_some, ↓obi_some, ↓obl_some, ↓obr_some, ↓ogv_l, ↓ogi_l, ↓ogr_l, ↓ogv_r, ↓ogi_r, ↓ogr_r, up2_at, decide_true, decide_eq_true_eq, ite_true, ite_false, if_true, if_false, ↓reduceIte, Nat.reduceEqDiff, Nat.reduceLeDiff, Nat.reduceLT, Nat.reduceAdd, Nat.reduceSub, Nat.reduceMul, not_true_eq_false, not_false_eq_true, true_and, and_true, false_and, and_false, or_true, true_or, or_false, false_or, a1, a3, a4, a5, a6, a2, ti1, show t + 1 - 1 = t by omega, hw N hN g, pX8_goes_394, Nat.not_succ_le_zero, Int.reduceLT, Int.lt_irrefl]
theorem go_done {m : HI} {t d : Nat} {x w : Int32} (T : top m t (nI 2) x w) (hd : m 115 72 = nI (d + 1)) : gto m (up2 (up2 m 115 36 (nI t)) 115 72 (nI d)) := by
  obtain ⟨a1, a2, a3, a4, a5, a6⟩ := T
  refine ⟨1, fun N hN q g => ?_⟩
  rw [pX8_goes_0]
  simp (disch := omega) only [q_lit, q_le, q_lt, q_inj, q_add, q_mul, q_sub, q_div, q_vin, q_ix, gd_true, ↓bnd_eq, ↓ob1_some, ↓obv_some, ↓obi_some, ↓obl_some, ↓obr_some, ↓ogv_l, ↓ogi_l, ↓ogr_l, ↓ogv_r, ↓ogi_r, ↓ogr_r, up2_at, decide_true, decide_eq_true_eq, ite_true, ite_false, if_true, if_false, ↓reduceIte, Nat.reduceEqDiff, Nat.reduceLeDiff, Nat.reduceLT, Nat.reduceAdd, Nat.reduceSub, Nat.reduceMul, not_true_eq_false, not_false_eq_true, true_and, and_true, false_and, and_false, or_true, true_or, or_false, false_or, a1, a3, a4, a5, a6, a2, ti2, show t + 1 - 1 = t by omega, show d + 1 - 1 = d by omega, hd, pX8_goes_394, Nat.not_succ_le_zero, Int.reduceLT, Int.lt_irrefl]
theorem go_settle {m : HI} {t c : Nat} {w : Int32} (T : top m t (nI 3) (nI c) w) (hc : c < 1540) : gto m (up2 (up2 (up2 (up2 m 115 36 (nI t)) 150 c (nI 2)) 151 c (m 115 77)) 152 c (m 115 78)) := by
  obtain ⟨a1, a2, a3, a4, a5, a6⟩ := T
  refine ⟨1, fun N hN q g => ?_⟩
  rw [pX8_goes_0]
  simp (disch := omega) only [q_lit, q_le, q_lt, q_inj, q_add, q_mul, q_sub, q_div, q_vin, q_ix, gd_true, ↓bnd_eq, ↓ob1_some, ↓obv_some, ↓obi_some, ↓obl_some, ↓obr_some, ↓ogv_l, ↓ogi_l, ↓ogr_l, ↓ogv_r, ↓ogi_r, ↓ogr_r, up2_at, decide_true, decide_eq_true_eq, ite_true, ite_false, if_true, if_false, ↓reduceIte, Nat.reduceEqDiff, Nat.reduceLeDiff, Nat.reduceLT, Nat.reduceAdd, Nat.reduceSub, Nat.reduceMul, not_true_eq_false, not_false_eq_true, true_and, and_true, false_and, and_false, or_true, true_or, or_false, false_or, a1, a3, a4, a5, a6, a2, ti3, hc, show t + 1 - 1 = t by omega, pX8_goes_394, Nat.not_succ_le_zero, Int.reduceLT, Int.lt_irrefl]
theorem go_kept {m : HI} {t k : Nat} {x w : Int32} (T : top m t (nI 4) x w) (hk : m 115 82 = nI k) (hc : k < 3000) : gto m (up2 (up2 (up2 m 115 36 (nI t)) 158 k (m 115 78)) 115 82 (nI (k + 1))) := by
  obtain ⟨a1, a2, a3, a4, a5, a6⟩ := T
  refine ⟨1, fun N hN q g => ?_⟩
  rw [pX8_goes_0]
  simp (disch := omega) only [q_lit, q_le, q_lt, q_inj, q_add, q_mul, q_sub, q_div, q_vin, q_ix, gd_true, ↓bnd_eq, ↓ob1_some, ↓obv_some, ↓obi_some, ↓obl_some, ↓obr_some, ↓ogv_l, ↓ogi_l, ↓ogr_l, ↓ogv_r, ↓ogi_r, ↓ogr_r, up2_at, decide_true, decide_eq_true_eq, ite_true, ite_false, if_true, if_false, ↓reduceIte, Nat.reduceEqDiff, Nat.reduceLeDiff, Nat.reduceLT, Nat.reduceAdd, Nat.reduceSub, Nat.reduceMul, not_true_eq_false, not_false_eq_true, true_and, and_true, false_and, and_false, or_true, true_or, or_false, false_or, a1, a3, a4, a5, a6, a2, ti4, hc, hk, show t + 1 - 1 = t by omega, pX8_goes_394, Nat.not_succ_le_zero, Int.reduceLT, Int.lt_irrefl]
/-- what a sign gives -/
def sgn (o : Nat) (a b : Int32) : Int32 := if o = 19 then a + b else if o = 20 then a - b else if o = 21 then a * b else if o = 22 then (if b ≤ a then 0 else 1) else (if a = b then 1 else 0)
theorem go_apply {m : HI} {t k o : Nat} {w : Int32} (T : top m t (nI 5) (nI o) w) (hk : m 115 82 = nI (k + 1)) (hc : k < 3000) (ho : o < 100) : gto m (up2 (up2 (up2 (up2 m 115 36 (nI t)) 115 82 (nI k)) 115 77 (nI 0)) 115 78 (sgn o (m 158 k) (m 115 78))) := by
  obtain ⟨a1, a2, a3, a4, a5, a6⟩ := T
  refine ⟨1, fun N hN q g => ?_⟩
  rw [pX8_goes_0]
  simp (disch := omega) only [q_lit, q_le, q_lt, q_inj, q_add, q_mul, q_sub, q_div, q_vin, q_ix, gd_true, ↓bnd_eq, ↓ob1_some, ↓obv_some, ↓obi_some, ↓obl_some, ↓obr_some, ↓ogv_l, ↓ogi_l, ↓ogr_l, ↓ogv_r, ↓ogi_r, ↓ogr_r, up2_at, decide_true, decide_eq_true_eq, ite_true, ite_false, if_true, if_false, ↓reduceIte, Nat.reduceEqDiff, Nat.reduceLeDiff, Nat.reduceLT, Nat.reduceAdd, Nat.reduceSub, Nat.reduceMul, not_true_eq_false, not_false_eq_true, true_and, and_true, false_and, and_false, or_true, true_or, or_false, false_or, a1, a3, a4, a5, a6, a2, ti5, hc, hk, show t + 1 - 1 = t by omega, show k + 1 - 1 = k by omega, pX8_goes_394, pX8_goes_276, pX8_gives_0, Nat.not_succ_le_zero, Int.reduceLT, Int.lt_irrefl]
  unfold sgn
  split
  · rfl
  · split
    · rfl
    · split
      · rfl
      · split
        · split <;> rfl
        · split <;> rfl
theorem go_branch {m : HI} {t x e y z b : Nat} (T : top m t (nI 6) (nI x) (nI e)) (hx : x < 2002) (hy : m 126 x = nI y) (hz : m 127 x = nI z) (hb : m 115 78 = nI 0 ∧ b = z ∨ ¬ m 115 78 = nI 0 ∧ b = y) : gto m (tk (up2 m 115 36 (nI t)) t (nI 1) (nI b) (nI e)) := by
  obtain ⟨a1, a2, a3, a4, a5, a6⟩ := T
  refine ⟨1, fun N hN q g => ?_⟩
  rw [pX8_goes_0]
  have q1 : ∀ g s x w, pX8_task N s x w (up2 m 115 36 (nI t)) g = some (tk (up2 m 115 36 (nI t)) t s x w, g) := fun g s x w => tk_eq rfl a2
  rcases hb with ⟨c, rfl⟩ | ⟨c, rfl⟩
  · simp (disch := omega) only [q_lit, q_le, q_lt, q_inj, q_add, q_mul, q_sub, q_div, q_vin, q_ix, gd_true, ↓bnd_eq, ↓ob1_some, ↓obv_some, ↓obi_some, ↓obl_some, ↓obr_some, ↓ogv_l, ↓ogi_l, ↓ogr_l, ↓ogv_r, ↓ogi_r, ↓ogr_r, up2_at, decide_true, decide_eq_true_eq, ite_true, ite_false, if_true, if_false, ↓reduceIte, Nat.reduceEqDiff, Nat.reduceLeDiff, Nat.reduceLT, Nat.reduceAdd, Nat.reduceSub, Nat.reduceMul, not_true_eq_false, not_false_eq_true, true_and, and_true, false_and, and_false, or_true, true_or, or_false, false_or, a1, a3, a4, a5, a6, a2, ti6, hx, hy, hz, c, show t + 1 - 1 = t by omega, pX8_goes_394, pX8_goes_306, q1, Nat.not_succ_le_zero, Int.reduceLT, Int.lt_irrefl]
  · simp (disch := omega) only [q_lit, q_le, q_lt, q_inj, q_add, q_mul, q_sub, q_div, q_vin, q_ix, gd_true, ↓bnd_eq, ↓ob1_some, ↓obv_some, ↓obi_some, ↓obl_some, ↓obr_some, ↓ogv_l, ↓ogi_l, ↓ogr_l, ↓ogv_r, ↓ogi_r, ↓ogr_r, up2_at, decide_true, decide_eq_true_eq, ite_true, ite_false, if_true, if_false, ↓reduceIte, Nat.reduceEqDiff, Nat.reduceLeDiff, Nat.reduceLT, Nat.reduceAdd, Nat.reduceSub, Nat.reduceMul, not_true_eq_false, not_false_eq_true, true_and, and_true, false_and, and_false, or_true, true_or, or_false, false_or, a1, a3, a4, a5, a6, a2, ti6, hx, hy, hz, c, show t + 1 - 1 = t by omega, pX8_goes_394, pX8_goes_306, q1, Nat.not_succ_le_zero, Int.reduceLT, Int.lt_irrefl]
theorem go_opened {m : HI} {t x e y z p : Nat} (T : top m t (nI 7) (nI x) (nI e)) (hx : x < 2002) (hy : m 126 x = nI y) (hz : m 127 x = nI z) (hp : m 115 78 = nI p) (hp2 : p < 1540) (he : 16 * e + z + 1 < 24032) :
    gto m (tk (up2 (up2 (up2 m 115 36 (nI t)) 156 (16 * e + z) (m 154 p)) 156 (16 * e + z + 1) (m 155 p)) t (nI 1) (nI y) (nI e)) := by
  obtain ⟨a1, a2, a3, a4, a5, a6⟩ := T
  refine ⟨1, fun N hN q g => ?_⟩
  rw [pX8_goes_0]
  have he2 : 16 * e + z < 24032 := by omega
  have q1 : ∀ g s x w, pX8_task N s x w (up2 (up2 (up2 m 115 36 (nI t)) 156 (16 * e + z) (m 154 p)) 156 (16 * e + z + 1) (m 155 p)) g = some (tk (up2 (up2 (up2 m 115 36 (nI t)) 156 (16 * e + z) (m 154 p)) 156 (16 * e + z + 1) (m 155 p)) t s x w, g) := fun g s x w => tk_eq rfl a2
  simp (disch := omega) only [q_lit, q_le, q_lt, q_inj, q_add, q_mul, q_sub, q_div, q_vin, q_ix, gd_true, ↓bnd_eq, ↓ob1_some, ↓obv_some, ↓obi_some, ↓obl_some, ↓obr_some, ↓ogv_l, ↓ogi_l, ↓ogr_l, ↓ogv_r, ↓ogi_r, ↓ogr_r, up2_at, decide_true, decide_eq_true_eq, ite_true, ite_false, if_true, if_false, ↓reduceIte, Nat.reduceEqDiff, Nat.reduceLeDiff, Nat.reduceLT, Nat.reduceAdd, Nat.reduceSub, Nat.reduceMul, not_true_eq_false, not_false_eq_true, true_and, and_true, false_and, and_false, or_true, true_or, or_false, false_or, a1, a3, a4, a5, a6, a2, ti7, hx, hy, hz, hp, hp2, he, he2, show t + 1 - 1 = t by omega, pX8_goes_394, pX8_goes_306, q1, Nat.not_succ_le_zero, Int.reduceLT, Int.lt_irrefl]
theorem go_need {m m' : HI} {t : Nat} {x w : Int32} (T : top m t (nI 8) x w) (hw : ∀ N, 8 ≤ N → ∀ g, pX8_need N x (up2 m 115 36 (nI t)) g = some (m', g)) : gto m m' := by
  obtain ⟨a1, a2, a3, a4, a5, a6⟩ := T
  refine ⟨1, fun N hN q g => ?_⟩
  rw [pX8_goes_0]
  simp (disch := omega) only [q_lit, q_le, q_lt, q_inj, q_add, q_mul, q_sub, q_div, q_vin, q_ix, gd_true, ↓bnd_eq, ↓ob1_some, ↓obv_some, ↓obi_some, ↓obl_some, ↓obr_some, ↓ogv_l, ↓ogi_l, ↓ogr_l, ↓ogv_r, ↓ogi_r, ↓ogr_r, up2_at, decide_true, decide_eq_true_eq, ite_true, ite_false, if_true, if_false, ↓reduceIte, Nat.reduceEqDiff, Nat.reduceLeDiff, Nat.reduceLT, Nat.reduceAdd, Nat.reduceSub, Nat.reduceMul, not_true_eq_false, not_false_eq_true, true_and, and_true, false_and, and_false, or_true, true_or, or_false, false_or, a1, a3, a4, a5, a6, a2, ti8, show t + 1 - 1 = t by omega, hw N hN g, pX8_goes_394, Nat.not_succ_le_zero, Int.reduceLT, Int.lt_irrefl]
theorem go_demand {m m' : HI} {t : Nat} {x w : Int32} (T : top m t (nI 9) x w) (hw : ∀ N, 8 ≤ N → ∀ g, pX8_demand N x w (up2 m 115 36 (nI t)) g = some (m', g)) : gto m m' := by
  obtain ⟨a1, a2, a3, a4, a5, a6⟩ := T
  refine ⟨1, fun N hN q g => ?_⟩
  rw [pX8_goes_0]
  simp (disch := omega) only [q_lit, q_le, q_lt, q_inj, q_add, q_mul, q_sub, q_div, q_vin, q_ix, gd_true, ↓bnd_eq, ↓ob1_some, ↓obv_some, ↓obi_some, ↓obl_some, ↓obr_some, ↓ogv_l, ↓ogi_l, ↓ogr_l, ↓ogv_r, ↓ogi_r, ↓ogr_r, up2_at, decide_true, decide_eq_true_eq, ite_true, ite_false, if_true, if_false, ↓reduceIte, Nat.reduceEqDiff, Nat.reduceLeDiff, Nat.reduceLT, Nat.reduceAdd, Nat.reduceSub, Nat.reduceMul, not_true_eq_false, not_false_eq_true, true_and, and_true, false_and, and_false, or_true, true_or, or_false, false_or, a1, a3, a4, a5, a6, a2, ti9, show t + 1 - 1 = t by omega, hw N hN g, pX8_goes_394, Nat.not_succ_le_zero, Int.reduceLT, Int.lt_irrefl]
