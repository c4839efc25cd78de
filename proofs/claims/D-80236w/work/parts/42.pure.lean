/-! RUNS, 8: choice, signs, case -/
theorem RunS.pop {G W : PG} {k0 nf I IP lim t p cl d t0 t1 kp : Nat} {F : Frm} {h m : HI} (H : RunS G W k0 nf I IP lim t p cl d t0 kp F h m) : RunS G W k0 nf I IP lim t p cl d t1 kp F h (up2 m 115 36 (nI t1)) := by
  obtain ⟨H1, H2, H3, H4, H5, H6, H7, H8, H9⟩ := id H
  exact H.mv (fun _ _ _ => rfl) H3 (fun k q1 q2 q3 q4 q5 => up2_nj q1) (fun a k q1 q2 q3 q4 q5 => up2_ne q1) H4 rfl H6
theorem frM.pop {m : HI} {v : Int32} : frM m (up2 m 115 36 v) := by
  intro a k q1 q2 q3 q4 q5
  by_cases c : a = 115
  · rw [up2_nj (by omega)]
  · rw [up2_ne c]
theorem sb.pop {m : HI} {t0 kp : Nat} {v : Int32} : sb t0 kp m (up2 m 115 36 v) := ⟨fun _ _ => ⟨rfl, rfl, rfl⟩, fun _ _ => rfl⟩
theorem RunS.e74 {G W : PG} {k0 nf I IP lim t p cl d t0 kp : Nat} {F : Frm} {h m : HI} (H : RunS G W k0 nf I IP lim t p cl d t0 kp F h m) : m 115 74 = nI 0 := by
  obtain ⟨H1, ⟨s1, dd, hc⟩, -⟩ := H
  exact hc.2.2.2.2.2.2.2.2.2.2.2.2.2.2.2.1
theorem RunS.e16 {G W : PG} {k0 nf I IP lim t p cl d t0 kp : Nat} {F : Frm} {h m : HI} (H : RunS G W k0 nf I IP lim t p cl d t0 kp F h m) : h 101 16 = nI 0 := by
  obtain ⟨H1, ⟨s1, dd, hc⟩, -⟩ := H
  exact hc.2.2.2.2.2.2.2.2.1
theorem tk_tk {N t : Nat} {s x w s1 x1 w1 : Int32} {m : HI} {g : HL} (ht : t + 1 < 3000) : pX8_task N s x w (tk m t s1 x1 w1) g = some (tk (tk m t s1 x1 w1) (t + 1) s x w, g) := tk_eq rfl ht
theorem act_2 {N x e a t0 : Nat} {m : HI} {g : HL} (hx : x < 2002) (n1 : m 124 x = nI 2) (n2 : m 125 x = nI a) (h36 : m 115 36 = nI t0) (ht : t0 + 2 < 3000) :
    mAct N (nI x) (nI e) m g = some (tk (tk m t0 (nI 6) (nI x) (nI e)) (t0 + 1) (nI 1) (nI a) (nI e), g) := by
  rw [mAct]
  have q : tk m t0 (nI 6) (nI x) (nI e) 125 x = nI a := by rw [tk_a (by decide) (by decide) (by decide) (by decide)]; exact n2
  simp (disch := omega) only [q_lit, q_le, q_lt, q_inj, q_add, q_mul, q_sub, q_div, q_vin, q_ix, gd_true, ↓bnd_eq, ↓ob1_some, ↓obv_some, ↓obi_some, ↓obl_some, ↓obr_some, ↓ogv_l, ↓ogi_l, ↓ogr_l, ↓ogv_r, ↓ogi_r, ↓ogr_r, up2_at, decide_true, decide_eq_true_eq, ite_true, ite_false, if_true, if_false, ↓reduceIte, Nat.reduceEqDiff, Nat.reduceLeDiff, Nat.reduceLT, Nat.reduceAdd, Nat.reduceSub, Nat.reduceMul, not_true_eq_false, not_false_eq_true, true_and, and_true, false_and, and_false, or_true, true_or, or_false, false_or, hx, n1, ti2, Int.reduceLT, Int.lt_irrefl]
  rw [tk_eq h36 (by omega), obv_some, q, tk_tk (by omega), obv_some]
theorem pv_2 {N R r a b1 b2 b3 b e : Nat} {v v2 : Int32} {F F1 F2 : Frm} {h h1 h2 : HI} {g : HL} (o1 : F.2.1 a = (21, 0)) (o2 : F.2.2 a 2 = some b1) (E : (tie4 N R r).2.2.2.2.2.2.2 F b1 (nI (16 * e)) h g = some (.inl (v, F1, h1, g))) (o4 : F1.2.1 a = (21, 0)) (o5 : F1.2.2 a 3 = some b2) (o6 : F1.2.2 a 4 = some b3) (hb : v = nI 0 ∧ b = b3 ∨ ¬ v = nI 0 ∧ b = b2)
    (E2 : (tie4 N R r).2.2.2.2.2.2.2 F1 b (nI (16 * e)) h1 g = some (.inl (v2, F2, h2, g))) : pv_work N R (tie4 N R (r + 1)) 11 F a (nI (16 * e)) h g = some (.inl (v2, F2, h2, g)) := by
  show pX13_work_0 N R (tie4 N R r) F a (nI (16 * e)) h g = _
  rw [pX13_work_0, o1, o2, ob1_some, E, ogi_l]
  rcases hb with ⟨c, rfl⟩ | ⟨c, rfl⟩
  · simp (disch := omega) only [q_lit, q_le, q_lt, q_inj, q_add, q_mul, q_sub, q_div, q_vin, q_ix, gd_true, ↓bnd_eq, ↓ob1_some, ↓obv_some, ↓obi_some, ↓obl_some, ↓obr_some, ↓ogv_l, ↓ogi_l, ↓ogr_l, ↓ogv_r, ↓ogi_r, ↓ogr_r, up2_at, decide_true, decide_eq_true_eq, ite_true, ite_false, if_true, if_false, ↓reduceIte, Nat.reduceEqDiff, Nat.reduceLeDiff, Nat.reduceLT, Nat.reduceAdd, Nat.reduceSub, Nat.reduceMul, not_true_eq_false, not_false_eq_true, true_and, and_true, false_and, and_false, or_true, true_or, or_false, false_or, c, o4, o6]
    rw [E2, ogi_l]
  · simp (disch := omega) only [q_lit, q_le, q_lt, q_inj, q_add, q_mul, q_sub, q_div, q_vin, q_ix, gd_true, ↓bnd_eq, ↓ob1_some, ↓obv_some, ↓obi_some, ↓obl_some, ↓obr_some, ↓ogv_l, ↓ogi_l, ↓ogr_l, ↓ogv_r, ↓ogi_r, ↓ogr_r, up2_at, decide_true, decide_eq_true_eq, ite_true, ite_false, if_true, if_false, ↓reduceIte, Nat.reduceEqDiff, Nat.reduceLeDiff, Nat.reduceLT, Nat.reduceAdd, Nat.reduceSub, Nat.reduceMul, not_true_eq_false, not_false_eq_true, true_and, and_true, false_and, and_false, or_true, true_or, or_false, false_or, c, o4, o5]
    rw [E2, ogi_l]
theorem wi_2 {G W : PG} {k0 nf I IP lim n t p cl d t0 kp x e : Nat} {F : Frm} {h m : HI} (hP : pWF G k0 nf) (ih : WK G k0 nf I IP lim n d) (H : RunS G W k0 nf I IP lim t p cl d t0 kp F h m) (he : eok G W cl x e) (ht : t0 ≤ 6 * d + 5) (hd : d ≤ 150) (hkp : kp + 1 ≤ d) (hk : G 0 x = 2) : WI G W k0 nf I IP lim (n + 1) t p cl d t0 kp x e F h m := by
  have hw := hP.2.2.2 x he.1
  obtain ⟨H1, H2, H3, H4, H5, H6, H7, H8, H9⟩ := id H
  obtain ⟨n1, n2, n3, n4, n5, -⟩ := H7.2 x he.1
  obtain ⟨ox, -, -, b2, -⟩ := H8.2 x he.1
  obtain ⟨o1, o2, o3, o4⟩ := b2 hk
  obtain ⟨w0, w01, -, hx, -, -, -, w02, w03, -, w2, -⟩ := id hw
  obtain ⟨z1, z2, z3, y1, y2, y3, -, -, z6, z7, z8⟩ := w2 hk
  have A : ∀ N, 8 ≤ N → ∀ g, mAct N (nI x) (nI e) m g = some (tk (tk m t0 (nI 6) (nI x) (nI e)) (t0 + 1) (nI 1) (nI (G 1 x)) (nI e), g) := fun N hN g => act_2 hx (by rw [n1, hk]) n2 H5 (by omega)
  have S1 := H.task (s := nI 6) (x := nI x) (w := nI e)
  have S2 := S1.task (s := nI 1) (x := nI (G 1 x)) (w := nI e)
  obtain ⟨v, F1, h1, m1, E1, E2, fC, fM, R⟩ := ih _ t p cl (t0 + 1) kp F h _ (G 1 x) e S2 (S1.top (by omega)) (he.sub z1 y1) (by omega) (by omega)
  have o5 : F1.2.1 (G 5 x) = (21, 0) := by rw [fC.2.1]; exact o1
  have o6 : F1.2.2 (G 5 x) 3 = some (G 5 (G 2 x)) := by rw [fC.2.2.1 _ _ (by omega)]; exact o3
  have o7 : F1.2.2 (G 5 x) 4 = some (G 5 (G 3 x)) := by rw [fC.2.2.1 _ _ (by omega)]; exact o4
  have fM1 : frM m m1 := (frM.task.trans frM.task).trans fM
  rcases R with ⟨W1, t1, p1, cl1, l1, l2, l3, X, Q, vv, bb⟩ | R
  · obtain ⟨b, hb, zb, yb, eb⟩ : ∃ b, (m1 115 78 = nI 0 ∧ b = G 3 x ∨ ¬ m1 115 78 = nI 0 ∧ b = G 2 x) ∧ nSub G x b ∧ nSc G x b ∧ G 4 b = G 4 x := by
      by_cases c : m1 115 78 = nI 0
      · exact ⟨G 3 x, Or.inl ⟨c, rfl⟩, z3, y3, z8⟩
      · exact ⟨G 2 x, Or.inr ⟨c, rfl⟩, z2, y2, z7⟩
    have ev : m1 115 78 = v := by
      rcases vv with ⟨-, -, q⟩ | ⟨q, -⟩
      · exact q
      · omega
    have T : top m1 t0 (nI 6) (nI x) (nI e) := by
      obtain ⟨b1, b2, b3⟩ := bb.1 t0 (by omega)
      refine ⟨Q.2.2.2.2.1, by omega, Q.e74, ?_, ?_, ?_⟩
      · rw [b1, tk_s, if_neg (by omega), tk_s, if_pos rfl]
      · rw [b2, tk_x, if_neg (by omega), tk_x, if_pos rfl]
      · rw [b3, tk_w, if_neg (by omega), tk_w, if_pos rfl]
    have m126 : m1 126 x = nI (G 2 x) := ((Q.2.2.2.2.2.2.1).2 x he.1).2.2.2.1 (by omega) (by omega) (by omega)
    have m127 : m1 127 x = nI (G 3 x) := ((Q.2.2.2.2.2.2.1).2 x he.1).2.2.2.2.1 (by omega)
    have g2 := go_branch T hx m126 m127 hb
    have S3 := Q.pop (t1 := t0)
    have S4 := S3.task (s := nI 1) (x := nI b) (w := nI e)
    obtain ⟨v2, F2, h2, m2, E3, E4, P⟩ := ih W1 t1 p1 cl1 t0 kp F1 h1 _ b e S4 (S3.top (by omega)) ((he.sub zb yb).ext X l3) (by omega) (by omega)
    refine ⟨21, v2, F2, h2, _, m2, o1, by decide, by decide, fun N hN R r g hr => ?_, A, (E2.trans g2).trans E4, P.pre eb rfl rfl l1 l2 l3 X fC ((fM1.trans frM.pop).trans frM.task) ?_⟩
    · obtain ⟨r, rfl⟩ : ∃ r0, r = r0 + 1 := ⟨r - 1, by omega⟩
      refine pv_2 o1 o2 (E1 N hN R r g (by omega)) o5 o6 o7 (b := G 5 b) ?_ (E3 N hN R r g (by omega))
      rw [ev] at hb
      rcases hb with ⟨c, rfl⟩ | ⟨c, rfl⟩
      · exact Or.inl ⟨c, rfl⟩
      · exact Or.inr ⟨c, rfl⟩
    · exact ((sb.task.trans (sb.task (kp := kp)) (by omega) (Nat.le_refl _)).trans bb (by omega) (Nat.le_refl _)).trans ((sb.pop (t0 := t0) (kp := kp)).trans sb.task (Nat.le_refl _) (Nat.le_refl _)) (Nat.le_refl _) (Nat.le_refl _)
  · obtain ⟨en, q1, q2, q3, q4⟩ := R.ended
    refine ⟨21, 0, F1, h1, _, m1, o1, by decide, by decide, fun N hN R r g hr => ?_, A, E2, fC, fM1, Or.inr R⟩
    obtain ⟨r, rfl⟩ : ∃ r0, r = r0 + 1 := ⟨r - 1, by omega⟩
    obtain ⟨r, rfl⟩ : ∃ r0, r = r0 + 1 := ⟨r - 1, by omega⟩
    by_cases c : v = nI 0
    · exact pv_2 o1 o2 (E1 N hN R (r + 1) g (by omega)) o5 o6 o7 (Or.inl ⟨c, rfl⟩) (cw_over q3 q1 q2)
    · exact pv_2 o1 o2 (E1 N hN R (r + 1) g (by omega)) o5 o6 o7 (Or.inr ⟨c, rfl⟩) (cw_over q3 q1 q2)
-- signs
theorem act_1 {N x e a b c t0 : Nat} {m : HI} {g : HL} (hx : x < 2002) (n1 : m 124 x = nI 1) (n2 : m 125 x = nI a) (n3 : m 126 x = nI b) (n4 : m 127 x = nI c) (h36 : m 115 36 = nI t0) (ht : t0 + 4 < 3000) :
    mAct N (nI x) (nI e) m g = some (tk (tk (tk (tk m t0 (nI 5) (nI c) (nI 0)) (t0 + 1) (nI 1) (nI b) (nI e)) (t0 + 2) (nI 4) (nI 0) (nI 0)) (t0 + 3) (nI 1) (nI a) (nI e), g) := by
  rw [mAct]
  have z : ∀ {a s x w s' x' w' t1 t2 k}, ¬ a = 115 → ¬ a = 134 → ¬ a = 135 → ¬ a = 138 → tk (tk m t1 s x w) t2 s' x' w' a k = m a k := fun h1 h2 h3 h4 => by rw [tk_a h1 h2 h3 h4, tk_a h1 h2 h3 h4]
  simp (disch := omega) only [q_lit, q_le, q_lt, q_inj, q_add, q_mul, q_sub, q_div, q_vin, q_ix, gd_true, ↓bnd_eq, ↓ob1_some, ↓obv_some, ↓obi_some, ↓obl_some, ↓obr_some, ↓ogv_l, ↓ogi_l, ↓ogr_l, ↓ogv_r, ↓ogi_r, ↓ogr_r, up2_at, decide_true, decide_eq_true_eq, ite_true, ite_false, if_true, if_false, ↓reduceIte, Nat.reduceEqDiff, Nat.reduceLeDiff, Nat.reduceLT, Nat.reduceAdd, Nat.reduceSub, Nat.reduceMul, not_true_eq_false, not_false_eq_true, true_and, and_true, false_and, and_false, or_true, true_or, or_false, false_or, hx, n1, n4, ti1, Int.reduceLT, Int.lt_irrefl]
  rw [tk_eq h36 (by omega), obv_some, tk_a (by decide) (by decide) (by decide) (by decide), n3, tk_tk (by omega), obv_some, tk_tk (by omega), obv_some, tk_a (by decide) (by decide) (by decide) (by decide), z (by decide) (by decide) (by decide) (by decide), n2, tk_tk (by omega), obv_some]
theorem ti10 : (nI 10).toInt = 10 := by decide
theorem pv_1 {N R r a b1 b2 e o : Nat} {v v2 : Int32} {F F1 F2 : Frm} {h h1 h2 : HI} {g : HL} (o1 : F.2.1 a = (27, 0)) (o2 : F.2.2 a 3 = some b1) (E : (tie4 N R r).2.2.2.2.2.2.2 F b1 (nI (16 * e)) h g = some (.inl (v, F1, h1, g))) (o4 : F1.2.1 a = (27, 0)) (o5 : F1.2.2 a 4 = some b2)
    (E2 : (tie4 N R r).2.2.2.2.2.2.2 F1 b2 (nI (16 * e)) h1 g = some (.inl (v2, F2, h2, g))) (o6 : F2.2.1 a = (27, 0)) (o7 : h2 a 2 = nI (if o = 12 then 10 else o - 13)) (ho : o = 12 ∨ 19 ≤ o ∧ o ≤ 22) : pv_work N R (tie4 N R (r + 1)) 17 F a (nI (16 * e)) h g = some (.inl (sgn o v v2, F2, h2, g)) := by
  show pX19_work_0 N R (tie4 N R r) F a (nI (16 * e)) h g = _
  rw [pX19_work_0, o1, o2, ob1_some, E, ogi_l, o4, o5, ob1_some, E2, ogi_l, o6]
  have : o = 12 ∨ o = 19 ∨ o = 20 ∨ o = 21 ∨ o = 22 := by omega
  rcases this with rfl | rfl | rfl | rfl | rfl
  · have o8 : h2 a 2 = nI 10 := o7
    rw [decide_eq_true rfl, gd_true, gd_true, gd_true, bnd_eq, o8, if_pos (by rw [ti10]; decide)]
    unfold sgn
    by_cases c : v = v2
    · rw [if_pos c, if_neg (by decide), if_neg (by decide), if_neg (by decide), if_neg (by decide), if_pos c]
    · rw [if_neg c, if_neg (by decide), if_neg (by decide), if_neg (by decide), if_neg (by decide), if_neg c]
  · have o8 : h2 a 2 = nI 6 := o7
    rw [decide_eq_true rfl, gd_true, gd_true, gd_true, bnd_eq, o8, if_neg (by rw [ti6]; decide), if_pos (by decide)]
    rfl
  · have o8 : h2 a 2 = nI 7 := o7
    rw [decide_eq_true rfl, gd_true, gd_true, gd_true, bnd_eq, o8, if_neg (by rw [ti7]; decide), if_neg (by decide), if_pos (by decide)]
    rfl
  · have o8 : h2 a 2 = nI 8 := o7
    rw [decide_eq_true rfl, gd_true, gd_true, gd_true, bnd_eq, o8, if_neg (by rw [ti8]; decide), if_neg (by decide), if_neg (by decide), if_pos (by decide)]
    rfl
  · have o8 : h2 a 2 = nI 9 := o7
    rw [decide_eq_true rfl, gd_true, gd_true, gd_true, bnd_eq, o8, if_neg (by rw [ti9]; decide), if_neg (by decide), if_neg (by decide), if_neg (by decide)]
    unfold sgn
    by_cases c : v2 ≤ v
    · rw [if_pos c, if_neg (by decide), if_neg (by decide), if_neg (by decide), if_pos (by decide), if_pos c]
    · rw [if_neg c, if_neg (by decide), if_neg (by decide), if_neg (by decide), if_pos (by decide), if_neg c]
