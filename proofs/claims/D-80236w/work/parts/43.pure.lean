/-! RUNS, 9: signs, case -/
theorem wi_1 {G W : PG} {k0 nf I IP lim n t p cl d t0 kp x e : Nat} {F : Frm} {h m : HI} (hP : pWF G k0 nf) (ih : WK G k0 nf I IP lim n d) (H : RunS G W k0 nf I IP lim t p cl d t0 kp F h m) (he : eok G W cl x e) (ht : t0 ≤ 6 * d + 5) (hd : d ≤ 150) (hkp : kp + 1 ≤ d) (hk : G 0 x = 1) : WI G W k0 nf I IP lim (n + 1) t p cl d t0 kp x e F h m := by
  have hw := hP.2.2.2 x he.1
  obtain ⟨H1, H2, H3, H4, H5, H6, H7, H8, H9⟩ := id H
  obtain ⟨n1, n2, n3, n4, n5, -⟩ := H7.2 x he.1
  obtain ⟨ox, -, b1, -⟩ := H8.2 x he.1
  obtain ⟨o1, o2, o3, o4⟩ := b1 hk
  obtain ⟨w0, w01, -, hx, -, -, -, w02, w03, w1, -⟩ := id hw
  obtain ⟨z1, z2, y1, y2, -, z6, z7, z8, z9⟩ := w1 hk
  have A : ∀ N, 8 ≤ N → ∀ g, mAct N (nI x) (nI e) m g = some (tk (tk (tk (tk m t0 (nI 5) (nI (G 3 x)) (nI 0)) (t0 + 1) (nI 1) (nI (G 2 x)) (nI e)) (t0 + 2) (nI 4) (nI 0) (nI 0)) (t0 + 3) (nI 1) (nI (G 1 x)) (nI e), g) := fun N hN g => act_1 hx (by rw [n1, hk]) n2 (n4 (by omega) (by omega) (by omega)) (n5 (by omega)) H5 (by omega)
  have S1 := H.task (s := nI 5) (x := nI (G 3 x)) (w := nI 0)
  have S2 := S1.task (s := nI 1) (x := nI (G 2 x)) (w := nI e)
  have S3 := S2.task (s := nI 4) (x := nI 0) (w := nI 0)
  have S4 := S3.task (s := nI 1) (x := nI (G 1 x)) (w := nI e)
  obtain ⟨v, F1, h1, m1, E1, E2, fC, fM, R⟩ := ih _ t p cl (t0 + 3) kp F h _ (G 1 x) e S4 (S3.top (by omega)) (he.sub z1 y1) (by omega) (by omega)
  have o5 : F1.2.1 (G 5 x) = (27, 0) := by rw [fC.2.1]; exact o1
  have o6 : F1.2.2 (G 5 x) 4 = some (G 5 (G 2 x)) := by rw [fC.2.2.1 _ _ (by omega)]; exact o3
  have o7 : h1 (G 5 x) 2 = nI (if G 3 x = 12 then 10 else G 3 x - 13) := by rw [fC.2.2.2 _ _ (by omega)]; exact o4
  have fM1 : frM m m1 := (((frM.task.trans frM.task).trans frM.task).trans frM.task).trans fM
  rcases R with ⟨W1, t1, p1, cl1, l1, l2, l3, X, Q, vv, bb⟩ | R
  · have ev : m1 115 78 = v := by
      rcases vv with ⟨-, -, q⟩ | ⟨q, -⟩
      · exact q
      · omega
    have L : ∀ i, i < t0 + 3 → m1 134 i = tk (tk (tk m t0 (nI 5) (nI (G 3 x)) (nI 0)) (t0 + 1) (nI 1) (nI (G 2 x)) (nI e)) (t0 + 2) (nI 4) (nI 0) (nI 0) 134 i ∧ m1 135 i = tk (tk (tk m t0 (nI 5) (nI (G 3 x)) (nI 0)) (t0 + 1) (nI 1) (nI (G 2 x)) (nI e)) (t0 + 2) (nI 4) (nI 0) (nI 0) 135 i ∧ m1 138 i = tk (tk (tk m t0 (nI 5) (nI (G 3 x)) (nI 0)) (t0 + 1) (nI 1) (nI (G 2 x)) (nI e)) (t0 + 2) (nI 4) (nI 0) (nI 0) 138 i := by
      intro i hi
      obtain ⟨b1, b2, b3⟩ := bb.1 i hi
      refine ⟨?_, ?_, ?_⟩
      · rw [b1, tk_s, if_neg (by omega)]
      · rw [b2, tk_x, if_neg (by omega)]
      · rw [b3, tk_w, if_neg (by omega)]
    have T : top m1 (t0 + 2) (nI 4) (nI 0) (nI 0) := by
      obtain ⟨b1, b2, b3⟩ := L (t0 + 2) (by omega)
      refine ⟨Q.2.2.2.2.1, by omega, Q.e74, ?_, ?_, ?_⟩
      · rw [b1, tk_s, if_pos rfl]
      · rw [b2, tk_x, if_pos rfl]
      · rw [b3, tk_w, if_pos rfl]
    have g2 := go_kept T Q.2.2.2.2.2.1 (by omega)
    obtain ⟨m2, hm2⟩ : ∃ m2, m2 = up2 (up2 (up2 m1 115 36 (nI (t0 + 2))) 158 kp (m1 115 78)) 115 82 (nI (kp + 1)) := ⟨_, rfl⟩
    rw [← hm2] at g2
    have S5 : RunS G W1 k0 nf I IP lim t1 p1 cl1 d (t0 + 2) (kp + 1) F1 h1 m2 := by
      rw [hm2]
      refine Q.mv (fun _ _ _ => rfl) Q.2.2.1 (fun k q1 q2 q3 q4 q5 => ?_) (fun a k q1 q2 q3 q4 q5 => ?_) Q.2.2.2.1 rfl rfl
      · rw [up2_nj q5, up2_ne (by decide), up2_nj q1]
      · rw [up2_ne q1, up2_ne q5, up2_ne q1]
    have T2 : top m2 (t0 + 1) (nI 1) (nI (G 2 x)) (nI e) := by
      obtain ⟨b1, b2, b3⟩ := L (t0 + 1) (by omega)
      refine ⟨S5.2.2.2.2.1, by omega, S5.e74, ?_, ?_, ?_⟩
      · rw [hm2]; show m1 134 (t0 + 1) = _; rw [b1, tk_s, if_neg (by omega), tk_s, if_pos rfl]
      · rw [hm2]; show m1 135 (t0 + 1) = _; rw [b2, tk_x, if_neg (by omega), tk_x, if_pos rfl]
      · rw [hm2]; show m1 138 (t0 + 1) = _; rw [b3, tk_w, if_neg (by omega), tk_w, if_pos rfl]
    have fM2 : frM m m2 := by
      refine fM1.trans ?_
      intro a k q1 q2 q3 q4 q5
      rw [hm2]
      by_cases c : a = 115
      · subst c; rw [up2_nj (by omega), up2_ne (by decide), up2_nj (by omega)]
      · rw [up2_ne c, up2_ne (by omega), up2_ne c]
    have sb1 : sb t0 kp m m2 := by
      refine ⟨fun i hi => ?_, fun i hi => ?_⟩
      · obtain ⟨b1, b2, b3⟩ := L i (by omega)
        rw [hm2]
        refine ⟨?_, ?_, ?_⟩
        · show m1 134 i = _; rw [b1, tk_s, if_neg (by omega), tk_s, if_neg (by omega), tk_s, if_neg (by omega)]
        · show m1 135 i = _; rw [b2, tk_x, if_neg (by omega), tk_x, if_neg (by omega), tk_x, if_neg (by omega)]
        · show m1 138 i = _; rw [b3, tk_w, if_neg (by omega), tk_w, if_neg (by omega), tk_w, if_neg (by omega)]
      · rw [hm2, up2_ne (by decide), up2_nj (by omega)]
        show m1 158 i = _
        rw [bb.2 i hi, tk_a (by decide) (by decide) (by decide) (by decide), tk_a (by decide) (by decide) (by decide) (by decide), tk_a (by decide) (by decide) (by decide) (by decide), tk_a (by decide) (by decide) (by decide) (by decide)]
    obtain ⟨v2, F2, h2, m3, E3, E4, fC3, fM3, R2⟩ := ih W1 t1 p1 cl1 (t0 + 1) (kp + 1) F1 h1 m2 (G 2 x) e S5 T2 ((he.sub z2 y2).ext X l3) (by omega) (by omega)
    have o8 : F2.2.1 (G 5 x) = (27, 0) := by rw [fC3.2.1]; exact o5
    have o9 : h2 (G 5 x) 2 = nI (if G 3 x = 12 then 10 else G 3 x - 13) := by rw [fC3.2.2.2 _ _ (by omega)]; exact o7
    have EC : ∀ N, 8 ≤ N → ∀ R r g, 3 * (n + 1) + 2 ≤ r → pv_work N R (tie4 N R r) (27 - 10) F (G 5 x) (nI (16 * e)) h g = some (.inl (sgn (G 3 x) v v2, F2, h2, g)) := by
      intro N hN R r g hr
      obtain ⟨r, rfl⟩ : ∃ r0, r = r0 + 1 := ⟨r - 1, by omega⟩
      exact pv_1 o1 o2 (E1 N hN R r g (by omega)) o5 o6 (E3 N hN R r g (by omega)) o8 o9 z9
    rcases R2 with ⟨W2, t2, p2, cl2, l4, l5, l6, X2, Q2, vv2, bb2⟩ | R2
    · have T3 : top m3 t0 (nI 5) (nI (G 3 x)) (nI 0) := by
        obtain ⟨b1, b2, b3⟩ := L t0 (by omega)
        obtain ⟨c1, c2, c3⟩ := bb2.1 t0 (by omega)
        refine ⟨Q2.2.2.2.2.1, by omega, Q2.e74, ?_, ?_, ?_⟩
        · rw [c1, hm2]; show m1 134 t0 = _; rw [b1, tk_s, if_neg (by omega), tk_s, if_neg (by omega), tk_s, if_pos rfl]
        · rw [c2, hm2]; show m1 135 t0 = _; rw [b2, tk_x, if_neg (by omega), tk_x, if_neg (by omega), tk_x, if_pos rfl]
        · rw [c3, hm2]; show m1 138 t0 = _; rw [b3, tk_w, if_neg (by omega), tk_w, if_neg (by omega), tk_w, if_pos rfl]
      have g3 := go_apply T3 Q2.2.2.2.2.2.1 (by omega) (by omega)
      have k1 : m3 158 kp = v := by rw [bb2.2 kp (by omega), hm2, up2_ne (by decide), up2_eq, ev]
      have k2 : m3 115 78 = v2 := by
        rcases vv2 with ⟨-, -, q⟩ | ⟨q, -⟩
        · exact q
        · omega
      rw [k1, k2] at g3
      refine ⟨27, sgn (G 3 x) v v2, F2, h2, _, _, o1, by decide, by decide, EC, A, ((E2.trans g2).trans E4).trans g3, fC.trans fC3, (fM2.trans fM3).trans ?_, Or.inl ⟨W2, t2, p2, cl2, by omega, by omega, by omega, X.trans X2 l1 l2 l3, ?_, ?_, ?_⟩⟩
      · intro a k q1 q2 q3 q4 q5
        by_cases c : a = 115
        · subst c; rw [up2_nj (by omega), up2_nj (by omega), up2_nj (by omega), up2_nj (by omega)]
        · rw [up2_ne c, up2_ne c, up2_ne c, up2_ne c]
      · refine Q2.mv (fun _ _ _ => rfl) Q2.2.2.1 (fun k q1 q2 q3 q4 q5 => ?_) (fun a k q1 q2 q3 q4 q5 => ?_) Q2.2.2.2.1 rfl rfl
        · rw [up2_nj q4, up2_nj q3, up2_nj q5, up2_nj q1]
        · rw [up2_ne q1, up2_ne q1, up2_ne q1, up2_ne q1]
      · rw [z8]; exact vr0
      · exact (sb1.trans bb2 (by omega) (by omega)).trans (t1 := t0) (k1 := kp) ⟨fun _ _ => ⟨rfl, rfl, rfl⟩, fun _ _ => rfl⟩ (Nat.le_refl _) (Nat.le_refl _)
    · exact ⟨27, sgn (G 3 x) v v2, F2, h2, _, m3, o1, by decide, by decide, EC, A, (E2.trans g2).trans E4, fC.trans fC3, fM2.trans fM3, Or.inr R2⟩
  · obtain ⟨en, q1, q2, q3, q4⟩ := R.ended
    refine ⟨27, sgn (G 3 x) v 0, F1, h1, _, m1, o1, by decide, by decide, fun N hN R r g hr => ?_, A, E2, fC, fM1, Or.inr R⟩
    obtain ⟨r, rfl⟩ : ∃ r0, r = r0 + 1 := ⟨r - 1, by omega⟩
    obtain ⟨r, rfl⟩ : ∃ r0, r = r0 + 1 := ⟨r - 1, by omega⟩
    exact pv_1 o1 o2 (E1 N hN R (r + 1) g (by omega)) o5 o6 (cw_over q3 q1 q2) o5 o7 z9
-- case
theorem act_4 {N x e a t0 : Nat} {m : HI} {g : HL} (hx : x < 2002) (n1 : m 124 x = nI 4) (n2 : m 125 x = nI a) (h36 : m 115 36 = nI t0) (ht : t0 + 2 < 3000) :
    mAct N (nI x) (nI e) m g = some (tk (tk m t0 (nI 7) (nI x) (nI e)) (t0 + 1) (nI 1) (nI a) (nI e), g) := by
  rw [mAct]
  have q : tk m t0 (nI 7) (nI x) (nI e) 125 x = nI a := by rw [tk_a (by decide) (by decide) (by decide) (by decide)]; exact n2
  simp (disch := omega) only [q_lit, q_le, q_lt, q_inj, q_add, q_mul, q_sub, q_div, q_vin, q_ix, gd_true, ↓bnd_eq, ↓ob1_some, ↓obv_some, ↓obi_some, ↓obl_some, ↓obr_some, ↓ogv_l, ↓ogi_l, ↓ogr_l, ↓ogv_r, ↓ogi_r, ↓ogr_r, up2_at, decide_true, decide_eq_true_eq, ite_true, ite_false, if_true, if_false, ↓reduceIte, Nat.reduceEqDiff, Nat.reduceLeDiff, Nat.reduceLT, Nat.reduceAdd, Nat.reduceSub, Nat.reduceMul, not_true_eq_false, not_false_eq_true, true_and, and_true, false_and, and_false, or_true, true_or, or_false, false_or, hx, n1, ti4, Int.reduceLT, Int.lt_irrefl]
  rw [tk_eq h36 (by omega), obv_some, q, tk_tk (by omega), obv_some]
theorem pv_4 {N R r a b1 b2 e c q : Nat} {v2 : Int32} {F F1 F2 : Frm} {h h1 h2 : HI} {g : HL} (oa : 160 ≤ a) (o1 : F.2.1 a = (20, 0)) (o2 : F.2.2 a 3 = some b1) (E : (tie4 N R r).2.2.2.2.2.2.2 F b1 (nI (16 * e)) h g = some (.inl (nI q, F1, h1, g))) (h0 : h1 101 16 = nI 0) (o4 : F1.2.1 a = (20, 0)) (hq : q < 1540) (o3 : h1 a 2 = nI c) (hl : 16 * e + c + 1 < 24016) (o5 : F1.2.2 a 4 = some b2)
    (E2 : (tie4 N R r).2.2.2.2.2.2.2 F1 b2 (nI (16 * e)) (up2 (up2 h1 108 (16 * e + c) (h1 106 q)) 108 (16 * e + c + 1) (h1 107 q)) g = some (.inl (v2, F2, h2, g))) : pv_work N R (tie4 N R (r + 1)) 10 F a (nI (16 * e)) h g = some (.inl (v2, F2, h2, g)) := by
  show pX12_work_0 N R (tie4 N R r) F a (nI (16 * e)) h g = _
  have hl2 : 16 * e + c < 24016 := by omega
  have o7 : up2 h1 108 (16 * e + c) (h1 106 q) a 2 = nI c := by rw [up2_ne (by omega)]; exact o3
  rw [pX12_work_0, o1, o2, ob1_some, E, ogi_l, o4, o3]
  have na : ¬ a = 108 := by omega
  simp (disch := omega) only [q_lit, q_le, q_lt, q_inj, q_add, q_mul, q_sub, q_div, q_vin, q_ix, gd_true, ↓bnd_eq, ↓ob1_some, ↓obv_some, ↓obi_some, ↓obl_some, ↓obr_some, ↓ogv_l, ↓ogi_l, ↓ogr_l, ↓ogv_r, ↓ogi_r, ↓ogr_r, up2_at, decide_true, decide_eq_true_eq, ite_true, ite_false, if_true, if_false, ↓reduceIte, Nat.reduceEqDiff, Nat.reduceLeDiff, Nat.reduceLT, Nat.reduceAdd, Nat.reduceSub, Nat.reduceMul, not_true_eq_false, not_false_eq_true, true_and, and_true, false_and, and_false, or_true, true_or, or_false, false_or, h0, hq, hl, hl2, na, o3]
  rw [pX12_work_53, o4, o5, ob1_some, E2, ogi_l]
  rfl
theorem pv_4e {N R r a b1 b2 e en : Nat} {v : Int32} {F F1 : Frm} {h h1 : HI} {g : HL} (o1 : F.2.1 a = (20, 0)) (o2 : F.2.2 a 3 = some b1) (E : (tie4 N R (r + 1)).2.2.2.2.2.2.2 F b1 (nI (16 * e)) h g = some (.inl (v, F1, h1, g))) (h0 : h1 101 16 = nI en) (q1 : ¬ en = 0) (q2 : en ≤ 5) (o4 : F1.2.1 a = (20, 0)) (o5 : F1.2.2 a 4 = some b2) : pv_work N R (tie4 N R (r + 1 + 1)) 10 F a (nI (16 * e)) h g = some (.inl (0, F1, h1, g)) := by
  show pX12_work_0 N R (tie4 N R (r + 1)) F a (nI (16 * e)) h g = _
  rw [pX12_work_0, o1, o2, ob1_some, E, ogi_l]
  simp (disch := omega) only [q_lit, q_le, q_lt, q_inj, q_add, q_mul, q_sub, q_div, q_vin, q_ix, gd_true, ↓bnd_eq, ↓ob1_some, ↓obv_some, ↓obi_some, ↓obl_some, ↓obr_some, ↓ogv_l, ↓ogi_l, ↓ogr_l, ↓ogv_r, ↓ogi_r, ↓ogr_r, up2_at, decide_true, decide_eq_true_eq, ite_true, ite_false, if_true, if_false, ↓reduceIte, Nat.reduceEqDiff, Nat.reduceLeDiff, Nat.reduceLT, Nat.reduceAdd, Nat.reduceSub, Nat.reduceMul, not_true_eq_false, not_false_eq_true, true_and, and_true, false_and, and_false, or_true, true_or, or_false, false_or, h0, q1]
  rw [pX12_work_53, o4, o5, ob1_some, cw_over h0 q1 q2, ogi_l]
  rfl
theorem wi_4 {G W : PG} {k0 nf I IP lim n t p cl d t0 kp x e : Nat} {F : Frm} {h m : HI} (hP : pWF G k0 nf) (ih : WK G k0 nf I IP lim n d) (H : RunS G W k0 nf I IP lim t p cl d t0 kp F h m) (he : eok G W cl x e) (ht : t0 ≤ 6 * d + 5) (hd : d ≤ 150) (hkp : kp + 1 ≤ d) (hk : G 0 x = 4) : WI G W k0 nf I IP lim (n + 1) t p cl d t0 kp x e F h m := by
  have hw := hP.2.2.2 x he.1
  obtain ⟨H1, H2, H3, H4, H5, H6, H7, H8, H9⟩ := id H
  obtain ⟨n1, n2, n3, n4, n5, -⟩ := H7.2 x he.1
  obtain ⟨ox, -, -, -, -, b4, -⟩ := H8.2 x he.1
  obtain ⟨o1, o2, o3, o4⟩ := b4 hk
  have hb := he.bound
  obtain ⟨w0, w01, -, hx, -, -, -, w02, w03, -, -, -, w4, -⟩ := id hw
  obtain ⟨z1, z2, y1, y2, z3, z4, z5, z6, z7, z8, z9⟩ := w4 hk
  have hc : G 3 x + 1 < 16 := by
    have := (hP.2.2.1 (G 7 x) w0 w01).2.2.1
    have h1 := z2.2.2.2.2
    have hwb := (hP.2.2.2 (G 2 x) z2.1).2.2.2.2.2.2.1
    omega
  have A : ∀ N, 8 ≤ N → ∀ g, mAct N (nI x) (nI e) m g = some (tk (tk m t0 (nI 7) (nI x) (nI e)) (t0 + 1) (nI 1) (nI (G 1 x)) (nI e), g) := fun N hN g => act_4 hx (by rw [n1, hk]) n2 H5 (by omega)
  have S1 := H.task (s := nI 7) (x := nI x) (w := nI e)
  have S2 := S1.task (s := nI 1) (x := nI (G 1 x)) (w := nI e)
  obtain ⟨v, F1, h1, m1, E1, E2, fC, fM, R⟩ := ih _ t p cl (t0 + 1) kp F h _ (G 1 x) e S2 (S1.top (by omega)) (he.sub z1 y1) (by omega) (by omega)
  have o5 : F1.2.1 (G 5 x) = (20, 0) := by rw [fC.2.1]; exact o1
  have o6 : F1.2.2 (G 5 x) 4 = some (G 5 (G 2 x)) := by rw [fC.2.2.1 _ _ (by omega)]; exact o3
  have o7 : h1 (G 5 x) 2 = nI (G 3 x) := by rw [fC.2.2.2 _ _ (by omega)]; exact o4
  have fM1 : frM m m1 := (frM.task.trans frM.task).trans fM
  rcases R with ⟨W1, t1, p1, cl1, l1, l2, l3, X, Q, vv, bb⟩ | R
  · obtain ⟨c, ev, cp, ew, ey⟩ : ∃ c, v = nI c ∧ c < IP + p1 ∧ m1 115 78 = nI (pi' W1 IP c) ∧ W1 2 c = G 4 (G 1 x) := by
      rcases vv with ⟨q, -⟩ | ⟨-, -, c, q1, q2, q3, q4⟩
      · omega
      · exact ⟨c, q1, q2, q3, q4⟩
    subst ev
    obtain ⟨p1c, p2c, i, j, f1, f2, f3, f4, f5, f6, f7, f8, -⟩ := Q.1.2.2.1 c cp
    obtain ⟨cc1, cc2, cc3, cc4, cc5⟩ := Q.cap
    have hpi := pi_lt Q.1.1 cp
    have T : top m1 t0 (nI 7) (nI x) (nI e) := by
      obtain ⟨b1, b2, b3⟩ := bb.1 t0 (by omega)
      refine ⟨Q.2.2.2.2.1, by omega, Q.e74, ?_, ?_, ?_⟩
      · rw [b1, tk_s, if_neg (by omega), tk_s, if_pos rfl]
      · rw [b2, tk_x, if_neg (by omega), tk_x, if_pos rfl]
      · rw [b3, tk_w, if_neg (by omega), tk_w, if_pos rfl]
    have m126 : m1 126 x = nI (G 2 x) := ((Q.2.2.2.2.2.2.1).2 x he.1).2.2.2.1 (by omega) (by omega) (by omega)
    have m127 : m1 127 x = nI (G 3 x) := ((Q.2.2.2.2.2.2.1).2 x he.1).2.2.2.2.1 (by omega)
    have g2 := go_opened T hx m126 m127 ew hpi (by omega)
    rw [f5, f6] at g2
    have hW3 : W1 3 e = G 7 x := by rw [X.2.2.2.1 e hb, he.2.2.1]
    have S3 := Q.pop (t1 := t0)
    obtain ⟨S4, X4⟩ := S3.slot (e := e) (s := G 3 x) (j := i) (by omega) (by omega) f3 (by rw [f7, ey, hW3, z6]) (by rw [X.2.2.2.1 0 (Nat.zero_le _)]; exact prm_ne he H9.2 z9)
    obtain ⟨S5, X5⟩ := S4.slot (e := e) (s := G 3 x + 1) (j := j) (by omega) (by omega) f4 (by rw [up2_ne (by decide), up2_ne (by decide), f8, ey, hW3, z7]) (by rw [up2_ne (by decide), X.2.2.2.1 0 (Nat.zero_le _)]; exact prm_ne he H9.2 (by omega))
    have S6 := S5.task (s := nI 1) (x := nI (G 2 x)) (w := nI e)
    have heB : eok G (up2 (up2 W1 4 (16 * e + G 3 x) 1) 4 (16 * e + (G 3 x + 1)) 1) cl1 (G 2 x) e := by
      refine ⟨z2.1, by omega, ?_, fun s q1 q2 => ?_⟩
      · rw [up2_ne (by decide), up2_ne (by decide), hW3, z2.2.1]
      · rcases y2 s q1 q2 with q | q | q
        · exact X5.2.2.2.2 _ (X4.2.2.2.2 _ (X.2.2.2.2 _ (he.2.2.2 s q1 q)))
        · subst q; exact X5.2.2.2.2 _ (by rw [up2_eq])
        · subst q; rw [up2_eq]
    obtain ⟨v2, F2, h2, m2, E3, E4, P⟩ := ih _ t1 p1 cl1 t0 kp F1 _ _ (G 2 x) e S6 (S5.top (by omega)) heB (by omega) (by omega)
    refine ⟨20, v2, F2, h2, _, m2, o1, by decide, by decide, fun N hN R r g hr => ?_, A, (E2.trans g2).trans E4, P.pre z8 rfl rfl l1 l2 l3 ((X.trans X4 l1 l2 l3).trans X5 l1 l2 l3) ((fC.trans (frC.slot (G := G) (W := W) (by rw [fC.1.2.1]; exact H9) (prm_ne he H9.2 z9))).trans (frC.slot (G := G) (W := W) (i := 16 * e + (G 3 x + 1)) (by show h1 101 19 = _ ∧ _; rw [fC.1.2.1]; exact H9) (prm_ne he H9.2 (by omega)))) ((fM1.trans ?_).trans frM.task) ?_⟩
    · obtain ⟨r, rfl⟩ : ∃ r0, r = r0 + 1 := ⟨r - 1, by omega⟩
      refine pv_4 ox o1 o2 (E1 N hN R r g (by omega)) Q.e16 o5 (by omega) o7 (by omega) o6 ?_
      rw [f1, f2]
      exact E3 N hN R r g (by omega)
    · intro a k q1 q2 q3 q4 q5
      rw [up2_ne (by omega), up2_ne (by omega)]
      exact frM.pop a k q1 q2 q3 q4 q5
    · exact ((sb.task.trans (sb.task (kp := kp)) (by omega) (Nat.le_refl _)).trans bb (by omega) (Nat.le_refl _)).trans ((show sb t0 kp m1 _ from ⟨fun _ _ => ⟨rfl, rfl, rfl⟩, fun _ _ => rfl⟩).trans sb.task (Nat.le_refl _) (Nat.le_refl _)) (Nat.le_refl _) (Nat.le_refl _)
  · obtain ⟨en, q1, q2, q3, q4⟩ := R.ended
    refine ⟨20, 0, F1, h1, _, m1, o1, by decide, by decide, fun N hN R r g hr => ?_, A, E2, fC, fM1, Or.inr R⟩
    obtain ⟨r, rfl⟩ : ∃ r0, r = r0 + 1 := ⟨r - 1, by omega⟩
    obtain ⟨r, rfl⟩ : ∃ r0, r = r0 + 1 := ⟨r - 1, by omega⟩
    exact pv_4e o1 o2 (E1 N hN R (r + 1) g (by omega)) q3 q1 q2 o5 o6
