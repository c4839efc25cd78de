/-! RUNS, 7: let -/
theorem PE.mv2 {I IP lim : Nat} {h m h' m' : HI} (H : PE I IP lim h m) (e1 : ∀ k, ¬ k = 14 → h' 101 k = h 101 k) (e4 : ∀ k, h' 104 k = h 104 k ∧ h' 109 k = h 109 k) (e2 : ∀ k, m' 153 k = m 153 k) (e3 : ∀ k, 67 ≤ k → ¬ k = 72 → k ≤ 74 → m' 115 k = m 115 k) : PE I IP lim h' m' := by
  obtain ⟨t, p, cl, s, dd, en, he, ⟨c1, c2, c3, c4, c5, c6, c7, c8, c9, d1, d2, d3, d4, d5, d6, d7, d8, d9, g1, g2⟩, f1, f2, f3⟩ := H
  refine ⟨t, p, cl, s, dd, en, he, ⟨?_, ?_, ?_, ?_, ?_, ?_, ?_, ?_, ?_, ?_, ?_, ?_, ?_, ?_, ?_, ?_, d8, d9, g1, g2⟩, f1, f2, fun j hj => ?_⟩
  · rw [e1 4 (by decide)]; exact c1
  · rw [e1 7 (by decide)]; exact c2
  · rw [e1 9 (by decide)]; exact c3
  · rw [e1 10 (by decide)]; exact c4
  · rw [e1 11 (by decide)]; exact c5
  · rw [e1 12 (by decide)]; exact c6
  · rw [e1 13 (by decide)]; exact c7
  · rw [e1 15 (by decide)]; exact c8
  · rw [e1 16 (by decide)]; exact c9
  · rw [e3 67 (by decide) (by decide) (by decide)]; exact d1
  · rw [e3 68 (by decide) (by decide) (by decide)]; exact d2
  · rw [e3 69 (by decide) (by decide) (by decide)]; exact d3
  · rw [e3 71 (by decide) (by decide) (by decide)]; exact d4
  · rw [e3 70 (by decide) (by decide) (by decide)]; exact d5
  · rw [e3 73 (by decide) (by decide) (by decide)]; exact d6
  · rw [e3 74 (by decide) (by decide) (by decide)]; exact d7
  · rw [(e4 j).2, (e4 j).1, e2, e2]; exact f3 j hj
theorem PE.ended {I IP lim : Nat} {h m : HI} (H : PE I IP lim h m) : ∃ en, ¬ en = 0 ∧ en ≤ 5 ∧ h 101 16 = nI en ∧ m 115 74 = nI en := by
  obtain ⟨t, p, cl, s, dd, en, he, ⟨c1, c2, c3, c4, c5, c6, c7, c8, c9, d1, d2, d3, d4, d5, d6, d7, d8, d9, g1, g2⟩, -⟩ := H
  exact ⟨en, he.1, g2, c9, d7⟩
theorem RunS.thing {G W : PG} {k0 nf I IP lim t p cl d t0 kp x e : Nat} {F : Frm} {h m : HI} (hP : pWF G k0 nf) (H : RunS G W k0 nf I IP lim t p cl d t0 kp F h m) (he : eok G W cl x e) :
    ∃ yC yM F' h' m' W' t', (∀ N R g, ppX7_thing N R F (G 5 x) (nI (16 * e)) h g = some (.inl (yC, F', h', g))) ∧ (∀ N g, pX8_thing N (nI x) (nI e) m g = some (yM, m', g)) ∧ frT F h m F' h' m' ∧
      ((∃ j, j < I + t' ∧ yC = nI j ∧ yM = nI (th I j) ∧ W' 1 j = G 4 x ∧ t ≤ t' ∧ ext W W' I IP t p cl ∧ RunS G W' k0 nf I IP lim t' p cl d t0 kp F' h' m') ∨ PE I IP lim h' m') := by
  obtain ⟨H1, ⟨s, dd, hc⟩, H3, H4, H5, H6, H7, H8, H9⟩ := id H
  obtain ⟨yC, yM, F', h', m', W', t', en, E1, E2, fT, hc', l1, X, R, e0, J⟩ := x_thing hP H7 H8 H1 hc he
  refine ⟨yC, yM, F', h', m', W', t', E1, E2, fT, ?_⟩
  by_cases c : en = 0
  · subst c
    obtain ⟨j, j1, j2, j3, j4⟩ := J rfl
    refine Or.inl ⟨j, j1, j2, j3, j4, l1, X, R, ⟨s, dd, hc'⟩, ?_, ?_, ?_, ?_, H7.fr fT.M, H8.fr fT.C, ?_, ?_⟩
    · rw [fT.2.2.2.1 101 14 (by decide) (by decide) (by decide)]; exact H3
    · rw [fT.2.2.2.2 115 72 (by decide) (by decide) (by decide)]; exact H4
    · rw [fT.2.2.2.2 115 36 (by decide) (by decide) (by decide)]; exact H5
    · rw [fT.2.2.2.2 115 82 (by decide) (by decide) (by decide)]; exact H6
    · rw [fT.C.1.2.1, X.2.2.2.1 0 (Nat.zero_le _)]; exact H9.1
    · rw [X.2.2.2.1 0 (Nat.zero_le _)]; exact H9.2
  · exact Or.inr ⟨t', p, cl, s, dd, en, ⟨c, by omega⟩, hc', R.FI⟩
theorem frC.slot {G W : PG} {F : Frm} {h : HI} {i : Nat} {v : Int32} (H9 : h 101 19 = nI (G 10 (W 3 0)) ∧ G 10 (W 3 0) ≤ 4) (hne : ∀ k, k < G 10 (W 3 0) → ¬ k = i) : frC F h F (up2 h 108 i v) := by
  refine ⟨⟨rfl, rfl, fun k q => ?_, rfl, rfl⟩, rfl, fun _ _ _ => rfl, fun a k q => up2_ne (by omega)⟩
  rw [H9.1, show ix (nI (G 10 (W 3 0))) = G 10 (W 3 0) from q_ix (by omega)] at q
  exact up2_nj (hne k q)
/-- slots of lets and cases are not those of params -/
theorem prm_ne {G W : PG} {cl x e s : Nat} (he : eok G W cl x e) (h4 : G 10 (W 3 0) ≤ 4) (hs : G 10 (G 7 x) ≤ s) : ∀ k, k < G 10 (W 3 0) → ¬ k = 16 * e + s := by
  intro k hk
  by_cases c : e = 0
  · subst c
    rw [he.2.2.1] at hk
    omega
  · omega
theorem RunS.slot {G W : PG} {k0 nf I IP lim t p cl d t0 kp e s j : Nat} {F : Frm} {h m : HI} (H : RunS G W k0 nf I IP lim t p cl d t0 kp F h m) (he : e ≤ cl) (hs : s < 16) (hj : j < I + t) (hy : W 1 j = G 14 (16 * W 3 e + s)) (hne : ∀ k, k < G 10 (W 3 0) → ¬ k = 16 * e + s) :
    RunS G (up2 W 4 (16 * e + s) 1) k0 nf I IP lim t p cl d t0 kp F (up2 h 108 (16 * e + s) (nI j)) (up2 m 156 (16 * e + s) (nI (th I j))) ∧ ext W (up2 W 4 (16 * e + s) 1) I IP t p cl := by
  obtain ⟨H1, ⟨s1, dd, hc⟩, H3, H4, H5, H6, H7, H8, H9⟩ := id H
  obtain ⟨R1, R2⟩ := H1.slot (F' := F) (h' := up2 h 108 (16 * e + s) (nI j)) (m' := up2 m 156 (16 * e + s) (nI (th I j))) he hs hj hy (fun _ => rfl) (fun a k q1 q2 q3 => up2_ne q3) (fun k => by rw [up2_at, if_pos rfl]) (fun a k q1 q2 => up2_ne (by omega)) (fun k => by rw [up2_at, if_pos rfl])
  exact ⟨⟨R1, ⟨s1, dd, hc⟩, H3, H4, H5, H6, H7.fr (fun a k q1 q2 q3 q4 q5 => up2_ne (by omega)), H8.fr (frC.slot H9 hne), H9⟩, R2⟩
theorem eok.bound {G W : PG} {cl x e : Nat} (H : eok G W cl x e) : e ≤ cl := H.2.1
theorem eok.sub {G W : PG} {cl x y e : Nat} (H : eok G W cl x e) (h1 : nSub G x y) (h2 : nSc G x y) : eok G W cl y e := ⟨h1.1, H.2.1, by rw [h1.2.1]; exact H.2.2.1, fun s q1 q2 => H.2.2.2 s q1 (h2 s q1 q2)⟩
/-- a task more -/
theorem RunS.task {G W : PG} {k0 nf I IP lim t p cl d t0 kp : Nat} {s x w : Int32} {F : Frm} {h m : HI} (H : RunS G W k0 nf I IP lim t p cl d t0 kp F h m) : RunS G W k0 nf I IP lim t p cl d (t0 + 1) kp F h (tk m t0 s x w) := by
  obtain ⟨H1, H2, H3, H4, H5, H6, H7, H8, H9⟩ := id H
  refine H.mv (fun _ _ _ => rfl) H3 (fun k q1 q2 q3 q4 q5 => tk_f q1) (fun a k q1 q2 q3 q4 q5 => tk_a q1 q2 q3 q4) ?_ rfl ?_
  · rw [tk_f (by decide)]; exact H4
  · rw [tk_f (by decide)]; exact H6
theorem sb.task {m : HI} {t0 kp : Nat} {s x w : Int32} : sb t0 kp m (tk m t0 s x w) :=
  ⟨fun i hi => ⟨by rw [tk_s, if_neg (by omega)], by rw [tk_x, if_neg (by omega)], by rw [tk_w, if_neg (by omega)]⟩, fun i hi => tk_a (by decide) (by decide) (by decide) (by decide)⟩
theorem frM.task {m : HI} {t0 : Nat} {s x w : Int32} : frM m (tk m t0 s x w) := by
  intro a k q1 q2 q3 q4 q5
  by_cases c : a = 115
  · subst c; exact tk_f (by omega)
  · exact tk_a c q2 q3 q4
theorem RunS.top {G W : PG} {k0 nf I IP lim t p cl d t0 kp : Nat} {s x w : Int32} {F : Frm} {h m : HI} (H : RunS G W k0 nf I IP lim t p cl d t0 kp F h m) (ht : t0 < 3000) : top (tk m t0 s x w) t0 s x w := by
  obtain ⟨H1, ⟨s1, dd, hc⟩, -⟩ := H
  refine ⟨rfl, ht, ?_, by rw [tk_s, if_pos rfl], by rw [tk_x, if_pos rfl], by rw [tk_w, if_pos rfl]⟩
  rw [tk_f (by decide)]
  exact hc.2.2.2.2.2.2.2.2.2.2.2.2.2.2.2.1
theorem RunS.cap {G W : PG} {k0 nf I IP lim t p cl d t0 kp : Nat} {F : Frm} {h m : HI} (H : RunS G W k0 nf I IP lim t p cl d t0 kp F h m) : cl ≤ 1500 ∧ t ≤ 1500 ∧ p ≤ 1500 ∧ I ≤ 40 ∧ IP ≤ 40 := by
  obtain ⟨⟨⟨h1, h2, h3, h4, h5, -⟩, -⟩, -⟩ := H
  exact ⟨h5, h3, h4, h1, h2⟩
/-- the rest of a step is the work of one more expression -/
theorem PO.pre {G W W1 : PG} {k0 nf I IP lim t p cl t1 p1 cl1 d t0 kp t2 k2 y y1 : Nat} {F F1 F' : Frm} {h h1 m m1 h' m' : HI} {v : Int32} (H : PO G W1 k0 nf I IP lim t1 p1 cl1 d t2 k2 y1 F1 h1 m1 v F' h' m') (ey : y1 = y) (et : t2 = t0) (ek : k2 = kp) (l1 : t ≤ t1) (l2 : p ≤ p1) (l3 : cl ≤ cl1) (X : ext W W1 I IP t p cl) (fC : frC F h F1 h1) (fM : frM m m1) (B : sb t0 kp m m1) : PO G W k0 nf I IP lim t p cl d t0 kp y F h m v F' h' m' := by
  subst ey; subst et; subst ek
  obtain ⟨a1, a2, a3⟩ := H
  refine ⟨fC.trans a1, fM.trans a2, ?_⟩
  rcases a3 with ⟨W', t', p', cl', m1, m2, m3, Y, Q, vv, bb⟩ | a3
  · exact Or.inl ⟨W', t', p', cl', by omega, by omega, by omega, X.trans Y l1 l2 l3, Q, vv, B.trans bb (Nat.le_refl _) (Nat.le_refl _)⟩
  · exact Or.inr a3
theorem act_3 {N x e a b c t0 : Nat} {y : Int32} {m m1 : HI} {g : HL} (hx : x < 2002) (n1 : m 124 x = nI 3) (n2 : m 125 x = nI a) (n3 : m1 126 x = nI b) (n4 : m 127 x = nI c) (hl : 16 * e + c < 24032) (E : pX8_thing N (nI a) (nI e) m g = some (y, m1, g)) (h36 : m1 115 36 = nI t0) (ht : t0 < 3000) :
    mAct N (nI x) (nI e) m g = some (tk (up2 m1 156 (16 * e + c) y) t0 (nI 1) (nI b) (nI e), g) := by
  have e1 : up2 m1 156 (16 * e + c) y 115 36 = nI t0 := h36
  rw [mAct]
  simp (disch := omega) only [q_lit, q_le, q_lt, q_inj, q_add, q_mul, q_sub, q_div, q_vin, q_ix, gd_true, ↓bnd_eq, ↓ob1_some, ↓obv_some, ↓obi_some, ↓obl_some, ↓obr_some, ↓ogv_l, ↓ogi_l, ↓ogr_l, ↓ogv_r, ↓ogi_r, ↓ogr_r, up2_at, decide_true, decide_eq_true_eq, ite_true, ite_false, if_true, if_false, ↓reduceIte, Nat.reduceEqDiff, Nat.reduceLeDiff, Nat.reduceLT, Nat.reduceAdd, Nat.reduceSub, Nat.reduceMul, not_true_eq_false, not_false_eq_true, true_and, and_true, false_and, and_false, or_true, true_or, or_false, false_or, hx, n1, n2, n3, n4, ti3, Int.reduceLT, Int.lt_irrefl]
  rw [E, obi_some]
  simp (disch := omega) only [q_lit, q_le, q_lt, q_inj, q_add, q_mul, q_sub, q_div, q_vin, q_ix, gd_true, ↓bnd_eq, ↓ob1_some, ↓obv_some, ↓obi_some, ↓obl_some, ↓obr_some, ↓ogv_l, ↓ogi_l, ↓ogr_l, ↓ogv_r, ↓ogi_r, ↓ogr_r, up2_at, decide_true, decide_eq_true_eq, ite_true, ite_false, if_true, if_false, ↓reduceIte, Nat.reduceEqDiff, Nat.reduceLeDiff, Nat.reduceLT, Nat.reduceAdd, Nat.reduceSub, Nat.reduceMul, not_true_eq_false, not_false_eq_true, true_and, and_true, false_and, and_false, or_true, true_or, or_false, false_or, hl, n3]
  rw [tk_eq e1 ht, obv_some]
theorem pv_3 {N R r a b1 b2 e c : Nat} {y v : Int32} {F F1 F2 : Frm} {h h1 h2 : HI} {g : HL} (o1 : F.2.1 a = (19, 0)) (o2 : F.2.2 a 3 = some b1) (o3 : h a 2 = nI c) (hl : 16 * e + c < 24016) (E : ppX7_thing N R F b1 (nI (16 * e)) h g = some (.inl (y, F1, h1, g))) (o4 : F1.2.1 a = (19, 0)) (o5 : F1.2.2 a 4 = some b2)
    (E2 : (tie4 N R r).2.2.2.2.2.2.2 F1 b2 (nI (16 * e)) (up2 h1 108 (16 * e + c) y) g = some (.inl (v, F2, h2, g))) : pv_work N R (tie4 N R (r + 1)) 9 F a (nI (16 * e)) h g = some (.inl (v, F2, h2, g)) := by
  show pX11_work_0 N R (tie4 N R r) F a (nI (16 * e)) h g = _
  rw [pX11_work_0, o1, o2, ob1_some, E, ogi_l]
  simp (disch := omega) only [q_lit, q_le, q_lt, q_inj, q_add, q_mul, q_sub, q_div, q_vin, q_ix, gd_true, ↓bnd_eq, ↓ob1_some, ↓obv_some, ↓obi_some, ↓obl_some, ↓obr_some, ↓ogv_l, ↓ogi_l, ↓ogr_l, ↓ogv_r, ↓ogi_r, ↓ogr_r, up2_at, decide_true, decide_eq_true_eq, ite_true, ite_false, if_true, if_false, ↓reduceIte, Nat.reduceEqDiff, Nat.reduceLeDiff, Nat.reduceLT, Nat.reduceAdd, Nat.reduceSub, Nat.reduceMul, not_true_eq_false, not_false_eq_true, true_and, and_true, false_and, and_false, or_true, true_or, or_false, false_or, o3, hl, o4, o5]
  rw [E2, ogi_l]
theorem wi_3 {G W : PG} {k0 nf I IP lim n t p cl d t0 kp x e : Nat} {F : Frm} {h m : HI} (hP : pWF G k0 nf) (ih : WK G k0 nf I IP lim n d) (H : RunS G W k0 nf I IP lim t p cl d t0 kp F h m) (he : eok G W cl x e) (ht : t0 ≤ 6 * d + 5) (hd : d ≤ 150) (hkp : kp + 1 ≤ d) (hk : G 0 x = 3) : WI G W k0 nf I IP lim (n + 1) t p cl d t0 kp x e F h m := by
  have hw := hP.2.2.2 x he.1
  obtain ⟨cc, -⟩ := H.cap
  obtain ⟨H1, H2, H3, H4, H5, H6, H7, H8, H9⟩ := id H
  obtain ⟨n1, n2, n3, n4, n5, -⟩ := H7.2 x he.1
  obtain ⟨ox, -, -, -, b3, -⟩ := H8.2 x he.1
  obtain ⟨o1, o2, o3, o4⟩ := b3 hk
  have hb := he.bound
  obtain ⟨w0, w01, -, hx, -, -, -, w02, w03, -, -, w3, -⟩ := id hw
  obtain ⟨z1, z2, z3, z4, z5, z6, z7, z8, z9, z10⟩ := w3 hk
  have hc : G 3 x < 16 := by
    have := (hP.2.2.1 (G 7 x) w0 w01).2.2.1
    have h1 := z1.2.2.2.2
    have hwa := (hP.2.2.2 (G 1 x) z1.1).2.2.2.2.2.2.1
    omega
  have heA := he.sub z1 z3
  obtain ⟨yC, yM, F1, h1, m1, W1, t1, E1, E2, fT, R⟩ := H.thing hP heA
  have m126 : m1 126 x = nI (G 2 x) := by rw [fT.2.2.2.2 126 x (by decide) (by decide) (by omega)]; exact n4 (by omega) (by omega) (by omega)
  have m36 : m1 115 36 = nI t0 := by rw [fT.2.2.2.2 115 36 (by decide) (by decide) (by decide)]; exact H5
  have A : ∀ N, 8 ≤ N → ∀ g, mAct N (nI x) (nI e) m g = some (tk (up2 m1 156 (16 * e + G 3 x) yM) t0 (nI 1) (nI (G 2 x)) (nI e), g) := fun N hN g => act_3 hx (by rw [n1, hk]) n2 m126 (n5 (by omega)) (by omega) (E2 N g) m36 (by omega)
  have o5 : F1.2.1 (G 5 x) = (19, 0) := by rw [fT.2.1]; exact o1
  have o6 : F1.2.2 (G 5 x) 4 = some (G 5 (G 2 x)) := by rw [fT.2.2.1 _ _ (by omega)]; exact o3
  have fC1 : ∀ y, frC F h F1 (up2 h1 108 (16 * e + G 3 x) y) := fun y => fT.C.trans (frC.slot (G := G) (W := W) (by rw [fT.C.1.2.1]; exact H9) (prm_ne he H9.2 z10))
  have fM1 : ∀ y, frM m (tk (up2 m1 156 (16 * e + G 3 x) y) t0 (nI 1) (nI (G 2 x)) (nI e)) := fun y => (fT.M.trans (show frM m1 (up2 m1 156 (16 * e + G 3 x) y) from fun a k q1 q2 q3 q4 q5 => up2_ne (by omega))).trans frM.task
  rcases R with ⟨j, j1, rfl, rfl, j4, l1, X, Q⟩ | R
  · have hy : W1 1 j = G 14 (16 * W1 3 e + G 3 x) := by rw [j4, X.2.2.2.1 e hb, he.2.2.1, z8]
    obtain ⟨S, Y⟩ := Q.slot hb hc j1 hy (by rw [X.2.2.2.1 0 (Nat.zero_le _)]; exact prm_ne he H9.2 z10)
    have S2 := S.task (s := nI 1) (x := nI (G 2 x)) (w := nI e)
    have heB : eok G (up2 W1 4 (16 * e + G 3 x) 1) cl (G 2 x) e := by
      refine ⟨z2.1, hb, ?_, fun s q1 q2 => ?_⟩
      · rw [up2_ne (by decide), X.2.2.2.1 e hb, he.2.2.1, z2.2.1]
      · rcases z4 s q1 q2 with q | q
        · exact Y.2.2.2.2 _ (X.2.2.2.2 _ (he.2.2.2 s q1 q))
        · subst q; rw [up2_eq]
    obtain ⟨v, F', h', m', E3, E4, P⟩ := ih _ t1 p cl t0 kp F1 _ _ (G 2 x) e S2 (S.top (by omega)) heB (by omega) (by omega)
    refine ⟨19, v, F', h', _, m', o1, by decide, by decide, fun N hN R r g hr => ?_, A, E4, P.pre z9 rfl rfl l1 (Nat.le_refl _) (Nat.le_refl _) (X.trans Y l1 (Nat.le_refl _) (Nat.le_refl _)) (fC1 _) (fM1 _) ?_⟩
    · obtain ⟨r, rfl⟩ : ∃ r0, r = r0 + 1 := ⟨r - 1, by omega⟩
      exact pv_3 o1 o2 o4 (by omega) (E1 N R g) o5 o6 (E3 N hN R r g (by omega))
    · refine (show sb t0 kp m (up2 m1 156 (16 * e + G 3 x) (nI (th I j))) from ⟨fun i hi => ⟨?_, ?_, ?_⟩, fun i hi => ?_⟩).trans sb.task (Nat.le_refl _) (Nat.le_refl _) <;> rw [up2_ne (by decide), fT.2.2.2.2 _ _ (by decide) (by decide) (by omega)]
  · obtain ⟨en, q1, q2, q3, q4⟩ := R.ended
    refine ⟨19, 0, F1, _, _, _, o1, by decide, by decide, fun N hN R r g hr => ?_, A, gto.refl _, fC1 yC, fM1 _, Or.inr ?_⟩
    · obtain ⟨r, rfl⟩ : ∃ r0, r = r0 + 1 := ⟨r - 1, by omega⟩
      obtain ⟨r, rfl⟩ : ∃ r0, r = r0 + 1 := ⟨r - 1, by omega⟩
      exact pv_3 o1 o2 o4 (by omega) (E1 N R g) o5 o6 (cw_over (h := up2 h1 108 (16 * e + G 3 x) yC) q3 q1 q2)
    · refine R.mv2 (fun k q => up2_ne (by decide)) (fun k => ⟨up2_ne (by decide), up2_ne (by decide)⟩) (fun k => ?_) (fun k k1 k2 k3 => ?_)
      · rw [tk_a (by decide) (by decide) (by decide) (by decide), up2_ne (by decide)]
      · rw [tk_f (by omega), up2_ne (by decide)]
