/-! RUNS, 10: a thing is needed; names -/
def nmk (h : HI) (I j : Nat) : HI := if j < I then up2 h 109 j (nI 1) else h
theorem nmk_o {h : HI} {I j a k : Nat} (q : ¬ (a = 109 ∧ k = j)) : nmk h I j a k = h a k := by
  unfold nmk; split
  · by_cases c : a = 109
    · rw [up2_nj (by omega)]
    · rw [up2_ne c]
  · rfl
theorem i8_1 : (nI 1).toInt8.toInt32 = nI 1 := by decide
theorem i8_2 : (nI 2).toInt8.toInt32 = nI 2 := by decide
theorem cn_pre {N R j I : Nat} {C : ty4} {F : Frm} {h : HI} {g : HL} (c4 : h 101 10 = nI I) (hI : I ≤ 40) (hj : j < 1540) : pX7_need_0 N R C F (nI j) h g = pX7_need_15 N R C F (nI j) (nmk h I j) g := by
  rw [pX7_need_0, c4]
  have zz := q_le (a := I) (b := j) (by omega) (by omega)
  unfold nmk
  by_cases c : I ≤ j
  · rw [if_pos (by rw [zz]; exact c), if_neg (by omega)]
  · rw [if_neg (by rw [zz]; exact c), if_pos (by omega), q_vin (by omega), decide_eq_true (show j < 40 by omega), gd_true, bnd_eq, show ix (nI j) = j from q_ix (by omega)]
    rfl
theorem cn_2 {N R j : Nat} {C : ty4} {F : Frm} {h : HI} {g : HL} (hj : j < 1540) (hs : h 104 j = nI 2) : pX7_need_15 N R C F (nI j) h g = some (.inl (h 105 j, F, h, g)) := by
  rw [pX7_need_15]
  simp (disch := omega) only [q_lit, q_le, q_lt, q_inj, q_add, q_mul, q_sub, q_div, q_vin, q_ix, gd_true, ↓bnd_eq, ↓ob1_some, ↓obv_some, ↓obi_some, ↓obl_some, ↓obr_some, ↓ogv_l, ↓ogi_l, ↓ogr_l, ↓ogv_r, ↓ogi_r, ↓ogr_r, up2_at, decide_true, decide_eq_true_eq, ite_true, ite_false, if_true, if_false, ↓reduceIte, Nat.reduceEqDiff, Nat.reduceLeDiff, Nat.reduceLT, Nat.reduceAdd, Nat.reduceSub, Nat.reduceMul, not_true_eq_false, not_false_eq_true, true_and, and_true, false_and, and_false, or_true, true_or, or_false, false_or, hj, hs]
theorem cn_e {N R j s : Nat} {C : ty4} {F : Frm} {h : HI} {g : HL} (hj : j < 1540) (hs : h 104 j = nI s) (h3 : s ≤ 3) (h2 : ¬ s = 2) (h0 : ¬ s = 0) (c9 : h 101 16 = nI 0) : pX7_need_15 N R C F (nI j) h g = some (.inl (0, F, up2 h 101 16 (nI 2), g)) := by
  rw [pX7_need_15]
  simp (disch := omega) only [q_lit, q_le, q_lt, q_inj, q_add, q_mul, q_sub, q_div, q_vin, q_ix, gd_true, ↓bnd_eq, ↓ob1_some, ↓obv_some, ↓obi_some, ↓obl_some, ↓obr_some, ↓ogv_l, ↓ogi_l, ↓ogr_l, ↓ogv_r, ↓ogi_r, ↓ogr_r, up2_at, decide_true, decide_eq_true_eq, ite_true, ite_false, if_true, if_false, ↓reduceIte, Nat.reduceEqDiff, Nat.reduceLeDiff, Nat.reduceLT, Nat.reduceAdd, Nat.reduceSub, Nat.reduceMul, not_true_eq_false, not_false_eq_true, true_and, and_true, false_and, and_false, or_true, true_or, or_false, false_or, hj, hs, h2, h0, pX7_ends_0, c9]
theorem cn_0 {N R j b en : Nat} {C : ty4} {F F1 : Frm} {v w : Int32} {h h1 : HI} {g : HL} (hj : j < 1540) (hs : h 104 j = nI 0) (hb : F.2.2 102 j = some b) (hw : h 103 j = w) (E : C.2.2.2.2.2.2.2 F b w (up2 h 104 j (nI 1)) g = some (.inl (v, F1, h1, g))) (he : h1 101 16 = nI en) (hen : en ≤ 5) :
    pX7_need_15 N R C F (nI j) h g = some (.inl (v, F1, if en = 0 then up2 (up2 h1 104 j (nI 2)) 105 j v else h1, g)) := by
  rw [pX7_need_15]
  have hw2 : up2 h 104 j (nI 1) 103 j = w := hw
  simp (disch := omega) only [q_lit, q_le, q_lt, q_inj, q_add, q_mul, q_sub, q_div, q_vin, q_ix, gd_true, ↓bnd_eq, ↓ob1_some, ↓obv_some, ↓obi_some, ↓obl_some, ↓obr_some, ↓ogv_l, ↓ogi_l, ↓ogr_l, ↓ogv_r, ↓ogi_r, ↓ogr_r, up2_at, decide_true, decide_eq_true_eq, ite_true, ite_false, if_true, if_false, ↓reduceIte, Nat.reduceEqDiff, Nat.reduceLeDiff, Nat.reduceLT, Nat.reduceAdd, Nat.reduceSub, Nat.reduceMul, not_true_eq_false, not_false_eq_true, true_and, and_true, false_and, and_false, or_true, true_or, or_false, false_or, hj, hs, i8_1, hb, hw]
  rw [E, ogi_l, he]
  by_cases c : en = 0
  · subst c
    simp (disch := omega) only [q_lit, q_le, q_lt, q_inj, q_add, q_mul, q_sub, q_div, q_vin, q_ix, gd_true, ↓bnd_eq, ↓ob1_some, ↓obv_some, ↓obi_some, ↓obl_some, ↓obr_some, ↓ogv_l, ↓ogi_l, ↓ogr_l, ↓ogv_r, ↓ogi_r, ↓ogr_r, up2_at, decide_true, decide_eq_true_eq, ite_true, ite_false, if_true, if_false, ↓reduceIte, Nat.reduceEqDiff, Nat.reduceLeDiff, Nat.reduceLT, Nat.reduceAdd, Nat.reduceSub, Nat.reduceMul, not_true_eq_false, not_false_eq_true, true_and, and_true, false_and, and_false, or_true, true_or, or_false, false_or, hj, i8_2]
  · simp (disch := omega) only [q_lit, q_le, q_lt, q_inj, q_add, q_mul, q_sub, q_div, q_vin, q_ix, gd_true, ↓bnd_eq, ↓ob1_some, ↓obv_some, ↓obi_some, ↓obl_some, ↓obr_some, ↓ogv_l, ↓ogi_l, ↓ogr_l, ↓ogv_r, ↓ogi_r, ↓ogr_r, up2_at, decide_true, decide_eq_true_eq, ite_true, ite_false, if_true, if_false, ↓reduceIte, Nat.reduceEqDiff, Nat.reduceLeDiff, Nat.reduceLT, Nat.reduceAdd, Nat.reduceSub, Nat.reduceMul, not_true_eq_false, not_false_eq_true, true_and, and_true, false_and, and_false, or_true, true_or, or_false, false_or, c]
theorem mn_2 {N c : Nat} {m : HI} {g : HL} (hc : c < 1540) (hs : m 150 c = nI 2) : pX8_need N (nI c) m g = some (up2 (up2 (up2 m 153 c (nI 1)) 115 77 (m 151 c)) 115 78 (m 152 c), g) := by
  show pX8_need_0 N (nI c) m g = _
  rw [pX8_need_0]
  simp (disch := omega) only [q_lit, q_le, q_lt, q_inj, q_add, q_mul, q_sub, q_div, q_vin, q_ix, gd_true, ↓bnd_eq, ↓ob1_some, ↓obv_some, ↓obi_some, ↓obl_some, ↓obr_some, ↓ogv_l, ↓ogi_l, ↓ogr_l, ↓ogv_r, ↓ogi_r, ↓ogr_r, up2_at, decide_true, decide_eq_true_eq, ite_true, ite_false, if_true, if_false, ↓reduceIte, Nat.reduceEqDiff, Nat.reduceLeDiff, Nat.reduceLT, Nat.reduceAdd, Nat.reduceSub, Nat.reduceMul, not_true_eq_false, not_false_eq_true, true_and, and_true, false_and, and_false, or_true, true_or, or_false, false_or, hc, hs, pX8_gives_0]
theorem mn_e {N c s : Nat} {m : HI} {g : HL} (hc : c < 1540) (hs : m 150 c = nI s) (h3 : s ≤ 3) (h2 : ¬ s = 2) (h0 : ¬ s = 0) : pX8_need N (nI c) m g = some (up2 (up2 m 153 c (nI 1)) 115 74 (nI 2), g) := by
  show pX8_need_0 N (nI c) m g = _
  rw [pX8_need_0]
  simp (disch := omega) only [q_lit, q_le, q_lt, q_inj, q_add, q_mul, q_sub, q_div, q_vin, q_ix, gd_true, ↓bnd_eq, ↓ob1_some, ↓obv_some, ↓obi_some, ↓obl_some, ↓obr_some, ↓ogv_l, ↓ogi_l, ↓ogr_l, ↓ogv_r, ↓ogi_r, ↓ogr_r, up2_at, decide_true, decide_eq_true_eq, ite_true, ite_false, if_true, if_false, ↓reduceIte, Nat.reduceEqDiff, Nat.reduceLeDiff, Nat.reduceLT, Nat.reduceAdd, Nat.reduceSub, Nat.reduceMul, not_true_eq_false, not_false_eq_true, true_and, and_true, false_and, and_false, or_true, true_or, or_false, false_or, hc, hs, h2, h0]
theorem mn_0 {N c t0 : Nat} {a b : Int32} {m : HI} {g : HL} (hc : c < 1540) (hs : m 150 c = nI 0) (h1 : m 148 c = a) (h2 : m 149 c = b) (h36 : m 115 36 = nI t0) (ht : t0 + 1 < 3000) : pX8_need N (nI c) m g = some (tk (tk (up2 (up2 m 153 c (nI 1)) 150 c (nI 1)) t0 (nI 3) (nI c) (nI 0)) (t0 + 1) (nI 1) a b, g) := by
  show pX8_need_0 N (nI c) m g = _
  have e1 : up2 (up2 m 153 c (nI 1)) 150 c (nI 1) 115 36 = nI t0 := h36
  have e2 : tk (up2 (up2 m 153 c (nI 1)) 150 c (nI 1)) t0 (nI 3) (nI c) (nI 0) 148 c = a := by rw [tk_a (by decide) (by decide) (by decide) (by decide)]; exact h1
  have e3 : tk (up2 (up2 m 153 c (nI 1)) 150 c (nI 1)) t0 (nI 3) (nI c) (nI 0) 149 c = b := by rw [tk_a (by decide) (by decide) (by decide) (by decide)]; exact h2
  rw [pX8_need_0]
  simp (disch := omega) only [q_lit, q_le, q_lt, q_inj, q_add, q_mul, q_sub, q_div, q_vin, q_ix, gd_true, ↓bnd_eq, ↓ob1_some, ↓obv_some, ↓obi_some, ↓obl_some, ↓obr_some, ↓ogv_l, ↓ogi_l, ↓ogr_l, ↓ogv_r, ↓ogi_r, ↓ogr_r, up2_at, decide_true, decide_eq_true_eq, ite_true, ite_false, if_true, if_false, ↓reduceIte, Nat.reduceEqDiff, Nat.reduceLeDiff, Nat.reduceLT, Nat.reduceAdd, Nat.reduceSub, Nat.reduceMul, not_true_eq_false, not_false_eq_true, true_and, and_true, false_and, and_false, or_true, true_or, or_false, false_or, hc, hs]
  rw [tk_eq e1 (by omega), obv_some, e2, e3, tk_tk (by omega), obv_some]
theorem need_ok {G W : PG} {k0 nf I IP lim n t p cl d t0 kp j : Nat} {F : Frm} {h m : HI} (hP : pWF G k0 nf) (ih : WK G k0 nf I IP lim n d) (H : RunS G W k0 nf I IP lim t p cl d t0 kp F h m) (hj : j < I + t) (ht : t0 + 1 ≤ 6 * d + 10) (hd : d ≤ 150) (hkp : kp ≤ d) :
    ∃ v F' h' m1 m', (∀ N, 8 ≤ N → ∀ R r g, 3 * n + 4 ≤ r → (tie4 N R r).2.2.2.2.2.2.1 F (nI j) h g = some (.inl (v, F', h', g))) ∧ (∀ N, 8 ≤ N → ∀ g, pX8_need N (nI (th I j)) m g = some (m1, g)) ∧ gto m1 m' ∧ PO G W k0 nf I IP lim t p cl d t0 kp (W 1 j) F h m v F' h' m' := by
  obtain ⟨H1, ⟨s0, dd, hc⟩, H3, H4, H5, H6, H7, H8, H9⟩ := id H
  obtain ⟨c1, c2, c3, c4, c5, c6, c7, c8, c9, g1, g2, g3, g4, g5, g6, g7, d8, d9, i1, i2⟩ := id hc
  obtain ⟨⟨hI, hIP, htt, hp2, hcl, hW, hV⟩, K1, K2, K3⟩ := id H1
  obtain ⟨b1, s, b2, b3, b4, b5, b6, b7, b8⟩ := K1 j hj
  have hj2 : j < 1540 := by omega
  have hth := th_lt hI htt hj
  have pre : ∀ N R r g, (tie4 N R (r + 1)).2.2.2.2.2.2.1 F (nI j) h g = pX7_need_15 N R (tie4 N R r) F (nI j) (nmk h I j) g := fun N R r g => cn_pre c4 hI hj2
  have n104 : nmk h I j 104 j = nI s := by rw [nmk_o (by omega)]; exact b3
  have nfC : frC F h F (nmk h I j) := ⟨⟨rfl, nmk_o (by omega), fun k _ => nmk_o (by omega), nmk_o (by omega), nmk_o (by omega)⟩, rfl, fun _ _ _ => rfl, fun a k q => nmk_o (by omega)⟩
  have v2 : j < I → nmk h I j 109 j = up2 m 153 (th I j) (nI 1) 153 j := fun q => by
    have e : th I j = j := by unfold th; rw [if_pos q]
    unfold nmk; rw [if_pos q, e, up2_eq, up2_eq]
  by_cases s2 : s = 2
  · subst s2
    obtain ⟨R1, X1⟩ := H1.state (j := j) (s := 2) (F' := F) (h' := nmk h I j) (m' := up2 (up2 (up2 m 153 (th I j) (nI 1)) 115 77 (m 151 (th I j))) 115 78 (m 152 (th I j))) hj (Or.inr rfl) (fun _ => rfl) (fun a k q1 q2 q3 q4 q5 => nmk_o (by omega))
      (fun k => by rw [nmk_o (by omega)]; split
                   · rename_i e; rw [e]; exact b3
                   · rfl)
      (fun k q => nmk_o (by omega)) (fun k q => nmk_o (by omega)) (fun a k q1 q2 q3 q4 q5 q6 => by rw [up2_ne (by omega), up2_ne (by omega), up2_ne q6])
      (fun k => by rw [up2_ne (by decide), up2_ne (by decide), up2_ne (by decide)]; split
                   · rename_i e; rw [e]; exact b4
                   · rfl)
      (fun k q => ⟨by rw [up2_ne (by decide), up2_ne (by decide), up2_ne (by decide)], by rw [up2_ne (by decide), up2_ne (by decide), up2_ne (by decide)], by rw [up2_ne (by decide), up2_ne (by decide), up2_nj q]⟩)
      (fun _ => by rw [nmk_o (by omega)]; exact b6 rfl) v2 (fun _ => by rw [up2_ne (by decide), up2_ne (by decide), up2_eq])
    refine ⟨nmk h I j 105 j, F, nmk h I j, _, _, fun N hN R r g hr => ?_, fun N hN g => mn_2 hth b4, gto.refl _, nfC, ?_, Or.inl ⟨_, t, p, cl, Nat.le_refl _, Nat.le_refl _, Nat.le_refl _, X1, ⟨R1, ⟨s0, dd, ?_⟩, ?_, H4, H5, H6, H7.fr ?_, H8.fr nfC, by rw [nfC.1.2.1]; exact H9.1, H9.2⟩, ?_, ⟨fun _ _ => ⟨rfl, rfl, rfl⟩, fun _ _ => rfl⟩⟩⟩
    · obtain ⟨r, rfl⟩ : ∃ r0, r = r0 + 1 := ⟨r - 1, by omega⟩
      rw [pre]; exact cn_2 hj2 n104
    · intro a k q1 q2 q3 q4 q5
      by_cases c : a = 115
      · subst c; rw [up2_nj (by omega), up2_nj (by omega), up2_ne (by decide)]
      · rw [up2_ne c, up2_ne c, up2_ne (by omega)]
    · refine ⟨?_, ?_, ?_, ?_, ?_, ?_, ?_, ?_, ?_, g1, g2, g3, g4, g5, g6, g7, d8, d9, i1, i2⟩ <;> rw [nmk_o (by omega)] <;> assumption
    · rw [nmk_o (by omega)]; exact H3
    · intro a k q1 q2 q3 q4 q5
      by_cases c : a = 115
      · subst c; rw [up2_nj (by omega), up2_nj (by omega), up2_ne (by decide)]
      · rw [up2_ne c, up2_ne c, up2_ne (by omega)]
    · rw [nmk_o (by omega)]
      show vr _ IP p (W 1 j) (h 105 j) (m 151 (th I j)) (m 152 (th I j))
      exact (b6 rfl).ext X1 (Nat.le_refl _)
  · by_cases s1 : s = 0
    · subst s1
      obtain ⟨hIj, x, e, p1, p2, p3, p4, p5, p6⟩ := b5 rfl
      have hnm : nmk h I j = h := by unfold nmk; rw [if_neg (by omega)]
      obtain ⟨R1, X1⟩ := H1.state (j := j) (s := 1) (F' := F) (h' := up2 h 104 j (nI 1)) (m' := up2 (up2 m 153 (th I j) (nI 1)) 150 (th I j) (nI 1)) hj (Or.inl rfl) (fun _ => rfl) (fun a k q1 q2 q3 q4 q5 => up2_ne q3)
        (fun k => by rw [up2_at, if_pos rfl]) (fun k q => up2_ne (by decide)) (fun k q => up2_ne (by decide)) (fun a k q1 q2 q3 q4 q5 q6 => by rw [up2_ne q3, up2_ne q6])
        (fun k => by rw [up2_at, if_pos rfl, up2_ne (by decide)]) (fun k q => ⟨by rw [up2_ne (by decide), up2_ne (by decide)], by rw [up2_ne (by decide), up2_ne (by decide)], by rw [up2_ne (by decide), up2_nj q]⟩)
        (fun q => by omega) (fun q => by omega) (fun _ => by rw [up2_ne (by decide), up2_eq])
      have fC0 : frC F h F (up2 h 104 j (nI 1)) := ⟨⟨rfl, rfl, fun _ _ => rfl, rfl, rfl⟩, rfl, fun _ _ _ => rfl, fun a k q => up2_ne (by omega)⟩
      have fM0 : frM m (up2 (up2 m 153 (th I j) (nI 1)) 150 (th I j) (nI 1)) := fun a k q1 q2 q3 q4 q5 => by rw [up2_ne (by omega), up2_ne (by omega)]
      have S0 : RunS G _ k0 nf I IP lim t p cl d t0 kp F (up2 h 104 j (nI 1)) (up2 (up2 m 153 (th I j) (nI 1)) 150 (th I j) (nI 1)) := ⟨R1, ⟨s0, dd, hc⟩, H3, H4, H5, H6, H7.fr fM0, H8.fr fC0, H9⟩
      have S1 := S0.task (s := nI 3) (x := nI (th I j)) (w := nI 0)
      have S2 := S1.task (s := nI 1) (x := nI x) (w := nI e)
      obtain ⟨v, F1, h1, m1, E1, E2, fC, fM, R⟩ := ih _ t p cl (t0 + 1) kp F _ _ x e S2 (S1.top (by omega)) (p5.ext X1 (Nat.le_refl _)) (by omega) hkp
      have A : ∀ N, 8 ≤ N → ∀ g, pX8_need N (nI (th I j)) m g = some (tk (tk (up2 (up2 m 153 (th I j) (nI 1)) 150 (th I j) (nI 1)) t0 (nI 3) (nI (th I j)) (nI 0)) (t0 + 1) (nI 1) (nI x) (nI e), g) := fun N hN g => mn_0 hth b4 p2 p4 H5 (by omega)
      have fM1 : frM m m1 := ((fM0.trans frM.task).trans frM.task).trans fM
      have EC : ∀ en, h1 101 16 = nI en → en ≤ 5 → ∀ N, 8 ≤ N → ∀ R r g, 3 * n + 4 ≤ r → (tie4 N R r).2.2.2.2.2.2.1 F (nI j) h g = some (.inl (v, F1, if en = 0 then up2 (up2 h1 104 j (nI 2)) 105 j v else h1, g)) := by
        intro en q1 q2 N hN R r g hr
        obtain ⟨r, rfl⟩ : ∃ r0, r = r0 + 1 := ⟨r - 1, by omega⟩
        rw [pre, hnm]
        exact cn_0 hj2 b3 p1 p3 (E1 N hN R r g (by omega)) q1 q2
      rcases R with ⟨W1, t1, q1, cl1, l1, l2, l3, X, Q, vv, bb⟩ | R
      · have E := EC 0 Q.e16 (by decide)
        simp only [↓reduceIte] at E
        have T : top m1 t0 (nI 3) (nI (th I j)) (nI 0) := by
          obtain ⟨b1, b2, b3⟩ := bb.1 t0 (by omega)
          refine ⟨Q.2.2.2.2.1, by omega, Q.e74, ?_, ?_, ?_⟩
          · rw [b1, tk_s, if_neg (by omega), tk_s, if_pos rfl]
          · rw [b2, tk_x, if_neg (by omega), tk_x, if_pos rfl]
          · rw [b3, tk_w, if_neg (by omega), tk_w, if_pos rfl]
        have g2 := go_settle T hth
        have hj3 : j < I + t1 := by omega
        have eW : W1 1 j = G 4 x := by rw [X.2.1 j hj, X1.2.1 j hj]; exact p6.symm
        have m153 : m1 153 (th I j) = nI 1 := by
          obtain ⟨y1, y2, y3, y4, y5, y6, y7, y8, y9⟩ := Q.1.2.1 j hj3
          have hb := y1.2 (X.2.2.2.2 _ up2_eq)
          rw [y4, q_inj (by omega) (by omega)] at hb
          rw [y9 hIj, if_neg hb]
        obtain ⟨R3, X3⟩ := Q.1.state (j := j) (s := 2) (F' := F1) (h' := up2 (up2 h1 104 j (nI 2)) 105 j v) (m' := up2 (up2 (up2 (up2 m1 115 36 (nI t0)) 150 (th I j) (nI 2)) 151 (th I j) (m1 115 77)) 152 (th I j) (m1 115 78)) hj3 (Or.inr rfl) (fun _ => rfl) (fun a k q1 q2 q3 q4 q5 => by rw [up2_ne q4, up2_ne q3])
          (fun k => by rw [up2_ne (by decide), up2_at, if_pos rfl]) (fun k q => by rw [up2_nj q, up2_ne (by decide)]) (fun k q => by rw [up2_ne (by decide), up2_ne (by decide)])
          (fun a k q1 q2 q3 q4 q5 q6 => by rw [up2_ne q5, up2_ne q4, up2_ne q3, up2_ne (by omega)]) (fun k => by rw [up2_ne (by decide), up2_ne (by decide), up2_at, if_pos rfl, up2_ne (by decide)])
          (fun k q => ⟨by rw [up2_ne (by decide), up2_nj q, up2_ne (by decide), up2_ne (by decide)], by rw [up2_nj q, up2_ne (by decide), up2_ne (by decide), up2_ne (by decide)], by rw [up2_ne (by decide), up2_ne (by decide), up2_ne (by decide), up2_ne (by decide)]⟩)
          (fun _ => by rw [up2_eq, up2_ne (by decide), up2_eq, up2_eq, eW]; exact vv) (fun q => by omega) (fun _ => by rw [up2_ne (by decide), up2_ne (by decide), up2_ne (by decide), up2_ne (by decide)]; exact m153)
        have fC3 : frC F1 h1 F1 (up2 (up2 h1 104 j (nI 2)) 105 j v) := ⟨⟨rfl, rfl, fun _ _ => rfl, rfl, rfl⟩, rfl, fun _ _ _ => rfl, fun a k q => by rw [up2_ne (by omega), up2_ne (by omega)]⟩
        have fM3 : frM m1 (up2 (up2 (up2 (up2 m1 115 36 (nI t0)) 150 (th I j) (nI 2)) 151 (th I j) (m1 115 77)) 152 (th I j) (m1 115 78)) := fun a k q1 q2 q3 q4 q5 => by
          rw [up2_ne (by omega), up2_ne (by omega), up2_ne (by omega)]; exact frM.pop a k q1 q2 q3 q4 q5
        refine ⟨v, F1, _, _, _, E, A, E2.trans g2, (fC0.trans fC).trans fC3, fM1.trans fM3, Or.inl ⟨_, t1, q1, cl1, l1, l2, l3, (X1.trans X (Nat.le_refl _) (Nat.le_refl _) (Nat.le_refl _)).trans X3 l1 l2 l3, ⟨R3, Q.2.1, Q.2.2.1, Q.2.2.2.1, rfl, Q.2.2.2.2.2.1, (Q.2.2.2.2.2.2.1).fr fM3, (Q.2.2.2.2.2.2.2.1).fr fC3, Q.2.2.2.2.2.2.2.2⟩, ?_, ?_⟩⟩
        · show vr _ IP q1 (W 1 j) v (m1 115 77) (m1 115 78)
          rw [← p6]; exact vv.ext X3 (Nat.le_refl _)
        · exact (((show sb t0 kp m _ from ⟨fun _ _ => ⟨rfl, rfl, rfl⟩, fun _ _ => rfl⟩).trans (sb.task (t0 := t0) (kp := kp)) (Nat.le_refl _) (Nat.le_refl _)).trans ((sb.task (t0 := t0 + 1) (kp := kp)).trans bb (Nat.le_refl _) (Nat.le_refl _)) (by omega) (Nat.le_refl _)).trans (t1 := t0) (k1 := kp) ⟨fun _ _ => ⟨rfl, rfl, rfl⟩, fun _ _ => rfl⟩ (Nat.le_refl _) (Nat.le_refl _)
      · obtain ⟨en, q1, q2, q3, q4⟩ := R.ended
        have E := EC en q3 q2
        rw [if_neg q1] at E
        exact ⟨v, F1, _, _, m1, E, A, E2, fC0.trans fC, fM1, Or.inr R⟩
    · refine ⟨0, F, up2 (nmk h I j) 101 16 (nI 2), _, _, fun N hN R r g hr => ?_, fun N hN g => mn_e hth b4 b2 s2 s1, gto.refl _, nfC.trans ⟨⟨rfl, rfl, fun _ _ => rfl, rfl, rfl⟩, rfl, fun _ _ _ => rfl, fun a k q => up2_ne (by omega)⟩, ?_, Or.inr ⟨t, p, cl, s0, dd, 2, by decide, ?_, hI, htt, fun i hi => ?_⟩⟩
      · obtain ⟨r, rfl⟩ : ∃ r0, r = r0 + 1 := ⟨r - 1, by omega⟩
        rw [pre]; exact cn_e hj2 n104 b2 s2 s1 (by rw [nmk_o (by omega)]; exact c9)
      · intro a k q1 q2 q3 q4 q5
        by_cases c : a = 115
        · subst c; rw [up2_nj (by omega), up2_ne (by decide)]
        · rw [up2_ne c, up2_ne (by omega)]
      · refine ⟨?_, ?_, ?_, ?_, ?_, ?_, ?_, ?_, rfl, g1, g2, g3, g4, g5, g6, rfl, d8, d9, i1, by decide⟩ <;> rw [up2_nj (by decide), nmk_o (by omega)] <;> assumption
      · obtain ⟨-, u, y2, y3, y4, y5, y6, y7, y8⟩ := K1 i hi
        show (i < I → nmk h I j 109 i = up2 m 153 (th I j) (nI 1) 153 i) ∧ (I ≤ i → (nmk h I j 104 i = nI 0 ↔ up2 m 153 (th I j) (nI 1) 153 (th I i) = nI 0))
        by_cases c : i = j
        · subst c
          refine ⟨v2, fun q => ?_⟩
          rw [n104, up2_eq, q_inj (by omega) (by omega), q_inj (by omega) (by omega)]
          exact ⟨fun z => absurd z s1, fun z => by omega⟩
        · rw [nmk_o (by omega), nmk_o (by omega), up2_nj (th_ne hI c)]
          refine ⟨fun q => ?_, fun q => ?_⟩
          · have e : th I i = i := by unfold th; rw [if_pos q]
            have := th_ne hI c
            rw [e] at this
            rw [up2_nj this]; exact y7 q
          · rw [y3, y8 q, q_inj (by omega) (by omega)]
            by_cases c0 : u = 0
            · simp [c0]
            · simp only [c0, if_false, false_iff]
              rw [q_inj (by omega) (by omega)]; omega
