/-! RUNS, 5: the contract of a step of work; leaves -/
/-- a state in which work goes on: depth d, t0 tasks, kp numbers kept -/
def RunS (G W : PG) (k0 nf I IP lim t p cl d t0 kp : Nat) (F : Frm) (h m : HI) : Prop := RC G W I IP t p cl F h m ∧ (∃ s dd, CT I IP t p cl s dd 0 lim h m) ∧ h 101 14 = nI d ∧ m 115 72 = nI d ∧ m 115 36 = nI t0 ∧ m 115 82 = nI kp ∧ sM G k0 nf m ∧ sC G k0 nf F h ∧ h 101 19 = nI (G 10 (W 3 0)) ∧ G 10 (W 3 0) ≤ 4
/-- what lies below is as it was -/
def sb (t0 kp : Nat) (m m' : HI) : Prop := (∀ i, i < t0 → m' 134 i = m 134 i ∧ m' 135 i = m 135 i ∧ m' 138 i = m 138 i) ∧ ∀ i, i < kp → m' 158 i = m 158 i
theorem sb.refl (t0 kp : Nat) (m : HI) : sb t0 kp m m := ⟨fun _ _ => ⟨rfl, rfl, rfl⟩, fun _ _ => rfl⟩
theorem sb.trans {t0 t1 kp k1 : Nat} {m m1 m2 : HI} (a : sb t0 kp m m1) (b : sb t1 k1 m1 m2) (h1 : t0 ≤ t1) (h2 : kp ≤ k1) : sb t0 kp m m2 :=
  ⟨fun i hi => ⟨(b.1 i (by omega)).1.trans (a.1 i hi).1, (b.1 i (by omega)).2.1.trans (a.1 i hi).2.1, (b.1 i (by omega)).2.2.trans (a.1 i hi).2.2⟩, fun i hi => (b.2 i (by omega)).trans (a.2 i hi)⟩
/-- it went well: the answer v of type y -/
def PN (G W : PG) (k0 nf I IP lim t p cl d t0 kp y : Nat) (m : HI) (v : Int32) (F' : Frm) (h' m' : HI) : Prop := ∃ W' t' p' cl', t ≤ t' ∧ p ≤ p' ∧ cl ≤ cl' ∧ ext W W' I IP t p cl ∧ RunS G W' k0 nf I IP lim t' p' cl' d t0 kp F' h' m' ∧ vr W' IP p' y v (m' 115 77) (m' 115 78) ∧ sb t0 kp m m'
/-- the run has ended -/
def PE (I IP lim : Nat) (h' m' : HI) : Prop := ∃ t p cl s dd en, (¬ en = 0 ∧ ¬ en = 1) ∧ CT I IP t p cl s dd en lim h' m' ∧ FI I t h' m'
def PO (G W : PG) (k0 nf I IP lim t p cl d t0 kp y : Nat) (F : Frm) (h m : HI) (v : Int32) (F' : Frm) (h' m' : HI) : Prop :=
  frC F h F' h' ∧ frM m m' ∧ (PN G W k0 nf I IP lim t p cl d t0 kp y m v F' h' m' ∨ PE I IP lim h' m')
/-- the contract of work for all that lies deeper -/
def WK (G : PG) (k0 nf I IP lim n d : Nat) : Prop := ∀ (W : PG) (t p cl t0 kp : Nat) (F : Frm) (h m : HI) (x e : Nat), RunS G W k0 nf I IP lim t p cl d (t0 + 1) kp F h m → top m t0 (nI 1) (nI x) (nI e) → eok G W cl x e → t0 ≤ 6 * d + 10 → kp ≤ d →
  ∃ v F' h' m', (∀ N, 8 ≤ N → ∀ R r g, 3 * n + 3 ≤ r → (tie4 N R r).2.2.2.2.2.2.2 F (G 5 x) (nI (16 * e)) h g = some (.inl (v, F', h', g))) ∧ gto m m' ∧ PO G W k0 nf I IP lim t p cl d t0 kp (G 4 x) F h m v F' h' m'
/-- the contract of what a kind does behind the first task -/
def WI (G W : PG) (k0 nf I IP lim n t p cl d t0 kp x e : Nat) (F : Frm) (h m : HI) : Prop := ∃ τ v F' h' m1 m', F.2.1 (G 5 x) = (τ, 0) ∧ 19 ≤ τ ∧ τ ≤ 27 ∧ (∀ N, 8 ≤ N → ∀ R r g, 3 * n + 2 ≤ r → pv_work N R (tie4 N R r) (τ - 10) F (G 5 x) (nI (16 * e)) h g = some (.inl (v, F', h', g))) ∧
  (∀ N, 8 ≤ N → ∀ g, mAct N (nI x) (nI e) m g = some (m1, g)) ∧ gto m1 m' ∧ PO G W k0 nf I IP lim t p cl d t0 kp (G 4 x) F h m v F' h' m'
theorem RunS.end {G W : PG} {k0 nf I IP lim t p cl d t0 kp en : Nat} {F : Frm} {h m h' m' : HI} (H : RunS G W k0 nf I IP lim t p cl d t0 kp F h m) (he : ¬ en = 0 ∧ ¬ en = 1) (h5 : en ≤ 5) (e1 : ∀ a k, ¬ (a = 101 ∧ (k = 16 ∨ k = 14)) → h' a k = h a k) (e2 : h' 101 16 = nI en) (f1 : ∀ k, (¬ k = 36 ∧ ¬ k = 74 ∧ ¬ k = 72 ∧ ¬ k = 77 ∧ ¬ k = 78 ∧ ¬ k = 82) → m' 115 k = m 115 k) (f3 : ∀ a k, 148 ≤ a → a ≤ 156 → m' a k = m a k) (f2 : m' 115 74 = nI en) : PE I IP lim h' m' := by
  obtain ⟨H1, ⟨s, dd, c1, c2, c3, c4, c5, c6, c7, c8, c9, d1, d2, d3, d4, d5, d6, d7, d8, d9, g1, g2⟩, -⟩ := H
  refine ⟨t, p, cl, s, dd, en, he, ⟨?_, ?_, ?_, ?_, ?_, ?_, ?_, ?_, e2, ?_, ?_, ?_, ?_, ?_, ?_, f2, d8, d9, g1, h5⟩, ?_⟩
  · rw [e1 101 4 (by decide)]; exact c1
  · rw [e1 101 7 (by decide)]; exact c2
  · rw [e1 101 9 (by decide)]; exact c3
  · rw [e1 101 10 (by decide)]; exact c4
  · rw [e1 101 11 (by decide)]; exact c5
  · rw [e1 101 12 (by decide)]; exact c6
  · rw [e1 101 13 (by decide)]; exact c7
  · rw [e1 101 15 (by decide)]; exact c8
  · rw [f1 67 (by decide)]; exact d1
  · rw [f1 68 (by decide)]; exact d2
  · rw [f1 69 (by decide)]; exact d3
  · rw [f1 71 (by decide)]; exact d4
  · rw [f1 70 (by decide)]; exact d5
  · rw [f1 73 (by decide)]; exact d6
  · exact (H1.same (F' := F) (fun _ => rfl) (fun a k q1 q2 => e1 a k (by omega)) f3).FI
/-- the same state behind changes that do not matter to it -/
theorem RunS.mv {G W : PG} {k0 nf I IP lim t p cl d t0 kp d1 t1 k1 : Nat} {F : Frm} {h m h' m' : HI} (H : RunS G W k0 nf I IP lim t p cl d t0 kp F h m) (e1 : ∀ a k, ¬ (a = 101 ∧ k = 14) → h' a k = h a k) (e2 : h' 101 14 = nI d1)
    (f1 : ∀ k, ¬ k = 36 → ¬ k = 72 → ¬ k = 77 → ¬ k = 78 → ¬ k = 82 → m' 115 k = m 115 k) (f2 : ∀ a k, ¬ a = 115 → ¬ a = 134 → ¬ a = 135 → ¬ a = 138 → ¬ a = 158 → m' a k = m a k) (f3 : m' 115 72 = nI d1) (f4 : m' 115 36 = nI t1) (f5 : m' 115 82 = nI k1) : RunS G W k0 nf I IP lim t p cl d1 t1 k1 F h' m' := by
  obtain ⟨H1, ⟨s, dd, c1, c2, c3, c4, c5, c6, c7, c8, c9, g1, g2, g3, g4, g5, g6, g7, d8, d9, i1, i2⟩, -, -, -, -, H7, H8, H9⟩ := H
  refine ⟨H1.same (fun _ => rfl) (fun a k q1 q2 => e1 a k (by omega)) (fun a k q1 q2 => f2 a k (by omega) (by omega) (by omega) (by omega) (by omega)), ⟨s, dd, ?_, ?_, ?_, ?_, ?_, ?_, ?_, ?_, ?_, ?_, ?_, ?_, ?_, ?_, ?_, ?_, d8, d9, i1, i2⟩, e2, f3, f4, f5, H7.fr (fun a k q1 q2 q3 q4 q5 => ?_), H8.fr ⟨⟨rfl, e1 101 19 (by decide), fun k q => e1 108 k (by omega), e1 101 18 (by decide), e1 101 17 (by decide)⟩, rfl, fun _ _ _ => rfl, fun a k q => e1 a k (by omega)⟩, by rw [e1 101 19 (by decide)]; exact H9.1, H9.2⟩
  · rw [e1 101 4 (by decide)]; exact c1
  · rw [e1 101 7 (by decide)]; exact c2
  · rw [e1 101 9 (by decide)]; exact c3
  · rw [e1 101 10 (by decide)]; exact c4
  · rw [e1 101 11 (by decide)]; exact c5
  · rw [e1 101 12 (by decide)]; exact c6
  · rw [e1 101 13 (by decide)]; exact c7
  · rw [e1 101 15 (by decide)]; exact c8
  · rw [e1 101 16 (by decide)]; exact c9
  · rw [f1 67 (by decide) (by decide) (by decide) (by decide) (by decide)]; exact g1
  · rw [f1 68 (by decide) (by decide) (by decide) (by decide) (by decide)]; exact g2
  · rw [f1 69 (by decide) (by decide) (by decide) (by decide) (by decide)]; exact g3
  · rw [f1 71 (by decide) (by decide) (by decide) (by decide) (by decide)]; exact g4
  · rw [f1 70 (by decide) (by decide) (by decide) (by decide) (by decide)]; exact g5
  · rw [f1 73 (by decide) (by decide) (by decide) (by decide) (by decide)]; exact g6
  · rw [f1 74 (by decide) (by decide) (by decide) (by decide) (by decide)]; exact g7
  · by_cases c : a = 115
    · subst c; exact f1 k (by omega) (by omega) (by omega) (by omega) (by omega)
    · exact f2 a k c q2 q3 q4 (by omega)
theorem pv_5 {N R : Nat} {C : ty4} {F : Frm} {a : Nat} {w v : Int32} {h : HI} {g : HL} (o : F.2.1 a = (22, 0)) (e : h a 2 = v) : pv_work N R C 12 F a w h g = some (.inl (v, F, h, g)) := by
  show pX14_work_0 N R F a w h g = _
  rw [pX14_work_0, o, e]; rfl
theorem pv_6 {N R : Nat} {C : ty4} {F : Frm} {a : Nat} {w : Int32} {h : HI} {g : HL} (c9 : h 101 16 = nI 0) : pv_work N R C 13 F a w h g = some (.inl (0, F, up2 h 101 16 (nI 2), g)) := by
  show pX15_work_0 N R F a w h g = _
  rw [pX15_work_0]
  simp (disch := omega) only [q_lit, q_le, q_lt, q_inj, q_add, q_mul, q_sub, q_div, q_vin, q_ix, gd_true, ↓bnd_eq, ↓ob1_some, ↓obv_some, ↓obi_some, ↓obl_some, ↓obr_some, ↓ogv_l, ↓ogi_l, ↓ogr_l, ↓ogv_r, ↓ogi_r, ↓ogr_r, up2_at, decide_true, decide_eq_true_eq, ite_true, ite_false, if_true, if_false, ↓reduceIte, Nat.reduceEqDiff, Nat.reduceLeDiff, Nat.reduceLT, Nat.reduceAdd, Nat.reduceSub, Nat.reduceMul, not_true_eq_false, not_false_eq_true, true_and, and_true, false_and, and_false, or_true, true_or, or_false, false_or, pX7_ends_0, c9]
theorem act_5 {N x a : Nat} {w : Int32} {m : HI} {g : HL} (hx : x < 2002) (n1 : m 124 x = nI 5) (n2 : m 125 x = nI a) : mAct N (nI x) w m g = some (up2 (up2 m 115 77 (nI 0)) 115 78 (nI a), g) := by
  rw [mAct]
  simp (disch := omega) only [q_lit, q_le, q_lt, q_inj, q_add, q_mul, q_sub, q_div, q_vin, q_ix, gd_true, ↓bnd_eq, ↓ob1_some, ↓obv_some, ↓obi_some, ↓obl_some, ↓obr_some, ↓ogv_l, ↓ogi_l, ↓ogr_l, ↓ogv_r, ↓ogi_r, ↓ogr_r, up2_at, decide_true, decide_eq_true_eq, ite_true, ite_false, if_true, if_false, ↓reduceIte, Nat.reduceEqDiff, Nat.reduceLeDiff, Nat.reduceLT, Nat.reduceAdd, Nat.reduceSub, Nat.reduceMul, not_true_eq_false, not_false_eq_true, true_and, and_true, false_and, and_false, or_true, true_or, or_false, false_or, hx, n1, n2, ti5, pX8_gives_0, Int.reduceLT, Int.lt_irrefl]
theorem act_6 {N x : Nat} {w : Int32} {m : HI} {g : HL} (hx : x < 2002) (n1 : m 124 x = nI 6) : mAct N (nI x) w m g = some (up2 m 115 74 (nI 2), g) := by
  rw [mAct]
  simp (disch := omega) only [q_lit, q_le, q_lt, q_inj, q_add, q_mul, q_sub, q_div, q_vin, q_ix, gd_true, ↓bnd_eq, ↓ob1_some, ↓obv_some, ↓obi_some, ↓obl_some, ↓obr_some, ↓ogv_l, ↓ogi_l, ↓ogr_l, ↓ogv_r, ↓ogi_r, ↓ogr_r, up2_at, decide_true, decide_eq_true_eq, ite_true, ite_false, if_true, if_false, ↓reduceIte, Nat.reduceEqDiff, Nat.reduceLeDiff, Nat.reduceLT, Nat.reduceAdd, Nat.reduceSub, Nat.reduceMul, not_true_eq_false, not_false_eq_true, true_and, and_true, false_and, and_false, or_true, true_or, or_false, false_or, hx, n1, ti6, Int.reduceLT, Int.lt_irrefl]
theorem wi_5 {G W : PG} {k0 nf I IP lim n t p cl d t0 kp x e : Nat} {F : Frm} {h m : HI} (hP : pWF G k0 nf) (H : RunS G W k0 nf I IP lim t p cl d t0 kp F h m) (he : eok G W cl x e) (hk : G 0 x = 5) : WI G W k0 nf I IP lim n t p cl d t0 kp x e F h m := by
  have hw := hP.2.2.2 x he.1
  obtain ⟨H1, H2, H3, H4, H5, H6, H7, H8, H9⟩ := id H
  obtain ⟨n1, n2, -⟩ := H7.2 x he.1
  obtain ⟨-, -, -, -, -, -, b5, -⟩ := H8.2 x he.1
  obtain ⟨o1, o2⟩ := b5 hk
  have y0 : G 4 x = 0 := by
    obtain ⟨-, -, -, -, -, -, -, -, -, -, -, -, -, w5, -⟩ := hw
    exact (w5 hk).1
  refine ⟨22, nI (G 1 x), F, h, _, _, o1, by decide, by decide, fun N hN R r g _ => pv_5 o1 o2, fun N hN g => act_5 hw.x (by rw [n1, hk]) n2, gto.refl _, frC.refl _ _, ?_, Or.inl ⟨W, t, p, cl, Nat.le_refl _, Nat.le_refl _, Nat.le_refl _, ext.refl _ _ _ _ _ _, ?_, ?_, ?_⟩⟩
  · intro a k q1 q2 q3 q4 q5
    by_cases c : a = 115
    · rw [up2_nj (by omega), up2_nj (by omega)]
    · rw [up2_ne c, up2_ne c]
  · refine H.mv (fun _ _ _ => rfl) H3 (fun k q1 q2 q3 q4 q5 => ?_) (fun a k q1 q2 q3 q4 q5 => ?_) H4 H5 H6
    · rw [up2_nj q4, up2_nj q3]
    · rw [up2_ne q1, up2_ne q1]
  · rw [y0]; exact vr0
  · exact ⟨fun _ _ => ⟨rfl, rfl, rfl⟩, fun _ _ => rfl⟩
theorem wi_6 {G W : PG} {k0 nf I IP lim n t p cl d t0 kp x e : Nat} {F : Frm} {h m : HI} (hP : pWF G k0 nf) (H : RunS G W k0 nf I IP lim t p cl d t0 kp F h m) (he : eok G W cl x e) (hk : G 0 x = 6) : WI G W k0 nf I IP lim n t p cl d t0 kp x e F h m := by
  have hw := hP.2.2.2 x he.1
  obtain ⟨H1, H2, H3, H4, H5, H6, H7, H8, H9⟩ := id H
  obtain ⟨n1, n2, -⟩ := H7.2 x he.1
  obtain ⟨-, -, -, -, -, -, -, b6, -⟩ := H8.2 x he.1
  obtain ⟨s, dd, c1, c2, c3, c4, c5, c6, c7, c8, c9, -⟩ := H2
  refine ⟨23, 0, F, _, _, _, b6 hk, by decide, by decide, fun N hN R r g _ => pv_6 c9, fun N hN g => act_6 hw.x (by rw [n1, hk]), gto.refl _, ⟨⟨rfl, rfl, fun _ _ => rfl, rfl, rfl⟩, rfl, fun _ _ _ => rfl, fun a k q => up2_ne (by omega)⟩, ?_, Or.inr ?_⟩
  · intro a k q1 q2 q3 q4 q5
    by_cases c : a = 115
    · rw [up2_nj (by omega)]
    · rw [up2_ne c]
  · refine H.end (en := 2) (by decide) (by decide) (fun a k q => ?_) rfl (fun k q => up2_nj (by omega)) (fun a k q1 q2 => up2_ne (by omega)) rfl
    by_cases c : a = 101
    · rw [up2_nj (by omega)]
    · rw [up2_ne c]
