/-! RUNS, 13: what is asked of an answer -/
def sz (t : Nat) : Nat := if t = 0 then 2 else if t = 1 then 5 else if t = 4 then 26 else 11
theorem sz_pos (t : Nat) : 2 ≤ sz t ∧ sz t ≤ 26 := by
  unfold sz
  by_cases a : t = 0
  · rw [if_pos a]; omega
  · rw [if_neg a]
    by_cases b : t = 1
    · rw [if_pos b]; omega
    · rw [if_neg b]
      by_cases c : t = 4
      · rw [if_pos c]; omega
      · rw [if_neg c]; omega
theorem t4 {t : Nat} (h : t ≤ 4) : t = 0 ∨ t = 1 ∨ t = 2 ∨ t = 3 ∨ t = 4 := by omega
theorem sOf_le (t : Nat) : sOf t ≤ 1 := by unfold sOf; split <;> omega
theorem fOf_le (t : Nat) : fOf t ≤ 1 := by unfold fOf; split <;> omega
theorem c_left {N R t : Nat} {F : Frm} {h : HI} {g : HL} (h1 : 1 ≤ t) (h4 : t ≤ 4) : ppX1_left N R F (nI t) h g = some (nI (fOf t), h, g) := by
  have : ((nI t - 1) >>> ((1 : Int32) &&& 31)) = nI (fOf t) := by
    rcases t4 h4 with rfl | rfl | rfl | rfl | rfl
    · omega
    all_goals decide
  show some (((nI t - 1) >>> ((1 : Int32) &&& 31)), h, g) = _
  rw [this]
theorem c_right {N R t : Nat} {F : Frm} {h : HI} {g : HL} (h1 : 1 ≤ t) (h4 : t ≤ 4) : ppX1_right N R F (nI t) h g = some (nI (sOf t), h, g) := by
  have : ((nI t - 1) &&& 1) = nI (sOf t) := by
    rcases t4 h4 with rfl | rfl | rfl | rfl | rfl
    · omega
    all_goals decide
  show some (((nI t - 1) &&& 1), h, g) = _
  rw [this]
theorem c_size {N R t : Nat} {F : Frm} {h : HI} {g : HL} (h4 : t ≤ 4) : ppX1_sizeOf N R F (nI t) h g = some (nI (sz t), h, g) := by
  have e : k_sizes (ix (nI t)) = nI (sz t) := by
    rcases t4 h4 with rfl | rfl | rfl | rfl | rfl <;> decide
  rw [ppX1_sizeOf, q_vin (by omega), decide_eq_true (show t < 5 by omega), gd_true, e]
theorem sz_ne {t : Nat} : (!(nI (sz t) == 0)) = true := by
  have := sz_pos t
  have h : ¬ nI (sz t) = nI 0 := by rw [q_inj (by omega) (by omega)]; omega
  simp only [Bool.not_eq_true', beq_eq_false_iff_ne, ne_eq]
  exact h
theorem c_first {N R t d : Nat} {F : Frm} {h : HI} {g : HL} (h1 : 1 ≤ t) (h4 : t ≤ 4) (hd : 1 ≤ d) (hd2 : d < 1000) : ppX1_first N R F (nI t) (nI d) h g = some (nI ((d - 1) / sz (sOf t)), h, g) := by
  have := sz_pos (sOf t)
  have := sOf_le t
  show pX1_first_0 N R F (nI t) (nI d) h g = _
  rw [pX1_first_0, c_right h1 h4, obi_some, c_size (by omega), obi_some, gd_t sz_ne, show nI d - 1 = nI (d - 1) from q_sub (b := 1) hd, q_div (by omega) (by omega)]
theorem q_mod {a b : Nat} (ha : a < 2147483648) (hb : b < 2147483648) : nI a - nI a / nI b * nI b = nI (a % b) := by
  rw [q_div ha hb, q_mul, q_sub (Nat.div_mul_le_self a b)]
  congr 1
  have := Nat.div_add_mod a b
  rw [Nat.mul_comm] at this
  omega
theorem c_second {N R t d : Nat} {F : Frm} {h : HI} {g : HL} (h1 : 1 ≤ t) (h4 : t ≤ 4) (hd : 1 ≤ d) (hd2 : d < 1000) : ppX1_second N R F (nI t) (nI d) h g = some (nI ((d - 1) % sz (sOf t)), h, g) := by
  have := sz_pos (sOf t)
  have := sOf_le t
  show pX1_second_0 N R F (nI t) (nI d) h g = _
  rw [pX1_second_0, c_right h1 h4, obi_some, c_size (by omega), obi_some, gd_t sz_ne, show nI d - 1 = nI (d - 1) from q_sub (b := 1) hd, q_mod (by omega) (by omega)]
theorem c_both {N R t a b : Nat} {F : Frm} {h : HI} {g : HL} (h1 : 1 ≤ t) (h4 : t ≤ 4) : ppX1_both N R F (nI t) (nI a) (nI b) h g = some (nI (1 + a * sz (sOf t) + b), h, g) := by
  have := sOf_le t
  show pX1_both_0 N R F (nI t) (nI a) (nI b) h g = _
  rw [pX1_both_0, c_right h1 h4, obi_some, c_size (by omega), obi_some, q_mul, show (1 : Int32) + nI (a * sz (sOf t)) = nI (1 + a * sz (sOf t)) from q_add 1 _, q_add]
theorem m_first {N t : Nat} {h : HI} {g : HL} (h4 : t ≤ 4) : pX8_firstOf N (nI t) h g = some (nI (fOf t), h, g) := by
  show pX8_firstOf_0 N (nI t) h g = _
  rcases t4 h4 with rfl | rfl | rfl | rfl | rfl <;> rfl
theorem m_second {N t : Nat} {h : HI} {g : HL} (h4 : t ≤ 4) : pX8_secondOf N (nI t) h g = some (nI (sOf t), h, g) := by
  show pX8_secondOf_0 N (nI t) h g = _
  rcases t4 h4 with rfl | rfl | rfl | rfl | rfl <;> rfl
theorem m_demands {N t : Nat} {h : HI} {g : HL} (h4 : t ≤ 4) : pX8_demands N (nI t) h g = some (nI (sz t), h, g) := by
  show pX8_demands_0 N (nI t) h g = _
  rcases t4 h4 with rfl | rfl | rfl | rfl | rfl <;> rfl
theorem sz_split {y d : Nat} (h1 : 1 ≤ y) (h4 : y ≤ 4) (hd : 1 ≤ d) (h : d < sz y) : (d - 1) / sz (sOf y) < sz (fOf y) ∧ (d - 1) % sz (sOf y) < sz (sOf y) := by
  rcases t4 h4 with rfl | rfl | rfl | rfl | rfl
  · omega
  · have e : sz 1 = 5 ∧ sz (sOf 1) = 2 ∧ sz (fOf 1) = 2 := by decide
    rw [e.1] at h; rw [e.2.1, e.2.2]; omega
  · have e : sz 2 = 11 ∧ sz (sOf 2) = 5 ∧ sz (fOf 2) = 2 := by decide
    rw [e.1] at h; rw [e.2.1, e.2.2]; omega
  · have e : sz 3 = 11 ∧ sz (sOf 3) = 2 ∧ sz (fOf 3) = 5 := by decide
    rw [e.1] at h; rw [e.2.1, e.2.2]; omega
  · have e : sz 4 = 26 ∧ sz (sOf 4) = 5 ∧ sz (fOf 4) = 5 := by decide
    rw [e.1] at h; rw [e.2.1, e.2.2]; omega
def PQ (G W : PG) (k0 nf I IP lim t p cl t0 : Nat) (F : Frm) (h m : HI) (F' : Frm) (h' m' : HI) : Prop := frC F h F' h' ∧ frM m m' ∧ ((∃ W' t' p' cl', t ≤ t' ∧ p ≤ p' ∧ cl ≤ cl' ∧ ext W W' I IP t p cl ∧ RunS G W' k0 nf I IP lim t' p' cl' 0 t0 0 F' h' m' ∧ sb t0 0 m m') ∨ PE I IP lim h' m')
/-- how deep a type is at most -/
def lv (L y : Nat) : Prop := y = 0 ∨ 1 ≤ L ∧ y ≤ 1 ∨ 2 ≤ L ∧ y ≤ 4
def AK (G : PG) (k0 nf I IP lim L : Nat) : Prop := ∀ (y : Nat), lv L y → ∀ (W : PG) (t p cl t0 : Nat) (F : Frm) (h m : HI) (dm : Nat) (v : Int32), 1 ≤ dm → dm < sz y → t0 + 2 * L ≤ 6 → RunS G W k0 nf I IP lim t p cl 0 t0 0 F h m → vr W IP p y v (m 115 77) (m 115 78) →
  ∃ F' h' m1 m', (∀ N, 8 ≤ N → ∀ R, 460 ≤ R → ∀ r g, 2 * L + 1 ≤ r → (tie5 N R r).1 F v (nI y) (nI dm) h g = some (.inl ((), F', h', g))) ∧ (∀ N, 8 ≤ N → ∀ g, pX8_demand N (nI y) (nI dm) m g = some (m1, g)) ∧ gto m1 m' ∧ PQ G W k0 nf I IP lim t p cl t0 F h m F' h' m'
theorem ca_over {N R r dm en : Nat} {v y : Int32} {F : Frm} {h : HI} {g : HL} (h16 : h 101 16 = nI en) (q1 : ¬ en = 0) (q2 : en ≤ 5) : (tie5 N R (r + 1)).1 F v y (nI dm) h g = some (.inl ((), F, h, g)) := by
  show pX7_ask_0 N R (tie5 N R r) F v y (nI dm) h g = _
  rw [pX7_ask_0, if_neg (show ¬ h 101 16 = 0 from by rw [h16]; show ¬ nI en = nI 0; rw [q_inj (by omega) (by omega)]; exact q1)]
  split <;> rfl
theorem part_ok {G W : PG} {k0 nf I IP lim L t p cl t0 y dm j : Nat} {F : Frm} {h m : HI} (hP : pWF G k0 nf) (hA : AK G k0 nf I IP lim L) (hy : lv L y) (hdm : dm < sz y) (ht : t0 + 2 * L ≤ 6) (H : RunS G W k0 nf I IP lim t p cl 0 (t0 + if dm = 0 then 0 else 2) 0 F h m) (hj : j < I + t) (hW : W 1 j = y)
    (T : ¬ dm = 0 → m 134 t0 = nI 9 ∧ m 135 t0 = nI y ∧ m 138 t0 = nI dm ∧ m 134 (t0 + 1) = nI 8 ∧ m 135 (t0 + 1) = nI (th I j)) :
    ∃ F' h' m', (∀ N, 8 ≤ N → ∀ R, 460 ≤ R → ∀ r g, 2 * L + 2 ≤ r → (tie5 N R r).2 F (nI j) (nI y) (nI dm) h g = some (.inl ((), F', h', g))) ∧ gto m m' ∧ PQ G W k0 nf I IP lim t p cl t0 F h m F' h' m' := by
  have hdm26 := sz_pos y
  by_cases c : dm = 0
  · subst c
    rw [if_pos rfl] at H
    refine ⟨F, h, m, fun N hN R hR r g hr => ?_, gto.refl _, frC.refl _ _, frM.refl _, Or.inl ⟨W, t, p, cl, Nat.le_refl _, Nat.le_refl _, Nat.le_refl _, ext.refl _ _ _ _ _ _, H, sb.refl _ _ _⟩⟩
    obtain ⟨r, rfl⟩ : ∃ r0, r = r0 + 1 := ⟨r - 1, by omega⟩
    show pX7_part_0 N R (tie5 N R r) F (nI j) (nI y) (nI 0) h g = _
    rw [pX7_part_0, if_pos (by rfl)]
  · rw [if_neg c] at H
    obtain ⟨a1, a2, a3, a4, a5⟩ := T c
    have ih := work_ok (I := I) (IP := IP) (lim := lim) hP 150 0 (by decide) (by decide)
    have S1 := H.pop (t1 := t0 + 1)
    obtain ⟨v, F1, h1, m1, m2, E1, E2, E3, fC, fM, R⟩ := need_ok hP ih S1 hj (by omega) (by decide) (by decide)
    have T1 : top m (t0 + 1) (nI 8) (nI (th I j)) (m 138 (t0 + 1)) := ⟨H.2.2.2.2.1, by omega, H.e74, a4, a5, rfl⟩
    have g1 := (go_need T1 E2).trans E3
    have fM1 : frM m m2 := frM.pop.trans fM
    have EP : ∀ N, 8 ≤ N → ∀ R, 460 ≤ R → ∀ r g, (tie5 N R (r + 1)).2 F (nI j) (nI y) (nI dm) h g = ogv ((tie5 N R r).1 F1 v (nI y) (nI dm) h1 g) fun F7 h5 g6 => some (.inl ((), F7, h5, g6)) := by
      intro N hN R hR r g
      show pX7_part_0 N R (tie5 N R r) F (nI j) (nI y) (nI dm) h g = _
      have e := E1 N hN R R g (by omega)
      rw [pX7_part_0, if_neg (show ¬ nI dm = 0 from by show ¬ nI dm = nI 0; rw [q_inj (by omega) (by omega)]; exact c)]
      show ogi ((tie4 N R R).2.2.2.2.2.2.1 F (nI j) h g) _ = _
      rw [e, ogi_l]
    rcases R with ⟨W1, t1, p1, cl1, l1, l2, l3, X, Q, vv, bb⟩ | R
    · have T2 : top m2 t0 (nI 9) (nI y) (nI dm) := by
        obtain ⟨b1, b2, b3⟩ := bb.1 t0 (by omega)
        exact ⟨Q.2.2.2.2.1, by omega, Q.e74, b1.trans a1, b2.trans a2, b3.trans a3⟩
      have Q2 := Q.pop (t1 := t0)
      rw [hW] at vv
      obtain ⟨F2, h2, m3, m4, E4, E5, E6, fC2, fM2, R2⟩ := hA y hy W1 t1 p1 cl1 t0 F1 h1 _ dm v (by omega) hdm ht Q2 vv
      refine ⟨F2, h2, m4, fun N hN R hR r g hr => ?_, (g1.trans (go_demand T2 E5)).trans E6, fC.trans fC2, (fM1.trans frM.pop).trans fM2, ?_⟩
      · obtain ⟨r, rfl⟩ : ∃ r0, r = r0 + 1 := ⟨r - 1, by omega⟩
        rw [EP N hN R hR, E4 N hN R hR r g (by omega), ogv_l]
      · rcases R2 with ⟨W2, t2, p2, cl2, k1, k2, k3, X2, Q3, bb2⟩ | R2
        · exact Or.inl ⟨W2, t2, p2, cl2, by omega, by omega, by omega, X.trans X2 l1 l2 l3, Q3, ((show sb t0 0 m _ from ⟨fun i hi => ⟨rfl, rfl, rfl⟩, fun _ _ => rfl⟩).trans bb (by omega) (Nat.le_refl _)).trans ((sb.pop (t0 := t0) (kp := 0)).trans bb2 (Nat.le_refl _) (Nat.le_refl _)) (Nat.le_refl _) (Nat.le_refl _)⟩
        · exact Or.inr R2
    · obtain ⟨en, q1, q2, q3, q4⟩ := R.ended
      refine ⟨F1, h1, m2, fun N hN R hR r g hr => ?_, g1, fC, fM1, Or.inr R⟩
      obtain ⟨r, rfl⟩ : ∃ r0, r = r0 + 1 := ⟨r - 1, by omega⟩
      obtain ⟨r, rfl⟩ : ∃ r0, r = r0 + 1 := ⟨r - 1, by omega⟩
      rw [EP N hN R hR, ca_over q3 q1 q2, ogv_l]
/-- tasks of a part, if something of it is asked -/
def opt (m : HI) (t0 y dm c : Nat) : HI := if dm = 0 then m else tk (tk m t0 (nI 9) (nI y) (nI dm)) (t0 + 1) (nI 8) (nI c) (nI 0)
theorem opt_o {m : HI} {t0 y dm c a k : Nat} (h1 : ¬ (a = 115 ∧ k = 36)) (h2 : ¬ a = 134) (h3 : ¬ a = 135) (h4 : ¬ a = 138) : opt m t0 y dm c a k = m a k := by
  unfold opt; split
  · rfl
  · by_cases e : a = 115
    · subst e; rw [tk_f (by omega), tk_f (by omega)]
    · rw [tk_a e h2 h3 h4, tk_a e h2 h3 h4]
theorem RunS.opts {G W : PG} {k0 nf I IP lim t p cl d t0 kp y dm c : Nat} {F : Frm} {h m : HI} (H : RunS G W k0 nf I IP lim t p cl d t0 kp F h m) : RunS G W k0 nf I IP lim t p cl d (t0 + if dm = 0 then 0 else 2) kp F h (opt m t0 y dm c) := by
  unfold opt; split
  · exact H
  · exact H.task.task
theorem sb.opts {m : HI} {t0 kp y dm c : Nat} : sb t0 kp m (opt m t0 y dm c) := by
  unfold opt; split
  · exact sb.refl _ _ _
  · exact sb.task.trans (sb.task (t0 := t0 + 1)) (by omega) (Nat.le_refl _)
theorem frM.opts {m : HI} {t0 y dm c : Nat} : frM m (opt m t0 y dm c) := by
  unfold opt; split
  · exact frM.refl _
  · exact frM.task.trans frM.task
theorem opt_t {m : HI} {t0 y dm c : Nat} (h : ¬ dm = 0) : opt m t0 y dm c 134 t0 = nI 9 ∧ opt m t0 y dm c 135 t0 = nI y ∧ opt m t0 y dm c 138 t0 = nI dm ∧ opt m t0 y dm c 134 (t0 + 1) = nI 8 ∧ opt m t0 y dm c 135 (t0 + 1) = nI c := by
  unfold opt; rw [if_neg h]
  refine ⟨?_, ?_, ?_, ?_, ?_⟩
  · rw [tk_s, if_neg (by omega), tk_s, if_pos rfl]
  · rw [tk_x, if_neg (by omega), tk_x, if_pos rfl]
  · rw [tk_w, if_neg (by omega), tk_w, if_pos rfl]
  · rw [tk_s, if_pos rfl]
  · rw [tk_x, if_pos rfl]
theorem opt_m {N t0 y dm c p : Nat} {m : HI} {g : HL} {a : Nat} (h36 : m 115 36 = nI t0) (ht : t0 + 1 < 3000) (hm : m a p = nI c) (ha : 148 ≤ a) (h : ¬ dm = 0) (k : HI → HL → Option (HI × HL)) : obv (pX8_task N 9 (nI y) (nI dm) m g) (fun h1 g1 => obv (pX8_task N 8 (h1 a p) 0 h1 g1) k) = k (opt m t0 y dm c) g := by
  have e : pX8_task N 9 (nI y) (nI dm) m g = some (tk m t0 (nI 9) (nI y) (nI dm), g) := tk_eq h36 (by omega)
  rw [e, obv_some, tk_a (by omega) (by omega) (by omega) (by omega), hm]
  have e2 : pX8_task N 8 (nI c) 0 (tk m t0 (nI 9) (nI y) (nI dm)) g = some (tk (tk m t0 (nI 9) (nI y) (nI dm)) (t0 + 1) (nI 8) (nI c) (nI 0), g) := tk_tk ht
  rw [e2, obv_some]
  unfold opt; rw [if_neg h]
theorem md_0 {N dm : Nat} {m : HI} {g : HL} : pX8_demand N (nI 0) (nI dm) m g = some (m, g) := by
  show pX8_demand_0 N (nI 0) (nI dm) m g = _
  rw [pX8_demand_0, if_pos (by rfl)]
theorem md_61 {N y dm t0 c p n : Nat} {m : HI} {g : HL} (h1 : y ≤ 4) (hd : 1 ≤ dm) (hd2 : dm < 1000) (hp : p < 1540) (hn : 1 ≤ n ∧ n < 100) (h36 : m 115 36 = nI t0) (ht : t0 + 1 < 3000) (hm : m 154 p = nI c) : pX8_demand_61 N (nI y) (nI dm) (nI p) (nI n) m g = some (opt m t0 (fOf y) ((dm - 1) / n) c, g) := by
  have nn : (!(nI n == 0)) = true := by
    have h : ¬ nI n = nI 0 := by rw [q_inj (by omega) (by omega)]; omega
    simp only [Bool.not_eq_true', beq_eq_false_iff_ne, ne_eq]
    exact h
  have e1 : (nI dm - 1) / nI n = nI ((dm - 1) / n) := by rw [show nI dm - 1 = nI (dm - 1) from q_sub (b := 1) hd, q_div (by omega) (by omega)]
  have hs : (dm - 1) / n < 2147483648 := Nat.lt_of_le_of_lt (Nat.div_le_self _ _) (by omega)
  have zz : (nI ((dm - 1) / n) ≤ 0) = ((dm - 1) / n ≤ 0) := q_le (b := 0) hs (by omega)
  rw [pX8_demand_61, gd_t nn, e1]
  by_cases c0 : (dm - 1) / n = 0
  · rw [if_pos (by rw [zz, c0]; exact Nat.le_refl _)]
    unfold opt; rw [if_pos c0]
  · rw [if_neg (by rw [zz]; exact fun q => c0 (Nat.le_zero.mp q)), m_first h1, obi_some, gd_t nn, q_vin (by omega), decide_eq_true hp]
    have := opt_m (N := N) (y := fOf y) (dm := (dm - 1) / n) (a := 154) (g := g) h36 ht hm (by decide) c0 (fun h6 g7 => some (h6, g7))
    rw [show ix (nI p) = p from q_ix (by omega)]
    exact this
theorem md_ok {N y dm t0 ci cj p : Nat} {m : HI} {g : HL} (h1 : 1 ≤ y) (h4 : y ≤ 4) (hd : 1 ≤ dm) (hd2 : dm < 1000) (hp : m 115 78 = nI p) (hp2 : p < 1540) (h36 : m 115 36 = nI t0) (ht : t0 + 3 < 3000) (hi : m 154 p = nI ci) (hj : m 155 p = nI cj) :
    pX8_demand N (nI y) (nI dm) m g = some (opt (opt m t0 (sOf y) ((dm - 1) % sz (sOf y)) cj) (t0 + if (dm - 1) % sz (sOf y) = 0 then 0 else 2) (fOf y) ((dm - 1) / sz (sOf y)) ci, g) := by
  have s1 := sz_pos (sOf y)
  have s2 := sOf_le y
  show pX8_demand_0 N (nI y) (nI dm) m g = _
  have ey : ¬ nI y = 0 := by show ¬ nI y = nI 0; rw [q_inj (by omega) (by omega)]; omega
  have ed : ¬ nI dm = 0 := by show ¬ nI dm = nI 0; rw [q_inj (by omega) (by omega)]; omega
  have e1 : nI dm - 1 - (nI dm - 1) / nI (sz (sOf y)) * nI (sz (sOf y)) = nI ((dm - 1) % sz (sOf y)) := by rw [show nI dm - 1 = nI (dm - 1) from q_sub (b := 1) hd, q_mod (by omega) (by omega)]
  have hm1 : (dm - 1) % sz (sOf y) < 2147483648 := Nat.lt_of_le_of_lt (Nat.mod_le _ _) (by omega)
  have zz : (nI ((dm - 1) % sz (sOf y)) ≤ 0) = ((dm - 1) % sz (sOf y) ≤ 0) := q_le (b := 0) hm1 (by omega)
  rw [pX8_demand_0, if_neg ey, if_neg ed, bnd_eq, m_second h4, obi_some, m_demands (by omega), obi_some, gd_t sz_ne, e1, hp]
  by_cases c : (dm - 1) % sz (sOf y) = 0
  · rw [if_pos (by rw [zz, c]; exact Nat.le_refl _), md_61 h4 hd hd2 hp2 ⟨by omega, by omega⟩ h36 (by omega) hi, if_pos c]
    unfold opt; rw [if_pos c]; rfl
  · rw [if_neg (by rw [zz]; exact fun q => c (Nat.le_zero.mp q)), m_second h4, obi_some, gd_t sz_ne, q_vin (by omega), decide_eq_true hp2, show ix (nI p) = p from q_ix (by omega)]
    have := opt_m (N := N) (y := sOf y) (dm := (dm - 1) % sz (sOf y)) (a := 155) (g := g) h36 (by omega) hj (by decide) c (fun h13 g14 => pX8_demand_61 N (nI y) (nI dm) (nI p) (nI (sz (sOf y))) h13 g14)
    refine Eq.trans this ?_
    rw [md_61 (t0 := t0 + 2) (c := ci) h4 hd hd2 hp2 ⟨by omega, by omega⟩ ?_ (by omega) ?_, if_neg c]
    · unfold opt; rw [if_neg c]; rfl
    · rw [opt_o (by omega) (by decide) (by decide) (by decide)]; exact hi
theorem lv_step {L y : Nat} (h : lv (L + 1) y) (h0 : ¬ y = 0) : lv L (fOf y) ∧ lv L (sOf y) ∧ 1 ≤ y ∧ y ≤ 4 := by
  have h4 : y ≤ 4 := by unfold lv at h; omega
  have h1 : 1 ≤ y := by omega
  refine ⟨?_, ?_, h1, h4⟩
  · unfold lv at *
    by_cases c : L = 0
    · have : y = 1 := by omega
      subst this; exact Or.inl rfl
    · have := fOf_le y; omega
  · unfold lv at *
    by_cases c : L = 0
    · have : y = 1 := by omega
      subst this; exact Or.inl rfl
    · have := sOf_le y; omega
theorem ca_go {N R r y dm c i : Nat} {F F1 : Frm} {h h1 : HI} {g : HL} (o : GO Unit) (h1y : 1 ≤ y) (h4 : y ≤ 4) (hd : 1 ≤ dm) (hd2 : dm < 1000) (h16 : h 101 16 = nI 0) (hc : c < 1540) (h6 : h 106 c = nI i) (E1 : (tie5 N R r).2 F (nI i) (nI (fOf y)) (nI ((dm - 1) / sz (sOf y))) h g = some (.inl ((), F1, h1, g)))
    (E2 : (if h1 101 16 = 0 then ogv ((tie5 N R r).2 F1 (h1 107 c) (nI (sOf y)) (nI ((dm - 1) % sz (sOf y))) h1 g) fun F18 h16 g17 => some (.inl ((), F18, h16, g17)) else some (.inl ((), F1, h1, g))) = o) : (tie5 N R (r + 1)).1 F (nI c) (nI y) (nI dm) h g = o := by
  show pX7_ask_0 N R (tie5 N R r) F (nI c) (nI y) (nI dm) h g = _
  have ey : ¬ nI y = 0 := by show ¬ nI y = nI 0; rw [q_inj (by omega) (by omega)]; omega
  rw [pX7_ask_0, if_neg ey, if_pos (show h 101 16 = 0 from h16), q_vin (by omega), decide_eq_true hc, gd_true, c_left h1y h4, obi_some, c_first h1y h4 hd hd2, obi_some, show ix (nI c) = c from q_ix (by omega), h6, E1, ogv_l, ← E2]
  by_cases q : h1 101 16 = 0
  · rw [if_pos q, if_pos q, gd_true, c_right h1y h4, obi_some, c_second h1y h4 hd hd2, obi_some]
  · rw [if_neg q, if_neg q]
theorem ask_ok {G : PG} {k0 nf I IP lim : Nat} (hP : pWF G k0 nf) : ∀ L, AK G k0 nf I IP lim L := by
  intro L
  induction L with
  | zero =>
    intro y hy W t p cl t0 F h m dm v h1 h2 h3 H vv
    have : y = 0 := by unfold lv at hy; omega
    subst this
    refine ⟨F, h, m, m, fun N hN R hR r g hr => ?_, fun N hN g => md_0, gto.refl _, frC.refl _ _, frM.refl _, Or.inl ⟨W, t, p, cl, Nat.le_refl _, Nat.le_refl _, Nat.le_refl _, ext.refl _ _ _ _ _ _, H, sb.refl _ _ _⟩⟩
    obtain ⟨r, rfl⟩ : ∃ r0, r = r0 + 1 := ⟨r - 1, by omega⟩
    show pX7_ask_0 N R (tie5 N R r) F v (nI 0) (nI dm) h g = _
    rw [pX7_ask_0, if_pos (by rfl)]
  | succ L ih =>
    intro y hy W t p cl t0 F h m dm v h1 h2 h3 H vv
    have hb := sz_pos y
    by_cases y0 : y = 0
    · subst y0
      refine ⟨F, h, m, m, fun N hN R hR r g hr => ?_, fun N hN g => md_0, gto.refl _, frC.refl _ _, frM.refl _, Or.inl ⟨W, t, p, cl, Nat.le_refl _, Nat.le_refl _, Nat.le_refl _, ext.refl _ _ _ _ _ _, H, sb.refl _ _ _⟩⟩
      obtain ⟨r, rfl⟩ : ∃ r0, r = r0 + 1 := ⟨r - 1, by omega⟩
      show pX7_ask_0 N R (tie5 N R r) F v (nI 0) (nI dm) h g = _
      rw [pX7_ask_0, if_pos (by rfl)]
    · obtain ⟨lf, ls, y1, y4⟩ := lv_step hy y0
      obtain ⟨c, rfl, cp, ew, ey⟩ : ∃ c, v = nI c ∧ c < IP + p ∧ m 115 78 = nI (pi' W IP c) ∧ W 2 c = y := by
        rcases vv with ⟨q, -⟩ | ⟨-, -, c, q1, q2, q3, q4⟩
        · omega
        · exact ⟨c, q1, q2, q3, q4⟩
      obtain ⟨p1c, p2c, i, j, f1, f2, f3, f4, f5, f6, f7, f8, f9⟩ := H.1.2.2.1 c cp
      obtain ⟨cc1, cc2, cc3, cc4, cc5⟩ := H.cap
      have hpi := pi_lt H.1.1 cp
      obtain ⟨sp1, sp2⟩ := sz_split y1 y4 h1 h2
      rw [ey] at f7 f8
      have A : ∀ N, 8 ≤ N → ∀ g, pX8_demand N (nI y) (nI dm) m g = some (opt (opt m t0 (sOf y) ((dm - 1) % sz (sOf y)) (th I j)) (t0 + if (dm - 1) % sz (sOf y) = 0 then 0 else 2) (fOf y) ((dm - 1) / sz (sOf y)) (th I i), g) := fun N hN g => md_ok y1 y4 h1 (by omega) ew hpi H.2.2.2.2.1 (by omega) f5 f6
      obtain ⟨a, ha⟩ : ∃ a, a = if (dm - 1) % sz (sOf y) = 0 then 0 else 2 := ⟨_, rfl⟩
      have ha2 : a ≤ 2 := by rw [ha]; split <;> omega
      rw [← ha] at A
      have S1 := H.opts (y := sOf y) (dm := (dm - 1) % sz (sOf y)) (c := th I j)
      rw [← ha] at S1
      have S2 := S1.opts (y := fOf y) (dm := (dm - 1) / sz (sOf y)) (c := th I i)
      obtain ⟨F1, h1', m1, E1, G1, fC1, fM1, R1⟩ := part_ok hP ih lf sp1 (show t0 + a + 2 * L ≤ 6 by omega) S2 f3 f7 (fun q => opt_t q)
      have fMo : frM m m1 := (frM.opts.trans frM.opts).trans fM1
      rcases R1 with ⟨W1, t1, p1, cl1, l1, l2, l3, X, Q, bb⟩ | R1
      · have Q' : RunS G W1 k0 nf I IP lim t1 p1 cl1 0 (t0 + if (dm - 1) % sz (sOf y) = 0 then 0 else 2) 0 F1 h1' m1 := by rw [← ha]; exact Q
        have h107 : h1' 107 c = nI j := by
          obtain ⟨q1, q2, i2, j2, r1, r2, r3, r4, r5, r6, r7, r8, r9⟩ := Q.1.2.2.1 c (by omega)
          rw [r2, ← r9, (X.2.2.1 c cp).2, f9]
        obtain ⟨F2, h2', m2, E2, G2, fC2, fM2, R2⟩ := part_ok hP ih ls sp2 (show t0 + 2 * L ≤ 6 by omega) Q' (show j < I + t1 by omega) (by rw [X.2.1 j f4]; exact f8) (fun q => by
          have e : a = 2 := by rw [ha, if_neg q]
          obtain ⟨b1, b2, b3⟩ := bb.1 t0 (by omega)
          obtain ⟨b4, b5, b6⟩ := bb.1 (t0 + 1) (by omega)
          have s := sb.opts (m := opt m t0 (sOf y) ((dm - 1) % sz (sOf y)) (th I j)) (t0 := t0 + a) (kp := 0) (y := fOf y) (dm := (dm - 1) / sz (sOf y)) (c := th I i)
          obtain ⟨d1, d2, d3⟩ := s.1 t0 (by omega)
          obtain ⟨d4, d5, d6⟩ := s.1 (t0 + 1) (by omega)
          obtain ⟨o1, o2, o3, o4, o5⟩ := opt_t (m := m) (t0 := t0) (y := sOf y) (c := th I j) q
          exact ⟨(b1.trans d1).trans o1, (b2.trans d2).trans o2, (b3.trans d3).trans o3, (b4.trans d4).trans o4, (b5.trans d5).trans o5⟩)
        refine ⟨F2, h2', _, m2, fun N hN R hR r g hr => ?_, A, G1.trans G2, fC1.trans fC2, fMo.trans fM2, ?_⟩
        · obtain ⟨r, rfl⟩ : ∃ r0, r = r0 + 1 := ⟨r - 1, by omega⟩
          refine ca_go _ y1 y4 h1 (by omega) H.e16 (by omega) f1 (E1 N hN R hR r g (by omega)) ?_
          rw [if_pos (show h1' 101 16 = 0 from Q.e16), h107, E2 N hN R hR r g (by omega), ogv_l]
        · rcases R2 with ⟨W2, t2, p2, cl2, k1, k2, k3, X2, Q3, bb2⟩ | R2
          · exact Or.inl ⟨W2, t2, p2, cl2, by omega, by omega, by omega, X.trans X2 l1 l2 l3, Q3, (((sb.opts (t0 := t0) (kp := 0)).trans (sb.opts (t0 := t0 + a) (kp := 0)) (by omega) (Nat.le_refl _)).trans bb (by omega) (Nat.le_refl _)).trans bb2 (Nat.le_refl _) (Nat.le_refl _)⟩
          · exact Or.inr R2
      · obtain ⟨en, q1, q2, q3, q4⟩ := R1.ended
        refine ⟨F1, h1', _, m1, fun N hN R hR r g hr => ?_, A, G1, fC1, fMo, Or.inr R1⟩
        obtain ⟨r, rfl⟩ : ∃ r0, r = r0 + 1 := ⟨r - 1, by omega⟩
        refine ca_go _ y1 y4 h1 (by omega) H.e16 (by omega) f1 (E1 N hN R hR r g (by omega)) ?_
        rw [if_neg (show ¬ h1' 101 16 = 0 from by rw [q3]; show ¬ nI en = nI 0; rw [q_inj (by omega) (by omega)]; exact q1)]
