/-! INPUTS, 2: whether they fit, by the component -/
theorem nI_ne {a b : Nat} (ha : a < 2147483648) (hb : b < 2147483648) (h : ¬ a = b) : ¬ nI a = nI b := by rw [q_inj ha hb]; exact h
theorem nI_pm {s : Nat} (h : s < 2147483647) : nI (s + 1) + -1 = nI s := by
  have := q_sub (a := s + 1) (b := 1) (by omega)
  rw [show s + 1 - 1 = s by omega] at this
  rw [← this]; show nI (s + 1) + -(nI 1) = _; rw [Int32.sub_eq_add_neg]
theorem fit_1 {K : Nat → Nat} {n y i s : Nat} {F : Frm} {h : HI} (hn : n ≤ 40) (hK : ∀ k, K k ≤ 2) (hi : i ≤ 40) (hs : s < 15) (y4 : y ≤ 4) (t1 : F.2.1 113 = (0, 40)) (h2 : ∀ k, k < n → h 113 k = nI (K k)) (h3 : h 110 s = nI y) : ∀ N R q g, pX7_fit_44 N R (q + 1) F 113 (nI n) (nI (s + 1)) (nI i) h g = if n ≤ i ∨ K i = 0 ∧ 0 < y ∨ K i = 2 ∧ y = 0 then some (0, h, g) else if K i = 2 then pX7_fit_44 N R q F 113 (nI n) (nI (s + 2)) (nI (i + 1)) (up2 (up2 h 110 s (nI (sOf y))) 110 (s + 1) (nI (fOf y))) g else pX7_fit_44 N R q F 113 (nI n) (nI s) (nI (i + 1)) h g := by
  intro N R q g
  have zs : ¬ nI (s + 1) ≤ 0 := by show ¬ nI (s + 1) ≤ nI 0; rw [q_le (by omega) (by omega)]; omega
  have z0 : ¬ nI (s + 1) = 0 := nI_ne (b := 0) (by omega) (by omega) (by omega)
  rw [pX7_fit_44, if_neg zs]
  by_cases c : n ≤ i
  · rw [if_pos (by rw [q_le (by omega) (by omega)]; exact c), if_pos (Or.inl c), pX7_fit_137, if_neg z0]
  · have hg : ∀ {α : Type} (x : Option α), gd (decide ((F.2.1 113).1 = 0)) x = x := fun x => gd_t (by rw [t1]; rfl)
    have hv : vin (nI i) (F.2.1 113).2 = true := by rw [t1, q_vin (by omega)]; exact decide_eq_true (show i < 40 by omega)
    have hx : ix (nI i) = i := q_ix (by omega)
    rw [if_neg (by rw [q_le (by omega) (by omega)]; exact c), bnd_eq, nI_pm (by omega), q_vin (by omega), decide_eq_true (show s < 16 by omega), gd_true, bnd_eq, show ix (nI s) = s from q_ix (by omega), h3, hg, bnd_eq, gd_t hv, hx, h2 i (by omega)]
    have hk := hK i
    have e79 : ¬ (K i = 2 ∧ y = 0) → pX7_fit_79 N R (pX7_fit_44 N R q) F 113 (nI n) (nI s) (nI i) (nI y) h g = if K i = 2 then pX7_fit_44 N R q F 113 (nI n) (nI (s + 2)) (nI (i + 1)) (up2 (up2 h 110 s (nI (sOf y))) 110 (s + 1) (nI (fOf y))) g else pX7_fit_44 N R q F 113 (nI n) (nI s) (nI (i + 1)) h g := by
      intro hc2
      rw [pX7_fit_79, hg, bnd_eq, gd_t hv, hx, h2 i (by omega)]
      by_cases c2 : K i = 2
      · have y0 : ¬ y = 0 := fun e => hc2 ⟨c2, e⟩
        rw [c2, if_pos (show nI 2 = 2 from rfl), if_neg (show ¬ nI y = 0 from nI_ne (b := 0) (by omega) (by omega) y0), if_pos rfl]
        rw [pX7_fit_94, hg, bnd_eq, gd_t hv, hx, h2 i (by omega), c2, if_pos (show nI 2 = 2 from rfl), c_right (by omega) y4, obi_some, q_vin (by omega), decide_eq_true (show s < 16 by omega), gd_true, bnd_eq, c_left (by omega) y4, obi_some, show nI s + 1 = nI (s + 1) from q_add s 1, q_vin (by omega), decide_eq_true (show s + 1 < 16 by omega), gd_true, bnd_eq, bnd_eq, show ix (nI s) = s from q_ix (by omega), show ix (nI (s + 1)) = s + 1 from q_ix (by omega), show nI s + 2 = nI (s + 2) from q_add s 2, pX7_fit_131, bnd_eq, show nI i + 1 = nI (i + 1) from q_add i 1]
      · have n2 : ¬ nI (K i) = 2 := nI_ne (b := 2) (by omega) (by omega) c2
        rw [if_neg n2, if_neg c2]
        rw [pX7_fit_94, hg, bnd_eq, gd_t hv, hx, h2 i (by omega), if_neg n2, pX7_fit_131, bnd_eq, show nI i + 1 = nI (i + 1) from q_add i 1]
    by_cases c0 : K i = 0
    · rw [if_pos (show nI (K i) = 0 from by rw [c0]; rfl)]
      by_cases y0 : y = 0
      · rw [if_pos (show nI y = 0 from by rw [y0]; rfl), if_neg (by omega)]
        exact e79 (by omega)
      · rw [if_neg (show ¬ nI y = 0 from nI_ne (b := 0) (by omega) (by omega) y0), if_pos (Or.inr (Or.inl ⟨c0, by omega⟩))]
    · rw [if_neg (show ¬ nI (K i) = 0 from nI_ne (b := 0) (by omega) (by omega) c0)]
      by_cases c2 : K i = 2 ∧ y = 0
      · rw [if_pos (Or.inr (Or.inr c2)), pX7_fit_79, hg, bnd_eq, gd_t hv, hx, h2 i (by omega), c2.1, if_pos (show nI 2 = 2 from rfl), c2.2, if_pos (show nI 0 = 0 from rfl)]
      · rw [if_neg (by omega)]
        exact e79 c2
theorem fit_ok {K : Nat → Nat} {n : Nat} {F : Frm} (hn : n ≤ 40) (hK : ∀ k, K k ≤ 2) (t1 : F.2.1 113 = (0, 40)) : ∀ (L y i s : Nat), lv L y → s + L < 15 → i ≤ 40 → ∀ (h : HI), (∀ k, k < n → h 113 k = nI (K k)) → h 110 s = nI y →
    ∃ h' k, k + 1 ≤ 2 ^ (L + 1) ∧ (∀ a i, ¬ (a = 110 ∧ s ≤ i) → h' a i = h a i) ∧ match bh K n (L + 1) y i with
      | some j => ∀ N R q g, pX7_fit_44 N R (q + k) F 113 (nI n) (nI (s + 1)) (nI i) h g = pX7_fit_44 N R q F 113 (nI n) (nI s) (nI j) h' g
      | none => ∀ N R q g, pX7_fit_44 N R (q + k) F 113 (nI n) (nI (s + 1)) (nI i) h g = some (0, h', g) := by
  intro L
  induction L with
  | zero =>
    intro y i s hy hs hi h h2 h3
    have y0 : y = 0 := by unfold lv at hy; omega
    have := fit_1 (h := h) hn hK hi (show s < 15 by omega) (show y ≤ 4 by omega) t1 h2 h3
    refine ⟨h, 1, by decide, fun _ _ _ => rfl, ?_⟩
    rw [bh]
    by_cases c : n ≤ i ∨ K i = 0 ∧ 0 < y ∨ K i = 2 ∧ y = 0
    · rw [if_pos c]
      intro N R q g
      rw [this, if_pos c]
    · have c2 : ¬ K i = 2 := fun e => c (Or.inr (Or.inr ⟨e, y0⟩))
      rw [if_neg c, if_neg c2]
      intro N R q g
      rw [this, if_neg c, if_neg c2]
  | succ L ih =>
    intro y i s hy hs hi h h2 h3
    have y4 : y ≤ 4 := by unfold lv at hy; omega
    have first := fit_1 (h := h) hn hK hi (show s < 15 by omega) y4 t1 h2 h3
    have hpow : 1 + 1 ≤ 2 ^ (L + 1 + 1) := by
      have : 2 ^ (L + 1 + 1) = 2 ^ L * 4 := by rw [Nat.pow_succ, Nat.pow_succ]; omega
      have := Nat.one_le_two_pow (n := L)
      omega
    rw [bh]
    by_cases c : n ≤ i ∨ K i = 0 ∧ 0 < y ∨ K i = 2 ∧ y = 0
    · refine ⟨h, 1, hpow, fun _ _ _ => rfl, ?_⟩
      rw [if_pos c]
      intro N R q g
      rw [first, if_pos c]
    · rw [if_neg c]
      by_cases c2 : K i = 2
      · have y0 : ¬ y = 0 := by omega
        obtain ⟨l1, l2, yl, -⟩ := lv_step hy y0
        rw [if_pos c2]
        have pw : 2 ^ (L + 1 + 1) = 2 ^ (L + 1) + 2 ^ (L + 1) := by rw [Nat.pow_succ]; omega
        have fr0 : ∀ a i, ¬ (a = 110 ∧ s ≤ i) → up2 (up2 h 110 s (nI (sOf y))) 110 (s + 1) (nI (fOf y)) a i = h a i := fun a i q => by
          by_cases e : a = 110
          · subst e; rw [up2_nj (by omega), up2_nj (by omega)]
          · rw [up2_ne e, up2_ne e]
        obtain ⟨m1, k1, p1, a1, e1⟩ := ih (fOf y) (i + 1) (s + 1) l1 (by omega) (by omega) (up2 (up2 h 110 s (nI (sOf y))) 110 (s + 1) (nI (fOf y))) (fun k hk => h2 k hk) up2_eq
        cases hb : bh K n (L + 1) (fOf y) (i + 1) with
        | none =>
          rw [hb] at e1
          refine ⟨m1, k1 + 1, by omega, fun a i q => by rw [a1 a i (by omega), fr0 a i q], fun N R q g => ?_⟩
          rw [← Nat.add_assoc, first, if_neg c, if_pos c2]
          exact e1 N R q g
        | some j =>
          rw [hb] at e1
          have hj := bh_lt _ _ _ _ hb
          obtain ⟨m2, k2, p2, a2, e2⟩ := ih (sOf y) j s l2 (by omega) (by omega) m1 (fun k hk => by rw [a1 _ _ (by omega)]; exact h2 k hk) (by rw [a1 _ _ (by omega), up2_nj (by omega), up2_eq])
          refine ⟨m2, k2 + k1 + 1, by omega, fun a i q => by rw [a2 a i q, a1 a i (by omega), fr0 a i q], ?_⟩
          show match bh K n (L + 1) (sOf y) j with | some j => _ | none => _
          cases hc : bh K n (L + 1) (sOf y) j with
          | none =>
            rw [hc] at e2
            intro N R q g
            rw [← Nat.add_assoc, first, if_neg c, if_pos c2, ← Nat.add_assoc]
            refine Eq.trans (e1 N R _ g) (e2 N R q g)
          | some r =>
            rw [hc] at e2
            intro N R q g
            rw [← Nat.add_assoc, first, if_neg c, if_pos c2, ← Nat.add_assoc]
            refine Eq.trans (e1 N R _ g) (e2 N R q g)
      · refine ⟨h, 1, hpow, fun _ _ _ => rfl, ?_⟩
        rw [if_neg c2]
        intro N R q g
        rw [first, if_neg c, if_neg c2]
/-- where the inputs behind those of the first params begin -/
def chn (K : Nat → Nat) (n : Nat) (T : Nat → Nat) : Nat → Option Nat
  | 0 => some 0
  | k + 1 => match chn K n T k with
    | none => none
    | some i => bh K n 3 (T k) i
theorem chn_le {K : Nat → Nat} {n : Nat} {T : Nat → Nat} : ∀ (k i : Nat), chn K n T k = some i → i ≤ n := by
  intro k
  cases k with
  | zero => intro i h; cases h; omega
  | succ k =>
    intro i h
    rw [chn] at h
    split at h
    · cases h
    · exact (bh_lt _ _ _ _ h).2
theorem chn_none {K : Nat → Nat} {n : Nat} {T : Nat → Nat} {k : Nat} (h : chn K n T k = none) : ∀ r, chn K n T (k + r) = none := by
  intro r
  induction r with
  | zero => exact h
  | succ r ih => rw [← Nat.add_assoc, chn, ih]
theorem fit_chain {K : Nat → Nat} {n np : Nat} {T : Nat → Nat} {F : Frm} (hn : n ≤ 40) (hK : ∀ k, K k ≤ 2) (t1 : F.2.1 113 = (0, 40)) (hnp : np ≤ 4) (hT : ∀ k, k < np → T k ≤ 4) : ∀ (r k i : Nat), k + r = np → chn K n T k = some i → ∀ (h : HI), (∀ k, k < n → h 113 k = nI (K k)) → (∀ j, k ≤ j → j < np → h 110 (np - 1 - j) = nI (T j)) →
    ∃ h', (∀ a i, ¬ a = 110 → h' a i = h a i) ∧ ∀ N R q g, 8 * r + 1 ≤ q → pX7_fit_44 N R q F 113 (nI n) (nI r) (nI i) h g = some (nI (if chn K n T np = some n then 1 else 0), h', g) := by
  intro r
  induction r with
  | zero =>
    intro k i hk hc h h2 h3
    have : k = np := by omega
    subst this
    have hi := chn_le _ _ hc
    refine ⟨h, fun _ _ _ => rfl, fun N R q g hq => ?_⟩
    obtain ⟨q, rfl⟩ : ∃ q0, q = q0 + 1 := ⟨q - 1, by omega⟩
    rw [pX7_fit_44, if_pos (show nI 0 ≤ 0 by decide), pX7_fit_137, if_pos (show nI 0 = 0 from rfl), hc]
    by_cases e : i = n
    · rw [if_pos (by rw [e]), if_pos (by rw [e])]; rfl
    · rw [if_neg (nI_ne (by omega) (by omega) e), if_neg (by intro q; injection q with q; exact e q)]; rfl
  | succ r ih =>
    intro k i hk hc h h2 h3
    have hi := chn_le _ _ hc
    obtain ⟨h1, k1, p1, a1, e1⟩ := fit_ok hn hK t1 2 (T k) i r (by unfold lv; have := hT k (by omega); omega) (by omega) (by omega) h h2 (by have := h3 k (Nat.le_refl _) (by omega); rw [show np - 1 - k = r by omega] at this; exact this)
    rw [show (2 + 1) = 3 from rfl] at e1 p1
    have p2 : 2 ^ 3 = 8 := rfl
    cases hb : bh K n 3 (T k) i with
    | none =>
      rw [hb] at e1
      have hc2 : chn K n T (k + 1) = none := by rw [chn, hc]; exact hb
      have hc3 := chn_none hc2 r
      rw [show k + 1 + r = np by omega] at hc3
      refine ⟨h1, fun a i q => a1 a i (by omega), fun N R q g hq => ?_⟩
      obtain ⟨q, rfl⟩ : ∃ q0, q = q0 + k1 := ⟨q - k1, by omega⟩
      rw [e1 N R q g, hc3]; rfl
    | some j =>
      rw [hb] at e1
      have hc2 : chn K n T (k + 1) = some j := by rw [chn, hc]; exact hb
      obtain ⟨h4, a4, e4⟩ := ih (k + 1) j (by omega) hc2 h1 (fun k hk => by rw [a1 _ _ (by omega)]; exact h2 k hk) (fun j q1 q2 => by rw [a1 _ _ (by omega)]; exact h3 j (by omega) q2)
      refine ⟨h4, fun a i q => by rw [a4 a i q, a1 a i (by omega)], fun N R q g hq => ?_⟩
      obtain ⟨q, rfl⟩ : ∃ q0, q = q0 + k1 := ⟨q - k1, by omega⟩
      rw [e1 N R q g]
      exact e4 N R q g (by omega)
theorem fit_9 {n np f ta : Nat} {T : Nat → Nat} {F : Frm} (hnp : np ≤ 4) (hta : 160 ≤ ta) (o1 : F.2.1 f = (18, 0)) (o2 : F.2.2 f 5 = some ta) (o3 : F.2.1 ta = (0, 16)) : ∀ (r k : Nat), k + r = np → ∀ (h : HI), (∀ j, j < np → h ta j = nI (T j)) → (∀ j, j < k → h 110 (np - 1 - j) = nI (T j)) →
    ∃ h', (∀ a i, ¬ a = 110 → h' a i = h a i) ∧ (∀ j, j < np → h' 110 (np - 1 - j) = nI (T j)) ∧ ∀ N R q g, r < q → pX7_fit_9 N R q F 113 (nI n) f (nI np) (nI k) h g = pX7_fit_44 N R N F 113 (nI n) (nI np) (nI 0) h' g := by
  intro r
  induction r with
  | zero =>
    intro k hk h h1 h2
    have : k = np := by omega
    subst this
    refine ⟨h, fun _ _ _ => rfl, h2, fun N R q g hq => ?_⟩
    obtain ⟨q, rfl⟩ : ∃ q0, q = q0 + 1 := ⟨q - 1, by omega⟩
    rw [pX7_fit_9, if_pos (by rw [q_le (by omega) (by omega)]; exact Nat.le_refl _)]; rfl
  | succ r ih =>
    intro k hk h h1 h2
    obtain ⟨h', a1, a2, a3⟩ := ih (k + 1) (by omega) (up2 h 110 (np - 1 - k) (nI (T k))) (fun j hj => by rw [up2_ne (by omega)]; exact h1 j hj) (fun j hj => by
      by_cases e : j = k
      · subst e; rw [up2_eq]
      · rw [up2_nj (by omega)]; exact h2 j (by omega))
    refine ⟨h', fun a i q => by rw [a1 a i q, up2_ne q], a2, fun N R q g hq => ?_⟩
    obtain ⟨q, rfl⟩ : ∃ q0, q = q0 + 1 := ⟨q - 1, by omega⟩
    rw [pX7_fit_9, if_neg (by rw [q_le (by omega) (by omega)]; omega), o1, gd_t (decide_eq_true rfl), o2, ob1_some, o3, gd_t (decide_eq_true rfl), bnd_eq, q_vin (by omega), decide_eq_true (show k < 16 by omega), gd_true, show nI np - 1 - nI k = nI (np - 1 - k) from by rw [show nI np - 1 = nI (np - 1) from q_sub (b := 1) (by omega), q_sub (by omega)], q_vin (by omega), decide_eq_true (show np - 1 - k < 16 by omega), gd_true, bnd_eq, bnd_eq, show ix (nI k) = k from q_ix (by omega), h1 k (by omega), show ix (nI (np - 1 - k)) = np - 1 - k from q_ix (by omega), show nI k + 1 = nI (k + 1) from q_add k 1]
    exact a3 N R q g (by omega)
/-- FIT: by the component -/
theorem c_fit {K : Nat → Nat} {n np f ta : Nat} {T : Nat → Nat} {F : Frm} {h : HI} (hn : n ≤ 40) (hK : ∀ k, K k ≤ 2) (t1 : F.2.1 113 = (0, 40)) (hnp : np ≤ 4) (hT : ∀ k, k < np → T k ≤ 4) (hta : 160 ≤ ta) (o1 : F.2.1 f = (18, 0)) (o2 : F.2.2 f 5 = some ta) (o3 : F.2.1 ta = (0, 16)) (h0 : h f 1 = nI np) (h1 : ∀ j, j < np → h ta j = nI (T j)) (h2 : ∀ k, k < n → h 113 k = nI (K k)) :
    ∃ h', (∀ a i, ¬ a = 110 → h' a i = h a i) ∧ ∀ N, 64 ≤ N → ∀ R g, ppX7_fit N R F 113 (nI n) f h g = some (nI (if chn K n T np = some n then 1 else 0), h', g) := by
  obtain ⟨h3, a1, a2, a3⟩ := fit_9 (n := n) hnp hta o1 o2 o3 np 0 (by omega) h h1 (fun j hj => by omega)
  obtain ⟨h4, b1, b2⟩ := fit_chain hn hK t1 hnp hT np 0 0 (by omega) rfl h3 (fun k hk => by rw [a1 _ _ (by decide)]; exact h2 k hk) (fun j _ hj => a2 j hj)
  refine ⟨h4, fun a i q => by rw [b1 a i q, a1 a i q], fun N hN R g => ?_⟩
  show pX7_fit_0 N R F 113 (nI n) f h g = _
  rw [pX7_fit_0, o1, gd_t (decide_eq_true rfl), bnd_eq, h0]
  refine Eq.trans (a3 N R N g (by omega)) (b2 N R N g (by omega))
