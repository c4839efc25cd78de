/-! INPUTS, 1: where those of a type end (plain) -/
def bh (K : Nat → Nat) (n : Nat) : Nat → Nat → Nat → Option Nat
  | 0, _, _ => none
  | L + 1, y, i => if n ≤ i ∨ K i = 0 ∧ 0 < y ∨ K i = 2 ∧ y = 0 then none else if K i = 2 then (match bh K n L (fOf y) (i + 1) with | none => none | some j => bh K n L (sOf y) j) else some (i + 1)
theorem bh_lt {K : Nat → Nat} {n : Nat} : ∀ (L y i j : Nat), bh K n L y i = some j → i < j ∧ j ≤ n := by
  intro L
  induction L with
  | zero => intro y i j h; cases h
  | succ L ih =>
    intro y i j h
    rw [bh] at h
    split at h
    · cases h
    · rename_i c
      split at h
      · split at h
        · cases h
        · rename_i e he
          have := ih _ _ _ he
          have := ih _ _ _ h
          omega
      · cases h; omega
theorem bh_more {K : Nat → Nat} {n : Nat} : ∀ (L y i : Nat), lv L y → bh K n (L + 1 + 1) y i = bh K n (L + 1) y i := by
  intro L
  induction L with
  | zero =>
    intro y i h
    have : y = 0 := by unfold lv at h; omega
    subst this
    rw [bh]
    conv => rhs; rw [bh]
    by_cases c : K i = 2
    · rw [if_pos (Or.inr (Or.inr ⟨c, rfl⟩)), if_pos (Or.inr (Or.inr ⟨c, rfl⟩))]
    · rw [if_neg c, if_neg c]
  | succ L ih =>
    intro y i h
    rw [bh]
    conv => rhs; rw [bh]
    by_cases y0 : y = 0
    · subst y0
      by_cases c : K i = 2
      · rw [if_pos (Or.inr (Or.inr ⟨c, rfl⟩)), if_pos (Or.inr (Or.inr ⟨c, rfl⟩))]
      · rw [if_neg c, if_neg c]
    · obtain ⟨l1, l2, -, -⟩ := lv_step h y0
      have e2 : (match bh K n (L + 1 + 1) (fOf y) (i + 1) with | none => none | some j => bh K n (L + 1 + 1) (sOf y) j) = (match bh K n (L + 1) (fOf y) (i + 1) with | none => none | some j => bh K n (L + 1) (sOf y) j) := by
        rw [ih _ _ l1]
        split
        · rfl
        · exact ih _ _ l2
      rw [e2]
theorem bh_3 {K : Nat → Nat} {n L y i : Nat} (h : lv L y) (h2 : L ≤ 2) : bh K n (L + 1) y i = bh K n 3 y i := by
  have : L = 0 ∨ L = 1 ∨ L = 2 := by omega
  rcases this with rfl | rfl | rfl
  · rw [← bh_more 0 y i h, ← bh_more 1 y i (by unfold lv at *; omega)]
  · rw [← bh_more 1 y i h]
  · rfl
theorem beh_neg {N q : Nat} {x : Int32} {m : HI} {g : HL} : pX8_behind_12 N (q + 1) (-1) x m g = some (-1, m, g) := by
  rw [pX8_behind_12]
  split
  · rfl
  · rw [if_pos rfl]
theorem beh_1 {K : Nat → Nat} {n y i s : Nat} {m : HI} (hn : n ≤ 40) (hK : ∀ k, K k ≤ 2) (hi : i ≤ 40) (hs : s < 7) (y4 : y ≤ 4) (h1 : m 115 55 = nI n) (h2 : ∀ k, k < n → m 145 k = nI (K k)) (h3 : m 147 s = nI y) : ∀ N q g, pX8_behind_12 N (q + 1) (nI i) (nI (s + 1)) m g = if n ≤ i ∨ K i = 0 ∧ 0 < y ∨ K i = 2 ∧ y = 0 then pX8_behind_12 N q (-1) (nI s) m g else if K i = 2 then pX8_behind_12 N q (nI (i + 1)) (nI (s + 2)) (up2 (up2 m 147 s (nI (sOf y))) 147 (s + 1) (nI (fOf y))) g else pX8_behind_12 N q (nI (i + 1)) (nI s) m g := by
  have z : nI (s + 1) + -1 = nI s := by
    have := q_sub (a := s + 1) (b := 1) (by omega)
    rw [show s + 1 - 1 = s by omega] at this
    rw [← this]; show nI (s + 1) + -(nI 1) = _; rw [Int32.sub_eq_add_neg]
  have zs : ¬ nI (s + 1) ≤ 0 := by show ¬ nI (s + 1) ≤ nI 0; rw [q_le (by omega) (by omega)]; omega
  have zi : ¬ nI i = -1 := by
    intro e
    have := congrArg Int32.toInt e
    rw [q_toInt (by omega)] at this
    have e2 : (-1 : Int32).toInt = -1 := by decide
    rw [e2] at this; omega
  intro N q g
  rw [pX8_behind_12, if_neg zs, if_neg zi, bnd_eq, z, q_vin (by omega), decide_eq_true (show s < 8 by omega), gd_true, bnd_eq, show ix (nI s) = s from q_ix (by omega), h3, h1]
  by_cases c : n ≤ i
  · rw [if_pos (by rw [q_le (by omega) (by omega)]; exact c), if_pos (Or.inl c)]; rfl
  · rw [if_neg (by rw [q_le (by omega) (by omega)]; exact c), q_vin (by omega), decide_eq_true (show i < 40 by omega), gd_true, show ix (nI i) = i from q_ix (by omega), h2 i (by omega)]
    have hk := hK i
    have e56 : ¬ (K i = 2 ∧ y = 0) → pX8_behind_56 N (pX8_behind_12 N q) (nI i) (nI s) (nI y) m g = if K i = 2 then pX8_behind_12 N q (nI (i + 1)) (nI (s + 2)) (up2 (up2 m 147 s (nI (sOf y))) 147 (s + 1) (nI (fOf y))) g else pX8_behind_12 N q (nI (i + 1)) (nI s) m g := by
      intro hc2
      rw [pX8_behind_56, q_vin (by omega), decide_eq_true (show i < 40 by omega), gd_true, show ix (nI i) = i from q_ix (by omega), h2 i (by omega)]
      by_cases c2 : K i = 2
      · have y0 : ¬ y = 0 := fun e => hc2 ⟨c2, e⟩
        rw [c2, if_pos (show nI 2 = 2 from rfl), if_neg (show ¬ nI y = 0 from by show ¬ nI y = nI 0; rw [q_inj (by omega) (by omega)]; exact y0), if_pos rfl]
        rw [pX8_behind_76, q_vin (by omega), decide_eq_true (show i < 40 by omega), gd_true, show ix (nI i) = i from q_ix (by omega), h2 i (by omega), c2, if_pos (show nI 2 = 2 from rfl), m_second y4, obi_some, q_vin (by omega), decide_eq_true (show s < 8 by omega), gd_true, bnd_eq, m_first y4, obi_some, show nI s + 1 = nI (s + 1) from q_add s 1, q_vin (by omega), decide_eq_true (show s + 1 < 8 by omega), gd_true, bnd_eq, bnd_eq, show ix (nI s) = s from q_ix (by omega), show ix (nI (s + 1)) = s + 1 from q_ix (by omega), show nI s + 2 = nI (s + 2) from q_add s 2, pX8_behind_115, bnd_eq, show nI i + 1 = nI (i + 1) from q_add i 1]
        rfl
      · rw [if_neg (show ¬ nI (K i) = 2 from by show ¬ nI (K i) = nI 2; rw [q_inj (by omega) (by omega)]; exact c2), if_neg c2]
        rw [pX8_behind_76, q_vin (by omega), decide_eq_true (show i < 40 by omega), gd_true, show ix (nI i) = i from q_ix (by omega), h2 i (by omega), if_neg (show ¬ nI (K i) = 2 from by show ¬ nI (K i) = nI 2; rw [q_inj (by omega) (by omega)]; exact c2), pX8_behind_115, bnd_eq, show nI i + 1 = nI (i + 1) from q_add i 1]
        rfl
    by_cases c0 : K i = 0
    · rw [if_pos (show nI (K i) = 0 from by rw [c0]; rfl)]
      by_cases y0 : 0 < y
      · rw [if_pos (show (0 : Int32) < nI y from by show nI 0 < nI y; rw [q_lt (by omega) (by omega)]; exact y0), if_pos (Or.inr (Or.inl ⟨c0, y0⟩))]; rfl
      · rw [if_neg (show ¬ (0 : Int32) < nI y from by show ¬ nI 0 < nI y; rw [q_lt (by omega) (by omega)]; exact y0), if_neg (by omega)]
        exact e56 (by omega)
    · rw [if_neg (show ¬ nI (K i) = 0 from by show ¬ nI (K i) = nI 0; rw [q_inj (by omega) (by omega)]; exact c0)]
      by_cases c2 : K i = 2 ∧ y = 0
      · rw [if_pos (Or.inr (Or.inr c2)), pX8_behind_56, q_vin (by omega), decide_eq_true (show i < 40 by omega), gd_true, show ix (nI i) = i from q_ix (by omega), h2 i (by omega), c2.1, if_pos (show nI 2 = 2 from rfl), c2.2, if_pos (show nI 0 = 0 from rfl)]; rfl
      · rw [if_neg (by omega)]
        exact e56 c2
/-- the model's walk over inputs: one type is gone through -/
theorem beh_ok {K : Nat → Nat} {n : Nat} (hn : n ≤ 40) (hK : ∀ k, K k ≤ 2) : ∀ (L y i s : Nat), lv L y → s + L < 7 → i ≤ 40 → ∀ (m : HI), m 115 55 = nI n → (∀ k, k < n → m 145 k = nI (K k)) → m 147 s = nI y →
    ∃ m' k, k + 1 ≤ 2 ^ (L + 1) ∧ (∀ a i, ¬ (a = 147 ∧ s ≤ i) → m' a i = m a i) ∧ match bh K n (L + 1) y i with
      | some j => ∀ N q g, pX8_behind_12 N (q + k) (nI i) (nI (s + 1)) m g = pX8_behind_12 N q (nI j) (nI s) m' g
      | none => ∀ N q g, pX8_behind_12 N (q + 1 + k) (nI i) (nI (s + 1)) m g = some (-1, m', g) := by
  intro L
  induction L with
  | zero =>
    intro y i s hy hs hi m h1 h2 h3
    have y0 : y = 0 := by unfold lv at hy; omega
    have := beh_1 (m := m) hn hK hi (show s < 7 by omega) (show y ≤ 4 by omega) h1 h2 h3
    refine ⟨m, 1, by decide, fun _ _ _ => rfl, ?_⟩
    rw [bh]
    by_cases c : n ≤ i ∨ K i = 0 ∧ 0 < y ∨ K i = 2 ∧ y = 0
    · rw [if_pos c]
      intro N q g
      rw [this, if_pos c]; exact beh_neg
    · have c2 : ¬ K i = 2 := fun e => c (Or.inr (Or.inr ⟨e, y0⟩))
      rw [if_neg c, if_neg c2]
      intro N q g
      rw [this, if_neg c, if_neg c2]
  | succ L ih =>
    intro y i s hy hs hi m h1 h2 h3
    have y4 : y ≤ 4 := by unfold lv at hy; omega
    have hpow : 1 + 1 ≤ 2 ^ (L + 1 + 1) := by
      have : 2 ^ (L + 1 + 1) = 2 ^ L * 4 := by rw [Nat.pow_succ, Nat.pow_succ]; omega
      have := Nat.one_le_two_pow (n := L)
      omega
    have first := beh_1 (m := m) hn hK hi (show s < 7 by omega) y4 h1 h2 h3
    rw [bh]
    by_cases c : n ≤ i ∨ K i = 0 ∧ 0 < y ∨ K i = 2 ∧ y = 0
    · refine ⟨m, 1, hpow, fun _ _ _ => rfl, ?_⟩
      rw [if_pos c]
      intro N q g
      rw [first, if_pos c]; exact beh_neg
    · rw [if_neg c]
      by_cases c2 : K i = 2
      · have y0 : ¬ y = 0 := by omega
        obtain ⟨l1, l2, yl, -⟩ := lv_step hy y0
        rw [if_pos c2]
        have pw : 2 ^ (L + 1 + 1) = 2 ^ (L + 1) + 2 ^ (L + 1) := by rw [Nat.pow_succ]; omega
        have fr0 : ∀ a i, ¬ (a = 147 ∧ s ≤ i) → up2 (up2 m 147 s (nI (sOf y))) 147 (s + 1) (nI (fOf y)) a i = m a i := fun a i q => by
          by_cases e : a = 147
          · subst e; rw [up2_nj (by omega), up2_nj (by omega)]
          · rw [up2_ne e, up2_ne e]
        obtain ⟨m1, k1, p1, a1, e1⟩ := ih (fOf y) (i + 1) (s + 1) l1 (by omega) (by omega) (up2 (up2 m 147 s (nI (sOf y))) 147 (s + 1) (nI (fOf y))) h1 (fun k hk => h2 k hk) up2_eq
        cases hb : bh K n (L + 1) (fOf y) (i + 1) with
        | none =>
          rw [hb] at e1
          refine ⟨m1, k1 + 1, by omega, fun a i q => by rw [a1 a i (by omega), fr0 a i q], fun N q g => ?_⟩
          rw [← Nat.add_assoc, first, if_neg c, if_pos c2]
          exact e1 N q g
        | some j =>
          rw [hb] at e1
          have hj := bh_lt _ _ _ _ hb
          obtain ⟨m2, k2, p2, a2, e2⟩ := ih (sOf y) j s l2 (by omega) (by omega) m1 (by rw [a1 _ _ (by omega)]; exact h1) (fun k hk => by rw [a1 _ _ (by omega)]; exact h2 k hk) (by rw [a1 _ _ (by omega), up2_nj (by omega), up2_eq])
          refine ⟨m2, k2 + k1 + 1, by omega, fun a i q => by rw [a2 a i q, a1 a i (by omega), fr0 a i q], ?_⟩
          show match bh K n (L + 1) (sOf y) j with | some j => _ | none => _
          cases hc : bh K n (L + 1) (sOf y) j with
          | none =>
            rw [hc] at e2
            intro N q g
            rw [← Nat.add_assoc, first, if_neg c, if_pos c2, ← Nat.add_assoc]
            refine Eq.trans (e1 N _ g) (e2 N q g)
          | some r =>
            rw [hc] at e2
            intro N q g
            rw [← Nat.add_assoc, first, if_neg c, if_pos c2, ← Nat.add_assoc]
            refine Eq.trans (e1 N _ g) (e2 N q g)
      · refine ⟨m, 1, hpow, fun _ _ _ => rfl, ?_⟩
        rw [if_neg c2]
        intro N q g
        rw [first, if_neg c, if_neg c2]
/-- where the inputs behind those of a type begin, by the model -/
theorem behind_ok {K : Nat → Nat} {n y i : Nat} (hn : n ≤ 40) (hK : ∀ k, K k ≤ 2) (hy : y ≤ 4) (hi : i ≤ 40) {m : HI} (h1 : m 115 55 = nI n) (h2 : ∀ k, k < n → m 145 k = nI (K k)) :
    ∃ m', (∀ a i, ¬ a = 147 → m' a i = m a i) ∧ ∀ N, 8 ≤ N → ∀ g, pX8_behind N (nI i) (nI y) m g = some ((match bh K n 3 y i with | some j => nI j | none => -1), m', g) := by
  obtain ⟨m1, k, p1, a1, e1⟩ := beh_ok hn hK 2 y i 0 (by unfold lv; omega) (by decide) hi (up2 m 147 0 (nI y)) h1 h2 up2_eq
  refine ⟨m1, fun a i q => by rw [a1 a i (by omega), up2_ne q], fun N hN g => ?_⟩
  have e : pX8_behind N (nI i) (nI y) m g = pX8_behind_12 N N (nI i) (nI 1) (up2 m 147 0 (nI y)) g := rfl
  rw [e]
  obtain ⟨q, rfl⟩ : ∃ q, N = q + 1 + k := ⟨N - 1 - k, by have : 2 ^ (2 + 1) = 8 := rfl; omega⟩
  cases hb : bh K n 3 y i with
  | none =>
    rw [show (2 + 1) = 3 from rfl, hb] at e1
    exact e1 _ q g
  | some j =>
    rw [show (2 + 1) = 3 from rfl, hb] at e1
    refine Eq.trans (e1 _ (q + 1) g) ?_
    rw [pX8_behind_12, if_pos (show nI 0 ≤ 0 by decide)]
