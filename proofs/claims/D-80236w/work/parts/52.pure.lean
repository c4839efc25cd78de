/-! INPUTS, 5: the model lays them -/
def lM (K : Nat → Nat) (V : Nat → Int32) (m : HI) (k : Nat) : HI := up2 (up2 (up2 (up2 m 153 k (nI 0)) 150 k (nI (if K k = 1 then 3 else 2))) 151 k (nI (if K k = 2 then 1 else 0))) 152 k (if K k = 2 then nI (1500 + k) else V k)
theorem lM_o {K : Nat → Nat} {V : Nat → Int32} {m : HI} {k a c : Nat} (h : ¬ (c = k ∧ 150 ≤ a ∧ a ≤ 153)) : lM K V m k a c = m a c := by
  unfold lM; rw [up2_o (by omega), up2_o (by omega), up2_o (by omega), up2_o (by omega)]
theorem lay_step {K : Nat → Nat} {V : Nat → Int32} {n N q k j : Nat} {x1 y : Int32} {m : HI} {g : HL} (hn : n ≤ 40) (hK : K k ≤ 2) (hk : k < j) (hj : j ≤ n) (h2 : m 145 k = nI (K k)) (h3 : m 146 k = V k) : pX8_lay_10 N (q + 1) x1 y (nI j) (nI k) m g = pX8_lay_10 N q x1 y (nI j) (nI (k + 1)) (lM K V m k) g := by
  have v1 : vin (nI k) 1540 = true := by rw [q_vin (by omega)]; exact decide_eq_true (by omega)
  have v2 : vin (nI k) 40 = true := by rw [q_vin (by omega)]; exact decide_eq_true (by omega)
  have hx : ix (nI k) = k := q_ix (by omega)
  have e46 : ∀ s, s = (if K k = 1 then 3 else 2) → pX8_lay_46 N (pX8_lay_10 N q) x1 y (nI j) (nI k) (nI k) (nI s) (up2 m 153 k (nI 0)) g = pX8_lay_10 N q x1 y (nI j) (nI (k + 1)) (lM K V m k) g := by
    intro s hs
    subst hs
    rw [pX8_lay_46, gd_t v1, bnd_eq, gd_t v2, hx]
    have a1 : up2 (up2 m 153 k (nI 0)) 150 k (nI (if K k = 1 then 3 else 2)) 145 k = nI (K k) := h2
    rw [a1]
    by_cases c : K k = 2
    · rw [if_pos (show nI (K k) = 2 from by rw [c]; rfl)]
      have a2 : up2 (up2 (up2 m 153 k (nI 0)) 150 k (nI (if K k = 1 then 3 else 2))) 151 k 1 145 k = nI (K k) := h2
      rw [pX8_lay_69, gd_t v1, bnd_eq, gd_t v2, hx, a2, if_pos (show nI (K k) = 2 from by rw [c]; rfl), pX8_lay_103, gd_t v1, bnd_eq, hx, bnd_eq, show nI k + 1 = nI (k + 1) from q_add k 1]
      congr 1
      unfold lM
      rw [if_pos c, if_pos c, show (1500 : Int32) + nI k = nI (1500 + k) from q_add 1500 k]; rfl
    · have c' : ¬ nI (K k) = 2 := nI_ne (b := 2) (by omega) (by omega) c
      rw [if_neg c']
      have a2 : up2 (up2 (up2 m 153 k (nI 0)) 150 k (nI (if K k = 1 then 3 else 2))) 151 k 0 145 k = nI (K k) := h2
      have a3 : up2 (up2 (up2 m 153 k (nI 0)) 150 k (nI (if K k = 1 then 3 else 2))) 151 k 0 146 k = V k := h3
      rw [pX8_lay_69, gd_t v1, bnd_eq, gd_t v2, hx, a2, if_neg c', gd_t v2, a3, pX8_lay_103, gd_t v1, bnd_eq, hx, bnd_eq, show nI k + 1 = nI (k + 1) from q_add k 1]
      congr 1
      unfold lM
      rw [if_neg c, if_neg c]; rfl
  rw [pX8_lay_10, if_neg (by rw [q_le (by omega) (by omega)]; omega), gd_t v1, bnd_eq, gd_t v2, hx]
  have a0 : up2 m 153 k 0 145 k = nI (K k) := h2
  rw [a0]
  by_cases c : K k = 1
  · rw [if_pos (show nI (K k) = 1 from by rw [c]; rfl)]
    exact e46 3 (by rw [if_pos c])
  · rw [if_neg (show ¬ nI (K k) = 1 from nI_ne (b := 1) (by omega) (by omega) c)]
    exact e46 2 (by rw [if_neg c])
theorem lay_10 {K : Nat → Nat} {V : Nat → Int32} {n i j : Nat} {y : Int32} (hn : n ≤ 40) (hK : ∀ k, K k ≤ 2) (hj : j ≤ n) : ∀ (r k : Nat), k + r = j → ∀ (m : HI), (∀ k, k < n → m 145 k = nI (K k)) → (∀ k, k < n → m 146 k = V k) →
    ∃ m', (∀ a c, ¬ (k ≤ c ∧ c < j ∧ 150 ≤ a ∧ a ≤ 153) → m' a c = m a c) ∧ (∀ c, k ≤ c → c < j → m' 153 c = nI 0 ∧ m' 150 c = nI (if K c = 1 then 3 else 2) ∧ m' 151 c = nI (if K c = 2 then 1 else 0) ∧ m' 152 c = if K c = 2 then nI (1500 + c) else V c) ∧ ∀ N q g, r < q → pX8_lay_10 N q (nI i) y (nI j) (nI k) m g = pX8_lay_113 N N (nI i) y (nI j) (nI i) m' g := by
  intro r
  induction r with
  | zero =>
    intro k hk m h1 h2
    have : k = j := by omega
    subst this
    refine ⟨m, fun _ _ _ => rfl, fun c q1 q2 => by omega, fun N q g hq => ?_⟩
    obtain ⟨q, rfl⟩ : ∃ q0, q = q0 + 1 := ⟨q - 1, by omega⟩
    rw [pX8_lay_10, if_pos (by rw [q_le (by omega) (by omega)]; exact Nat.le_refl _)]
  | succ r ih =>
    intro k hk m h1 h2
    obtain ⟨m', a1, a2, a3⟩ := ih (k + 1) (by omega) (lM K V m k) (fun c hc => by rw [lM_o (by omega)]; exact h1 c hc) (fun c hc => by rw [lM_o (by omega)]; exact h2 c hc)
    refine ⟨m', fun a c q => by rw [a1 a c (by omega), lM_o (by omega)], fun c q1 q2 => ?_, fun N q g hq => ?_⟩
    · by_cases e : c = k
      · subst e
        rw [a1 153 c (by omega), a1 150 c (by omega), a1 151 c (by omega), a1 152 c (by omega)]
        unfold lM
        refine ⟨?_, ?_, ?_, ?_⟩
        · rw [up2_ne (by decide), up2_ne (by decide), up2_ne (by decide), up2_eq]
        · rw [up2_ne (by decide), up2_ne (by decide), up2_eq]
        · rw [up2_ne (by decide), up2_eq]
        · rw [up2_eq]
      · exact a2 c (by omega) q2
    · obtain ⟨q, rfl⟩ : ∃ q0, q = q0 + 1 := ⟨q - 1, by omega⟩
      rw [lay_step hn (hK k) (by omega) hj (h1 k (by omega)) (h2 k (by omega))]
      exact a3 N q g (by omega)
theorem lay_113 {K : Nat → Nat} {n i j y : Nat} {E : Nat → Nat} (hn : n ≤ 40) (hK : ∀ k, K k ≤ 2) (hy : y ≤ 4) (hj : j ≤ n) (hE : ∀ k, i ≤ k → k < j → K k = 2 → bh K n 3 (if k = i then fOf y else 0) (k + 1) = some (E k)) : ∀ (r k : Nat), k + r = j → i ≤ k → ∀ (m : HI), m 115 55 = nI n → (∀ k, k < n → m 145 k = nI (K k)) →
    ∃ m', (∀ a c, ¬ a = 147 → ¬ ((a = 154 ∨ a = 155) ∧ 1500 + k ≤ c ∧ c < 1500 + j) → m' a c = m a c) ∧ (∀ c, k ≤ c → c < j → K c = 2 → m' 154 (1500 + c) = nI (c + 1) ∧ m' 155 (1500 + c) = nI (E c)) ∧ ∀ N, 8 ≤ N → ∀ q g, r < q → pX8_lay_113 N q (nI i) (nI y) (nI j) (nI k) m g = some (nI j, m', g) := by
  intro r
  induction r with
  | zero =>
    intro k hk hi m h1 h2
    have : k = j := by omega
    subst this
    refine ⟨m, fun _ _ _ _ => rfl, fun c q1 q2 => by omega, fun N hN q g hq => ?_⟩
    obtain ⟨q, rfl⟩ : ∃ q0, q = q0 + 1 := ⟨q - 1, by omega⟩
    rw [pX8_lay_113, if_pos (by rw [q_le (by omega) (by omega)]; exact Nat.le_refl _)]
  | succ r ih =>
    intro k hk hi m h1 h2
    have v2 : vin (nI k) 40 = true := by rw [q_vin (by omega)]; exact decide_eq_true (by omega)
    have v3 : vin ((1500 : Int32) + nI k) 1540 = true := by rw [show (1500 : Int32) + nI k = nI (1500 + k) from q_add 1500 k, q_vin (by omega)]; exact decide_eq_true (by omega)
    have hx : ix (nI k) = k := q_ix (by omega)
    have hx2 : ix ((1500 : Int32) + nI k) = 1500 + k := by rw [show (1500 : Int32) + nI k = nI (1500 + k) from q_add 1500 k]; exact q_ix (by omega)
    by_cases c : K k = 2
    · obtain ⟨f, hf, f4⟩ : ∃ f, f = (if k = i then fOf y else 0) ∧ f ≤ 4 := ⟨_, rfl, by split; (have := fOf_le y; omega); omega⟩
      obtain ⟨m1, b1, b2⟩ := behind_ok (i := k + 1) hn hK f4 (by omega) (m := up2 m 154 (1500 + k) (nI (k + 1))) h1 (fun k hk => h2 k hk)
      rw [show bh K n 3 f (k + 1) = some (E k) from by rw [hf]; exact hE k hi (by omega) c] at b2
      obtain ⟨m2, hm2⟩ : ∃ m2, m2 = up2 m1 155 (1500 + k) (nI (E k)) := ⟨_, rfl⟩
      have m2O : ∀ a c, ¬ a = 147 → ¬ ((a = 154 ∨ a = 155) ∧ c = 1500 + k) → m2 a c = m a c := fun a c q1 q2 => by rw [hm2, up2_o (by omega), b1 a c q1, up2_o (by omega)]
      obtain ⟨m', a1, a2, a3⟩ := ih (k + 1) (by omega) (by omega) m2 (by rw [m2O _ _ (by decide) (by omega)]; exact h1) (fun c hc => by rw [m2O _ _ (by decide) (by omega)]; exact h2 c hc)
      refine ⟨m', fun a c q1 q2 => by rw [a1 a c q1 (by omega), m2O a c q1 (by omega)], fun c' q1 q2 q3 => ?_, fun N hN q g hq => ?_⟩
      · by_cases e : c' = k
        · subst e
          rw [a1 154 _ (by decide) (by omega), a1 155 _ (by decide) (by omega), hm2]
          refine ⟨?_, up2_eq⟩
          rw [up2_ne (by decide), b1 _ _ (by decide), up2_eq]
        · exact a2 c' (by omega) q2 q3
      · obtain ⟨q, rfl⟩ : ∃ q0, q = q0 + 1 := ⟨q - 1, by omega⟩
        have e144 : pX8_lay_144 N (pX8_lay_113 N q) (nI i) (nI y) (nI j) (nI k) (nI f) m g = pX8_lay_113 N q (nI i) (nI y) (nI j) (nI (k + 1)) m2 g := by
          rw [pX8_lay_144, gd_t v3, bnd_eq, hx2, show nI k + 1 = nI (k + 1) from q_add k 1, b2 N hN g, obi_some, gd_t v3, bnd_eq, pX8_lay_182, bnd_eq, show nI k + 1 = nI (k + 1) from q_add k 1, ← hm2]
        rw [pX8_lay_113, if_neg (by rw [q_le (by omega) (by omega)]; omega), gd_t v2, hx, h2 k (by omega), if_pos (show nI (K k) = 2 from by rw [c]; rfl)]
        by_cases e : k = i
        · rw [if_pos e] at hf
          rw [if_pos (by rw [e]), m_first hy, obi_some, ← hf, e144]
          exact a3 N hN q g (by omega)
        · rw [if_neg e] at hf
          rw [if_neg (nI_ne (by omega) (by omega) e)]
          have e2 : pX8_lay_144 N (pX8_lay_113 N q) (nI i) (nI y) (nI j) (nI k) 0 m g = pX8_lay_113 N q (nI i) (nI y) (nI j) (nI (k + 1)) m2 g := by
            have := e144
            rw [hf] at this
            exact this
          rw [e2]
          exact a3 N hN q g (by omega)
    · obtain ⟨m', a1, a2, a3⟩ := ih (k + 1) (by omega) (by omega) m h1 h2
      refine ⟨m', fun a c q1 q2 => a1 a c q1 (by omega), fun c' q1 q2 q3 => ?_, fun N hN q g hq => ?_⟩
      · by_cases e : c' = k
        · subst e; exact absurd q3 c
        · exact a2 c' (by omega) q2 q3
      · obtain ⟨q, rfl⟩ : ∃ q0, q = q0 + 1 := ⟨q - 1, by omega⟩
        have hkk := hK k
        rw [pX8_lay_113, if_neg (by rw [q_le (by omega) (by omega)]; omega), gd_t v2, hx, h2 k (by omega), if_neg (show ¬ nI (K k) = 2 from nI_ne (b := 2) (by omega) (by omega) c), pX8_lay_182, bnd_eq, show nI k + 1 = nI (k + 1) from q_add k 1]
        exact a3 N hN q g (by omega)
/-- inputs i .. j - 1 lie there as things -/
def laidM (K : Nat → Nat) (V : Nat → Int32) (E : Nat → Nat) (i j : Nat) (m : HI) : Prop := ∀ c, i ≤ c → c < j → m 153 c = nI 0 ∧ m 150 c = nI (if K c = 1 then 3 else 2) ∧ m 151 c = nI (if K c = 2 then 1 else 0) ∧ (m 152 c = if K c = 2 then nI (1500 + c) else V c) ∧ (K c = 2 → m 154 (1500 + c) = nI (c + 1) ∧ m 155 (1500 + c) = nI (E c))
theorem lay_ok {K : Nat → Nat} {V : Nat → Int32} {n i j y : Nat} {E : Nat → Nat} {m : HI} (hn : n ≤ 40) (hK : ∀ k, K k ≤ 2) (hy : y ≤ 4) (hb : bh K n 3 y i = some j) (hE : ∀ k, i ≤ k → k < j → K k = 2 → bh K n 3 (if k = i then fOf y else 0) (k + 1) = some (E k)) (h1 : m 115 55 = nI n) (h2 : ∀ k, k < n → m 145 k = nI (K k)) (h3 : ∀ k, k < n → m 146 k = V k) :
    ∃ m', (∀ a c, ¬ a = 147 → ¬ ((a = 154 ∨ a = 155) ∧ 1500 + i ≤ c ∧ c < 1500 + j) → ¬ (i ≤ c ∧ c < j ∧ 150 ≤ a ∧ a ≤ 153) → m' a c = m a c) ∧ laidM K V E i j m' ∧ ∀ N, 64 ≤ N → ∀ g, pX8_lay N (nI i) (nI y) m g = some (nI j, m', g) := by
  have hj := bh_lt _ _ _ _ hb
  obtain ⟨m1, b1, b2⟩ := behind_ok (i := i) hn hK hy (by omega) h1 h2
  rw [hb] at b2
  obtain ⟨m2, c1, c2, c3⟩ := lay_10 (i := i) (y := nI y) (V := V) hn hK hj.2 (j - i) i (by omega) m1 (fun k hk => by rw [b1 _ _ (by decide)]; exact h2 k hk) (fun k hk => by rw [b1 _ _ (by decide)]; exact h3 k hk)
  obtain ⟨m3, d1, d2, d3⟩ := lay_113 hn hK hy hj.2 hE (j - i) i (by omega) (Nat.le_refl _) m2 (by rw [c1 _ _ (by omega), b1 _ _ (by decide)]; exact h1) (fun k hk => by rw [c1 _ _ (by omega), b1 _ _ (by decide)]; exact h2 k hk)
  refine ⟨m3, fun a c q1 q2 q3 => by rw [d1 a c q1 q2, c1 a c q3, b1 a c q1], fun c q1 q2 => ?_, fun N hN g => ?_⟩
  · obtain ⟨p1, p2, p3, p4⟩ := c2 c q1 q2
    rw [d1 153 _ (by decide) (by omega), d1 150 _ (by decide) (by omega), d1 151 _ (by decide) (by omega), d1 152 _ (by decide) (by omega)]
    exact ⟨p1, p2, p3, p4, fun z => d2 c q1 q2 z⟩
  · show pX8_lay_0 N (nI i) (nI y) m g = _
    rw [pX8_lay_0, b2 N (by omega) g, obi_some]
    exact Eq.trans (c3 N N g (by omega)) (d3 N (by omega) N g (by omega))
