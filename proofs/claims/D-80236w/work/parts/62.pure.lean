/-! DEMANDS: what the two compute -/
theorem nI_nz {a : Nat} (ha : a < 2147483648) (h : ¬ a = 0) : ¬ nI a = (0 : Int32) := nI_ne (b := 0) ha (by omega) h
theorem near_1 {N d e : Nat} {h : HI} {g : HL} (hd : d < 5) (he : e < 5) : pX8_nearBoth N (nI d) (nI e) (nI 1) h g = some (nI (jnL max 1 1 d e), h, g) := by
  have h1 : d = 0 ∨ d = 1 ∨ d = 2 ∨ d = 3 ∨ d = 4 := by omega
  have h2 : e = 0 ∨ e = 1 ∨ e = 2 ∨ e = 3 ∨ e = 4 := by omega
  rcases h1 with rfl | rfl | rfl | rfl | rfl <;> rcases h2 with rfl | rfl | rfl | rfl | rfl <;> rfl
theorem near_0 {N d e : Nat} {h : HI} {g : HL} (hd : d < 5) (he : e < 5) : pX8_nearBoth N (nI d) (nI e) (nI 0) h g = some (nI (jnL min 1 1 d e), h, g) := by
  have h1 : d = 0 ∨ d = 1 ∨ d = 2 ∨ d = 3 ∨ d = 4 := by omega
  have h2 : e = 0 ∨ e = 1 ∨ e = 2 ∨ e = 3 ∨ e = 4 := by omega
  rcases h1 with rfl | rfl | rfl | rfl | rfl <;> rcases h2 with rfl | rfl | rfl | rfl | rfl <;> rfl
theorem part_1 {N u d e : Nat} {h : HI} {g : HL} (hu : u ≤ 1) (hd : d < sz u) (he : e < sz u) : pX8_partBoth N (nI u) (nI d) (nI e) (nI 1) h g = some (nI (jnL max 1 u d e), h, g) := by
  have : u = 0 ∨ u = 1 := by omega
  rcases this with rfl | rfl
  · have z : sz 0 = 2 := rfl
    rw [z] at hd he
    have h1 : d = 0 ∨ d = 1 := by omega
    have h2 : e = 0 ∨ e = 1 := by omega
    rcases h1 with rfl | rfl <;> rcases h2 with rfl | rfl <;> rfl
  · have z : sz 1 = 5 := rfl
    rw [z] at hd he
    show pX8_partBoth_0 N (nI 1) (nI d) (nI e) (nI 1) h g = _
    rw [pX8_partBoth_0, if_neg (by decide), near_1 hd he, obi_some]
theorem part_0 {N u d e : Nat} {h : HI} {g : HL} (hu : u ≤ 1) (hd : d < sz u) (he : e < sz u) : pX8_partBoth N (nI u) (nI d) (nI e) (nI 0) h g = some (nI (jnL min 1 u d e), h, g) := by
  have : u = 0 ∨ u = 1 := by omega
  rcases this with rfl | rfl
  · have z : sz 0 = 2 := rfl
    rw [z] at hd he
    have h1 : d = 0 ∨ d = 1 := by omega
    have h2 : e = 0 ∨ e = 1 := by omega
    rcases h1 with rfl | rfl <;> rcases h2 with rfl | rfl <;> rfl
  · have z : sz 1 = 5 := rfl
    rw [z] at hd he
    show pX8_partBoth_0 N (nI 1) (nI d) (nI e) (nI 0) h g = _
    rw [pX8_partBoth_0, if_neg (by decide), near_0 hd he, obi_some]
theorem joined_1 {N t d e : Nat} {h : HI} {g : HL} (ht : t ≤ 4) (hd : d < sz t) (he : e < sz t) : pX8_joined N (nI t) (nI d) (nI e) (nI 1) h g = some (nI (jn t d e), h, g) := by
  have s1 := sz_pos t
  have s2 := sz_pos (sOf t)
  show pX8_joined_0 N (nI t) (nI d) (nI e) (nI 1) h g = _
  unfold jn
  rw [jnL]
  by_cases c : d = 0 ∨ e = 0 ∨ t = 0
  · rw [if_pos c]
    have j12 : pX8_joined_12 N (nI d) (nI e) (nI 1) h g = some (nI (max d e), h, g) := by
      rw [pX8_joined_12]
      by_cases d0 : d = 0
      · subst d0
        rw [if_pos (by rfl), pX8_joined_20, if_neg (by decide), q_add, Nat.zero_max, Nat.zero_add]
      · rw [if_neg (nI_nz (by omega) d0)]
        by_cases e0 : e = 0
        · subst e0
          rw [if_pos (by rfl), pX8_joined_20, if_neg (by decide), q_add, Nat.max_zero, Nat.add_zero]
        · have t0 : t = 0 := by omega
          subst t0
          have z : sz 0 = 2 := rfl
          rw [z] at hd he
          have : d = 1 ∧ e = 1 := by omega
          rw [this.1, this.2, if_neg (by decide)]; rfl
    rw [pX8_joined_0]
    by_cases t0 : t = 0
    · rw [if_pos (by rw [t0]; rfl)]; exact j12
    · rw [if_neg (nI_nz (by omega) t0)]
      by_cases d0 : d = 0
      · rw [if_pos (by rw [d0]; rfl)]; exact j12
      · rw [if_neg (nI_nz (by omega) d0), if_pos (show nI e = 0 from by rw [show e = 0 by omega]; rfl)]; exact j12
  · have t0 : ¬ t = 0 := fun z => c (Or.inr (Or.inr z))
    have d0 : ¬ d = 0 := fun z => c (Or.inl z)
    have e0 : ¬ e = 0 := fun z => c (Or.inr (Or.inl z))
    obtain ⟨a1, a2⟩ := sz_split (by omega) ht (by omega) hd
    obtain ⟨b1, b2⟩ := sz_split (by omega) ht (by omega) he
    have f1 := fOf_le t
    have f2 := sOf_le t
    rw [if_neg c, pX8_joined_0, if_neg (nI_nz (by omega) t0), if_neg (nI_nz (by omega) d0), if_neg (nI_nz (by omega) e0), m_second ht, obi_some, m_demands (by omega), obi_some, m_first ht, obi_some, gd_t sz_ne, gd_t sz_ne, show nI d - 1 = nI (d - 1) from q_sub (b := 1) (by omega), show nI e - 1 = nI (e - 1) from q_sub (b := 1) (by omega), q_div (by omega) (by omega), q_div (by omega) (by omega), part_1 f1 a1 b1, obi_some, m_second ht, obi_some, gd_t sz_ne, gd_t sz_ne]
    rw [show nI (d - 1) - nI ((d - 1) / sz (sOf t)) * nI (sz (sOf t)) = nI ((d - 1) % sz (sOf t)) from by rw [← q_div (by omega) (by omega), q_mod (by omega) (by omega)], show nI (e - 1) - nI ((e - 1) / sz (sOf t)) * nI (sz (sOf t)) = nI ((e - 1) % sz (sOf t)) from by rw [← q_div (by omega) (by omega), q_mod (by omega) (by omega)], part_1 f2 a2 b2, obi_some, q_mul, show (1 : Int32) + nI (jnL max 1 (fOf t) ((d - 1) / sz (sOf t)) ((e - 1) / sz (sOf t)) * sz (sOf t)) = nI (1 + jnL max 1 (fOf t) ((d - 1) / sz (sOf t)) ((e - 1) / sz (sOf t)) * sz (sOf t)) from q_add 1 _, q_add]
theorem joined_0 {N t d e : Nat} {h : HI} {g : HL} (ht : t ≤ 4) (hd : d < sz t) (he : e < sz t) : pX8_joined N (nI t) (nI d) (nI e) (nI 0) h g = some (nI (me t d e), h, g) := by
  have s1 := sz_pos t
  have s2 := sz_pos (sOf t)
  show pX8_joined_0 N (nI t) (nI d) (nI e) (nI 0) h g = _
  unfold me
  rw [jnL]
  by_cases c : d = 0 ∨ e = 0 ∨ t = 0
  · rw [if_pos c]
    have j12 : pX8_joined_12 N (nI d) (nI e) (nI 0) h g = some (nI (min d e), h, g) := by
      rw [pX8_joined_12]
      by_cases d0 : d = 0
      · subst d0
        rw [if_pos (by rfl), pX8_joined_20, if_pos (by rfl), Nat.zero_min]; rfl
      · rw [if_neg (nI_nz (by omega) d0)]
        by_cases e0 : e = 0
        · subst e0
          rw [if_pos (by rfl), pX8_joined_20, if_pos (by rfl), Nat.min_zero]; rfl
        · have t0 : t = 0 := by omega
          subst t0
          have z : sz 0 = 2 := rfl
          rw [z] at hd he
          have : d = 1 ∧ e = 1 := by omega
          rw [this.1, this.2, if_neg (by decide)]; rfl
    rw [pX8_joined_0]
    by_cases t0 : t = 0
    · rw [if_pos (by rw [t0]; rfl)]; exact j12
    · rw [if_neg (nI_nz (by omega) t0)]
      by_cases d0 : d = 0
      · rw [if_pos (by rw [d0]; rfl)]; exact j12
      · rw [if_neg (nI_nz (by omega) d0), if_pos (show nI e = 0 from by rw [show e = 0 by omega]; rfl)]; exact j12
  · have t0 : ¬ t = 0 := fun z => c (Or.inr (Or.inr z))
    have d0 : ¬ d = 0 := fun z => c (Or.inl z)
    have e0 : ¬ e = 0 := fun z => c (Or.inr (Or.inl z))
    obtain ⟨a1, a2⟩ := sz_split (by omega) ht (by omega) hd
    obtain ⟨b1, b2⟩ := sz_split (by omega) ht (by omega) he
    have f1 := fOf_le t
    have f2 := sOf_le t
    rw [if_neg c, pX8_joined_0, if_neg (nI_nz (by omega) t0), if_neg (nI_nz (by omega) d0), if_neg (nI_nz (by omega) e0), m_second ht, obi_some, m_demands (by omega), obi_some, m_first ht, obi_some, gd_t sz_ne, gd_t sz_ne, show nI d - 1 = nI (d - 1) from q_sub (b := 1) (by omega), show nI e - 1 = nI (e - 1) from q_sub (b := 1) (by omega), q_div (by omega) (by omega), q_div (by omega) (by omega), part_0 f1 a1 b1, obi_some, m_second ht, obi_some, gd_t sz_ne, gd_t sz_ne]
    rw [show nI (d - 1) - nI ((d - 1) / sz (sOf t)) * nI (sz (sOf t)) = nI ((d - 1) % sz (sOf t)) from by rw [← q_div (by omega) (by omega), q_mod (by omega) (by omega)], show nI (e - 1) - nI ((e - 1) / sz (sOf t)) * nI (sz (sOf t)) = nI ((e - 1) % sz (sOf t)) from by rw [← q_div (by omega) (by omega), q_mod (by omega) (by omega)], part_0 f2 a2 b2, obi_some, q_mul, show (1 : Int32) + nI (jnL min 1 (fOf t) ((d - 1) / sz (sOf t)) ((e - 1) / sz (sOf t)) * sz (sOf t)) = nI (1 + jnL min 1 (fOf t) ((d - 1) / sz (sOf t)) ((e - 1) / sz (sOf t)) * sz (sOf t)) from q_add 1 _, q_add]
