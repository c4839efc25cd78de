/-! DEMANDS: the component's together and either; the model's row operations -/
theorem i_max {a b : Nat} (ha : a < 2147483648) (hb : b < 2147483648) : (if nI a < nI b then nI b else nI a) = nI (max a b) := by
  have zz := q_lt ha hb
  by_cases c : a < b
  · rw [if_pos (by rw [zz]; exact c), Nat.max_eq_right (by omega)]
  · rw [if_neg (by rw [zz]; exact c), Nat.max_eq_left (by omega)]
theorem i_min {a b : Nat} (ha : a < 2147483648) (hb : b < 2147483648) : (if nI b < nI a then nI b else nI a) = nI (min a b) := by
  have zz := q_lt hb ha
  by_cases c : b < a
  · rw [if_pos (by rw [zz]; exact c), Nat.min_eq_right (by omega)]
  · rw [if_neg (by rw [zz]; exact c), Nat.min_eq_left (by omega)]
theorem tog_L {N R : Nat} : ∀ (L t d e r : Nat), lv L t → d < sz t → e < sz t → L + 1 ≤ r → ∀ (F : Frm) (h : HI) (g : HL), (tie2 N R r) F (nI t) (nI d) (nI e) h g = some (nI (jnL max L t d e), h, g) := by
  intro L
  induction L with
  | zero =>
    intro t d e r hl hd he hr F h g
    have t0 : t = 0 := by unfold lv at hl; omega
    have s1 := sz_pos t
    obtain ⟨r, rfl⟩ : ∃ r0, r = r0 + 1 := ⟨r - 1, by omega⟩
    show pX1_together_0 N R (tie2 N R r) F (nI t) (nI d) (nI e) h g = _
    rw [jnL, pX1_together_0, i_max (by omega) (by omega)]
    split
    · rfl
    · split
      · rfl
      · rw [if_pos (by rw [t0]; rfl)]; rfl
  | succ L ih =>
    intro t d e r hl hd he hr F h g
    have t4 : t ≤ 4 := by unfold lv at hl; omega
    have s1 := sz_pos t
    obtain ⟨r, rfl⟩ : ∃ r0, r = r0 + 1 := ⟨r - 1, by omega⟩
    show pX1_together_0 N R (tie2 N R r) F (nI t) (nI d) (nI e) h g = _
    rw [jnL, pX1_together_0, i_max (by omega) (by omega)]
    by_cases d0 : d = 0
    · rw [if_pos (by rw [d0]; rfl), if_pos (Or.inl d0)]; rfl
    · rw [if_neg (nI_nz (by omega) d0)]
      by_cases e0 : e = 0
      · rw [if_pos (by rw [e0]; rfl), if_pos (Or.inr (Or.inl e0))]; rfl
      · rw [if_neg (nI_nz (by omega) e0)]
        by_cases t0 : t = 0
        · rw [if_pos (by rw [t0]; rfl), if_pos (Or.inr (Or.inr t0))]; rfl
        · obtain ⟨l1, l2, t1, -⟩ := lv_step hl t0
          obtain ⟨a1, a2⟩ := sz_split t1 t4 (by omega) hd
          obtain ⟨b1, b2⟩ := sz_split t1 t4 (by omega) he
          rw [if_neg (nI_nz (by omega) t0), if_neg (by omega), c_left t1 t4, obi_some, c_first t1 t4 (by omega) (by omega), obi_some, c_first t1 t4 (by omega) (by omega), obi_some, ih _ _ _ r l1 a1 b1 (by omega), obi_some, c_right t1 t4, obi_some, c_second t1 t4 (by omega) (by omega), obi_some, c_second t1 t4 (by omega) (by omega), obi_some, ih _ _ _ r l2 a2 b2 (by omega), obi_some, c_both t1 t4, obi_some]
theorem c_tog {N R t d e : Nat} {F : Frm} {h : HI} {g : HL} (ht : t ≤ 4) (hd : d < sz t) (he : e < sz t) (hR : 3 ≤ R) : ppX1_together N R F (nI t) (nI d) (nI e) h g = some (nI (jn t d e), h, g) := tog_L 2 t d e R (by unfold lv; omega) hd he hR F h g
theorem eit_L {N R : Nat} : ∀ (L t d e r : Nat), lv L t → d < sz t → e < sz t → L + 1 ≤ r → ∀ (F : Frm) (h : HI) (g : HL), (tie1 N R r) F (nI t) (nI d) (nI e) h g = some (nI (jnL min L t d e), h, g) := by
  intro L
  induction L with
  | zero =>
    intro t d e r hl hd he hr F h g
    have t0 : t = 0 := by unfold lv at hl; omega
    have s1 := sz_pos t
    obtain ⟨r, rfl⟩ : ∃ r0, r = r0 + 1 := ⟨r - 1, by omega⟩
    show pX1_either_0 N R (tie1 N R r) F (nI t) (nI d) (nI e) h g = _
    rw [jnL, pX1_either_0, i_min (by omega) (by omega)]
    split
    · rfl
    · split
      · rfl
      · rw [if_pos (by rw [t0]; rfl)]; rfl
  | succ L ih =>
    intro t d e r hl hd he hr F h g
    have t4 : t ≤ 4 := by unfold lv at hl; omega
    have s1 := sz_pos t
    obtain ⟨r, rfl⟩ : ∃ r0, r = r0 + 1 := ⟨r - 1, by omega⟩
    show pX1_either_0 N R (tie1 N R r) F (nI t) (nI d) (nI e) h g = _
    rw [jnL, pX1_either_0, i_min (by omega) (by omega)]
    by_cases d0 : d = 0
    · rw [if_pos (by rw [d0]; rfl), if_pos (Or.inl d0)]; rfl
    · rw [if_neg (nI_nz (by omega) d0)]
      by_cases e0 : e = 0
      · rw [if_pos (by rw [e0]; rfl), if_pos (Or.inr (Or.inl e0))]; rfl
      · rw [if_neg (nI_nz (by omega) e0)]
        by_cases t0 : t = 0
        · rw [if_pos (by rw [t0]; rfl), if_pos (Or.inr (Or.inr t0))]; rfl
        · obtain ⟨l1, l2, t1, -⟩ := lv_step hl t0
          obtain ⟨a1, a2⟩ := sz_split t1 t4 (by omega) hd
          obtain ⟨b1, b2⟩ := sz_split t1 t4 (by omega) he
          rw [if_neg (nI_nz (by omega) t0), if_neg (by omega), c_left t1 t4, obi_some, c_first t1 t4 (by omega) (by omega), obi_some, c_first t1 t4 (by omega) (by omega), obi_some, ih _ _ _ r l1 a1 b1 (by omega), obi_some, c_right t1 t4, obi_some, c_second t1 t4 (by omega) (by omega), obi_some, c_second t1 t4 (by omega) (by omega), obi_some, ih _ _ _ r l2 a2 b2 (by omega), obi_some, c_both t1 t4, obi_some]
theorem c_eit {N R t d e : Nat} {F : Frm} {h : HI} {g : HL} (ht : t ≤ 4) (hd : d < sz t) (he : e < sz t) (hR : 3 ≤ R) : ppX1_either N R F (nI t) (nI d) (nI e) h g = some (nI (me t d e), h, g) := eit_L 2 t d e R (by unfold lv; omega) hd he hR F h g
