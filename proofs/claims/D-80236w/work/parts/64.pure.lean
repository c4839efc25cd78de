/-! WHAT IS ASKED, by the model: rows join -/
def b01 (b : Bool) : Nat := if b = true then 1 else 0
theorem b01_le (b : Bool) : b01 b ≤ 1 := by unfold b01; split <;> omega
theorem b01_0 {b : Bool} : b01 b = 0 ↔ b = false := by unfold b01; cases b <;> simp
/-- row w of the model is r -/
def mR (m : HI) (w : Nat) (r : Rw) : Prop := m 142 w = nI (b01 r.1) ∧ ∀ k, k < 16 → m 141 (16 * w + k) = nI (r.2 k)
/-- a row of demands of those types, of nm names -/
def rin' (ty : Nat → Nat) (nm : Nat) (r : Rw) : Prop := (∀ k, k < 16 → r.2 k < sz (ty k)) ∧ ∀ k, nm ≤ k → r.2 k = 0
/-- the function at hand, as the model has it -/
def mF (m : HI) (f nm : Nat) (ty : Nat → Nat) : Prop := m 115 33 = nI f ∧ f < 24 ∧ nm ≤ 16 ∧ m 120 f = nI nm ∧ ∀ k, k < nm → m 123 (16 * f + k) = nI (ty k)
def jop (al : Nat) (ty : Nat → Nat) (r s : Rw) : Rw := if al = 0 then er ty r s else jr ty r s
theorem jop_2 {al : Nat} {ty : Nat → Nat} {r s : Rw} {k : Nat} : (jop al ty r s).2 k = if al = 0 then (if r.1 = true then s.2 k else if s.1 = true then r.2 k else me (ty k) (r.2 k) (s.2 k)) else jn (ty k) (r.2 k) (s.2 k) := by
  unfold jop; split <;> rfl
theorem jop_1 {al : Nat} {ty : Nat → Nat} {r s : Rw} : (jop al ty r s).1 = if al = 0 then (r.1 && s.1) else (r.1 || s.1) := by
  unfold jop; split <;> rfl
theorem join_step {N q w k al f nm : Nat} {ty : Nat → Nat} {r s : Rw} {m : HI} {g : HL} (hal : al ≤ 1) (hF : mF m f nm ty) (ht : ∀ k, k < 16 → ty k ≤ 4) (hk : k < nm) (hw : w + 1 < 500) (ir : rin' ty nm r) (is : rin' ty nm s) (hr : m 141 (16 * w + k) = nI (r.2 k)) (hs : m 141 (16 * (w + 1) + k) = nI (s.2 k)) :
    pX8_join_26 N (q + 1) (nI (16 * w)) (nI al) (nI (b01 r.1)) (nI (b01 s.1)) (nI k) m g = pX8_join_26 N q (nI (16 * w)) (nI al) (nI (b01 r.1)) (nI (b01 s.1)) (nI (k + 1)) (up2 m 141 (16 * w + k) (nI ((jop al ty r s).2 k))) g := by
  obtain ⟨f1, f2, f3, f4, f5⟩ := hF
  have h1 := b01_le r.1
  have h2 := b01_le s.1
  have i1 := ir.1 k (by omega)
  have i2 := is.1 k (by omega)
  have tk := ht k (by omega)
  have hx1 : ix (nI f) = f := q_ix (by omega)
  have hs' : m 141 (16 * w + 16 + k) = nI (s.2 k) := by rw [show 16 * w + 16 + k = 16 * (w + 1) + k by omega]; exact hs
  have e123 : ∀ v, pX8_join_123 N (pX8_join_26 N q) (nI (16 * w)) (nI al) (nI (b01 r.1)) (nI (b01 s.1)) (nI k) (nI (16 * w + k)) v m g = pX8_join_26 N q (nI (16 * w)) (nI al) (nI (b01 r.1)) (nI (b01 s.1)) (nI (k + 1)) (up2 m 141 (16 * w + k) v) g := fun v => by
    rw [pX8_join_123, q_vin (by omega), decide_eq_true (show 16 * w + k < 8000 by omega), gd_true, bnd_eq, bnd_eq, show ix (nI (16 * w + k)) = 16 * w + k from q_ix (by omega), show nI k + 1 = nI (k + 1) from q_add k 1]
  have e100 : pX8_join_100 N (pX8_join_26 N q) (nI (16 * w)) (nI al) (nI (b01 r.1)) (nI (b01 s.1)) (nI k) (nI (r.2 k)) (nI (s.2 k)) (nI (16 * w + k)) m g = pX8_join_26 N q (nI (16 * w)) (nI al) (nI (b01 r.1)) (nI (b01 s.1)) (nI (k + 1)) (up2 m 141 (16 * w + k) (nI (if al = 0 then me (ty k) (r.2 k) (s.2 k) else jn (ty k) (r.2 k) (s.2 k)))) g := by
    rw [pX8_join_100, f1, show (16 : Int32) * nI f + nI k = nI (16 * f + k) from by rw [show (16 : Int32) * nI f = nI (16 * f) from q_mul 16 f, q_add], q_vin (by omega), decide_eq_true (show 16 * f + k < 384 by omega), gd_true, show ix (nI (16 * f + k)) = 16 * f + k from q_ix (by omega), f5 k hk]
    have : al = 0 ∨ al = 1 := by omega
    rcases this with rfl | rfl
    · rw [joined_0 tk i1 i2, obi_some, e123]; rfl
    · rw [joined_1 tk i1 i2, obi_some, e123]; rfl
  rw [pX8_join_26, f1, q_vin (by omega), decide_eq_true f2, gd_true, hx1, f4, if_neg (by rw [q_le (by omega) (by omega)]; omega), q_add, q_vin (by omega), decide_eq_true (show 16 * w + k < 8000 by omega), gd_true, bnd_eq, show ix (nI (16 * w + k)) = 16 * w + k from q_ix (by omega), hr, show nI (16 * w) + 16 + nI k = nI (16 * w + 16 + k) from by rw [show nI (16 * w) + 16 = nI (16 * w + 16) from q_add _ 16, q_add], q_vin (by omega), decide_eq_true (show 16 * w + 16 + k < 8000 by omega), gd_true, bnd_eq, show ix (nI (16 * w + 16 + k)) = 16 * w + 16 + k from q_ix (by omega), hs', jop_2]
  have : al = 0 ∨ al = 1 := by omega
  rcases this with rfl | rfl
  · rw [if_pos (show nI 0 = 0 from rfl), if_pos rfl]
    by_cases c : r.1 = true
    · rw [if_neg (nI_nz (by omega) (by rw [b01_0]; rw [c]; decide)), e123, if_pos c]
    · have c0 : b01 r.1 = 0 := by rw [b01_0]; cases h : r.1; rfl; exact absurd h c
      rw [if_pos (show nI (b01 r.1) = 0 from by rw [c0]; rfl), pX8_join_86, if_pos (show nI 0 = 0 from rfl), if_neg c]
      by_cases c2 : s.1 = true
      · rw [if_neg (nI_nz (by omega) (by rw [b01_0]; rw [c2]; decide)), e123, if_pos c2]
      · have c3 : b01 s.1 = 0 := by rw [b01_0]; cases h : s.1; rfl; exact absurd h c2
        rw [if_pos (show nI (b01 s.1) = 0 from by rw [c3]; rfl), e100, if_neg c2, if_pos rfl]
  · rw [if_neg (show ¬ nI 1 = 0 by decide), if_neg (by decide), pX8_join_86, if_neg (show ¬ nI 1 = 0 by decide), e100, if_neg (by decide)]
theorem join_loop {w al f nm : Nat} {ty : Nat → Nat} {r s : Rw} (hal : al ≤ 1) (ht : ∀ k, k < 16 → ty k ≤ 4) (hw : w + 1 < 500) (ir : rin' ty nm r) (is : rin' ty nm s) : ∀ (i k : Nat), k + i = nm → ∀ (m : HI), mF m f nm ty → (∀ j, k ≤ j → j < nm → m 141 (16 * w + j) = nI (r.2 j)) → (∀ j, j < nm → m 141 (16 * (w + 1) + j) = nI (s.2 j)) →
    ∃ m', (∀ a c, ¬ (a = 142 ∧ c = w) → ¬ (a = 141 ∧ 16 * w + k ≤ c ∧ c < 16 * w + nm) → m' a c = m a c) ∧ m' 142 w = nI (b01 (jop al ty r s).1) ∧ (∀ j, k ≤ j → j < nm → m' 141 (16 * w + j) = nI ((jop al ty r s).2 j)) ∧ ∀ N q g, i < q → pX8_join_26 N q (nI (16 * w)) (nI al) (nI (b01 r.1)) (nI (b01 s.1)) (nI k) m g = some (m', g) := by
  intro i
  induction i with
  | zero =>
    intro k hk m hF h1 h2
    obtain ⟨f1, f2, f3, f4, f5⟩ := hF
    refine ⟨up2 m 142 w (nI (b01 (jop al ty r s).1)), fun a c q1 q2 => up2_o (by omega), up2_eq, fun j q1 q2 => by omega, fun N q g hq => ?_⟩
    obtain ⟨q, rfl⟩ : ∃ q0, q = q0 + 1 := ⟨q - 1, by omega⟩
    have hd : nI (16 * w) / 16 = nI w := by rw [show nI (16 * w) / 16 = nI (16 * w / 16) from q_div (b := 16) (by omega) (by omega)]; congr 1; omega
    have hv : vin (nI w) 500 = true := by rw [q_vin (by omega)]; exact decide_eq_true (by omega)
    have hx : ix (nI w) = w := q_ix (by omega)
    rw [pX8_join_26, f1, q_vin (by omega), decide_eq_true f2, gd_true, show ix (nI f) = f from q_ix (by omega), f4, if_pos (by rw [q_le (by omega) (by omega)]; omega), hd, gd_t hv, gd_t hv, hx, jop_1]
    have : al = 0 ∨ al = 1 := by omega
    rcases this with rfl | rfl
    · rw [if_pos (show nI 0 = 0 from rfl), if_pos rfl]
      cases c : r.1 with
      | false => rfl
      | true =>
        rw [if_neg (show ¬ nI (b01 true) = 0 by decide)]
        cases c2 : s.1 with
        | false => rfl
        | true => rfl
    · rw [if_neg (show ¬ nI 1 = 0 by decide), if_neg (show ¬ (1 : Nat) = 0 by decide)]
      cases c : r.1 with
      | true => rfl
      | false =>
        rw [if_pos (show nI (b01 false) = 0 from rfl)]
        cases c2 : s.1 with
        | false => rfl
        | true => rfl
  | succ i ih =>
    intro k hk m hF h1 h2
    have f3 := hF.2.2.1
    obtain ⟨m', a1, a2, a3, a4⟩ := ih (k + 1) (by omega) (up2 m 141 (16 * w + k) (nI ((jop al ty r s).2 k))) ⟨hF.1, hF.2.1, hF.2.2.1, hF.2.2.2.1, hF.2.2.2.2⟩ (fun j q1 q2 => by rw [up2_nj (by omega)]; exact h1 j (by omega) q2) (fun j q => by rw [up2_nj (by omega)]; exact h2 j q)
    refine ⟨m', fun a c q1 q2 => by rw [a1 a c q1 (by omega), up2_o (by omega)], a2, fun j q1 q2 => ?_, fun N q g hq => ?_⟩
    · by_cases e : j = k
      · subst e; rw [a1 _ _ (by omega) (by omega), up2_eq]
      · exact a3 j (by omega) q2
    · obtain ⟨q, rfl⟩ : ∃ q0, q = q0 + 1 := ⟨q - 1, by omega⟩
      rw [join_step hal hF ht (by omega) hw ir is (h1 k (Nat.le_refl _) (by omega)) (h2 k (by omega))]
      exact a4 N q g (by omega)
theorem join_ok {w al f nm : Nat} {ty : Nat → Nat} {r s : Rw} {m : HI} (hal : al ≤ 1) (ht : ∀ k, k < 16 → ty k ≤ 4) (hw : w + 1 < 500) (ir : rin' ty nm r) (is : rin' ty nm s) (hF : mF m f nm ty) (h1 : mR m w r) (h2 : mR m (w + 1) s) :
    ∃ m', (∀ a c, ¬ (a = 142 ∧ c = w) → ¬ (a = 141 ∧ 16 * w ≤ c ∧ c < 16 * w + 16) → m' a c = m a c) ∧ mR m' w (jop al ty r s) ∧ ∀ N, 64 ≤ N → ∀ g, pX8_join N (nI (16 * w)) (nI al) m g = some (m', g) := by
  have nm16 := hF.2.2.1
  obtain ⟨m', a1, a2, a3, a4⟩ := join_loop hal ht hw ir is nm 0 (by omega) m hF (fun j _ q => h1.2 j (by omega)) (fun j q => h2.2 j (by omega))
  refine ⟨m', fun a c q1 q2 => a1 a c q1 (by omega), ⟨a2, fun k hk => ?_⟩, fun N hN g => ?_⟩
  · by_cases c : k < nm
    · exact a3 k (Nat.zero_le _) c
    · rw [a1 _ _ (by omega) (by omega), h1.2 k hk, jop_2, ir.2 k (by omega), is.2 k (by omega)]
      congr 1
      split
      · split
        · rfl
        · split
          · rfl
          · unfold me; rw [jnL, if_pos (Or.inl rfl)]; rfl
      · rw [jn_0]
  · have hd : nI (16 * w) / 16 = nI w := by rw [show nI (16 * w) / 16 = nI (16 * w / 16) from q_div (b := 16) (by omega) (by omega)]; congr 1; omega
    have hv : vin (nI w) 500 = true := by rw [q_vin (by omega)]; exact decide_eq_true (by omega)
    have hv2 : vin (nI (w + 1)) 500 = true := by rw [q_vin (by omega)]; exact decide_eq_true (by omega)
    show pX8_join_0 N (nI (16 * w)) (nI al) m g = _
    rw [pX8_join_0, hd, gd_t hv, bnd_eq, show nI w + 1 = nI (w + 1) from q_add w 1, gd_t hv2, bnd_eq, show ix (nI w) = w from q_ix (by omega), show ix (nI (w + 1)) = w + 1 from q_ix (by omega), h1.1, h2.1]
    exact a4 N N g (by omega)
