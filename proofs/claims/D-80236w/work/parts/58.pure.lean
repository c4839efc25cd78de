/-! WHAT IS ASKED (plain): the row of an expression, over tables of rows -/
abbrev Rw : Type := Bool × (Nat → Nat)
def z0 : Rw := (false, fun _ => 0)
def jr (ty : Nat → Nat) (r s : Rw) : Rw := (r.1 || s.1, fun k => jn (ty k) (r.2 k) (s.2 k))
def er (ty : Nat → Nat) (r s : Rw) : Rw := (r.1 && s.1, fun k => if r.1 = true then s.2 k else if s.1 = true then r.2 k else me (ty k) (r.2 k) (s.2 k))
/-- the arguments of a call, from k on: e what is asked of each, f what each asks then -/
def cgs (ty : Nat → Nat) (e : Nat → Nat) (f : Nat → Rw) : Nat → Nat → Rw → Rw
  | 0, _, acc => acc
  | r + 1, k, acc => if e k = 0 then cgs ty e f r (k + 1) acc else if acc.1 = true then acc else cgs ty e f r (k + 1) (jr ty acc (f k))
/-- types of the names of x's function -/
def tyN (G : PG) (x : Nat) : Nat → Nat := fun k => G 14 (16 * G 7 x + k)
def rws (G : PG) (td : Nat → Nat → Bool) (ta : Nat → Nat → Nat → Nat) : Nat → Nat → Nat → Rw
  | 0, _, _ => z0
  | L + 1, x, d =>
    if G 0 x = 1 then jr (tyN G x) (rws G td ta L (G 1 x) 1) (rws G td ta L (G 2 x) 1)
    else if G 0 x = 2 then jr (tyN G x) (rws G td ta L (G 1 x) 1) (er (tyN G x) (rws G td ta L (G 2 x) d) (rws G td ta L (G 3 x) d))
    else if G 0 x = 3 then (if (rws G td ta L (G 2 x) d).1 = true ∨ (rws G td ta L (G 2 x) d).2 (G 3 x) = 0 then rws G td ta L (G 2 x) d else jr (tyN G x) (rws G td ta L (G 2 x) d) (rws G td ta L (G 1 x) ((rws G td ta L (G 2 x) d).2 (G 3 x))))
    else if G 0 x = 4 then (if (rws G td ta L (G 2 x) d).1 = true then rws G td ta L (G 2 x) d else jr (tyN G x) (rws G td ta L (G 2 x) d) (rws G td ta L (G 1 x) (1 + (rws G td ta L (G 2 x) d).2 (G 3 x) * sz (sOf (G 4 (G 1 x))) + (rws G td ta L (G 2 x) d).2 (G 3 x + 1))))
    else if G 0 x = 5 then z0
    else if G 0 x = 6 then (true, fun _ => 0)
    else if G 0 x = 7 then (false, fun k => if k = G 1 x then d else 0)
    else if G 0 x = 8 then (if td (G 3 x) d = true then (true, fun _ => 0) else cgs (tyN G x) (fun k => ta (G 3 x) d k) (fun k => rws G td ta L (G 8 (G 1 x + k)) (ta (G 3 x) d k)) (G 2 x) 0 z0)
    else (if (d - 1) % sz (sOf (G 4 x)) = 0 then (if (d - 1) / sz (sOf (G 4 x)) = 0 then z0 else rws G td ta L (G 1 x) ((d - 1) / sz (sOf (G 4 x)))) else jr (tyN G x) (if (d - 1) / sz (sOf (G 4 x)) = 0 then z0 else rws G td ta L (G 1 x) ((d - 1) / sz (sOf (G 4 x)))) (rws G td ta L (G 2 x) ((d - 1) % sz (sOf (G 4 x)))))
/-- a row of demands of those types -/
def rin (ty : Nat → Nat) (r : Rw) : Prop := ∀ k, k < 16 → r.2 k < sz (ty k)
def rle (ty : Nat → Nat) (r s : Rw) : Prop := s.1 = true ∨ r.1 = false ∧ ∀ k, k < 16 → dle (ty k) (r.2 k) (s.2 k)
theorem rin_z0 {ty : Nat → Nat} : rin ty z0 := fun k _ => by have := sz_pos (ty k); show 0 < _; omega
theorem rin_jr {ty : Nat → Nat} {r s : Rw} (ht : ∀ k, k < 16 → ty k < 5) (h1 : rin ty r) (h2 : rin ty s) : rin ty (jr ty r s) := fun k hk => jn_lt (ht k hk) (h1 k hk) (h2 k hk)
theorem rin_er {ty : Nat → Nat} {r s : Rw} (ht : ∀ k, k < 16 → ty k < 5) (h1 : rin ty r) (h2 : rin ty s) : rin ty (er ty r s) := fun k hk => by
  show (if r.1 = true then s.2 k else if s.1 = true then r.2 k else me (ty k) (r.2 k) (s.2 k)) < _
  split
  · exact h2 k hk
  · split
    · exact h1 k hk
    · exact me_lt (ht k hk) (h1 k hk) (h2 k hk)
theorem rle.refl {ty : Nat → Nat} (r : Rw) : rle ty r r := by
  cases h : r.1 with
  | true => exact Or.inl h
  | false => exact Or.inr ⟨h, fun _ _ => dle.refl⟩
theorem rle.trans {ty : Nat → Nat} {a b c : Rw} (h1 : rle ty a b) (h2 : rle ty b c) : rle ty a c := by
  rcases h2 with h2 | ⟨h2, h3⟩
  · exact Or.inl h2
  · rcases h1 with h1 | ⟨h1, h4⟩
    · rw [h1] at h2; cases h2
    · exact Or.inr ⟨h1, fun k hk => (h4 k hk).trans (h3 k hk)⟩
theorem rle.z0 {ty : Nat → Nat} {r : Rw} : rle ty z0 r := by
  cases h : r.1 with
  | true => exact Or.inl h
  | false => exact Or.inr ⟨rfl, fun _ _ => dle.zero⟩
theorem jr_mono {ty : Nat → Nat} {r s r' s' : Rw} (ht : ∀ k, k < 16 → ty k < 5) (i1 : rin ty r) (i2 : rin ty s) (i3 : rin ty r') (i4 : rin ty s') (h1 : rle ty r r') (h2 : rle ty s s') : rle ty (jr ty r s) (jr ty r' s') := by
  rcases h1 with h1 | ⟨h1, h3⟩
  · left; show (r'.1 || s'.1) = true; rw [h1]; rfl
  · rcases h2 with h2 | ⟨h2, h4⟩
    · left; show (r'.1 || s'.1) = true; rw [h2, Bool.or_true]
    · right
      refine ⟨by show (r.1 || s.1) = false; rw [h1, h2]; rfl, fun k hk => jn_mono (ht k hk) (i1 k hk) (i2 k hk) (i3 k hk) (i4 k hk) (h3 k hk) (h4 k hk)⟩
theorem le_jr {ty : Nat → Nat} {r s r' : Rw} (ht : ∀ k, k < 16 → ty k < 5) (i3 : rin ty r') (i4 : rin ty s) (h1 : rle ty r r') : rle ty r (jr ty r' s) := by
  refine h1.trans ?_
  cases h : (jr ty r' s).1 with
  | true => exact Or.inl h
  | false =>
    right
    have h2 : (r'.1 || s.1) = false := h
    refine ⟨(Bool.or_eq_false_iff.mp h2).1, fun k hk => le_jn1 (ht k hk) (i3 k hk) (i4 k hk)⟩
theorem er_mono {ty : Nat → Nat} {r s r' s' : Rw} (ht : ∀ k, k < 16 → ty k < 5) (i1 : rin ty r) (i2 : rin ty s) (i3 : rin ty r') (i4 : rin ty s') (h1 : rle ty r r') (h2 : rle ty s s') : rle ty (er ty r s) (er ty r' s') := by
  have e1 : (er ty r s).1 = (r.1 && s.1) := rfl
  have e2 : (er ty r' s').1 = (r'.1 && s'.1) := rfl
  have e3 : ∀ k, (er ty r s).2 k = if r.1 = true then s.2 k else if s.1 = true then r.2 k else me (ty k) (r.2 k) (s.2 k) := fun _ => rfl
  have e4 : ∀ k, (er ty r' s').2 k = if r'.1 = true then s'.2 k else if s'.1 = true then r'.2 k else me (ty k) (r'.2 k) (s'.2 k) := fun _ => rfl
  rcases h1 with h1 | ⟨h1, h3⟩
  · rcases h2 with h2 | ⟨h2, h4⟩
    · left; rw [e2, h1, h2]; rfl
    · right
      refine ⟨by rw [e1, h2, Bool.and_false], fun k hk => ?_⟩
      rw [e3, e4, if_pos h1]
      split
      · exact h4 k hk
      · rw [h2, if_neg (by decide)]
        exact (me_le2 (ht k hk) (i1 k hk) (i2 k hk)).trans (h4 k hk)
  · rcases h2 with h2 | ⟨h2, h4⟩
    · cases hr : r'.1 with
      | true => left; rw [e2, hr, h2]; rfl
      | false =>
        right
        refine ⟨by rw [e1, h1]; rfl, fun k hk => ?_⟩
        rw [e4, hr, if_neg (by decide), if_pos h2, e3, h1, if_neg (by decide)]
        split
        · exact h3 k hk
        · exact (me_le1 (ht k hk) (i1 k hk) (i2 k hk)).trans (h3 k hk)
    · cases hr : r'.1 with
      | true =>
        cases hs : s'.1 with
        | true => left; rw [e2, hr, hs]; rfl
        | false =>
          right
          refine ⟨by rw [e1, h1]; rfl, fun k hk => ?_⟩
          rw [e4, if_pos hr, e3, h1, h2, if_neg (by decide), if_neg (by decide)]
          exact (me_le2 (ht k hk) (i1 k hk) (i2 k hk)).trans (h4 k hk)
      | false =>
        right
        refine ⟨by rw [e1, h1]; rfl, fun k hk => ?_⟩
        rw [e3, h1, h2, if_neg (by decide), if_neg (by decide), e4, hr, if_neg (by decide)]
        split
        · exact (me_le1 (ht k hk) (i1 k hk) (i2 k hk)).trans (h3 k hk)
        · exact me_mono (ht k hk) (i1 k hk) (i2 k hk) (i3 k hk) (i4 k hk) (h3 k hk) (h4 k hk)
theorem cgs_dead {ty : Nat → Nat} {e : Nat → Nat} {f : Nat → Rw} : ∀ (r k : Nat) (acc : Rw), acc.1 = true → (cgs ty e f r k acc).1 = true := by
  intro r
  induction r with
  | zero => intro k acc h; exact h
  | succ r ih =>
    intro k acc h
    rw [cgs]
    split
    · exact ih _ _ h
    · first
      | exact h
      | (rw [if_pos h]; exact h)
theorem rin_cgs {ty : Nat → Nat} {e : Nat → Nat} {f : Nat → Rw} (ht : ∀ k, k < 16 → ty k < 5) : ∀ (r k : Nat) (acc : Rw), rin ty acc → (∀ j, k ≤ j → j < k + r → ¬ e j = 0 → rin ty (f j)) → rin ty (cgs ty e f r k acc) := by
  intro r
  induction r with
  | zero => intro k acc h _; exact h
  | succ r ih =>
    intro k acc h hf
    rw [cgs]
    split
    · exact ih _ _ h (fun j h1 h2 => hf j (by omega) (by omega))
    · rename_i c
      split
      · exact h
      · exact ih _ _ (rin_jr ht h (hf k (Nat.le_refl _) (by omega) c)) (fun j h1 h2 => hf j (by omega) (by omega))
theorem cgs_mono {ty : Nat → Nat} {e e' : Nat → Nat} {f f' : Nat → Rw} (ht : ∀ k, k < 16 → ty k < 5) : ∀ (r k : Nat) (acc acc' : Rw), rin ty acc → rin ty acc' → rle ty acc acc' → (∀ j, k ≤ j → j < k + r → (e' j = 0 → e j = 0) ∧ (¬ e j = 0 → rin ty (f j)) ∧ (¬ e' j = 0 → rin ty (f' j)) ∧ (¬ e j = 0 → rle ty (f j) (f' j))) → rle ty (cgs ty e f r k acc) (cgs ty e' f' r k acc') := by
  intro r
  induction r with
  | zero => intro k acc acc' _ _ h _; exact h
  | succ r ih =>
    intro k acc acc' i1 i2 h hf
    by_cases hd : acc'.1 = true
    · exact Or.inl (cgs_dead (r + 1) k acc' hd)
    · have ha : ¬ acc.1 = true := by
        rcases h with h | ⟨h, -⟩
        · exact absurd h hd
        · rw [h]; decide
      obtain ⟨g1, g2, g3, g4⟩ := hf k (Nat.le_refl _) (by omega)
      rw [cgs, cgs]
      by_cases c : e k = 0
      · rw [if_pos c]
        by_cases c' : e' k = 0
        · rw [if_pos c']
          exact ih _ _ _ i1 i2 h (fun j h1 h2 => hf j (by omega) (by omega))
        · rw [if_neg c', if_neg hd]
          exact ih _ _ _ i1 (rin_jr ht i2 (g3 c')) (le_jr ht i2 (g3 c') h) (fun j h1 h2 => hf j (by omega) (by omega))
      · have c' : ¬ e' k = 0 := fun z => c (g1 z)
        rw [if_neg c, if_neg c', if_neg ha, if_neg hd]
        exact ih _ _ _ (rin_jr ht i1 (g2 c)) (rin_jr ht i2 (g3 c')) (jr_mono ht i1 (g2 c) i2 (g3 c') h (g4 c)) (fun j h1 h2 => hf j (by omega) (by omega))
