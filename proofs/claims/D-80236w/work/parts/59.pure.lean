/-! WHAT IS ASKED (plain), 2: rows are monotone in tables and demands -/
def tv (G : PG) (k0 nf : Nat) (ta : Nat → Nat → Nat → Nat) : Prop := ∀ g, k0 ≤ g → g < k0 + nf → ∀ d, 1 ≤ d → d < sz (G 12 g) → ∀ p, p < G 10 g → ta g d p < sz (G 14 (16 * g + p))
theorem tyN_lt {G : PG} {k0 nf x : Nat} (hP : pWF G k0 nf) (hx : G 17 x = 1) : ∀ k, k < 16 → tyN G x k < 5 := fun k hk => by
  obtain ⟨h1, h2, -⟩ := hP.2.2.2 x hx
  have := (hP.2.2.1 _ h1 h2).2.2.2.2.2.2.2.2.1 k hk
  unfold tyN; omega
theorem tyN_sub {G : PG} {x y : Nat} (h : nSub G x y) : tyN G y = tyN G x := by unfold tyN; rw [h.2.1]
theorem nm16 {G : PG} {k0 nf x : Nat} (hP : pWF G k0 nf) (hx : G 17 x = 1) : G 16 x ≤ 16 := by
  obtain ⟨h1, h2, -, -, -, -, -, h8, -⟩ := hP.2.2.2 x hx
  have := (hP.2.2.1 _ h1 h2).2.2.1
  omega
theorem rws_in {G : PG} {k0 nf : Nat} {td : Nat → Nat → Bool} {ta : Nat → Nat → Nat → Nat} (hP : pWF G k0 nf) (hv : tv G k0 nf ta) : ∀ (L x d : Nat), G 17 x = 1 → 1 ≤ d → d < sz (G 4 x) → rin (tyN G x) (rws G td ta L x d) := by
  intro L
  induction L with
  | zero => intro x d _ _ _; exact rin_z0
  | succ L ih =>
    intro x d hx d1 d2
    have ht := tyN_lt hP hx
    obtain ⟨w0, w01, w4x, -, k1, k9, lh, w16, -, w1, w2, w3, w4, w5, w6, w7, w8, w9⟩ := hP.2.2.2 x hx
    have ih' : ∀ y e, nSub G x y → 1 ≤ e → e < sz (G 4 y) → rin (tyN G x) (rws G td ta L y e) := fun y e hs e1 e2 => by
      have := ih y e hs.1 e1 e2
      rw [tyN_sub hs] at this; exact this
    rw [rws]
    split
    · rename_i c
      obtain ⟨z1, z2, -, -, -, z6, z7, -⟩ := w1 c
      exact rin_jr ht (ih' _ _ z1 (Nat.le_refl _) (by rw [z6]; decide)) (ih' _ _ z2 (Nat.le_refl _) (by rw [z7]; decide))
    · split
      · rename_i c
        obtain ⟨z1, z2, z3, -, -, -, -, -, z6, z7, z8⟩ := w2 c
        exact rin_jr ht (ih' _ _ z1 (Nat.le_refl _) (by rw [z6]; decide)) (rin_er ht (ih' _ _ z2 d1 (by rw [z7]; exact d2)) (ih' _ _ z3 d1 (by rw [z8]; exact d2)))
      · split
        · rename_i c
          obtain ⟨z1, z2, z3, z4, z5, z6, z7, z8, z9, z10⟩ := w3 c
          have hB := ih' _ _ z2 d1 (by rw [z9]; exact d2)
          have c16 : G 3 x < 16 := by
            have := nm16 hP z1.1
            have := (hP.2.2.2 (G 1 x) z1.1).2.2.2.2.2.2.1
            omega
          split
          · exact hB
          · rename_i q
            refine rin_jr ht hB (ih' _ _ z1 (by omega) ?_)
            rw [z8]; exact hB _ c16
        · split
          · rename_i c
            obtain ⟨z1, z2, y1, y2, z3, z4, z5, z6, z7, z8, z9⟩ := w4 c
            have hB := ih' _ _ z2 d1 (by rw [z8]; exact d2)
            have c16 : G 3 x + 1 < 16 := by
              have := nm16 hP z2.1
              have := (hP.2.2.2 (G 2 x) z2.1).2.2.2.2.2.2.1
              omega
            have t4A := (hP.2.2.2 (G 1 x) z1.1).2.2.1
            split
            · exact hB
            · refine rin_jr ht hB (ih' _ _ z1 (by omega) (both_lt z5 t4A ?_ ?_))
              · rw [z6]; exact hB _ (by omega)
              · rw [z7]; exact hB _ (by omega)
          · split
            · exact rin_z0
            · split
              · exact fun k _ => by have := sz_pos (tyN G x k); show 0 < _; omega
              · split
                · rename_i c
                  obtain ⟨z1, z2, z3⟩ := w7 c
                  intro k hk
                  show (if k = G 1 x then d else 0) < _
                  split
                  · rename_i e; subst e
                    rw [show tyN G x (G 1 x) = G 4 x from z3.symm]; exact d2
                  · have := sz_pos (tyN G x k); omega
                · split
                  · rename_i c
                    obtain ⟨z1, z2, z3, z4, z5, z6, -⟩ := w8 c
                    split
                    · exact fun k _ => by have := sz_pos (tyN G x k); show 0 < _; omega
                    · refine rin_cgs ht _ _ _ rin_z0 (fun j _ h2 hj => ?_)
                      obtain ⟨y1, y2, y3⟩ := z6 j (by omega)
                      refine ih' _ _ y1 (by omega) ?_
                      rw [y3]; exact hv _ z1 z2 d d1 (by rw [← z5]; exact d2) j (by omega)
                  · rename_i c1 c2 c3 c4 c5 c6 c7 c8
                    have c9 : G 0 x = 9 := by omega
                    obtain ⟨z1, z2, y1, y2, -, z6, z7, z8⟩ := w9 c9
                    have yy : 1 ≤ G 4 x := by omega
                    obtain ⟨s1, s2⟩ := sz_split yy w4x d1 d2
                    have ff : fOf (G 4 x) = G 4 (G 1 x) ∧ sOf (G 4 x) = G 4 (G 2 x) := by
                      rw [z8]
                      have u1 : G 4 (G 1 x) = 0 ∨ G 4 (G 1 x) = 1 := by omega
                      have u2 : G 4 (G 2 x) = 0 ∨ G 4 (G 2 x) = 1 := by omega
                      rcases u1 with u1 | u1 <;> rcases u2 with u2 | u2 <;> rw [u1, u2] <;> decide
                    have hA : rin (tyN G x) (if (d - 1) / sz (sOf (G 4 x)) = 0 then z0 else rws G td ta L (G 1 x) ((d - 1) / sz (sOf (G 4 x)))) := by
                      split
                      · exact rin_z0
                      · rename_i q
                        exact ih' _ _ z1 (Nat.pos_of_ne_zero q) (by rw [← ff.1]; exact s1)
                    split
                    · exact hA
                    · rename_i q
                      exact rin_jr ht hA (ih' _ _ z2 (Nat.pos_of_ne_zero q) (by rw [← ff.2]; exact s2))
/-- tables: what the first asks by less, the second asks too by more -/
def tle (G : PG) (k0 nf : Nat) (td : Nat → Nat → Bool) (ta : Nat → Nat → Nat → Nat) (td' : Nat → Nat → Bool) (ta' : Nat → Nat → Nat → Nat) : Prop := ∀ g, k0 ≤ g → g < k0 + nf → ∀ d d', 1 ≤ d → d < sz (G 12 g) → 1 ≤ d' → d' < sz (G 12 g) → dle (G 12 g) d d' → td' g d' = true ∨ td g d = false ∧ ∀ p, p < G 10 g → dle (G 14 (16 * g + p)) (ta g d p) (ta' g d' p)
theorem rws_mono {G : PG} {k0 nf : Nat} {td td' : Nat → Nat → Bool} {ta ta' : Nat → Nat → Nat → Nat} (hP : pWF G k0 nf) (hv : tv G k0 nf ta) (hv' : tv G k0 nf ta') (hT : tle G k0 nf td ta td' ta') : ∀ (L x d d' : Nat), G 17 x = 1 → 1 ≤ d → d < sz (G 4 x) → 1 ≤ d' → d' < sz (G 4 x) → dle (G 4 x) d d' → rle (tyN G x) (rws G td ta L x d) (rws G td' ta' L x d') := by
  intro L
  induction L with
  | zero => intro x d d' _ _ _ _ _ _; exact rle.refl _
  | succ L ih =>
    intro x d d' hx d1 d2 d3 d4 dd
    have ht := tyN_lt hP hx
    obtain ⟨w0, w01, w4x, -, k1, k9, lh, w16, -, w1, w2, w3, w4, w5, w6, w7, w8, w9⟩ := hP.2.2.2 x hx
    have ih' : ∀ y e e', nSub G x y → 1 ≤ e → e < sz (G 4 y) → 1 ≤ e' → e' < sz (G 4 y) → dle (G 4 y) e e' → rle (tyN G x) (rws G td ta L y e) (rws G td' ta' L y e') := fun y e e' hs e1 e2 e3 e4 e5 => by
      have := ih y e e' hs.1 e1 e2 e3 e4 e5
      rw [tyN_sub hs] at this; exact this
    have inA : ∀ y e, nSub G x y → 1 ≤ e → e < sz (G 4 y) → rin (tyN G x) (rws G td ta L y e) := fun y e hs e1 e2 => by
      have := rws_in (td := td) hP hv L y e hs.1 e1 e2
      rw [tyN_sub hs] at this; exact this
    have inB : ∀ y e, nSub G x y → 1 ≤ e → e < sz (G 4 y) → rin (tyN G x) (rws G td' ta' L y e) := fun y e hs e1 e2 => by
      have := rws_in (td := td') hP hv' L y e hs.1 e1 e2
      rw [tyN_sub hs] at this; exact this
    rw [rws, rws]
    by_cases c1 : G 0 x = 1
    · rw [if_pos c1, if_pos c1]
      obtain ⟨z1, z2, -, -, -, z6, z7, -⟩ := w1 c1
      have s0 : (1 : Nat) < sz 0 := by decide
      exact jr_mono ht (inA _ _ z1 (Nat.le_refl _) (by rw [z6]; exact s0)) (inA _ _ z2 (Nat.le_refl _) (by rw [z7]; exact s0)) (inB _ _ z1 (Nat.le_refl _) (by rw [z6]; exact s0)) (inB _ _ z2 (Nat.le_refl _) (by rw [z7]; exact s0)) (ih' _ _ _ z1 (Nat.le_refl _) (by rw [z6]; exact s0) (Nat.le_refl _) (by rw [z6]; exact s0) dle.refl) (ih' _ _ _ z2 (Nat.le_refl _) (by rw [z7]; exact s0) (Nat.le_refl _) (by rw [z7]; exact s0) dle.refl)
    · rw [if_neg c1, if_neg c1]
      by_cases c2 : G 0 x = 2
      · rw [if_pos c2, if_pos c2]
        obtain ⟨z1, z2, z3, -, -, -, -, -, z6, z7, z8⟩ := w2 c2
        have s0 : (1 : Nat) < sz 0 := by decide
        have eB := ih' _ d d' z2 d1 (by rw [z7]; exact d2) d3 (by rw [z7]; exact d4) (by rw [z7]; exact dd)
        have eC := ih' _ d d' z3 d1 (by rw [z8]; exact d2) d3 (by rw [z8]; exact d4) (by rw [z8]; exact dd)
        have iB := inA _ d z2 d1 (by rw [z7]; exact d2)
        have iC := inA _ d z3 d1 (by rw [z8]; exact d2)
        have jB := inB _ d' z2 d3 (by rw [z7]; exact d4)
        have jC := inB _ d' z3 d3 (by rw [z8]; exact d4)
        exact jr_mono ht (inA _ _ z1 (Nat.le_refl _) (by rw [z6]; exact s0)) (rin_er ht iB iC) (inB _ _ z1 (Nat.le_refl _) (by rw [z6]; exact s0)) (rin_er ht jB jC) (ih' _ _ _ z1 (Nat.le_refl _) (by rw [z6]; exact s0) (Nat.le_refl _) (by rw [z6]; exact s0) dle.refl) (er_mono ht iB iC jB jC eB eC)
      · rw [if_neg c2, if_neg c2]
        by_cases c3 : G 0 x = 3
        · rw [if_pos c3, if_pos c3]
          obtain ⟨z1, z2, z3, z4, z5, z6, z7, z8, z9, z10⟩ := w3 c3
          have c16 : G 3 x < 16 := by
            have := nm16 hP z1.1
            have := (hP.2.2.2 (G 1 x) z1.1).2.2.2.2.2.2.1
            omega
          have eB := ih' _ d d' z2 d1 (by rw [z9]; exact d2) d3 (by rw [z9]; exact d4) (by rw [z9]; exact dd)
          have iB := inA _ d z2 d1 (by rw [z9]; exact d2)
          have jB := inB _ d' z2 d3 (by rw [z9]; exact d4)
          by_cases q' : (rws G td' ta' L (G 2 x) d').1 = true
          · left
            rw [if_pos (Or.inl q')]; exact q'
          · have hnd : (rws G td ta L (G 2 x) d).1 = false := by
              rcases eB with h | ⟨h, -⟩
              · exact absurd h q'
              · exact h
            have hle : ∀ k, k < 16 → dle (tyN G x k) ((rws G td ta L (G 2 x) d).2 k) ((rws G td' ta' L (G 2 x) d').2 k) := by
              rcases eB with h | ⟨-, h⟩
              · exact absurd h q'
              · exact h
            have hd' := hle _ c16
            by_cases q : (rws G td ta L (G 2 x) d).2 (G 3 x) = 0
            · rw [if_pos (Or.inr q)]
              by_cases q2 : (rws G td' ta' L (G 2 x) d').2 (G 3 x) = 0
              · rw [if_pos (Or.inr q2)]; exact eB
              · rw [if_neg (by intro h; rcases h with h | h; exact q' h; exact q2 h)]
                exact le_jr ht jB (inB _ _ z1 (Nat.pos_of_ne_zero q2) (by rw [z8]; exact jB _ c16)) eB
            · have q2 : ¬ (rws G td' ta' L (G 2 x) d').2 (G 3 x) = 0 := fun h => q (dle_nz _ (ht _ c16) _ (iB _ c16) _ (jB _ c16) hd' h)
              rw [if_neg (by intro h; rcases h with h | h; rw [hnd] at h; cases h; exact q h), if_neg (by intro h; rcases h with h | h; exact q' h; exact q2 h)]
              exact jr_mono ht iB (inA _ _ z1 (Nat.pos_of_ne_zero q) (by rw [z8]; exact iB _ c16)) jB (inB _ _ z1 (Nat.pos_of_ne_zero q2) (by rw [z8]; exact jB _ c16)) eB (ih' _ _ _ z1 (Nat.pos_of_ne_zero q) (by rw [z8]; exact iB _ c16) (Nat.pos_of_ne_zero q2) (by rw [z8]; exact jB _ c16) (by rw [z8]; exact hd'))
        · rw [if_neg c3, if_neg c3]
          by_cases c4 : G 0 x = 4
          · rw [if_pos c4, if_pos c4]
            obtain ⟨z1, z2, y1, y2, z3, z4, z5, z6, z7, z8, z9⟩ := w4 c4
            have c16 : G 3 x + 1 < 16 := by
              have := nm16 hP z2.1
              have := (hP.2.2.2 (G 2 x) z2.1).2.2.2.2.2.2.1
              omega
            have t4A := (hP.2.2.2 (G 1 x) z1.1).2.2.1
            have eB := ih' _ d d' z2 d1 (by rw [z8]; exact d2) d3 (by rw [z8]; exact d4) (by rw [z8]; exact dd)
            have iB := inA _ d z2 d1 (by rw [z8]; exact d2)
            have jB := inB _ d' z2 d3 (by rw [z8]; exact d4)
            by_cases q' : (rws G td' ta' L (G 2 x) d').1 = true
            · left
              rw [if_pos q']; exact q'
            · have hnd : (rws G td ta L (G 2 x) d).1 = false := by
                rcases eB with h | ⟨h, -⟩
                · exact absurd h q'
                · exact h
              have hle : ∀ k, k < 16 → dle (tyN G x k) ((rws G td ta L (G 2 x) d).2 k) ((rws G td' ta' L (G 2 x) d').2 k) := by
                rcases eB with h | ⟨-, h⟩
                · exact absurd h q'
                · exact h
              have a1 : (rws G td ta L (G 2 x) d).2 (G 3 x) < sz (fOf (G 4 (G 1 x))) := by rw [z6]; exact iB _ (by omega)
              have a2 : (rws G td ta L (G 2 x) d).2 (G 3 x + 1) < sz (sOf (G 4 (G 1 x))) := by rw [z7]; exact iB _ (by omega)
              have b1 : (rws G td' ta' L (G 2 x) d').2 (G 3 x) < sz (fOf (G 4 (G 1 x))) := by rw [z6]; exact jB _ (by omega)
              have b2 : (rws G td' ta' L (G 2 x) d').2 (G 3 x + 1) < sz (sOf (G 4 (G 1 x))) := by rw [z7]; exact jB _ (by omega)
              have l1 : dle (fOf (G 4 (G 1 x))) ((rws G td ta L (G 2 x) d).2 (G 3 x)) ((rws G td' ta' L (G 2 x) d').2 (G 3 x)) := by rw [z6]; exact hle _ (by omega)
              have l2 : dle (sOf (G 4 (G 1 x))) ((rws G td ta L (G 2 x) d).2 (G 3 x + 1)) ((rws G td' ta' L (G 2 x) d').2 (G 3 x + 1)) := by rw [z7]; exact hle _ (by omega)
              rw [if_neg (by rw [hnd]; decide), if_neg q']
              exact jr_mono ht iB (inA _ _ z1 (by omega) (both_lt z5 t4A a1 a2)) jB (inB _ _ z1 (by omega) (both_lt z5 t4A b1 b2)) eB (ih' _ _ _ z1 (by omega) (both_lt z5 t4A a1 a2) (by omega) (both_lt z5 t4A b1 b2) (both_mono z5 t4A a1 b1 a2 b2 l1 l2))
          · rw [if_neg c4, if_neg c4]
            by_cases c5 : G 0 x = 5
            · rw [if_pos c5, if_pos c5]; exact rle.refl _
            · rw [if_neg c5, if_neg c5]
              by_cases c6 : G 0 x = 6
              · rw [if_pos c6, if_pos c6]; exact rle.refl _
              · rw [if_neg c6, if_neg c6]
                by_cases c7 : G 0 x = 7
                · rw [if_pos c7, if_pos c7]
                  obtain ⟨z1, z2, z3⟩ := w7 c7
                  right
                  refine ⟨rfl, fun k hk => ?_⟩
                  show dle _ (if k = G 1 x then d else 0) (if k = G 1 x then d' else 0)
                  split
                  · rename_i e; subst e
                    rw [show tyN G x (G 1 x) = G 4 x from z3.symm]; exact dd
                  · exact dle.zero
                · rw [if_neg c7, if_neg c7]
                  by_cases c8 : G 0 x = 8
                  · rw [if_pos c8, if_pos c8]
                    obtain ⟨z1, z2, z3, z4, z5, z6, -⟩ := w8 c8
                    rw [z5] at d2 d4 dd
                    rcases hT _ z1 z2 d d' d1 d2 d3 d4 dd with h | ⟨h, hle⟩
                    · rw [if_pos h]; exact Or.inl rfl
                    · by_cases h' : td' (G 3 x) d' = true
                      · rw [if_pos h']; exact Or.inl rfl
                      · rw [if_neg (by rw [h]; decide), if_neg h']
                        refine cgs_mono ht _ _ _ _ rin_z0 rin_z0 (rle.refl _) (fun j _ h2 => ?_)
                        obtain ⟨y1, y2, y3⟩ := z6 j (by omega)
                        have v1 := hv _ z1 z2 d d1 d2 j (by omega)
                        have v2 := hv' _ z1 z2 d' d3 d4 j (by omega)
                        have t5 : G 14 (16 * G 3 x + j) < 5 := by have := (hP.2.2.1 _ z1 z2).2.2.2.2.2.2.2.2.1 j (by have := (hP.2.2.1 _ z1 z2).1; omega); omega
                        have hle2 := hle j (by omega)
                        have nz : ¬ ta (G 3 x) d j = 0 → ¬ ta' (G 3 x) d' j = 0 := fun q z => q (dle_nz _ t5 _ v1 _ v2 hle2 z)
                        refine ⟨fun z => Decidable.byContradiction (fun q => nz q z), fun q => inA _ _ y1 (Nat.pos_of_ne_zero q) (by rw [y3]; exact v1), fun q => inB _ _ y1 (Nat.pos_of_ne_zero q) (by rw [y3]; exact v2), fun q => ih' _ _ _ y1 (Nat.pos_of_ne_zero q) (by rw [y3]; exact v1) (Nat.pos_of_ne_zero (nz q)) (by rw [y3]; exact v2) (by rw [y3]; exact hle2)⟩
                  · rw [if_neg c8, if_neg c8]
                    have c9 : G 0 x = 9 := by omega
                    obtain ⟨z1, z2, y1, y2, -, z6, z7, z8⟩ := w9 c9
                    have yy : 1 ≤ G 4 x := by omega
                    obtain ⟨s1, s2⟩ := sz_split yy w4x d1 d2
                    obtain ⟨s3, s4⟩ := sz_split yy w4x d3 d4
                    obtain ⟨m1, m2⟩ := first_mono yy w4x d2 d4 d1 d3 dd
                    have ff : fOf (G 4 x) = G 4 (G 1 x) ∧ sOf (G 4 x) = G 4 (G 2 x) := by
                      rw [z8]
                      have u1 : G 4 (G 1 x) = 0 ∨ G 4 (G 1 x) = 1 := by omega
                      have u2 : G 4 (G 2 x) = 0 ∨ G 4 (G 2 x) = 1 := by omega
                      rcases u1 with u1 | u1 <;> rcases u2 with u2 | u2 <;> rw [u1, u2] <;> decide
                    have f5 : fOf (G 4 x) < 5 := by have := fOf_le (G 4 x); omega
                    have g5 : sOf (G 4 x) < 5 := by have := sOf_le (G 4 x); omega
                    have A0 : rin (tyN G x) (if (d - 1) / sz (sOf (G 4 x)) = 0 then z0 else rws G td ta L (G 1 x) ((d - 1) / sz (sOf (G 4 x)))) := by
                      split
                      · exact rin_z0
                      · rename_i q
                        exact inA _ _ z1 (Nat.pos_of_ne_zero q) (by rw [← ff.1]; exact s1)
                    have B0 : rin (tyN G x) (if (d' - 1) / sz (sOf (G 4 x)) = 0 then z0 else rws G td' ta' L (G 1 x) ((d' - 1) / sz (sOf (G 4 x)))) := by
                      split
                      · exact rin_z0
                      · rename_i q
                        exact inB _ _ z1 (Nat.pos_of_ne_zero q) (by rw [← ff.1]; exact s3)
                    have AB : rle (tyN G x) (if (d - 1) / sz (sOf (G 4 x)) = 0 then z0 else rws G td ta L (G 1 x) ((d - 1) / sz (sOf (G 4 x)))) (if (d' - 1) / sz (sOf (G 4 x)) = 0 then z0 else rws G td' ta' L (G 1 x) ((d' - 1) / sz (sOf (G 4 x)))) := by
                      by_cases q : (d - 1) / sz (sOf (G 4 x)) = 0
                      · rw [if_pos q]; exact rle.z0
                      · have q2 : ¬ (d' - 1) / sz (sOf (G 4 x)) = 0 := fun z => q (dle_nz _ f5 _ s1 _ s3 m1 z)
                        rw [if_neg q, if_neg q2]
                        exact ih' _ _ _ z1 (Nat.pos_of_ne_zero q) (by rw [← ff.1]; exact s1) (Nat.pos_of_ne_zero q2) (by rw [← ff.1]; exact s3) (by rw [← ff.1]; exact m1)
                    by_cases q : (d - 1) % sz (sOf (G 4 x)) = 0
                    · rw [if_pos q]
                      by_cases q2 : (d' - 1) % sz (sOf (G 4 x)) = 0
                      · rw [if_pos q2]; exact AB
                      · rw [if_neg q2]
                        exact le_jr ht B0 (inB _ _ z2 (Nat.pos_of_ne_zero q2) (by rw [← ff.2]; exact s4)) AB
                    · have q2 : ¬ (d' - 1) % sz (sOf (G 4 x)) = 0 := fun z => q (dle_nz _ g5 _ s2 _ s4 m2 z)
                      rw [if_neg q, if_neg q2]
                      exact jr_mono ht A0 (inA _ _ z2 (Nat.pos_of_ne_zero q) (by rw [← ff.2]; exact s2)) B0 (inB _ _ z2 (Nat.pos_of_ne_zero q2) (by rw [← ff.2]; exact s4)) AB (ih' _ _ _ z2 (Nat.pos_of_ne_zero q) (by rw [← ff.2]; exact s2) (Nat.pos_of_ne_zero q2) (by rw [← ff.2]; exact s4) (by rw [← ff.2]; exact m2))
