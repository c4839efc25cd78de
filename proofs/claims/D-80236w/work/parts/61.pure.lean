/-! WHAT IS ASKED (plain), 4: rounds come to an end -/
def sm (f : Nat → Nat) : Nat → Nat
  | 0 => 0
  | n + 1 => sm f n + f n
theorem sm_le {f f' : Nat → Nat} : ∀ n, (∀ i, i < n → f i ≤ f' i) → sm f n ≤ sm f' n ∧ (sm f n = sm f' n → ∀ i, i < n → f i = f' i) := by
  intro n
  induction n with
  | zero => intro _; exact ⟨Nat.le_refl _, fun _ i hi => by omega⟩
  | succ n ih =>
    intro h
    obtain ⟨a1, a2⟩ := ih (fun i hi => h i (by omega))
    have h1 := h n (by omega)
    rw [sm, sm]
    refine ⟨by omega, fun e i hi => ?_⟩
    by_cases c : i = n
    · subst c; omega
    · exact a2 (by omega) i (by omega)
def tot (G : PG) (k0 nf : Nat) (T : Tb) : Nat := sm (fun g => sm (fun d => if k0 ≤ g ∧ g < k0 + nf ∧ 1 ≤ d ∧ d < sz (G 12 g) then wt G T g d else 0) 26) 24
theorem tot_le {G : PG} {k0 nf : Nat} {T T' : Tb} (hP : pWF G k0 nf) (hv : tv G k0 nf T.2) (hv' : tv G k0 nf T'.2) (h : tL G k0 nf T T') : tot G k0 nf T ≤ tot G k0 nf T' ∧ (tot G k0 nf T = tot G k0 nf T' → eqv' G k0 nf T T') := by
  have key : ∀ g d, (if k0 ≤ g ∧ g < k0 + nf ∧ 1 ≤ d ∧ d < sz (G 12 g) then wt G T g d else 0) ≤ (if k0 ≤ g ∧ g < k0 + nf ∧ 1 ≤ d ∧ d < sz (G 12 g) then wt G T' g d else 0) := fun g d => by
    by_cases c : k0 ≤ g ∧ g < k0 + nf ∧ 1 ≤ d ∧ d < sz (G 12 g)
    · rw [if_pos c, if_pos c]
      exact (wt_le hP hv hv' c (h g c.1 c.2.1 d d c.2.2.1 c.2.2.2 c.2.2.1 c.2.2.2 dle.refl)).1
    · rw [if_neg c, if_neg c]; exact Nat.le_refl _
  obtain ⟨a1, a2⟩ := sm_le (f := fun g => sm (fun d => if k0 ≤ g ∧ g < k0 + nf ∧ 1 ≤ d ∧ d < sz (G 12 g) then wt G T g d else 0) 26) (f' := fun g => sm (fun d => if k0 ≤ g ∧ g < k0 + nf ∧ 1 ≤ d ∧ d < sz (G 12 g) then wt G T' g d else 0) 26) 24 (fun g _ => (sm_le 26 (fun d _ => key g d)).1)
  refine ⟨a1, fun e g d hr => ?_⟩
  have g24 : g < 24 := by have := hP.1; have := hP.2.1; have := hr.1; have := hr.2.1; omega
  have d26 : d < 26 := by have := sz_pos (G 12 g); have := hr.2.2.2; omega
  have e1 := a2 e g g24
  have e2 := (sm_le 26 (fun d _ => key g d)).2 e1 d d26
  have hr' : k0 ≤ g ∧ g < k0 + nf ∧ 1 ≤ d ∧ d < sz (G 12 g) := hr
  rw [if_pos hr', if_pos hr'] at e2
  exact (wt_le hP hv hv' hr (h g hr.1 hr.2.1 d d hr.2.2.1 hr.2.2.2 hr.2.2.1 hr.2.2.2 dle.refl)).2 e2
theorem J_stop {G : PG} {k0 nf : Nat} (hP : pWF G k0 nf) : ∃ m, eqv' G k0 nf (Jn G (m + 1)) (Jn G m) := by
  have : ∀ W n, tot G k0 nf (Jn G n) ≤ W → ∃ m, eqv' G k0 nf (Jn G (m + 1)) (Jn G m) := by
    intro W
    induction W with
    | zero =>
      intro n hn
      obtain ⟨a1, a2⟩ := tot_le hP (tv_J hP (n + 1)) (tv_J hP n) (J_down hP n)
      exact ⟨n, a2 (by omega)⟩
    | succ W ih =>
      intro n hn
      obtain ⟨a1, a2⟩ := tot_le hP (tv_J hP (n + 1)) (tv_J hP n) (J_down hP n)
      by_cases c : tot G k0 nf (Jn G (n + 1)) = tot G k0 nf (Jn G n)
      · exact ⟨n, a2 c⟩
      · exact ih (n + 1) (by omega)
  exact this _ 0 (Nat.le_refl _)
theorem inn_ind {G : PG} {k0 nf : Nat} {P : Nat → Nat → Tb → Prop} (hs : ∀ g d T, inR G k0 nf g d → P g d T → P g (d + 1) (tup G T g d)) : ∀ (r g d : Nat) (s : Tb × Bool), k0 ≤ g → g < k0 + nf → 1 ≤ d → d + r = sz (G 12 g) → P g d s.1 → P g (sz (G 12 g)) (inn G r g d s).1 := by
  intro r
  induction r with
  | zero => intro g d s h1 h2 h3 h4 hp; rw [show d = sz (G 12 g) by omega] at hp; exact hp
  | succ r ih =>
    intro g d s h1 h2 h3 h4 hp
    rw [inn]
    exact ih g (d + 1) _ h1 h2 (by omega) (by omega) (hs g d s.1 ⟨h1, h2, h3, by omega⟩ hp)
theorem out_ind {G : PG} {k0 nf : Nat} {P : Nat → Nat → Tb → Prop} (hs : ∀ g d T, inR G k0 nf g d → P g d T → P g (d + 1) (tup G T g d)) (hg : ∀ g T, k0 ≤ g → g < k0 + nf → P g (sz (G 12 g)) T → P (g + 1) 1 T) : ∀ (r g : Nat) (s : Tb × Bool), k0 ≤ g → g + r = k0 + nf → P g 1 s.1 → P (k0 + nf) 1 (out G r g s).1 := by
  intro r
  induction r with
  | zero => intro g s h1 h2 hp; rw [show g = k0 + nf by omega] at hp; exact hp
  | succ r ih =>
    intro g s h1 h2 hp
    rw [out]
    have := sz_pos (G 12 g)
    exact ih (g + 1) _ (by omega) (by omega) (hg g _ h1 (by omega) (inn_ind hs _ g 1 s h1 (by omega) (Nat.le_refl _) (by omega) hp))
theorem trnd_ind {G : PG} {k0 nf : Nat} {P : Nat → Nat → Tb → Prop} (hs : ∀ g d T, inR G k0 nf g d → P g d T → P g (d + 1) (tup G T g d)) (hg : ∀ g T, k0 ≤ g → g < k0 + nf → P g (sz (G 12 g)) T → P (g + 1) 1 T) {T : Tb} (h : P k0 1 T) : P (k0 + nf) 1 (trnd G k0 nf T).1 := out_ind hs hg nf k0 (T, false) (Nat.le_refl _) rfl h
/-- nothing is another one: the flag stays -/
theorem trnd_flag {G : PG} {k0 nf : Nat} {P : Tb → Prop} (hs : ∀ g d T, inR G k0 nf g d → P T → P (tup G T g d) ∧ chg G T g d = false) {T : Tb} (h : P T) : (trnd G k0 nf T).2 = false := by
  have inn' : ∀ (r g d : Nat) (s : Tb × Bool), k0 ≤ g → g < k0 + nf → 1 ≤ d → d + r = sz (G 12 g) → P s.1 → s.2 = false → P (inn G r g d s).1 ∧ (inn G r g d s).2 = false := by
    intro r
    induction r with
    | zero => intro g d s h1 h2 h3 h4 hp hf; exact ⟨hp, hf⟩
    | succ r ih =>
      intro g d s h1 h2 h3 h4 hp hf
      rw [inn]
      obtain ⟨a1, a2⟩ := hs g d s.1 ⟨h1, h2, h3, by omega⟩ hp
      exact ih g (d + 1) _ h1 h2 (by omega) (by omega) a1 (by show (s.2 || chg G s.1 g d) = false; rw [hf, a2]; rfl)
  have out' : ∀ (r g : Nat) (s : Tb × Bool), k0 ≤ g → g + r = k0 + nf → P s.1 → s.2 = false → (out G r g s).2 = false := by
    intro r
    induction r with
    | zero => intro g s h1 h2 hp hf; exact hf
    | succ r ih =>
      intro g s h1 h2 hp hf
      rw [out]
      have := sz_pos (G 12 g)
      obtain ⟨a1, a2⟩ := inn' (sz (G 12 g) - 1) g 1 s h1 (by omega) (Nat.le_refl _) (by omega) hp hf
      exact ih (g + 1) _ (by omega) (by omega) a1 a2
  exact out' nf k0 (T, false) (Nat.le_refl _) rfl h rfl
theorem tv_tup {G : PG} {k0 nf : Nat} {T : Tb} {g d : Nat} (hP : pWF G k0 nf) (hv : tv G k0 nf T.2) (h : inR G k0 nf g d) : tv G k0 nf (tup G T g d).2 := by
  intro g' h1 h2 d' h3 h4 p hp
  show (if g' = g ∧ d' = d then (nrm (Fr G T g d)).2 p else T.2 g' d' p) < _
  by_cases c : g' = g ∧ d' = d
  · rw [if_pos c]
    obtain ⟨rfl, rfl⟩ := c
    exact nrm_lt hP hv h hp
  · rw [if_neg c]; exact hv g' h1 h2 d' h3 h4 p hp
theorem tup_ne {G : PG} {T : Tb} {g d a b : Nat} (c : ¬ (a = g ∧ b = d)) : (tup G T g d).1 a b = T.1 a b ∧ ∀ p, (tup G T g d).2 a b p = T.2 a b p := ⟨if_neg c, fun p => if_neg c⟩
theorem tup_at {G : PG} {T : Tb} {g d : Nat} : (tup G T g d).1 g d = (Fr G T g d).1 ∧ ∀ p, (tup G T g d).2 g d p = (nrm (Fr G T g d)).2 p := ⟨if_pos ⟨rfl, rfl⟩, fun p => if_pos ⟨rfl, rfl⟩⟩
/-- from below: a table that stands stays below -/
theorem low_tup {G : PG} {k0 nf m : Nat} {T : Tb} {g d : Nat} (hP : pWF G k0 nf) (hm : eqv' G k0 nf (Jn G (m + 1)) (Jn G m)) (hv : tv G k0 nf T.2) (h : inR G k0 nf g d) (hL : tL G k0 nf (Jn G m) T) : tL G k0 nf (Jn G m) (tup G T g d) := by
  intro g' h1 h2 d0 d' h3 h4 h5 h6 h7
  by_cases c : g' = g ∧ d' = d
  · obtain ⟨rfl, rfl⟩ := c
    rw [tup_at.1]
    obtain ⟨e1, e2⟩ := hm g' d0 ⟨h1, h2, h3, h4⟩
    rcases Fr_mono hP (tv_J hP m) hv hL ⟨h1, h2, h3, h4⟩ h h7 with q | ⟨q1, q2⟩
    · exact Or.inl q
    · have e1' : (Fr G (Jn G m) g' d0).1 = (Jn G m).1 g' d0 := e1
      refine Or.inr ⟨by rw [← e1']; exact q1, fun p hp => ?_⟩
      rw [tup_at.2]
      have := e2 q1 p hp
      rw [← this]
      exact q2 p hp
  · have := hL g' h1 h2 d0 d' h3 h4 h5 h6 h7
    rw [(tup_ne c).1]
    rcases this with q | ⟨q1, q2⟩
    · exact Or.inl q
    · exact Or.inr ⟨q1, fun p hp => by rw [(tup_ne c).2]; exact q2 p hp⟩
theorem ele.trans {G : PG} {A B C : Tb} {g a b c : Nat} (h1 : ele G A B g a b) (h2 : ele G B C g b c) : ele G A C g a c := by
  rcases h2 with h2 | ⟨h2, h3⟩
  · exact Or.inl h2
  · rcases h1 with h1 | ⟨h1, h4⟩
    · rw [h1] at h2; cases h2
    · exact Or.inr ⟨h1, fun p hp => (h4 p hp).trans (h3 p hp)⟩
/-- from above: behind n rounds no more is asked than all at once, n times -/
theorem up_trnd {G : PG} {k0 nf n : Nat} {T : Tb} (hP : pWF G k0 nf) (hv : tv G k0 nf T.2) (hU : tL G k0 nf T (Jn G n)) : tv G k0 nf (trnd G k0 nf T).1.2 ∧ tL G k0 nf (trnd G k0 nf T).1 (Jn G (n + 1)) := by
  have key := trnd_ind (G := G) (k0 := k0) (nf := nf) (P := fun g d T => tv G k0 nf T.2 ∧ tL G k0 nf T (Jn G n) ∧ ∀ g' d0, inR G k0 nf g' d0 → (g' < g ∨ g' = g ∧ d0 < d) → ∀ d', inR G k0 nf g' d' → dle (G 12 g') d0 d' → ele G T (Jn G (n + 1)) g' d0 d') (fun g d T h hp => ?_) (fun g T h1 h2 hp => ?_) (T := T) ⟨hv, hU, fun g' d0 h1 h2 => ?_⟩
  · refine ⟨key.1, fun g h1 h2 d d' h3 h4 h5 h6 h7 => ?_⟩
    exact key.2.2 g d ⟨h1, h2, h3, h4⟩ (Or.inl h2) d' ⟨h1, h2, h5, h6⟩ h7
  · obtain ⟨p1, p2, p3⟩ := hp
    have new : ∀ d', inR G k0 nf g d' → dle (G 12 g) d d' → ele G (tup G T g d) (Jn G (n + 1)) g d d' := fun d' hd' hle => by
      rcases Fr_mono hP p1 (tv_J hP n) p2 h hd' hle with q | ⟨q1, q2⟩
      · exact Or.inl q
      · exact Or.inr ⟨by rw [tup_at.1]; exact q1, fun p hp => by rw [tup_at.2]; exact q2 p hp⟩
    refine ⟨tv_tup hP p1 h, fun g' h1 h2 d0 d' h3 h4 h5 h6 h7 => ?_, fun g' d0 hi hc d' hd' hle => ?_⟩
    · by_cases c : g' = g ∧ d0 = d
      · obtain ⟨rfl, rfl⟩ := c
        have a1 := new d' ⟨h1, h2, h5, h6⟩ h7
        have a2 : ele G (Jn G (n + 1)) (Jn G n) g' d' d' := J_down hP n g' h1 h2 d' d' h5 h6 h5 h6 dle.refl
        exact a1.trans a2
      · rw [(tup_ne c).1]
        rcases p2 g' h1 h2 d0 d' h3 h4 h5 h6 h7 with q | ⟨q1, q2⟩
        · exact Or.inl q
        · exact Or.inr ⟨q1, fun p hp => by rw [(tup_ne c).2]; exact q2 p hp⟩
    · by_cases c : g' = g ∧ d0 = d
      · obtain ⟨rfl, rfl⟩ := c
        exact new d' hd' hle
      · rcases p3 g' d0 hi (by omega) d' hd' hle with q | ⟨q1, q2⟩
        · exact Or.inl q
        · exact Or.inr ⟨by rw [(tup_ne c).1]; exact q1, fun p hp => by rw [(tup_ne c).2]; exact q2 p hp⟩
  · obtain ⟨p1, p2, p3⟩ := hp
    refine ⟨p1, p2, fun g' d0 hi hc d' hd' hle => p3 g' d0 hi ?_ d' hd' hle⟩
    have := hi.2.2.1
    have h4 := hi.2.2.2
    by_cases c : g' = g
    · subst c; exact Or.inr ⟨rfl, h4⟩
    · exact Or.inl (by omega)
  · have := h1.1
    have := h1.2.2.1
    omega
/-- ROUNDS COME TO AN END -/
theorem rounds_end {G : PG} {k0 nf : Nat} (hP : pWF G k0 nf) : ∃ n, (trnd G k0 nf (Tn G k0 nf n)).2 = false := by
  obtain ⟨m, hm⟩ := J_stop hP
  have all : ∀ n, tv G k0 nf (Tn G k0 nf n).2 ∧ tL G k0 nf (Tn G k0 nf n) (Jn G n) ∧ tL G k0 nf (Jn G m) (Tn G k0 nf n) := by
    intro n
    induction n with
    | zero => exact ⟨tv_T0, fun g _ _ d d' _ _ _ _ _ => Or.inl rfl, fun g _ _ d d' _ _ _ _ _ => Or.inl rfl⟩
    | succ n ih =>
      obtain ⟨a1, a2, a3⟩ := ih
      obtain ⟨b1, b2⟩ := up_trnd hP a1 a2
      refine ⟨b1, b2, ?_⟩
      have := trnd_ind (G := G) (k0 := k0) (nf := nf) (P := fun _ _ T => tv G k0 nf T.2 ∧ tL G k0 nf (Jn G m) T) (fun g d T h hp => ⟨tv_tup hP hp.1 h, low_tup hP hm hp.1 h hp.2⟩) (fun g T _ _ hp => hp) (T := Tn G k0 nf n) ⟨a1, a3⟩
      exact this.2
  obtain ⟨a1, a2, a3⟩ := all m
  refine ⟨m, trnd_flag (P := fun T => tv G k0 nf T.2 ∧ tL G k0 nf T (Jn G m) ∧ tL G k0 nf (Jn G m) T) (fun g d T h hp => ?_) ⟨a1, a2, a3⟩⟩
  obtain ⟨p1, p2, p3⟩ := hp
  have np := (hP.2.2.1 g h.1 h.2.1).1
  have nt := (hP.2.2.1 g h.1 h.2.1).2.2.2.2.2.2.2.2.1
  refine ⟨⟨tv_tup hP p1 h, fun g' h1 h2 d0 d' h3 h4 h5 h6 h7 => ?_, low_tup hP hm p1 h p3⟩, ?_⟩
  · by_cases c : g' = g ∧ d0 = d
    · obtain ⟨rfl, rfl⟩ := c
      obtain ⟨e1, e2⟩ := hm g' d' ⟨h1, h2, h5, h6⟩
      have e1' : (Fr G (Jn G m) g' d').1 = (Jn G m).1 g' d' := e1
      rcases Fr_mono hP p1 (tv_J hP m) p2 h ⟨h1, h2, h5, h6⟩ h7 with q | ⟨q1, q2⟩
      · exact Or.inl (by rw [← e1']; exact q)
      · cases cd : (Jn G m).1 g' d' with
        | true => exact Or.inl rfl
        | false =>
          refine Or.inr ⟨by rw [tup_at.1]; exact q1, fun p hp => ?_⟩
          rw [tup_at.2]
          have := e2 (by rw [e1]; exact cd) p hp
          rw [← this]; exact q2 p hp
    · rw [(tup_ne c).1]
      rcases p2 g' h1 h2 d0 d' h3 h4 h5 h6 h7 with q | ⟨q1, q2⟩
      · exact Or.inl q
      · exact Or.inr ⟨q1, fun p hp => by rw [(tup_ne c).2]; exact q2 p hp⟩
  · -- the row anew is the row that is there
    obtain ⟨e1, e2⟩ := hm g d h
    have e1' : (Fr G (Jn G m) g d).1 = (Jn G m).1 g d := e1
    obtain ⟨v1, v2⟩ := eqv_of hP p1 (tv_J hP m) p2 p3 g d h
    have u1 := Fr_mono hP p1 (tv_J hP m) p2 h h dle.refl
    have u2 := Fr_mono hP (tv_J hP m) p1 p3 h h dle.refl
    have x1 : (Fr G T g d).1 = (Fr G (Jn G m) g d).1 := by
      cases c : (Fr G T g d).1 with
      | true =>
        rcases u1 with q | ⟨q, -⟩
        · exact q.symm
        · rw [c] at q; cases q
      | false =>
        rcases u2 with q | ⟨q, -⟩
        · rw [c] at q; cases q
        · exact q.symm
    have y1 : (Fr G T g d).1 = T.1 g d := by rw [x1, e1', v1]
    unfold chg
    rw [decide_eq_true y1]
    cases c : (Fr G T g d).1 with
    | true => rfl
    | false =>
      have : ∀ p, p < G 10 g → (Fr G T g d).2 p = T.2 g d p := by
        intro p hp
        have c' : (Fr G (Jn G m) g d).1 = false := by rw [← x1]; exact c
        rcases u1 with q | ⟨-, q1⟩
        · rw [c'] at q; cases q
        · rcases u2 with q | ⟨-, q2⟩
          · rw [c] at q; cases q
          · have w1 := dle.anti (by have := nt p (by omega); omega) (nrm_lt hP p1 h hp) (nrm_lt hP (tv_J hP m) h hp) (q1 p hp) (q2 p hp)
            have w2 := e2 c' p hp
            have w3 := v2 (by rw [← y1]; exact c) p hp
            have w4 : (nrm (Fr G T g d)).2 p = (Fr G T g d).2 p := by
              show (if (Fr G T g d).1 = true then 0 else (Fr G T g d).2 p) = _
              rw [c, if_neg (by decide)]
            rw [← w4, w1, w3]; exact w2
      rw [decide_eq_true this]; rfl
