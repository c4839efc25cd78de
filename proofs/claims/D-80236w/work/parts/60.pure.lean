/-! WHAT IS ASKED (plain), 3: rounds come to an end -/
abbrev Tb : Type := (Nat → Nat → Bool) × (Nat → Nat → Nat → Nat)
def inR (G : PG) (k0 nf g d : Nat) : Prop := k0 ≤ g ∧ g < k0 + nf ∧ 1 ≤ d ∧ d < sz (G 12 g)
/-- a function's row anew -/
def Fr (G : PG) (T : Tb) (g d : Nat) : Rw := rws G T.1 T.2 141 (G 13 g) d
def nrm (r : Rw) : Rw := (r.1, fun p => if r.1 = true then 0 else r.2 p)
def tup (G : PG) (T : Tb) (g d : Nat) : Tb := (fun a b => if a = g ∧ b = d then (Fr G T g d).1 else T.1 a b, fun a b p => if a = g ∧ b = d then (nrm (Fr G T g d)).2 p else T.2 a b p)
/-- whether it is another one -/
def chg (G : PG) (T : Tb) (g d : Nat) : Bool := !(decide ((Fr G T g d).1 = T.1 g d) && ((Fr G T g d).1 || decide (∀ p, p < G 10 g → (Fr G T g d).2 p = T.2 g d p)))
def inn (G : PG) : Nat → Nat → Nat → Tb × Bool → Tb × Bool
  | 0, _, _, s => s
  | r + 1, g, d, s => inn G r g (d + 1) (tup G s.1 g d, s.2 || chg G s.1 g d)
def out (G : PG) : Nat → Nat → Tb × Bool → Tb × Bool
  | 0, _, s => s
  | r + 1, g, s => out G r (g + 1) (inn G (sz (G 12 g) - 1) g 1 s)
def trnd (G : PG) (k0 nf : Nat) (T : Tb) : Tb × Bool := out G nf k0 (T, false)
def T0 : Tb := (fun _ _ => true, fun _ _ _ => 0)
/-- the tables behind n rounds -/
def Tn (G : PG) (k0 nf : Nat) : Nat → Tb
  | 0 => T0
  | n + 1 => (trnd G k0 nf (Tn G k0 nf n)).1
/-- all rows anew at once, n times -/
def Jn (G : PG) : Nat → Tb
  | 0 => T0
  | n + 1 => (fun g d => (Fr G (Jn G n) g d).1, fun g d p => (nrm (Fr G (Jn G n) g d)).2 p)
/-- entry (g, d) of the first asks no more than entry (g, d') of the second -/
def ele (G : PG) (T T' : Tb) (g d d' : Nat) : Prop := T'.1 g d' = true ∨ T.1 g d = false ∧ ∀ p, p < G 10 g → dle (G 14 (16 * g + p)) (T.2 g d p) (T'.2 g d' p)
def tL (G : PG) (k0 nf : Nat) (T T' : Tb) : Prop := tle G k0 nf T.1 T.2 T'.1 T'.2
theorem Fr_in {G : PG} {k0 nf : Nat} {T : Tb} {g d : Nat} (hP : pWF G k0 nf) (hv : tv G k0 nf T.2) (h : inR G k0 nf g d) : rin (tyN G (G 13 g)) (Fr G T g d) := by
  obtain ⟨h1, h2, h3, h4⟩ := h
  obtain ⟨-, -, -, -, jb, ob, yb, -⟩ := hP.2.2.1 g h1 h2
  exact rws_in hP hv 141 _ d jb h3 (by rw [yb]; exact h4)
theorem ty_body {G : PG} {k0 nf g : Nat} (hP : pWF G k0 nf) (h1 : k0 ≤ g) (h2 : g < k0 + nf) (p : Nat) : tyN G (G 13 g) p = G 14 (16 * g + p) := by
  obtain ⟨-, -, -, -, jb, ob, yb, -⟩ := hP.2.2.1 g h1 h2
  unfold tyN; rw [ob]
theorem Fr_mono {G : PG} {k0 nf : Nat} {T T' : Tb} {g d d' : Nat} (hP : pWF G k0 nf) (hv : tv G k0 nf T.2) (hv' : tv G k0 nf T'.2) (hT : tL G k0 nf T T') (h : inR G k0 nf g d) (h' : inR G k0 nf g d') (hd : dle (G 12 g) d d') : (Fr G T' g d').1 = true ∨ (Fr G T g d).1 = false ∧ ∀ p, p < G 10 g → dle (G 14 (16 * g + p)) ((nrm (Fr G T g d)).2 p) ((nrm (Fr G T' g d')).2 p) := by
  obtain ⟨h1, h2, h3, h4⟩ := h
  obtain ⟨-, -, h5, h6⟩ := h'
  obtain ⟨np, -, -, -, jb, ob, yb, -⟩ := hP.2.2.1 g h1 h2
  have := rws_mono hP hv hv' hT 141 (G 13 g) d d' jb h3 (by rw [yb]; exact h4) h5 (by rw [yb]; exact h6) (by rw [yb]; exact hd)
  rcases this with h | ⟨ha, hb⟩
  · exact Or.inl h
  · by_cases c : (Fr G T' g d').1 = true
    · exact Or.inl c
    · refine Or.inr ⟨ha, fun p hp => ?_⟩
      have := hb p (by omega)
      rw [ty_body hP h1 h2] at this
      show dle _ (if (Fr G T g d).1 = true then 0 else (Fr G T g d).2 p) (if (Fr G T' g d').1 = true then 0 else (Fr G T' g d').2 p)
      have ha' : (Fr G T g d).1 = false := ha
      rw [if_neg c, ha', if_neg (by decide)]
      exact this
theorem nrm_lt {G : PG} {k0 nf : Nat} {T : Tb} {g d p : Nat} (hP : pWF G k0 nf) (hv : tv G k0 nf T.2) (h : inR G k0 nf g d) (hp : p < G 10 g) : (nrm (Fr G T g d)).2 p < sz (G 14 (16 * g + p)) := by
  have h1 := Fr_in hP hv h
  have np := (hP.2.2.1 g h.1 h.2.1).1
  show (if (Fr G T g d).1 = true then 0 else (Fr G T g d).2 p) < _
  split
  · have := sz_pos (G 14 (16 * g + p)); omega
  · have := h1 p (by omega)
    rw [ty_body hP h.1 h.2.1] at this; exact this
theorem tv_T0 {G : PG} {k0 nf : Nat} : tv G k0 nf T0.2 := fun g _ _ d _ _ p _ => by have := sz_pos (G 14 (16 * g + p)); show 0 < _; omega
theorem tv_J {G : PG} {k0 nf : Nat} (hP : pWF G k0 nf) : ∀ n, tv G k0 nf (Jn G n).2 := by
  intro n
  induction n with
  | zero => exact tv_T0
  | succ n ih => exact fun g h1 h2 d h3 h4 p hp => nrm_lt hP ih ⟨h1, h2, h3, h4⟩ hp
theorem J_self {G : PG} {k0 nf : Nat} (hP : pWF G k0 nf) : ∀ n, tL G k0 nf (Jn G n) (Jn G n) := by
  intro n
  induction n with
  | zero => exact fun g _ _ d d' _ _ _ _ _ => Or.inl rfl
  | succ n ih => exact fun g h1 h2 d d' h3 h4 h5 h6 h7 => Fr_mono hP (tv_J hP n) (tv_J hP n) ih ⟨h1, h2, h3, h4⟩ ⟨h1, h2, h5, h6⟩ h7
theorem J_down {G : PG} {k0 nf : Nat} (hP : pWF G k0 nf) : ∀ n, tL G k0 nf (Jn G (n + 1)) (Jn G n) := by
  intro n
  induction n with
  | zero => exact fun g _ _ d d' _ _ _ _ _ => Or.inl rfl
  | succ n ih => exact fun g h1 h2 d d' h3 h4 h5 h6 h7 => Fr_mono hP (tv_J hP (n + 1)) (tv_J hP n) ih ⟨h1, h2, h3, h4⟩ ⟨h1, h2, h5, h6⟩ h7
/-- alike, as far as it matters -/
def eqv' (G : PG) (k0 nf : Nat) (T T' : Tb) : Prop := ∀ g d, inR G k0 nf g d → T.1 g d = T'.1 g d ∧ (T.1 g d = false → ∀ p, p < G 10 g → T.2 g d p = T'.2 g d p)
theorem eqv_of {G : PG} {k0 nf : Nat} {T T' : Tb} (hP : pWF G k0 nf) (hv : tv G k0 nf T.2) (hv' : tv G k0 nf T'.2) (h1 : tL G k0 nf T T') (h2 : tL G k0 nf T' T) : eqv' G k0 nf T T' := by
  intro g d h
  obtain ⟨a1, a2, a3, a4⟩ := h
  have b1 := h1 g a1 a2 d d a3 a4 a3 a4 dle.refl
  have b2 := h2 g a1 a2 d d a3 a4 a3 a4 dle.refl
  have np := (hP.2.2.1 g a1 a2).1
  have nt := (hP.2.2.1 g a1 a2).2.2.2.2.2.2.2.2.1
  have e1 : T.1 g d = T'.1 g d := by
    cases c : T.1 g d with
    | true =>
      rcases b1 with b | ⟨b, -⟩
      · exact b.symm
      · rw [c] at b; cases b
    | false =>
      rcases b2 with b | ⟨b, -⟩
      · rw [c] at b; cases b
      · exact b.symm
  refine ⟨e1, fun c p hp => ?_⟩
  rcases b1 with b | ⟨-, b⟩
  · rw [← e1, c] at b; cases b
  · rcases b2 with b' | ⟨-, b'⟩
    · rw [c] at b'; cases b'
    · exact dle.anti (by have := nt p (by omega); omega) (hv g a1 a2 d a3 a4 p hp) (hv' g a1 a2 d a3 a4 p hp) (b p hp) (b' p hp)
/-- the weight of an entry -/
def esum (G : PG) (T : Tb) (g d : Nat) : Nat → Nat
  | 0 => 0
  | n + 1 => esum G T g d n + emb (G 14 (16 * g + n)) (T.2 g d n)
def wt (G : PG) (T : Tb) (g d : Nat) : Nat := if T.1 g d = true then 1000 else esum G T g d (G 10 g)
theorem emb_le : ∀ t, t < 5 → ∀ d, d < sz t → emb t d ≤ 127 := by decide +kernel
theorem dle_emb {t d e : Nat} (h : dle t d e) : emb t d ≤ emb t e := by unfold dle at h; rw [← h]; exact Nat.and_le_right
theorem esum_le {G : PG} {T T' : Tb} {g d : Nat} : ∀ n, (∀ p, p < n → dle (G 14 (16 * g + p)) (T.2 g d p) (T'.2 g d p)) → esum G T g d n ≤ esum G T' g d n ∧ (esum G T g d n = esum G T' g d n → ∀ p, p < n → emb (G 14 (16 * g + p)) (T.2 g d p) = emb (G 14 (16 * g + p)) (T'.2 g d p)) := by
  intro n
  induction n with
  | zero => intro _; exact ⟨Nat.le_refl _, fun _ p hp => by omega⟩
  | succ n ih =>
    intro h
    obtain ⟨a1, a2⟩ := ih (fun p hp => h p (by omega))
    have h1 := dle_emb (h n (by omega))
    rw [esum, esum]
    refine ⟨by omega, fun e p hp => ?_⟩
    by_cases c : p = n
    · subst c; omega
    · exact a2 (by omega) p (by omega)
theorem esum_lt {G : PG} {k0 nf : Nat} {T : Tb} {g d : Nat} (hP : pWF G k0 nf) (hv : tv G k0 nf T.2) (h : inR G k0 nf g d) : ∀ n, n ≤ G 10 g → esum G T g d n ≤ 127 * n := by
  intro n
  have np := (hP.2.2.1 g h.1 h.2.1).1
  have nt := (hP.2.2.1 g h.1 h.2.1).2.2.2.2.2.2.2.2.1
  induction n with
  | zero => intro _; exact Nat.le_refl _
  | succ n ih =>
    intro hn
    have := ih (by omega)
    have := emb_le _ (show G 14 (16 * g + n) < 5 by have := nt n (by omega); omega) _ (hv g h.1 h.2.1 d h.2.2.1 h.2.2.2 n (by omega))
    rw [esum]; omega
theorem wt_le {G : PG} {k0 nf : Nat} {T T' : Tb} {g d : Nat} (hP : pWF G k0 nf) (hv : tv G k0 nf T.2) (hv' : tv G k0 nf T'.2) (h : inR G k0 nf g d) (he : ele G T T' g d d) : wt G T g d ≤ wt G T' g d ∧ (wt G T g d = wt G T' g d → T.1 g d = T'.1 g d ∧ (T.1 g d = false → ∀ p, p < G 10 g → T.2 g d p = T'.2 g d p)) := by
  have np := (hP.2.2.1 g h.1 h.2.1).1
  have nt := (hP.2.2.1 g h.1 h.2.1).2.2.2.2.2.2.2.2.1
  have l1 := esum_lt hP hv h (G 10 g) (Nat.le_refl _)
  have l2 := esum_lt hP hv' h (G 10 g) (Nat.le_refl _)
  unfold wt
  cases c' : T'.1 g d with
  | true =>
    rw [if_pos rfl]
    cases c : T.1 g d with
    | true => rw [if_pos rfl]; exact ⟨Nat.le_refl _, fun _ => ⟨rfl, fun q => by cases q⟩⟩
    | false => rw [if_neg (by decide)]; exact ⟨by omega, fun q => by omega⟩
  | false =>
    rcases he with he | ⟨he, hp⟩
    · rw [c'] at he; cases he
    · rw [he, if_neg (by decide), if_neg (by decide)]
      obtain ⟨a1, a2⟩ := esum_le (G 10 g) hp
      refine ⟨a1, fun e => ⟨rfl, fun _ p hp2 => ?_⟩⟩
      exact emb_inj _ (by have := nt p (by omega); omega) _ (hv g h.1 h.2.1 d h.2.2.1 h.2.2.2 p hp2) _ (hv' g h.1 h.2.1 d h.2.2.1 h.2.2.2 p hp2) (a2 e p hp2)
