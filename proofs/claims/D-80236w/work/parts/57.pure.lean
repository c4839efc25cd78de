/-! DEMANDS (plain): a lattice, as sets of places that are asked for -/
def jnL (f : Nat → Nat → Nat) : Nat → Nat → Nat → Nat → Nat
  | 0, _, d, e => f d e
  | L + 1, t, d, e => if d = 0 ∨ e = 0 ∨ t = 0 then f d e else 1 + jnL f L (fOf t) ((d - 1) / sz (sOf t)) ((e - 1) / sz (sOf t)) * sz (sOf t) + jnL f L (sOf t) ((d - 1) % sz (sOf t)) ((e - 1) % sz (sOf t))
/-- together, either -/
def jn (t d e : Nat) : Nat := jnL max 2 t d e
def me (t d e : Nat) : Nat := jnL min 2 t d e
def emb1 (t d : Nat) : Nat := if d = 0 then 0 else if t = 0 then 1 else 1 + 2 * ((d - 1) / 2) + 4 * ((d - 1) % 2)
/-- the places that a demand asks for, as bits -/
def emb (t d : Nat) : Nat := if d = 0 then 0 else if t = 0 then 1 else 1 + 2 * emb1 (fOf t) ((d - 1) / sz (sOf t)) + 16 * emb1 (sOf t) ((d - 1) % sz (sOf t))
theorem jn_tab : ∀ t, t < 5 → ∀ d, d < sz t → ∀ e, e < sz t → emb t (jn t d e) = emb t d ||| emb t e ∧ jn t d e < sz t := by decide +kernel
theorem me_tab : ∀ t, t < 5 → ∀ d, d < sz t → ∀ e, e < sz t → emb t (me t d e) = emb t d &&& emb t e ∧ me t d e < sz t := by decide +kernel
theorem emb_inj : ∀ t, t < 5 → ∀ d, d < sz t → ∀ e, e < sz t → emb t d = emb t e → d = e := by decide +kernel
theorem emb_all : ∀ t, t < 5 → ∀ d, d < sz t → emb t d &&& emb t (sz t - 1) = emb t d := by decide +kernel
/-- less is asked -/
def dle (t d e : Nat) : Prop := emb t d &&& emb t e = emb t d
theorem dle_bit {t d e : Nat} : dle t d e ↔ ∀ b, (emb t d).testBit b = true → (emb t e).testBit b = true := by
  unfold dle
  constructor
  · intro h b hb
    rw [← h, Nat.testBit_and] at hb
    exact (Bool.and_eq_true_iff.mp hb).2
  · intro h
    apply Nat.eq_of_testBit_eq
    intro b
    rw [Nat.testBit_and]
    cases c : (emb t d).testBit b with
    | false => rfl
    | true => rw [h b c]; rfl
theorem dle.refl {t d : Nat} : dle t d d := dle_bit.mpr (fun _ h => h)
theorem dle.trans {t a b c : Nat} (h1 : dle t a b) (h2 : dle t b c) : dle t a c := dle_bit.mpr (fun x h => dle_bit.mp h2 x (dle_bit.mp h1 x h))
theorem dle.zero {t d : Nat} : dle t 0 d := by unfold dle emb; rw [if_pos rfl]; exact Nat.zero_and _
theorem dle.anti {t d e : Nat} (ht : t < 5) (hd : d < sz t) (he : e < sz t) (h1 : dle t d e) (h2 : dle t e d) : d = e := by
  apply emb_inj t ht d hd e he
  apply Nat.eq_of_testBit_eq
  intro b
  cases c : (emb t d).testBit b with
  | false =>
    cases c2 : (emb t e).testBit b with
    | false => rfl
    | true => rw [dle_bit.mp h2 b c2] at c; cases c
  | true => rw [dle_bit.mp h1 b c]
theorem jn_le {t d e f : Nat} (ht : t < 5) (hd : d < sz t) (he : e < sz t) (h1 : dle t d f) (h2 : dle t e f) : dle t (jn t d e) f := by
  refine dle_bit.mpr (fun b h => ?_)
  rw [(jn_tab t ht d hd e he).1, Nat.testBit_or] at h
  rcases Bool.or_eq_true_iff.mp h with h | h
  · exact dle_bit.mp h1 b h
  · exact dle_bit.mp h2 b h
theorem le_jn1 {t d e : Nat} (ht : t < 5) (hd : d < sz t) (he : e < sz t) : dle t d (jn t d e) := by
  refine dle_bit.mpr (fun b h => ?_)
  rw [(jn_tab t ht d hd e he).1, Nat.testBit_or, h]; rfl
theorem le_jn2 {t d e : Nat} (ht : t < 5) (hd : d < sz t) (he : e < sz t) : dle t e (jn t d e) := by
  refine dle_bit.mpr (fun b h => ?_)
  rw [(jn_tab t ht d hd e he).1, Nat.testBit_or, h, Bool.or_true]
theorem le_me {t d e f : Nat} (ht : t < 5) (hd : d < sz t) (he : e < sz t) (h1 : dle t f d) (h2 : dle t f e) : dle t f (me t d e) := by
  refine dle_bit.mpr (fun b h => ?_)
  rw [(me_tab t ht d hd e he).1, Nat.testBit_and, dle_bit.mp h1 b h, dle_bit.mp h2 b h]; rfl
theorem me_le1 {t d e : Nat} (ht : t < 5) (hd : d < sz t) (he : e < sz t) : dle t (me t d e) d := by
  refine dle_bit.mpr (fun b h => ?_)
  rw [(me_tab t ht d hd e he).1, Nat.testBit_and] at h
  exact (Bool.and_eq_true_iff.mp h).1
theorem me_le2 {t d e : Nat} (ht : t < 5) (hd : d < sz t) (he : e < sz t) : dle t (me t d e) e := by
  refine dle_bit.mpr (fun b h => ?_)
  rw [(me_tab t ht d hd e he).1, Nat.testBit_and] at h
  exact (Bool.and_eq_true_iff.mp h).2
theorem dle_all {t d : Nat} (ht : t < 5) (hd : d < sz t) : dle t d (sz t - 1) := emb_all t ht d hd
theorem jn_mono {t a b c d : Nat} (ht : t < 5) (ha : a < sz t) (hb : b < sz t) (hc : c < sz t) (hd : d < sz t) (h1 : dle t a c) (h2 : dle t b d) : dle t (jn t a b) (jn t c d) := jn_le ht ha hb (h1.trans (le_jn1 ht hc hd)) (h2.trans (le_jn2 ht hc hd))
theorem me_mono {t a b c d : Nat} (ht : t < 5) (ha : a < sz t) (hb : b < sz t) (hc : c < sz t) (hd : d < sz t) (h1 : dle t a c) (h2 : dle t b d) : dle t (me t a b) (me t c d) := le_me ht hc hd ((me_le1 ht ha hb).trans h1) ((me_le2 ht ha hb).trans h2)
theorem jn_0 {t d : Nat} : jn t d 0 = d := by unfold jn; rw [jnL, if_pos (Or.inr (Or.inl rfl))]; exact Nat.max_eq_left (Nat.zero_le _)
theorem jn_0l {t d : Nat} : jn t 0 d = d := by unfold jn; rw [jnL, if_pos (Or.inl rfl)]; exact Nat.max_eq_right (Nat.zero_le _)
theorem jn_assoc {t a b c : Nat} (ht : t < 5) (ha : a < sz t) (hb : b < sz t) (hc : c < sz t) : jn t (jn t a b) c = jn t a (jn t b c) := by
  have h1 := jn_tab t ht a ha b hb
  have h2 := jn_tab t ht b hb c hc
  have h3 := jn_tab t ht _ h1.2 c hc
  have h4 := jn_tab t ht a ha _ h2.2
  apply emb_inj t ht _ h3.2 _ h4.2
  rw [h3.1, h4.1, h1.1, h2.1, Nat.or_assoc]
theorem jn_lt {t d e : Nat} (ht : t < 5) (hd : d < sz t) (he : e < sz t) : jn t d e < sz t := (jn_tab t ht d hd e he).2
theorem me_lt {t d e : Nat} (ht : t < 5) (hd : d < sz t) (he : e < sz t) : me t d e < sz t := (me_tab t ht d hd e he).2
theorem first_tab : ∀ t, t < 4 → ∀ d, d < sz (t + 1) - 1 → ∀ e, e < sz (t + 1) - 1 → emb (t + 1) (d + 1) &&& emb (t + 1) (e + 1) = emb (t + 1) (d + 1) → (emb (fOf (t + 1)) (d / sz (sOf (t + 1))) &&& emb (fOf (t + 1)) (e / sz (sOf (t + 1))) = emb (fOf (t + 1)) (d / sz (sOf (t + 1)))) ∧ (emb (sOf (t + 1)) (d % sz (sOf (t + 1))) &&& emb (sOf (t + 1)) (e % sz (sOf (t + 1))) = emb (sOf (t + 1)) (d % sz (sOf (t + 1)))) := by decide +kernel
theorem first_mono {t d e : Nat} (h0 : 1 ≤ t) (ht : t ≤ 4) (hd : d < sz t) (he : e < sz t) (d0 : 1 ≤ d) (e0 : 1 ≤ e) (h : dle t d e) : dle (fOf t) ((d - 1) / sz (sOf t)) ((e - 1) / sz (sOf t)) ∧ dle (sOf t) ((d - 1) % sz (sOf t)) ((e - 1) % sz (sOf t)) := by
  have e1 : t - 1 + 1 = t := by omega
  have e2 : d - 1 + 1 = d := by omega
  have e3 : e - 1 + 1 = e := by omega
  have := first_tab (t - 1) (by omega) (d - 1) (by rw [e1]; omega) (e - 1) (by rw [e1]; omega)
  rw [e1, e2, e3] at this
  exact this h
theorem both_tab : ∀ t, t < 4 → ∀ a, a < sz (fOf (t + 1)) → ∀ c, c < sz (fOf (t + 1)) → ∀ b, b < sz (sOf (t + 1)) → ∀ d, d < sz (sOf (t + 1)) → (!(emb (fOf (t + 1)) a &&& emb (fOf (t + 1)) c == emb (fOf (t + 1)) a) || !(emb (sOf (t + 1)) b &&& emb (sOf (t + 1)) d == emb (sOf (t + 1)) b) || (emb (t + 1) (1 + a * sz (sOf (t + 1)) + b) &&& emb (t + 1) (1 + c * sz (sOf (t + 1)) + d) == emb (t + 1) (1 + a * sz (sOf (t + 1)) + b))) = true := by decide +kernel
theorem both_mono {t a b c d : Nat} (h0 : 1 ≤ t) (ht : t ≤ 4) (ha : a < sz (fOf t)) (hc : c < sz (fOf t)) (hb : b < sz (sOf t)) (hd : d < sz (sOf t)) (h1 : dle (fOf t) a c) (h2 : dle (sOf t) b d) : dle t (1 + a * sz (sOf t) + b) (1 + c * sz (sOf t) + d) := by
  have e1 : t - 1 + 1 = t := by omega
  have := both_tab (t - 1) (by omega) a (by rw [e1]; exact ha) c (by rw [e1]; exact hc) b (by rw [e1]; exact hb) d (by rw [e1]; exact hd)
  rw [e1] at this
  unfold dle at *
  rw [h1, h2] at this
  simp only [beq_self_eq_true, Bool.not_true, Bool.false_or, beq_iff_eq] at this
  exact this
theorem both_lt {t a b : Nat} (h1 : 1 ≤ t) (h4 : t ≤ 4) (ha : a < sz (fOf t)) (hb : b < sz (sOf t)) : 1 + a * sz (sOf t) + b < sz t := by
  rcases t4 h4 with rfl | rfl | rfl | rfl | rfl
  · omega
  · have e : sz 1 = 5 ∧ sz (sOf 1) = 2 ∧ sz (fOf 1) = 2 := by decide
    rw [e.1, e.2.1]; rw [e.2.1] at hb; rw [e.2.2] at ha; omega
  · have e : sz 2 = 11 ∧ sz (sOf 2) = 5 ∧ sz (fOf 2) = 2 := by decide
    rw [e.1, e.2.1]; rw [e.2.1] at hb; rw [e.2.2] at ha; omega
  · have e : sz 3 = 11 ∧ sz (sOf 3) = 2 ∧ sz (fOf 3) = 5 := by decide
    rw [e.1, e.2.1]; rw [e.2.1] at hb; rw [e.2.2] at ha; omega
  · have e : sz 4 = 26 ∧ sz (sOf 4) = 5 ∧ sz (fOf 4) = 5 := by decide
    rw [e.1, e.2.1]; rw [e.2.1] at hb; rw [e.2.2] at ha; omega
theorem dle_nz : ∀ t, t < 5 → ∀ d, d < sz t → ∀ e, e < sz t → dle t d e → e = 0 → d = 0 := by unfold dle; decide +kernel
