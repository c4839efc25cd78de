/-! RUNS, 15: a whole run -/
def fg (h : HI) : HI := up2 (up2 (up2 (up2 (up2 (up2 (up2 (up2 (up2 (up2 h 101 4 0) 101 7 0) 101 9 0) 101 10 0) 101 11 0) 101 13 0) 101 14 0) 101 15 0) 101 16 0) 101 19 0
theorem fg_o {h : HI} {a k : Nat} (q : ¬ a = 101) : fg h a k = h a k := by
  unfold fg; rw [up2_ne q, up2_ne q, up2_ne q, up2_ne q, up2_ne q, up2_ne q, up2_ne q, up2_ne q, up2_ne q, up2_ne q]
theorem fg_eq {N R : Nat} {F : Frm} {h : HI} {g : HL} : ppX7_forget N R F h g = some (fg h, g) := rfl
def rh (h : HI) (lim ty np : Nat) : HI := up2 (up2 (up2 (up2 (fg h) 101 12 (nI lim)) 101 18 (nI ty)) 101 19 (nI np)) 101 21 0
theorem rh_o {h : HI} {lim ty np a k : Nat} (q : ¬ a = 101) : rh h lim ty np a k = h a k := by
  unfold rh; rw [up2_ne q, up2_ne q, up2_ne q, up2_ne q, fg_o q]
theorem cr_0 {N R fo lim ty np : Nat} {x2 : Int32} {F : Frm} {h : HI} {g : HL} (hfo : 160 ≤ fo) (o1 : F.2.1 fo = (18, 0)) (h3 : h fo 3 = nI ty) (h1 : h fo 1 = nI np) : ppX7_run N R F fo x2 (nI lim) 113 114 h g = pX7_run_33 N R N F fo x2 113 114 (nI 0) (rh h lim ty np) g := by
  show pX7_run_0 N R F fo x2 (nI lim) 113 114 h g = _
  have e3 : up2 (fg h) 101 12 (nI lim) fo 3 = nI ty := by rw [up2_ne (by omega), fg_o (by omega)]; exact h3
  have e1 : up2 (up2 (fg h) 101 12 (nI lim)) 101 18 (nI ty) fo 1 = nI np := by rw [up2_ne (by omega), up2_ne (by omega), fg_o (by omega)]; exact h1
  rw [pX7_run_0, fg_eq, obv_some, bnd_eq, o1, gd_t (decide_eq_true rfl), bnd_eq, e3, bnd_eq, e1, bnd_eq]
  rfl
/-- the end of a run: ended is 1 if nothing else ended it -/
def hE (h : HI) : HI := if h 101 16 = 0 then up2 h 101 16 1 else h
theorem cr_end {N R q fo np b : Nat} {x2 v : Int32} {F F1 F2 : Frm} {h h1 h2 : HI} {g : HL} (hnp : np ≤ 4) (o1 : F.2.1 fo = (18, 0)) (e1 : h fo 1 = nI np) (o6 : F.2.2 fo 6 = some b) (E1 : ppX7_work N R F b 0 (up2 (up2 h 101 10 (h 101 4)) 101 11 (h 101 7)) g = some (.inl (v, F1, h1, g))) (E2 : ppX7_ask N R F1 v (h1 101 18) x2 (up2 h1 101 17 v) g = some (.inl ((), F2, h2, g))) :
    pX7_run_33 N R (q + 1) F fo x2 113 114 (nI np) h g = some (.inl (hE h2 101 16, F2, hE h2, g)) := by
  have E1' : ppX7_work N R F b 0 (up2 (up2 h 101 10 (h 101 4)) 101 11 (up2 h 101 10 (h 101 4) 101 7)) g = some (.inl (v, F1, h1, g)) := E1
  have E2' : ppX7_ask N R F1 (up2 h1 101 17 v 101 17) (up2 h1 101 17 v 101 18) x2 (up2 h1 101 17 v) g = some (.inl ((), F2, h2, g)) := by rw [up2_eq]; exact E2
  rw [pX7_run_33, o1, gd_t (decide_eq_true rfl), e1, if_pos (by rw [q_le (by omega) (by omega)]; exact Nat.le_refl _), bnd_eq, bnd_eq, o6, ob1_some, E1', ogi_l, bnd_eq, E2', ogv_l]
  show obv (pX7_ends_0 N R F2 1 h2 g) _ = _
  rw [pX7_ends_0]
  unfold hE
  by_cases c : h2 101 16 = 0
  · rw [if_pos c, if_pos c, bnd_eq, obv_some]
  · rw [if_neg c, if_neg c, bnd_eq, obv_some, up2_self]
def mi (m : HI) (x1 : Int32) (lim : Nat) : HI := up2 (up2 (up2 (up2 (up2 (up2 (up2 (up2 (up2 (up2 (up2 (up2 m 115 55 0) 115 67 0) 115 68 0) 115 69 0) 115 70 0) 115 71 (nI lim)) 115 72 0) 115 73 0) 115 74 0) 115 75 x1) 115 82 0) 115 36 0
theorem mi_o {m : HI} {x1 : Int32} {lim a k : Nat} (q : ¬ a = 115) : mi m x1 lim a k = m a k := by
  unfold mi; rw [up2_ne q, up2_ne q, up2_ne q, up2_ne q, up2_ne q, up2_ne q, up2_ne q, up2_ne q, up2_ne q, up2_ne q, up2_ne q, up2_ne q]
theorem mi_f {m : HI} {x1 : Int32} {lim k : Nat} (q : ¬ (k = 36 ∨ k = 55 ∨ 67 ≤ k)) : mi m x1 lim 115 k = m 115 k := by
  unfold mi; rw [up2_nj (by omega), up2_nj (by omega), up2_nj (by omega), up2_nj (by omega), up2_nj (by omega), up2_nj (by omega), up2_nj (by omega), up2_nj (by omega), up2_nj (by omega), up2_nj (by omega), up2_nj (by omega), up2_nj (by omega)]
theorem goes_stop {N q en : Nat} {m : HI} {g : HL} (h : m 115 36 = nI 0 ∨ m 115 74 = nI en ∧ ¬ en = 0 ∧ en ≤ 5) : pX8_goes_0 N (q + 1) m g = some (m, g) := by
  rw [pX8_goes_0]
  rcases h with h | ⟨h1, h2, h3⟩
  · rw [h, if_pos (show nI 0 ≤ 0 by decide)]
  · rw [if_neg (show ¬ m 115 74 = 0 from by rw [h1]; exact nI_ne (b := 0) (by omega) (by omega) h2)]
    split <;> rfl
theorem gto.goes {m m' : HI} {en : Nat} (H : gto m m') (h : m' 115 36 = nI 0 ∨ m' 115 74 = nI en ∧ ¬ en = 0 ∧ en ≤ 5) : ∃ B, ∀ N, B ≤ N → ∀ g, pX8_goes N m g = some (m', g) := by
  obtain ⟨k, hk⟩ := H
  refine ⟨k + 8, fun N hN g => ?_⟩
  show pX8_goes_0 N N m g = _
  obtain ⟨q, hq⟩ : ∃ q, N = (q + 1) + k := ⟨N - 1 - k, by omega⟩
  have := hk N (by omega) (q + 1) g
  rw [← hq] at this
  rw [this]; exact goes_stop h
/-- the model's end of a run -/
def mE (m : HI) : HI := up2 m 115 76 (if m 115 74 = 0 then 1 else m 115 74)
theorem mr_317 {N : Nat} {m : HI} {g : HL} : pX8_run_317 N m g = some (mE m 115 76, mE m, g) := by
  rw [pX8_run_317]
  unfold mE
  by_cases c : m 115 74 = 0
  · rw [if_pos c, if_pos c]; rfl
  · rw [if_neg c, if_neg c]; rfl
theorem mr_end {N q f np b lim : Nat} {x1 x2 i : Int32} {m m1 : HI} {g : HL} (hnp : np ≤ 4) (hf : f < 24) (h0 : m 119 f = nI np) (h1 : m 121 f = nI b) (E1 : pX8_goes N (tk (mi m x1 lim) 0 (nI 1) (nI b) (nI 0)) g = some (m1, g)) :
    pX8_run_144 N (q + 1) x1 x2 (nI lim) (nI f) i (nI np) m g = (if m1 115 74 = 0 then obv (pX8_demand N (m1 118 f) x2 (up2 (up2 m1 115 79 (m1 115 77)) 115 80 (m1 115 78)) g) fun h19 g20 => obv (pX8_goes N h19 g20) fun h21 g22 => pX8_run_317 N h21 g22 else pX8_run_317 N (up2 (up2 m1 115 79 (m1 115 77)) 115 80 (m1 115 78)) g) := by
  have e1 : mi m x1 lim 121 f = nI b := by rw [mi_o (by decide)]; exact h1
  have ev : vin (nI f) 24 = true := by rw [q_vin (by omega)]; exact decide_eq_true hf
  have hx : ix (nI f) = f := q_ix (by omega)
  have et : pX8_task N 1 (nI b) 0 (mi m x1 lim) g = some (tk (mi m x1 lim) 0 (nI 1) (nI b) (nI 0), g) := tk_eq rfl (by decide)
  rw [pX8_run_144, gd_t ev, hx, h0, if_pos (by rw [q_le (by omega) (by omega)]; exact Nat.le_refl _), bnd_eq, bnd_eq, bnd_eq, bnd_eq, bnd_eq, bnd_eq, bnd_eq, bnd_eq, bnd_eq, bnd_eq, bnd_eq, bnd_eq, gd_t ev]
  show obv (pX8_task N 1 (mi m x1 lim 121 f) 0 (mi m x1 lim) g) _ = _
  rw [e1, et, obv_some, E1, obv_some, bnd_eq, bnd_eq, gd_t ev]
  rfl
