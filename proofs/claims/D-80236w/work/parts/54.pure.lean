/-! RUNS, 14: the beginning of a run -/
def invf (K : Nat → Nat) : Nat → Nat → Nat
  | 0, _ => 0
  | n + 1, c => if K n = 2 ∧ cnt K n = c then n else invf K n c
theorem invf_ok {K : Nat → Nat} : ∀ (n c : Nat), c < cnt K n → K (invf K n c) = 2 ∧ cnt K (invf K n c) = c ∧ invf K n c < n := by
  intro n
  induction n with
  | zero => intro c h; rw [cnt] at h; omega
  | succ n ih =>
    intro c h
    rw [cnt] at h
    rw [invf]
    by_cases q : K n = 2 ∧ cnt K n = c
    · rw [if_pos q]; exact ⟨q.1, q.2, by omega⟩
    · rw [if_neg q]
      have : c < cnt K n := by
        by_cases q2 : K n = 2
        · rw [if_pos q2] at h
          have : ¬ cnt K n = c := fun e => q ⟨q2, e⟩
          omega
        · rw [if_neg q2] at h; omega
      obtain ⟨a1, a2, a3⟩ := ih c this
      exact ⟨a1, a2, by omega⟩
theorem invf_eq {K : Nat → Nat} {n k : Nat} (h : K k = 2) (hk : k < n) : invf K n (cnt K k) = k := by
  obtain ⟨a1, a2, a3⟩ := invf_ok n (cnt K k) (cnt_lt hk h)
  by_cases c : invf K n (cnt K k) < k
  · have := cnt_lt c a1; omega
  · by_cases c2 : k < invf K n (cnt K k)
    · have := cnt_lt c2 h; omega
    · omega
/-- the ghost at the beginning of a run -/
def w0 (K : Nat → Nat) (n f np : Nat) (TY E : Nat → Nat) : PG := fun a k => if a = 0 then 1500 + invf K n k else if a = 1 then TY k else if a = 2 then TY (invf K n k) else if a = 3 then f else if a = 4 then (if k < np then 1 else 0) else E (invf K n k)
theorem RC.start {G : PG} {K : Nat → Nat} {V : Nat → Int32} {n f np : Nat} {TY E st : Nat → Nat} {F : Frm} {h m : HI} (hn : n ≤ 40) (hK : ∀ k, K k ≤ 2) (hnp : np ≤ 4) (hI : ∀ k, k < n → iOK K n n TY E k) (hs : ∀ q, q < np → st q < n ∧ TY (st q) = G 14 (16 * f + q)) (L1 : laidC K V E 0 n h) (L2 : laidM K V E 0 n m) (h1 : ∀ q, q < np → h 108 q = nI (st q)) (h2 : ∀ q, q < np → m 156 q = nI (st q)) : RC G (w0 K n f np TY E) n (cnt K n) 0 0 0 F h m := by
  have hc := cnt_id (K := K) n
  refine ⟨⟨hn, by omega, by omega, by omega, by omega, fun c hc => ?_, fun k q1 q2 => ?_, fun k q1 => ?_⟩, fun j hj => ?_, fun c hc => ?_, fun e he s hs2 q => ?_⟩
  · obtain ⟨a1, a2, a3⟩ := invf_ok n c hc
    show 1500 ≤ 1500 + invf K n c ∧ 1500 + invf K n c < 1540
    omega
  · show (if k < np then 1 else 0) = 0
    rw [if_neg (by omega)]
  · show (if k < np then 1 else 0) = 0
    rw [if_neg (by omega)]
  · have hj2 : j < n := by omega
    obtain ⟨i1, i2, i3⟩ := hI j hj2
    obtain ⟨c1, c2, c3, c4⟩ := L1 j (Nat.zero_le _) hj2
    obtain ⟨d1, d2, d3, d4, d5⟩ := L2 j (Nat.zero_le _) hj2
    have et : th n j = j := by unfold th; rw [if_pos hj2]
    have hk := hK j
    refine ⟨⟨i1, fun q => ?_⟩, if K j = 1 then 3 else 2, by split <;> omega, c1, by rw [et]; exact d2, fun q => ?_, fun q => ?_, fun _ => by rw [c2, d1], fun q => by omega⟩
    · have : (if 30000 + j < np then 1 else 0) = 1 := q
      rw [if_neg (by omega)] at this; omega
    · split at q <;> omega
    · rw [et, c3, d3, d4]
      have kn : ¬ K j = 1 := fun e => by rw [if_pos e] at q; omega
      by_cases k2 : K j = 2
      · rw [if_pos k2, if_pos k2, if_pos k2]
        obtain ⟨w1, -⟩ := i3 k2
        refine Or.inr ⟨w1, rfl, cnt K j, rfl, by have := cnt_lt hj2 k2; omega, ?_, ?_⟩
        · have : pi' (w0 K n f np TY E) (cnt K n) (cnt K j) = 1500 + j := by
            unfold pi'
            rw [if_pos (cnt_lt hj2 k2)]
            show 1500 + invf K n (cnt K j) = _
            rw [invf_eq k2 hj2]
          rw [this]
        · show TY (invf K n (cnt K j)) = TY j
          rw [invf_eq k2 hj2]
      · rw [if_neg k2, if_neg k2, if_neg k2]
        exact Or.inl ⟨i2 (by omega), rfl, rfl⟩
  · obtain ⟨a1, a2, a3⟩ := invf_ok n c (by omega)
    obtain ⟨i1, i2, i3⟩ := hI _ a3
    obtain ⟨w1, w2, w3, w4, w5, w6⟩ := i3 a1
    obtain ⟨c1, c2, c3, c4⟩ := L1 _ (Nat.zero_le _) a3
    obtain ⟨d1, d2, d3, d4, d5⟩ := L2 _ (Nat.zero_le _) a3
    obtain ⟨x1, x2⟩ := c4 a1
    obtain ⟨x3, x4⟩ := d5 a1
    rw [a2] at x1 x2
    have ep : pi' (w0 K n f np TY E) (cnt K n) c = 1500 + invf K n c := by
      unfold pi'; rw [if_pos (by omega)]; rfl
    refine ⟨w1, i1, invf K n c + 1, E (invf K n c), x1, x2, by omega, by omega, ?_, ?_, w5, w6, rfl⟩
    · rw [ep, x3]; unfold th; rw [if_pos (by omega)]
    · rw [ep, x4]; unfold th; rw [if_pos (by omega)]
  · have e0 : e = 0 := by omega
    subst e0
    have q' : (if 16 * 0 + s < np then 1 else 0) = 1 := q
    by_cases c : 16 * 0 + s < np
    · obtain ⟨y1, y2⟩ := hs s (by omega)
      refine ⟨st s, by omega, ?_, ?_, y2⟩
      · rw [show 16 * 0 + s = s by omega]; exact h1 s (by omega)
      · rw [show 16 * 0 + s = s by omega]
        unfold th; rw [if_pos y1]; exact h2 s (by omega)
    · rw [if_neg c] at q'; omega
/-- the state does not see these -/
theorem RunS.mw {G W : PG} {k0 nf I IP lim t p cl d t0 kp : Nat} {F : Frm} {h m h' m' : HI} (H : RunS G W k0 nf I IP lim t p cl d t0 kp F h m) (e1 : ∀ a k, ¬ (a = 101 ∧ k = 17) → h' a k = h a k) (f1 : ∀ a k, ¬ (a = 115 ∧ (k = 79 ∨ k = 80)) → m' a k = m a k) : RunS G W k0 nf I IP lim t p cl d t0 kp F h' m' := by
  obtain ⟨H1, ⟨s, dd, c1, c2, c3, c4, c5, c6, c7, c8, c9, g1, g2, g3, g4, g5, g6, g7, d8, d9, i1, i2⟩, H3, H4, H5, H6, H7, H8, H9⟩ := H
  refine ⟨H1.same (fun _ => rfl) (fun a k q1 q2 => e1 a k (by omega)) (fun a k q1 q2 => f1 a k (by omega)), ⟨s, dd, ?_, ?_, ?_, ?_, ?_, ?_, ?_, ?_, ?_, ?_, ?_, ?_, ?_, ?_, ?_, ?_, d8, d9, i1, i2⟩, ?_, ?_, ?_, ?_, H7.fr' (fun a k q1 q2 => f1 a k (by omega)), H8.fr' rfl (fun _ _ _ => rfl) (fun a k q => e1 a k (by omega)), by rw [e1 101 19 (by decide)]; exact H9.1, H9.2⟩
  all_goals first
    | (rw [e1 _ _ (by decide)]; assumption)
    | (rw [f1 _ _ (by decide)]; assumption)
