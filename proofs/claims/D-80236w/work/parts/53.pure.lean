/-! INPUTS, 6: those of all params -/
theorem iOK.mono {K : Nat → Nat} {n j j' : Nat} {TY E : Nat → Nat} {k : Nat} (H : iOK K n j TY E k) (h : j ≤ j') : iOK K n j' TY E k :=
  ⟨H.1, H.2.1, fun q => by obtain ⟨a1, a2, a3, a4, a5, a6⟩ := H.2.2 q; exact ⟨a1, a2, a3, by omega, a5, a6⟩⟩
theorem chain_ty {K : Nat → Nat} {n np : Nat} {T st : Nat → Nat} (hT : ∀ q, q < np → T q ≤ 4) (hst : ∀ q, q ≤ np → chn K n T q = some (st q)) : ∀ p, p ≤ np → ∃ TY E : Nat → Nat, (∀ k, k < st p → iOK K n (st p) TY E k) ∧ ∀ q, q < p → st q < st (q + 1) ∧ st (q + 1) ≤ st p ∧ bh K n 3 (T q) (st q) = some (st (q + 1)) ∧ TY (st q) = T q ∧ ∀ k, st q ≤ k → k < st (q + 1) → ¬ k = st q → TY k ≤ 1 := by
  intro p
  induction p with
  | zero =>
    intro _
    have : st 0 = 0 := by have := hst 0 (Nat.zero_le _); rw [chn] at this; injection this with this; exact this.symm
    exact ⟨fun _ => 0, fun _ => 0, fun k hk => by omega, fun q hq => by omega⟩
  | succ p ih =>
    intro hp
    obtain ⟨TY, E, a1, a2⟩ := ih (by omega)
    have hb : bh K n 3 (T p) (st p) = some (st (p + 1)) := by
      have h1 := hst (p + 1) hp
      rw [chn, hst p (by omega)] at h1; exact h1
    have hl := bh_lt _ _ _ _ hb
    obtain ⟨TY', E', b1, b2, b3⟩ := ty_of 2 (T p) (st p) (st (p + 1)) (by unfold lv; have := hT p (by omega); omega) (Nat.le_refl _) hb TY E
    refine ⟨TY', E', fun k hk => ?_, fun q hq => ?_⟩
    · by_cases c : k < st p
      · obtain ⟨c1, c2, c3⟩ := a1 k c
        rw [iOK, (b1 k (by omega)).1, (b1 k (by omega)).2]
        refine ⟨c1, c2, fun z => ?_⟩
        obtain ⟨d1, d2, d3, d4, d5, d6⟩ := c3 z
        exact ⟨d1, d2, d3, by omega, by rw [(b1 (k + 1) (by omega)).1]; exact d5, by rw [(b1 (E k) (by omega)).1]; exact d6⟩
      · exact (b3 k (by omega) hk).1
    · by_cases c : q = p
      · subst c
        exact ⟨hl.1, Nat.le_refl _, hb, b2, fun k k1 k2 k3 => (b3 k k1 k2).2 k3⟩
      · obtain ⟨c1, c2, c3, c4, c5⟩ := a2 q (by omega)
        refine ⟨c1, by omega, c3, ?_, fun k k1 k2 k3 => ?_⟩
        · rw [(b1 (st q) (by omega)).1]; exact c4
        · rw [(b1 k (by omega)).1]; exact c5 k k1 k2 k3
/-- what laying all inputs may change, in the component -/
def frJ (F : Frm) (h : HI) (F' : Frm) (h' : HI) : Prop := F'.1 = F.1 ∧ F'.2.1 = F.2.1 ∧ (∀ a k, a ≠ 102 → F'.2.2 a k = F.2.2 a k) ∧ ∀ a k, (a < 101 ∨ 110 ≤ a ∨ a = 101 ∧ ¬ k = 4 ∧ ¬ k = 7 ∧ ¬ k = 21) → h' a k = h a k
theorem runC {K : Nat → Nat} {V : Nat → Int32} {n np fo ta : Nat} {T st TY E : Nat → Nat} (hn : n ≤ 40) (hK : ∀ k, K k ≤ 2) (hnp : np ≤ 4) (hT : ∀ q, q < np → T q ≤ 4) (hfo : 160 ≤ fo) (hta : 160 ≤ ta) (hI : ∀ k, k < st np → iOK K n n TY E k) (hst : ∀ q, q < np → st q < st (q + 1) ∧ st (q + 1) ≤ st np ∧ bh K n 3 (T q) (st q) = some (st (q + 1)) ∧ TY (st q) = T q) :
    ∀ (r k : Nat), k + r = np → ∀ (F : Frm) (h : HI), F.2.1 113 = (0, 40) → F.2.1 114 = (0, 40) → F.2.1 fo = (18, 0) → F.2.2 fo 5 = some ta → F.2.1 ta = (0, 16) → h fo 1 = nI np → (∀ q, q < np → h ta q = nI (T q)) → h 101 21 = nI (st k) → h 101 4 = nI (st k) → h 101 7 = nI (cnt K (st k)) → (∀ k, k < n → h 113 k = nI (K k)) → (∀ k, k < n → h 114 k = V k) → laidC K V E 0 (st k) h → (∀ q, q < k → h 108 q = nI (st q)) →
    ∃ F' h', (∀ N R, 3 ≤ R → ∀ q g x2, pX7_run_33 N R (q + r) F fo x2 113 114 (nI k) h g = pX7_run_33 N R q F' fo x2 113 114 (nI np) h' g) ∧ frJ F h F' h' ∧ h' 101 4 = nI (st np) ∧ h' 101 7 = nI (cnt K (st np)) ∧ laidC K V E 0 (st np) h' ∧ ∀ q, q < np → h' 108 q = nI (st q) := by
  intro r
  induction r with
  | zero =>
    intro k hk F h t1 t2 o1 o2 o3 h0 h1 a1 a2 a3 a4 a5 a6 a7
    have : k = np := by omega
    subst this
    exact ⟨F, h, fun N R hR q g x2 => rfl, ⟨rfl, rfl, fun _ _ _ => rfl, fun _ _ _ => rfl⟩, a2, a3, a6, a7⟩
  | succ r ih =>
    intro k hk F h t1 t2 o1 o2 o3 h0 h1 a1 a2 a3 a4 a5 a6 a7
    obtain ⟨s1, s2, s3, s4⟩ := hst k (by omega)
    have hl := bh_lt _ _ _ _ s3
    obtain ⟨F1, h2, E1, f1, g1, g2, g3, L1, p1, p2⟩ := inp_ok (V := V) hn hK 2 (T k) (st k) (st (k + 1)) (by unfold lv; have := hT k (by omega); omega) (Nat.le_refl _) s3 s4 (fun j z1 z2 => hI j (by omega)) F h t1 t2 a1 a2 a3 a4 a5
    obtain ⟨h3, hh3⟩ : ∃ h3, h3 = up2 h2 108 k (nI (st k)) := ⟨_, rfl⟩
    have h3O : ∀ a c, ¬ (a = 108 ∧ c = k) → h3 a c = h2 a c := fun a c z => by rw [hh3, up2_o z]
    have h3F : ∀ a c, (a < 101 ∨ 110 ≤ a) → h3 a c = h a c := fun a c z => by rw [h3O _ _ (by omega), f1.2.2.2 _ _ (by omega) (by omega) (by omega)]
    obtain ⟨F4, h4, b1, b2, b3, b4, b5, b6⟩ := ih (k + 1) (by omega) F1 h3 (by rw [f1.2.1]; exact t1) (by rw [f1.2.1]; exact t2) (by rw [f1.2.1]; exact o1) (by rw [f1.2.2.1 _ _ (by omega)]; exact o2) (by rw [f1.2.1]; exact o3) (by rw [h3F _ _ (by omega)]; exact h0) (fun q hq => by rw [h3F _ _ (by omega)]; exact h1 q hq) (by rw [h3O _ _ (by omega)]; exact g1) (by rw [h3O _ _ (by omega)]; exact g2) (by rw [h3O _ _ (by omega)]; exact g3) (fun q hq => by rw [h3F _ _ (by omega)]; exact a4 q hq) (fun q hq => by rw [h3F _ _ (by omega)]; exact a5 q hq)
      (fun j z1 z2 => by
        rw [h3O _ _ (by omega), h3O _ _ (by omega), h3O _ _ (by omega), h3O _ _ (by omega), h3O _ _ (by omega)]
        by_cases c : j < st k
        · obtain ⟨w1, w2, w3, w4⟩ := a6 j z1 c
          rw [p1 104 j (by omega) (by omega), p1 109 j (by omega) (by omega), p1 105 j (by omega) (by omega)]
          refine ⟨w1, w2, w3, fun z => ?_⟩
          have cl := cnt_lt c z
          rw [p2 106 _ (by omega) cl, p2 107 _ (by omega) cl]
          exact w4 z
        · exact L1 j (by omega) z2)
      (fun q hq => by
        by_cases c : q = k
        · subst c; rw [hh3, up2_eq]
        · rw [h3O _ _ (by omega), f1.2.2.2 _ _ (by omega) (by omega) (by omega)]; exact a7 q (by omega))
    refine ⟨F4, h4, fun N R hR q g x2 => ?_, ⟨b2.1.trans f1.1, b2.2.1.trans f1.2.1, fun a c z => (b2.2.2.1 a c z).trans (f1.2.2.1 a c z), fun a c z => ?_⟩, b3, b4, b5, b6⟩
    · have hE := E1 N R R g hR
      rw [show q + (r + 1) = (q + r) + 1 by omega, pX7_run_33, o1, gd_t (decide_eq_true rfl), h0, if_neg (by rw [q_le (by omega) (by omega)]; omega), o2, ob1_some, o3, gd_t (decide_eq_true rfl), bnd_eq, q_vin (by omega), decide_eq_true (show k < 16 by omega), gd_true, show ix (nI k) = k from q_ix (by omega), h1 k (by omega)]
      show ogi ((tie6 N R R) F 113 114 (nI (T k)) h g) _ = _
      rw [hE, ogi_l, q_vin (by omega), decide_eq_true (show k < 24016 by omega), gd_true, bnd_eq, bnd_eq, show nI k + 1 = nI (k + 1) from q_add k 1, ← hh3]
      exact b1 N R hR q g x2
    · rw [b2.2.2.2 a c z, h3O _ _ (by omega), f1.2.2.2 _ _ (by omega) (by omega) (by omega)]
theorem runM {K : Nat → Nat} {V : Nat → Int32} {n np f : Nat} {T st TY E : Nat → Nat} (hn : n ≤ 40) (hK : ∀ k, K k ≤ 2) (hnp : np ≤ 4) (hT : ∀ q, q < np → T q ≤ 4) (hf : f < 24) (hI : ∀ k, k < st np → iOK K n n TY E k) (hst : ∀ q, q < np → st q < st (q + 1) ∧ st (q + 1) ≤ st np ∧ bh K n 3 (T q) (st q) = some (st (q + 1)) ∧ TY (st q) = T q ∧ ∀ k, st q ≤ k → k < st (q + 1) → ¬ k = st q → TY k ≤ 1) :
    ∀ (r k : Nat), k + r = np → ∀ (m : HI), m 119 f = nI np → (∀ q, q < np → m 123 (16 * f + q) = nI (T q)) → m 115 55 = nI n → (∀ k, k < n → m 145 k = nI (K k)) → (∀ k, k < n → m 146 k = V k) → laidM K V E 0 (st k) m → (∀ q, q < k → m 157 q = nI (st q) ∧ m 156 q = nI (st q)) →
    ∃ m', (∀ N, 64 ≤ N → ∀ q g x1 x2 x3, pX8_run_144 N (q + r) x1 x2 x3 (nI f) (nI (st k)) (nI k) m g = pX8_run_144 N q x1 x2 x3 (nI f) (nI (st np)) (nI np) m' g) ∧ (∀ a c, ¬ a = 147 → ¬ (150 ≤ a ∧ a ≤ 157) → m' a c = m a c) ∧ laidM K V E 0 (st np) m' ∧ ∀ q, q < np → m' 157 q = nI (st q) ∧ m' 156 q = nI (st q) := by
  intro r
  induction r with
  | zero =>
    intro k hk m h0 h1 a1 a4 a5 a6 a7
    have : k = np := by omega
    subst this
    exact ⟨m, fun N hN q g x1 x2 x3 => rfl, fun _ _ _ _ => rfl, a6, a7⟩
  | succ r ih =>
    intro k hk m h0 h1 a1 a4 a5 a6 a7
    obtain ⟨s1, s2, s3, s4, s5⟩ := hst k (by omega)
    have hl := bh_lt _ _ _ _ s3
    obtain ⟨m1, hm1⟩ : ∃ m1, m1 = up2 (up2 m 157 k (nI (st k))) 156 k (nI (st k)) := ⟨_, rfl⟩
    have m1O : ∀ a c, ¬ ((a = 156 ∨ a = 157) ∧ c = k) → m1 a c = m a c := fun a c z => by rw [hm1, up2_o (by omega), up2_o (by omega)]
    obtain ⟨m2, b1, b2, b3⟩ := lay_ok (V := V) (E := E) (i := st k) (j := st (k + 1)) (m := m1) hn hK (hT k (by omega)) s3 (fun j z1 z2 z3 => by
      obtain ⟨-, -, w3⟩ := hI j (by omega)
      obtain ⟨w4, w5, -⟩ := w3 z3
      by_cases c : j = st k
      · subst c; rw [if_pos rfl]; rw [s4] at w5; exact w5
      · have := s5 j z1 z2 c
        have e : TY j = 1 := by omega
        rw [if_neg c]; rw [e] at w5; exact w5) (by rw [m1O _ _ (by omega)]; exact a1) (fun q hq => by rw [m1O _ _ (by omega)]; exact a4 q hq) (fun q hq => by rw [m1O _ _ (by omega)]; exact a5 q hq)
    have m2O : ∀ a c, ¬ a = 147 → ¬ (150 ≤ a ∧ a ≤ 157) → m2 a c = m a c := fun a c z1 z2 => by rw [b1 a c z1 (by omega) (by omega), m1O a c (by omega)]
    obtain ⟨m3, c1, c2, c3, c4⟩ := ih (k + 1) (by omega) m2 (by rw [m2O _ _ (by decide) (by decide)]; exact h0) (fun q hq => by rw [m2O _ _ (by decide) (by decide)]; exact h1 q hq) (by rw [m2O _ _ (by decide) (by decide)]; exact a1) (fun q hq => by rw [m2O _ _ (by decide) (by decide)]; exact a4 q hq) (fun q hq => by rw [m2O _ _ (by decide) (by decide)]; exact a5 q hq)
      (fun j z1 z2 => by
        by_cases c : j < st k
        · obtain ⟨w1, w2, w3, w4, w5⟩ := a6 j z1 c
          rw [b1 153 j (by decide) (by omega) (by omega), b1 150 j (by decide) (by omega) (by omega), b1 151 j (by decide) (by omega) (by omega), b1 152 j (by decide) (by omega) (by omega), b1 154 _ (by decide) (by omega) (by omega), b1 155 _ (by decide) (by omega) (by omega), m1O _ _ (by omega), m1O _ _ (by omega), m1O _ _ (by omega), m1O _ _ (by omega), m1O _ _ (by omega), m1O _ _ (by omega)]
          exact ⟨w1, w2, w3, w4, w5⟩
        · exact b2 j (by omega) z2)
      (fun q hq => by
        rw [b1 157 q (by decide) (by omega) (by omega), b1 156 q (by decide) (by omega) (by omega)]
        by_cases c : q = k
        · subst c; rw [hm1]; exact ⟨by rw [up2_ne (by decide), up2_eq], up2_eq⟩
        · rw [m1O _ _ (by omega), m1O _ _ (by omega)]; exact a7 q (by omega))
    refine ⟨m3, fun N hN q g x1 x2 x3 => ?_, fun a c z1 z2 => by rw [c2 a c z1 z2, m2O a c z1 z2], c3, c4⟩
    have e123 : m1 123 (16 * f + k) = nI (T k) := by rw [m1O _ _ (by omega)]; exact h1 k (by omega)
    rw [show q + (r + 1) = (q + r) + 1 by omega, pX8_run_144, q_vin (by omega), decide_eq_true hf, gd_true, show ix (nI f) = f from q_ix (by omega), h0, if_neg (by rw [q_le (by omega) (by omega)]; omega), q_vin (by omega), decide_eq_true (show k < 4 by omega), gd_true, bnd_eq, q_vin (by omega), decide_eq_true (show k < 24032 by omega), gd_true, bnd_eq, show ix (nI k) = k from q_ix (by omega), ← hm1, show (16 : Int32) * nI f + nI k = nI (16 * f + k) from by rw [show (16 : Int32) * nI f = nI (16 * f) from q_mul 16 f, q_add], q_vin (by omega), decide_eq_true (show 16 * f + k < 384 by omega), gd_true, show ix (nI (16 * f + k)) = 16 * f + k from q_ix (by omega), e123, b3 N hN g, obi_some, bnd_eq, show nI k + 1 = nI (k + 1) from q_add k 1]
    exact c1 N hN q g x1 x2 x3
