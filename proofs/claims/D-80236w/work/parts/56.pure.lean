/-! RUNS, 16: RUN, by both -/
def frRC (F : Frm) (h : HI) (F' : Frm) (h' : HI) : Prop := F'.1 = F.1 ∧ F'.2.1 = F.2.1 ∧ (∀ a k, a ≠ 102 → F'.2.2 a k = F.2.2 a k) ∧ ∀ a k, (a < 101 ∨ 110 < a) → h' a k = h a k
def frRM (m m' : HI) : Prop := ∀ a k, ¬ (a = 115 ∧ (k = 36 ∨ k = 55 ∨ 67 ≤ k)) → a ≠ 134 → a ≠ 135 → a ≠ 138 → ¬ (147 ≤ a ∧ a ≤ 158) → m' a k = m a k
/-- what the last run (of function f) left, alike in both -/
def LR (G : PG) (k0 f : Nat) (F : Frm) (h m : HI) : Prop := ∃ I IP t p cl s dd en : Nat, h 101 4 = nI (I + t) ∧ h 101 7 = nI (IP + p) ∧ h 101 9 = nI cl ∧ h 101 10 = nI I ∧ h 101 11 = nI IP ∧ h 101 13 = nI s ∧ h 101 15 = nI dd ∧ h 101 16 = nI en ∧
  m 115 67 = nI t ∧ m 115 68 = nI p ∧ m 115 69 = nI cl ∧ m 115 70 = nI s ∧ m 115 73 = nI dd ∧ m 115 76 = nI en ∧ 1 ≤ en ∧ en ≤ 5 ∧ FI I t h m ∧ h 101 18 = nI (G 12 f) ∧ h 101 19 = nI (G 10 f) ∧ m 115 75 = nI (f - k0) ∧
  (∀ q, q < G 10 f → ∃ j, j < I ∧ h 108 q = nI j ∧ m 157 q = nI j) ∧ (en = 1 → ∃ W, RC G W I IP t p cl F h m ∧ vr W IP p (G 12 f) (h 101 17) (m 115 79) (m 115 80))
theorem run_all {G : PG} {K : Nat → Nat} {V : Nat → Int32} {k0 nf f n dm lim : Nat} {F : Frm} {h m : HI} (hP : pWF G k0 nf) (hf1 : k0 ≤ f) (hf2 : f < k0 + nf) (hM : sM G k0 nf m) (hC : sC G k0 nf F h) (hn : n ≤ 40) (hK : ∀ k, K k ≤ 2) (t1 : F.2.1 113 = (0, 40)) (t2 : F.2.1 114 = (0, 40)) (a4 : ∀ k, k < n → h 113 k = nI (K k)) (a5 : ∀ k, k < n → h 114 k = V k) (b3 : m 115 55 = nI n) (b4 : ∀ k, k < n → m 145 k = nI (K k)) (b5 : ∀ k, k < n → m 146 k = V k)
    (hch : chn K n (fun q => G 14 (16 * f + q)) (G 10 f) = some n) (hd1 : 1 ≤ dm) (hd2 : dm < sz (G 12 f)) (hlim : lim ≤ 20000) :
    ∃ en F' h' m', (∀ N, 64 ≤ N → ∀ R, 460 ≤ R → ∀ g, ppX7_run N R F (G 9 f) (nI dm) (nI lim) 113 114 h g = some (.inl (nI en, F', h', g))) ∧ (∃ B, ∀ N, B ≤ N → ∀ g, pX8_run_144 N N (nI (f - k0)) (nI dm) (nI lim) (nI f) (nI 0) (nI 0) m g = some (nI en, m', g)) ∧ frRC F h F' h' ∧ frRM m m' ∧ m' 115 55 = nI 0 ∧ LR G k0 f F' h' m' := by
  obtain ⟨np4, npn, n16, ty4, jb, ob, yb, -, nt, sb0⟩ := hP.2.2.1 f hf1 hf2
  obtain ⟨o0, o1, o2, o3, o4, o5, o6, o7, o8, o9⟩ := hC.1 f hf1 hf2
  obtain ⟨q1, q2, q3, q4, q5⟩ := hM.1 f hf1 hf2
  have f24 : f < 24 := by have := hP.1; have := hP.2.1; omega
  obtain ⟨T, hT⟩ : ∃ T : Nat → Nat, T = fun q => G 14 (16 * f + q) := ⟨_, rfl⟩
  rw [← hT] at hch
  have hT4 : ∀ q, q < G 10 f → T q ≤ 4 := fun q hq => by rw [hT]; exact nt q (by omega)
  -- where params begin
  obtain ⟨st, hst⟩ : ∃ st : Nat → Nat, ∀ q, q ≤ G 10 f → chn K n T q = some (st q) := by
    refine ⟨fun q => (chn K n T q).getD 0, fun q hq => ?_⟩
    cases e : chn K n T q with
    | some i => show some i = some ((chn K n T q).getD 0); rw [e]; rfl
    | none =>
      have := chn_none e (G 10 f - q)
      rw [show q + (G 10 f - q) = G 10 f by omega, hch] at this
      cases this
  have stn : st (G 10 f) = n := by have := hst (G 10 f) (Nat.le_refl _); rw [hch] at this; injection this with this; exact this.symm
  have st0 : st 0 = 0 := by have := hst 0 (Nat.zero_le _); rw [chn] at this; injection this with this; exact this.symm
  obtain ⟨TY, E, i1, i2⟩ := chain_ty hT4 hst (G 10 f) (Nat.le_refl _)
  have i1' : ∀ k, k < st (G 10 f) → iOK K n n TY E k := fun k hk => by have := i1 k hk; rw [stn] at this; exact this
  -- the component lays its inputs
  have rO : ∀ a k, ¬ a = 101 → rh h lim (G 12 f) (G 10 f) a k = h a k := fun a k z => rh_o z
  obtain ⟨F1, h1, E1, f1, e1, e2, L1, s1⟩ := runC (V := V) (E := E) hn hK np4 hT4 o0 o4 i1' (fun q hq => by obtain ⟨x1, x2, x3, x4, -⟩ := i2 q hq; exact ⟨x1, x2, x3, x4⟩) (G 10 f) 0 (by omega) F (rh h lim (G 12 f) (G 10 f)) t1 t2 o1 o3 o5 (by rw [rO _ _ (by omega)]; exact o6) (fun q hq => by rw [rO _ _ (by omega), hT]; exact o9 q (by omega)) (by rw [st0]; rfl) (by rw [st0]; rfl) (by rw [st0]; rfl) (fun k hk => by rw [rO _ _ (by decide)]; exact a4 k hk) (fun k hk => by rw [rO _ _ (by decide)]; exact a5 k hk) (fun k z1 z2 => by rw [st0] at z2; omega) (fun q hq => by omega)
  -- the model lays them
  obtain ⟨m1, E2, f2, L2, s2⟩ := runM (V := V) (E := E) hn hK np4 hT4 f24 i1' i2 (G 10 f) 0 (by omega) m q2 (fun q hq => by rw [hT]; exact q5 q (by omega)) b3 b4 b5 (fun k z1 z2 => by rw [st0] at z2; omega) (fun q hq => by omega)
  rw [stn] at e1 e2 L1 L2
  -- the state at the beginning
  have hs : ∀ q, q < G 10 f → st q < n ∧ TY (st q) = G 14 (16 * f + q) := fun q hq => by
    obtain ⟨x1, x2, x3, x4, -⟩ := i2 q hq
    rw [stn] at x2
    refine ⟨by omega, by rw [x4, hT]⟩
  have R0 := RC.start (G := G) (F := F1) (f := f) hn hK np4 (fun k hk => i1' k (by rw [stn]; exact hk)) hs L1 L2 s1 (fun q hq => (s2 q hq).2)
  obtain ⟨W, hW⟩ : ∃ W, W = w0 K n f (G 10 f) TY E := ⟨_, rfl⟩
  have W3 : W 3 0 = f := by rw [hW]; rfl
  have W4 : ∀ s, s < G 10 f → W 4 (16 * 0 + s) = 1 := fun s hs => by rw [hW]; show (if 16 * 0 + s < G 10 f then 1 else 0) = 1; rw [if_pos (by omega)]
  rw [← hW] at R0
  obtain ⟨h2, hh2⟩ : ∃ h2, h2 = up2 (up2 h1 101 10 (h1 101 4)) 101 11 (h1 101 7) := ⟨_, rfl⟩
  obtain ⟨m2, hm2⟩ : ∃ m2, m2 = mi m1 (nI (f - k0)) lim := ⟨_, rfl⟩
  have h2O : ∀ a k, ¬ (a = 101 ∧ (k = 10 ∨ k = 11)) → h2 a k = h1 a k := fun a k z => by rw [hh2, up2_o (by omega), up2_o (by omega)]
  have m2O : ∀ a k, ¬ a = 115 → m2 a k = m1 a k := fun a k z => by rw [hm2, mi_o z]
  have hf : ∀ k, ¬ k = 4 → ¬ k = 7 → ¬ k = 21 → ¬ k = 10 → ¬ k = 11 → h2 101 k = rh h lim (G 12 f) (G 10 f) 101 k := fun k z1 z2 z3 z4 z5 => by rw [h2O _ _ (by omega), f1.2.2.2 _ _ (by omega)]
  have CF : F1.1 = F.1 ∧ F1.2.1 = F.2.1 ∧ (∀ a k, a ≠ 102 → F1.2.2 a k = F.2.2 a k) ∧ ∀ a k, (a < 101 ∨ 110 < a) → h2 a k = h a k := ⟨f1.1, f1.2.1, f1.2.2.1, fun a k z => by rw [h2O _ _ (by omega), f1.2.2.2 _ _ (by omega), rO _ _ (by omega)]⟩
  have MF : frRM m m2 := fun a k z1 z2 z3 z4 z5 => by
    by_cases c : a = 115
    · subst c; rw [hm2, mi_f (by omega), f2 _ _ (by decide) (by decide)]
    · rw [m2O _ _ c, f2 _ _ (by omega) (by omega)]
  have hM2 : sM G k0 nf m2 := by
    have : ∀ a k, 118 ≤ a → a ≤ 131 → m2 a k = m a k := fun a k z1 z2 => MF a k (by omega) (by omega) (by omega) (by omega) (by omega)
    exact hM.fr' this
  have hC2 : sC G k0 nf F1 h2 := hC.fr' CF.2.1 (fun a k z => CF.2.2.1 a k (by omega)) (fun a k z => CF.2.2.2 a k (by omega))
  have cn := cnt_id (K := K) n
  have R1 : RunS G W k0 nf n (cnt K n) lim 0 0 0 0 0 0 F1 h2 m2 := by
    refine ⟨R0.same (fun _ => rfl) (fun a k z1 z2 => h2O a k (by omega)) (fun a k z1 z2 => m2O a k (by omega)), ⟨0, 0, ?_, ?_, ?_, ?_, ?_, ?_, ?_, ?_, ?_, ?_, ?_, ?_, ?_, ?_, ?_, ?_, Nat.zero_le _, hlim, by decide, by decide⟩, ?_, ?_, ?_, ?_, hM2, hC2, ?_, ?_⟩
    · rw [h2O _ _ (by decide)]; exact e1
    · rw [h2O _ _ (by decide)]; exact e2
    · rw [hf 9 (by decide) (by decide) (by decide) (by decide) (by decide)]; rfl
    · rw [hh2]; exact e1
    · rw [hh2]; exact e2
    · rw [hf 12 (by decide) (by decide) (by decide) (by decide) (by decide)]; rfl
    · rw [hf 13 (by decide) (by decide) (by decide) (by decide) (by decide)]; rfl
    · rw [hf 15 (by decide) (by decide) (by decide) (by decide) (by decide)]; rfl
    · rw [hf 16 (by decide) (by decide) (by decide) (by decide) (by decide)]; rfl
    · rw [hm2]; rfl
    · rw [hm2]; rfl
    · rw [hm2]; rfl
    · rw [hm2]; rfl
    · rw [hm2]; rfl
    · rw [hm2]; rfl
    · rw [hm2]; rfl
    · rw [hf 14 (by decide) (by decide) (by decide) (by decide) (by decide)]; rfl
    · rw [hm2]; rfl
    · rw [hm2]; rfl
    · rw [hm2]; rfl
    · rw [hf 19 (by decide) (by decide) (by decide) (by decide) (by decide), W3]; rfl
    · rw [W3]; exact np4
  -- work
  have S1 := R1.task (s := nI 1) (x := nI (G 13 f)) (w := nI 0)
  have he : eok G W 0 (G 13 f) 0 := ⟨jb, Nat.le_refl _, by rw [W3, ob], fun s z1 z2 => W4 s (sb0 s z1 z2)⟩
  obtain ⟨v, F3, h3, m3, E3, E4, fC3, fM3, P3⟩ := work_ok (I := n) (IP := cnt K n) (lim := lim) hP 150 0 (by decide) (by decide) W 0 0 0 0 0 F1 h2 _ (G 13 f) 0 S1 (R1.top (by decide)) he (by decide) (by decide)
  have ob6 : F1.2.2 (G 9 f) 6 = some (G 5 (G 13 f)) := by rw [CF.2.2.1 _ _ (by omega)]; exact o2
  have oh1 : h1 (G 9 f) 1 = nI (G 10 f) := by rw [f1.2.2.2 _ _ (by omega), rO _ _ (by omega)]; exact o6
  have EW : ∀ N, 8 ≤ N → ∀ R, 460 ≤ R → ∀ g, ppX7_work N R F1 (G 5 (G 13 f)) 0 (up2 (up2 h1 101 10 (h1 101 4)) 101 11 (h1 101 7)) g = some (.inl (v, F3, h3, g)) := fun N hN R hR g => by rw [← hh2]; exact E3 N hN R R g (by omega)
  have e18 : h2 101 18 = nI (G 12 f) := by rw [hf 18 (by decide) (by decide) (by decide) (by decide) (by decide)]; rfl
  have e19 : h2 101 19 = nI (G 10 f) := by rw [hf 19 (by decide) (by decide) (by decide) (by decide) (by decide)]; rfl
  have e3_18 : h3 101 18 = nI (G 12 f) := by rw [fC3.1.2.2.2.1]; exact e18
  have e3_19 : h3 101 19 = nI (G 10 f) := by rw [fC3.1.2.1]; exact e19
  have p108 : ∀ q, q < G 10 f → h3 108 q = nI (st q) := fun q hq => by
    rw [fC3.1.2.2.1 q (by rw [e19, show ix (nI (G 10 f)) = G 10 f from q_ix (by omega)]; exact hq), h2O _ _ (by omega)]; exact s1 q hq
  have fM3' : ∀ a k, ¬ (a = 115 ∧ (k = 36 ∨ 67 ≤ k ∧ k ≤ 74 ∨ k = 77 ∨ k = 78 ∨ k = 82)) → a ≠ 134 → a ≠ 135 → a ≠ 138 → ¬ (148 ≤ a ∧ a ≤ 156 ∨ a = 158) → m3 a k = m2 a k := fun a k z1 z2 z3 z4 z5 => by
    rw [fM3 a k z1 z2 z3 z4 z5]
    by_cases c : a = 115
    · subst c; exact tk_f (by omega)
    · exact tk_a c z2 z3 z4
  have m3_75 : m3 115 75 = nI (f - k0) := by rw [fM3' _ _ (by decide) (by decide) (by decide) (by decide) (by decide), hm2]; rfl
  have m3_55 : m3 115 55 = nI 0 := by rw [fM3' _ _ (by decide) (by decide) (by decide) (by decide) (by decide), hm2]; rfl
  have m3_157 : ∀ q, q < G 10 f → m3 157 q = nI (st q) := fun q hq => by rw [fM3' _ _ (by omega) (by decide) (by decide) (by decide) (by omega), m2O _ _ (by decide)]; exact (s2 q hq).1
  have MF3 : frRM m m3 := fun a k z1 z2 z3 z4 z5 => by rw [fM3' a k (by omega) z2 z3 z4 (by omega)]; exact MF a k z1 z2 z3 z4 z5
  have m1_119 : m1 119 f = nI (G 10 f) := by rw [f2 _ _ (by decide) (by decide)]; exact q2
  have m1_121 : m1 121 f = nI (G 13 f) := by rw [f2 _ _ (by decide) (by decide)]; exact q4
  have eloopC : ∀ N, 64 ≤ N → ∀ R, 460 ≤ R → ∀ g, ∃ q, ppX7_run N R F (G 9 f) (nI dm) (nI lim) 113 114 h g = pX7_run_33 N R (q + 1) F1 (G 9 f) (nI dm) 113 114 (nI (G 10 f)) h1 g := fun N hN R hR g => by
    refine ⟨N - G 10 f - 1, ?_⟩
    rw [cr_0 o0 o1 o8 o6]
    have := E1 N R (by omega) (N - G 10 f - 1 + 1) g (nI dm)
    rw [show N - G 10 f - 1 + 1 + G 10 f = N by omega] at this
    exact this
  have eloopM : ∀ N, 64 ≤ N → ∀ g, ∃ q, pX8_run_144 N N (nI (f - k0)) (nI dm) (nI lim) (nI f) (nI 0) (nI 0) m g = pX8_run_144 N (q + 1) (nI (f - k0)) (nI dm) (nI lim) (nI f) (nI (st (G 10 f))) (nI (G 10 f)) m1 g := fun N hN g => by
    refine ⟨N - G 10 f - 1, ?_⟩
    have := E2 N hN (N - G 10 f - 1 + 1) g (nI (f - k0)) (nI dm) (nI lim)
    rw [show N - G 10 f - 1 + 1 + G 10 f = N by omega, st0] at this
    exact this
  have ek : ∀ {F' : Frm} {h' : HI}, frC F1 h2 F' h' → frRC F h F' h' := fun {F' h'} fc => ⟨fc.1.1.trans CF.1, fc.2.1.trans CF.2.1, fun a k z => (fc.2.2.1 a k z).trans (CF.2.2.1 a k z), fun a k z => (fc.2.2.2 a k z).trans (CF.2.2.2 a k z)⟩
  rcases P3 with ⟨W5, t5, p5, c5, l1, l2, l3, X5, Q5, vv, bb⟩ | P3
  · -- worked out: now what is asked of it
    obtain ⟨h4, hh4⟩ : ∃ h4, h4 = up2 h3 101 17 v := ⟨_, rfl⟩
    obtain ⟨m4, hm4⟩ : ∃ m4, m4 = up2 (up2 m3 115 79 (m3 115 77)) 115 80 (m3 115 78) := ⟨_, rfl⟩
    have Q6 : RunS G W5 k0 nf n (cnt K n) lim t5 p5 c5 0 0 0 F3 h4 m4 := Q5.mw (fun a k z => by rw [hh4, up2_o z]) (fun a k z => by rw [hm4, up2_o (by omega), up2_o (by omega)])
    have vv4 : vr W5 (cnt K n) p5 (G 12 f) v (m4 115 77) (m4 115 78) := by
      rw [yb] at vv; rw [hm4]; exact vv
    obtain ⟨F7, h7, m5, m6, E5, E6, E7, fC7, fM7, R7⟩ := ask_ok (I := n) (IP := cnt K n) (lim := lim) hP 2 (G 12 f) (by unfold lv; omega) W5 t5 p5 c5 0 F3 h4 m4 dm v hd1 hd2 (by decide) Q6 vv4
    have EA : ∀ N, 8 ≤ N → ∀ R, 460 ≤ R → ∀ g, ppX7_ask N R F3 v (h3 101 18) (nI dm) (up2 h3 101 17 v) g = some (.inl ((), F7, h7, g)) := fun N hN R hR g => by rw [e3_18, ← hh4]; exact E5 N hN R hR R g (by omega)
    have fC47 : frC F3 h3 F7 h7 ∨ True := Or.inr trivial
    have CFE : frRC F h F7 (hE h7) := by
      have a1 := ek fC3
      refine ⟨fC7.1.1.trans a1.1, fC7.2.1.trans a1.2.1, fun a k z => (fC7.2.2.1 a k z).trans (a1.2.2.1 a k z), fun a k z => ?_⟩
      have b1 : hE h7 a k = h7 a k := by
        unfold hE; split
        · rw [up2_ne (by omega)]
        · rfl
      rw [b1, fC7.2.2.2 a k z, hh4, up2_ne (by omega)]
      exact a1.2.2.2 a k z
    have MF6 : frRM m m6 := fun a k z1 z2 z3 z4 z5 => by
      rw [fM7 a k (by omega) z2 z3 z4 (by omega), hm4, up2_o (by omega), up2_o (by omega)]; exact MF3 a k z1 z2 z3 z4 z5
    have MFE : frRM m (mE m6) := fun a k z1 z2 z3 z4 z5 => by
      unfold mE; rw [up2_o (by omega)]; exact MF6 a k z1 z2 z3 z4 z5
    have hm4f : ∀ k, ¬ k = 79 → ¬ k = 80 → m4 115 k = m3 115 k := fun k z1 z2 => by rw [hm4, up2_nj z2, up2_nj z1]
    have m6_k : ∀ k, (k = 55 ∨ k = 75 ∨ k = 79 ∨ k = 80) → m6 115 k = m4 115 k := fun k z => fM7 115 k (by omega) (by decide) (by decide) (by decide) (by decide)
    have m6_157 : ∀ q, q < G 10 f → m6 157 q = nI (st q) := fun q hq => by rw [fM7 _ _ (by omega) (by decide) (by decide) (by decide) (by omega), hm4, up2_ne (by decide), up2_ne (by decide)]; exact m3_157 q hq
    have h7_18 : h7 101 18 = nI (G 12 f) := by rw [fC7.1.2.2.2.1, hh4]; exact e3_18
    have h7_19 : h7 101 19 = nI (G 10 f) := by rw [fC7.1.2.1, hh4]; exact e3_19
    have h7_17 : h7 101 17 = v := by rw [fC7.1.2.2.2.2, hh4, up2_eq]
    have h7_108 : ∀ q, q < G 10 f → h7 108 q = nI (st q) := fun q hq => by
      rw [fC7.1.2.2.1 q (by rw [hh4]; show q < ix (h3 101 19); rw [e3_19, show ix (nI (G 10 f)) = G 10 f from q_ix (by omega)]; exact hq), hh4, up2_ne (by decide)]; exact p108 q hq
    have goesA : ∃ B, ∀ N, B ≤ N → ∀ g, pX8_goes N (tk m2 0 (nI 1) (nI (G 13 f)) (nI 0)) g = some (m3, g) := E4.goes (en := 0) (Or.inl Q5.2.2.2.2.1)
    obtain ⟨B1, hB1⟩ := goesA
    have e118 : m3 118 f = nI (G 12 f) := (Q5.2.2.2.2.2.2.1.1 f hf1 hf2).1
    have final : ∀ en, (∃ B, ∀ N, B ≤ N → ∀ g, pX8_goes N m5 g = some (m6, g)) → hE h7 101 16 = nI en → mE m6 115 76 = nI en → LR G k0 f F7 (hE h7) (mE m6) → ∃ en F' h' m', (∀ N, 64 ≤ N → ∀ R, 460 ≤ R → ∀ g, ppX7_run N R F (G 9 f) (nI dm) (nI lim) 113 114 h g = some (.inl (nI en, F', h', g))) ∧ (∃ B, ∀ N, B ≤ N → ∀ g, pX8_run_144 N N (nI (f - k0)) (nI dm) (nI lim) (nI f) (nI 0) (nI 0) m g = some (nI en, m', g)) ∧ frRC F h F' h' ∧ frRM m m' ∧ m' 115 55 = nI 0 ∧ LR G k0 f F' h' m' := by
      intro en hB he1 he2 hLR
      obtain ⟨B2, hB2⟩ := hB
      refine ⟨en, F7, hE h7, mE m6, fun N hN R hR g => ?_, ⟨B1 + B2 + 64, fun N hN g => ?_⟩, CFE, MFE, ?_, hLR⟩
      · obtain ⟨q, hq⟩ := eloopC N hN R hR g
        rw [hq, cr_end np4 (by rw [CF.2.1]; exact o1) oh1 ob6 (EW N (by omega) R hR g) (EA N (by omega) R hR g), he1]
      · obtain ⟨q, hq⟩ := eloopM N (by omega) g
        have ed : pX8_demand N (m3 118 f) (nI dm) m4 g = some (m5, g) := by rw [e118]; exact E6 N (by omega) g
        rw [hq, mr_end np4 f24 m1_119 m1_121 (by rw [← hm2]; exact hB1 N (by omega) g), if_pos (show m3 115 74 = 0 from Q5.e74), ← hm4, ed, obv_some, hB2 N (by omega) g, obv_some, mr_317, he2]
      · unfold mE; rw [up2_nj (by decide), m6_k 55 (by omega), hm4f 55 (by decide) (by decide)]; exact m3_55
    rcases R7 with ⟨W8, t8, p8, c8, k1, k2, k3, X8, Q8, bb8⟩ | R7
    · have h16 : h7 101 16 = nI 0 := Q8.e16
      have m74 : m6 115 74 = nI 0 := Q8.e74
      have eh : hE h7 = up2 h7 101 16 1 := by unfold hE; rw [if_pos (show h7 101 16 = 0 from h16)]
      have em : mE m6 = up2 m6 115 76 1 := by unfold mE; rw [if_pos (show m6 115 74 = 0 from m74)]
      refine final 1 (E7.goes (en := 0) (Or.inl Q8.2.2.2.2.1)) (by rw [eh]; rfl) (by rw [em]; rfl) ?_
      obtain ⟨Z1, ⟨s9, dd9, z1, z2, z3, z4, z5, z6, z7, z8, z9, y1, y2, y3, y4, y5, y6, y7, y8, y9, x1, x2⟩, -⟩ := id Q8
      have RCE : RC G W8 n (cnt K n) t8 p8 c8 F7 (hE h7) (mE m6) := Z1.same (fun _ => rfl) (fun a k u1 u2 => by rw [eh, up2_ne (by omega)]) (fun a k u1 u2 => by rw [em, up2_ne (by omega)])
      refine ⟨n, cnt K n, t8, p8, c8, s9, dd9, 1, by rw [eh]; exact z1, by rw [eh]; exact z2, by rw [eh]; exact z3, by rw [eh]; exact z4, by rw [eh]; exact z5, by rw [eh]; exact z7, by rw [eh]; exact z8, by rw [eh]; rfl, by rw [em]; exact y1, by rw [em]; exact y2, by rw [em]; exact y3, by rw [em]; exact y5, by rw [em]; exact y6, by rw [em]; rfl, by decide, by decide, RCE.FI, by rw [eh]; exact h7_18, by rw [eh]; exact h7_19, ?_, fun q hq => ⟨st q, (hs q hq).1, ?_, ?_⟩, fun _ => ⟨W8, RCE, ?_⟩⟩
      · rw [em, up2_nj (by decide), m6_k 75 (by omega), hm4f 75 (by decide) (by decide)]; exact m3_75
      · rw [eh, up2_ne (by decide)]; exact h7_108 q hq
      · rw [em, up2_ne (by decide)]; exact m6_157 q hq
      · rw [eh, em, up2_nj (by decide), up2_nj (by decide), up2_nj (by decide), h7_17, m6_k 79 (by omega), m6_k 80 (by omega), hm4, up2_eq, up2_nj (by decide), up2_eq]
        rw [yb] at vv
        exact vv.ext X8 k2
    · obtain ⟨t9, p9, c9, s9, dd9, en9, hen, ⟨z1, z2, z3, z4, z5, z6, z7, z8, z9, y1, y2, y3, y4, y5, y6, y7, y8, y9, x1, x2⟩, FI9⟩ := id R7
      have h16 : ¬ h7 101 16 = 0 := by rw [z9]; exact nI_ne (b := 0) (by omega) (by omega) hen.1
      have m74 : ¬ m6 115 74 = 0 := by rw [y7]; exact nI_ne (b := 0) (by omega) (by omega) hen.1
      have eh : hE h7 = h7 := by unfold hE; rw [if_neg h16]
      have em : mE m6 = up2 m6 115 76 (nI en9) := by unfold mE; rw [if_neg m74, y7]
      refine final en9 (E7.goes (en := en9) (Or.inr ⟨y7, hen.1, x2⟩)) (by rw [eh]; exact z9) (by rw [em, up2_eq]) ?_
      refine ⟨n, cnt K n, t9, p9, c9, s9, dd9, en9, by rw [eh]; exact z1, by rw [eh]; exact z2, by rw [eh]; exact z3, by rw [eh]; exact z4, by rw [eh]; exact z5, by rw [eh]; exact z7, by rw [eh]; exact z8, by rw [eh]; exact z9, by rw [em]; exact y1, by rw [em]; exact y2, by rw [em]; exact y3, by rw [em]; exact y5, by rw [em]; exact y6, by rw [em]; rfl, by omega, x2, ?_, by rw [eh]; exact h7_18, by rw [eh]; exact h7_19, ?_, fun q hq => ⟨st q, (hs q hq).1, ?_, ?_⟩, fun u => absurd u hen.2⟩
      · rw [eh, em]; exact FI9
      · rw [em, up2_nj (by decide), m6_k 75 (by omega), hm4f 75 (by decide) (by decide)]; exact m3_75
      · rw [eh]; exact h7_108 q hq
      · rw [em, up2_ne (by decide)]; exact m6_157 q hq
  · obtain ⟨t9, p9, c9, s9, dd9, en9, hen, ⟨z1, z2, z3, z4, z5, z6, z7, z8, z9, y1, y2, y3, y4, y5, y6, y7, y8, y9, x1, x2⟩, FI9⟩ := id P3
    have h16 : ¬ up2 h3 101 17 v 101 16 = 0 := by rw [up2_nj (by decide), z9]; exact nI_ne (b := 0) (by omega) (by omega) hen.1
    have m74 : ¬ m3 115 74 = 0 := by rw [y7]; exact nI_ne (b := 0) (by omega) (by omega) hen.1
    obtain ⟨m4, hm4⟩ : ∃ m4, m4 = up2 (up2 m3 115 79 (m3 115 77)) 115 80 (m3 115 78) := ⟨_, rfl⟩
    have hm4f : ∀ k, ¬ k = 79 → ¬ k = 80 → m4 115 k = m3 115 k := fun k z1 z2 => by rw [hm4, up2_nj z2, up2_nj z1]
    have eh : hE (up2 h3 101 17 v) = up2 h3 101 17 v := by unfold hE; rw [if_neg h16]
    have em : mE m4 = up2 m4 115 76 (nI en9) := by
      unfold mE; rw [hm4f 74 (by decide) (by decide), if_neg m74, y7]
    obtain ⟨B1, hB1⟩ : ∃ B, ∀ N, B ≤ N → ∀ g, pX8_goes N (tk m2 0 (nI 1) (nI (G 13 f)) (nI 0)) g = some (m3, g) := E4.goes (en := en9) (Or.inr ⟨y7, hen.1, x2⟩)
    have EA : ∀ N R, 460 ≤ R → ∀ g, ppX7_ask N R F3 v (h3 101 18) (nI dm) (up2 h3 101 17 v) g = some (.inl ((), F3, up2 h3 101 17 v, g)) := fun N R hR g => by
      obtain ⟨r, hr⟩ : ∃ r, R = r + 1 := ⟨R - 1, by omega⟩
      show (tie5 N R R).1 F3 v (h3 101 18) (nI dm) (up2 h3 101 17 v) g = _
      have := ca_over (N := N) (R := R) (r := r) (dm := dm) (v := v) (y := h3 101 18) (F := F3) (h := up2 h3 101 17 v) (g := g) (en := en9) (by rw [up2_nj (by decide)]; exact z9) hen.1 x2
      rw [← hr] at this; exact this
    have a1 := ek fC3
    refine ⟨en9, F3, up2 h3 101 17 v, mE m4, fun N hN R hR g => ?_, ⟨B1 + 64, fun N hN g => ?_⟩, ⟨a1.1, a1.2.1, a1.2.2.1, fun a k z => by rw [up2_ne (by omega)]; exact a1.2.2.2 a k z⟩, fun a k u1 u2 u3 u4 u5 => ?_, ?_, ?_⟩
    · obtain ⟨q, hq⟩ := eloopC N hN R hR g
      rw [hq, cr_end np4 (by rw [CF.2.1]; exact o1) oh1 ob6 (EW N (by omega) R hR g) (EA N R hR g), eh, up2_nj (by decide), z9]
    · obtain ⟨q, hq⟩ := eloopM N (by omega) g
      rw [hq, mr_end np4 f24 m1_119 m1_121 (by rw [← hm2]; exact hB1 N (by omega) g), if_neg m74, ← hm4, mr_317, em, up2_eq]
    · rw [em, up2_o (by omega), hm4, up2_o (by omega), up2_o (by omega)]; exact MF3 a k u1 u2 u3 u4 u5
    · rw [em, up2_nj (by decide), hm4f 55 (by decide) (by decide)]; exact m3_55
    · refine ⟨n, cnt K n, t9, p9, c9, s9, dd9, en9, z1, z2, z3, z4, z5, z7, z8, z9, ?_, ?_, ?_, ?_, ?_, by rw [em, up2_eq], by omega, x2, ?_, e3_18, e3_19, ?_, fun q hq => ⟨st q, (hs q hq).1, p108 q hq, ?_⟩, fun u => absurd u hen.2⟩
      · rw [em, up2_nj (by decide), hm4f 67 (by decide) (by decide)]; exact y1
      · rw [em, up2_nj (by decide), hm4f 68 (by decide) (by decide)]; exact y2
      · rw [em, up2_nj (by decide), hm4f 69 (by decide) (by decide)]; exact y3
      · rw [em, up2_nj (by decide), hm4f 70 (by decide) (by decide)]; exact y5
      · rw [em, up2_nj (by decide), hm4f 73 (by decide) (by decide)]; exact y6
      · rw [em, hm4]; exact FI9
      · rw [em, up2_nj (by decide), hm4f 75 (by decide) (by decide)]; exact m3_75
      · rw [em, hm4, up2_ne (by decide), up2_ne (by decide), up2_ne (by decide)]; exact m3_157 q hq
