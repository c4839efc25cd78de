/-! RUNS, 6: a step of work, around what its kind does -/
theorem ph_o {h : HI} {s d dd a k : Nat} (q : ¬ (a = 101 ∧ (k = 13 ∨ k = 14 ∨ k = 15))) : ph h s d dd a k = h a k := by
  unfold ph
  by_cases c : a = 101
  · rw [up2_nj (by omega), up2_nj (by omega), up2_nj (by omega)]
  · rw [up2_ne c, up2_ne c, up2_ne c]
theorem pm_f {m : HI} {s d dd t k : Nat} (q : ¬ k = 36) (q1 : ¬ k = 74) (q2 : ¬ k = 70) (q3 : ¬ k = 72) (q4 : ¬ k = 73) : pm m s d dd t 115 k = m 115 k := by
  unfold pm
  rw [tk_f q, up2_nj q4, up2_nj q3, up2_nj q2, up2_nj q1]
theorem pm_a {m : HI} {s d dd t a k : Nat} (h1 : ¬ a = 115) (h2 : ¬ a = 134) (h3 : ¬ a = 135) (h4 : ¬ a = 138) : pm m s d dd t a k = m a k := by
  unfold pm
  rw [tk_a h1 h2 h3 h4, up2_ne h1, up2_ne h1, up2_ne h1, up2_ne h1]
theorem sb_pm {m : HI} {s d dd t kp : Nat} : sb t kp m (pm m s d dd t) := by
  refine ⟨fun i hi => ⟨?_, ?_, ?_⟩, fun i hi => pm_a (by decide) (by decide) (by decide) (by decide)⟩ <;> unfold pm
  · rw [tk_s, if_neg (by omega)]; rfl
  · rw [tk_x, if_neg (by omega)]; rfl
  · rw [tk_w, if_neg (by omega)]; rfl
theorem RunS.pre {G W : PG} {k0 nf I IP lim t p cl d t0 kp s dd : Nat} {F : Frm} {h m : HI} (H : RunS G W k0 nf I IP lim t p cl d (t0 + 1) kp F h m) (hc : CT I IP t p cl s dd 0 lim h m) (h1 : s < lim) (h2 : d < 150) :
    RunS G W k0 nf I IP lim t p cl (d + 1) (t0 + 1) kp F (ph h s d dd) (pm (up2 m 115 36 (nI t0)) s d dd t0) := by
  obtain ⟨H1, -, H3, H4, H5, H6, H7, H8, H9⟩ := H
  obtain ⟨c1, c2, c3, c4, c5, c6, c7, c8, c9, g1, g2, g3, g4, g5, g6, g7, d8, d9, i1, i2⟩ := hc
  have A : ∀ a k, ¬ a = 115 → ¬ a = 134 → ¬ a = 135 → ¬ a = 138 → pm (up2 m 115 36 (nI t0)) s d dd t0 a k = m a k := fun a k q1 q2 q3 q4 => by rw [pm_a q1 q2 q3 q4, up2_ne q1]
  have B : ∀ k, ¬ k = 36 → ¬ k = 74 → ¬ k = 70 → ¬ k = 72 → ¬ k = 73 → pm (up2 m 115 36 (nI t0)) s d dd t0 115 k = m 115 k := fun k q q1 q2 q3 q4 => by rw [pm_f q q1 q2 q3 q4, up2_nj q]
  refine ⟨H1.same (fun _ => rfl) (fun a k q1 q2 => ph_o (by omega)) (fun a k q1 q2 => A a k (by omega) (by omega) (by omega) (by omega)), ⟨s + 1, max dd (d + 1), ?_, ?_, ?_, ?_, ?_, ?_, rfl, rfl, ?_, ?_, ?_, ?_, ?_, rfl, rfl, rfl, by omega, d9, by omega, by omega⟩, rfl, rfl, rfl, ?_, H7.fr (fun a k q1 q2 q3 q4 q5 => ?_), H8.fr ⟨⟨rfl, rfl, fun _ _ => rfl, rfl, rfl⟩, rfl, fun _ _ _ => rfl, fun a k q => ph_o (by omega)⟩, H9⟩
  · rw [ph_o (by decide)]; exact c1
  · rw [ph_o (by decide)]; exact c2
  · rw [ph_o (by decide)]; exact c3
  · rw [ph_o (by decide)]; exact c4
  · rw [ph_o (by decide)]; exact c5
  · rw [ph_o (by decide)]; exact c6
  · rw [ph_o (by decide)]; exact c9
  · rw [B 67 (by decide) (by decide) (by decide) (by decide) (by decide)]; exact g1
  · rw [B 68 (by decide) (by decide) (by decide) (by decide) (by decide)]; exact g2
  · rw [B 69 (by decide) (by decide) (by decide) (by decide) (by decide)]; exact g3
  · rw [B 71 (by decide) (by decide) (by decide) (by decide) (by decide)]; exact g4
  · rw [B 82 (by decide) (by decide) (by decide) (by decide) (by decide)]; exact H6
  · by_cases c : a = 115
    · subst c; exact B k (by omega) (by omega) (by omega) (by omega) (by omega)
    · exact A a k c q2 q3 q4
theorem PE.mv {I IP lim : Nat} {h m h' m' : HI} (H : PE I IP lim h m) (e1 : ∀ a k, ¬ (a = 101 ∧ k = 14) → h' a k = h a k) (e2 : ∀ a k, 148 ≤ a → a ≤ 156 → m' a k = m a k) (e3 : ∀ k, 67 ≤ k → ¬ k = 72 → k ≤ 74 → m' 115 k = m 115 k) : PE I IP lim h' m' := by
  obtain ⟨t, p, cl, s, dd, en, he, ⟨c1, c2, c3, c4, c5, c6, c7, c8, c9, d1, d2, d3, d4, d5, d6, d7, d8, d9, g1, g2⟩, f1, f2, f3⟩ := H
  refine ⟨t, p, cl, s, dd, en, he, ⟨?_, ?_, ?_, ?_, ?_, ?_, ?_, ?_, ?_, ?_, ?_, ?_, ?_, ?_, ?_, ?_, d8, d9, g1, g2⟩, f1, f2, fun j hj => ?_⟩
  · rw [e1 101 4 (by decide)]; exact c1
  · rw [e1 101 7 (by decide)]; exact c2
  · rw [e1 101 9 (by decide)]; exact c3
  · rw [e1 101 10 (by decide)]; exact c4
  · rw [e1 101 11 (by decide)]; exact c5
  · rw [e1 101 12 (by decide)]; exact c6
  · rw [e1 101 13 (by decide)]; exact c7
  · rw [e1 101 15 (by decide)]; exact c8
  · rw [e1 101 16 (by decide)]; exact c9
  · rw [e3 67 (by decide) (by decide) (by decide)]; exact d1
  · rw [e3 68 (by decide) (by decide) (by decide)]; exact d2
  · rw [e3 69 (by decide) (by decide) (by decide)]; exact d3
  · rw [e3 71 (by decide) (by decide) (by decide)]; exact d4
  · rw [e3 70 (by decide) (by decide) (by decide)]; exact d5
  · rw [e3 73 (by decide) (by decide) (by decide)]; exact d6
  · rw [e3 74 (by decide) (by decide) (by decide)]; exact d7
  · rw [e1 109 _ (by omega), e1 104 _ (by omega), e2 153 _ (by decide) (by decide), e2 153 _ (by decide) (by decide)]; exact f3 j hj
theorem wk_of {G : PG} {k0 nf I IP lim n d : Nat} (hd : d ≤ 150) (hi : d < 150 → ∀ (W : PG) (t p cl t0 kp : Nat) (F : Frm) (h m : HI) (x e : Nat), RunS G W k0 nf I IP lim t p cl (d + 1) (t0 + 1) kp F h m → eok G W cl x e → t0 ≤ 6 * d + 10 → kp ≤ d → WI G W k0 nf I IP lim n t p cl (d + 1) (t0 + 1) kp x e F h m) : WK G k0 nf I IP lim n d := by
  intro W t p cl t0 kp F h m x e H T he ht0 hkp
  obtain ⟨H1, ⟨s, dd, hc⟩, H3, H4, H5, H6, H7, H8, H9⟩ := id H
  obtain ⟨c1, c2, c3, c4, c5, c6, c7, c8, c9, g1, g2, g3, g4, g5, g6, g7, d8, d9, i1, i2⟩ := id hc
  by_cases hend : s = lim ∨ d = 150
  · obtain ⟨k, hk⟩ : ∃ k, s = lim ∧ k = 3 ∨ ¬ s = lim ∧ d = 150 ∧ k = 4 := by
      by_cases c : s = lim
      · exact ⟨3, Or.inl ⟨c, rfl⟩⟩
      · exact ⟨4, Or.inr ⟨c, by omega, rfl⟩⟩
    have hk0 : (¬ k = 0 ∧ ¬ k = 1) ∧ k ≤ 5 := by omega
    refine ⟨0, F, up2 h 101 16 (nI k), up2 (up2 m 115 36 (nI t0)) 115 74 (nI k), fun N hN R r g hr => ?_, go_work T (fun N hN g => mw_end (m := up2 m 115 36 (nI t0)) (s := s) (lim := lim) (d := d) g5 g4 d8 d9 H4 hd hk), ⟨⟨rfl, rfl, fun _ _ => rfl, rfl, rfl⟩, rfl, fun _ _ _ => rfl, fun a k q => up2_ne (by omega)⟩, ?_, Or.inr ?_⟩
    · obtain ⟨r, rfl⟩ : ∃ r0, r = r0 + 1 := ⟨r - 1, by omega⟩
      exact cw_end c9 c7 c6 d8 d9 H3 hd hk
    · intro a k q1 q2 q3 q4 q5
      by_cases c : a = 115
      · rw [up2_nj (by omega), up2_nj (by omega)]
      · rw [up2_ne c, up2_ne c]
    · refine H.end (en := k) hk0.1 hk0.2 (fun a k q => ?_) rfl (fun k q => ?_) (fun a k q1 q2 => ?_) rfl
      · by_cases c : a = 101
        · rw [up2_nj (by omega)]
        · rw [up2_ne c]
      · rw [up2_nj (by omega), up2_nj (by omega)]
      · rw [up2_ne (by omega), up2_ne (by omega)]
  · have hs : s < lim := by omega
    have hd2 : d < 150 := by omega
    have P := H.pre hc hs hd2
    obtain ⟨τ, v, F', h', m1, m', o1, o2, o3, E1, E2, E3, fC, fM, R⟩ := hi hd2 W t p cl t0 kp F _ _ x e P he ht0 hkp
    have T2 : t0 < 3000 := T.2.1
    have g0 : gto m m' := (go_work T (fun N hN g => by rw [mw_pre (m := up2 m 115 36 (nI t0)) (s := s) (lim := lim) (d := d) (dd := dd) (t := t0) g5 g4 hs d9 H4 hd2 g6 i1 rfl T2]; exact E2 N hN g)).trans E3
    have fC1 : frC F h F' h' := (show frC F h F (ph h s d dd) from ⟨⟨rfl, rfl, fun _ _ => rfl, rfl, rfl⟩, rfl, fun _ _ _ => rfl, fun a k q => ph_o (by omega)⟩).trans fC
    have fM1 : frM m m' := by
      refine (show frM m (pm (up2 m 115 36 (nI t0)) s d dd t0) from fun a k q1 q2 q3 q4 q5 => ?_).trans fM
      by_cases c : a = 115
      · subst c; rw [pm_f (by omega) (by omega) (by omega) (by omega) (by omega), up2_nj (by omega)]
      · rw [pm_a c q2 q3 q4, up2_ne c]
    have EC : ∀ N, 8 ≤ N → ∀ R r g, 3 * n + 3 ≤ r → (tie4 N R r).2.2.2.2.2.2.2 F (G 5 x) (nI (16 * e)) h g = some (.inl (v, F', up2 h' 101 14 (h' 101 14 - 1), g)) := by
      intro N hN R r g hr
      obtain ⟨r, rfl⟩ : ∃ r0, r = r0 + 1 := ⟨r - 1, by omega⟩
      exact cw_pre c9 c7 c6 hs d9 H3 hd2 c8 i1 o1 o2 o3 (E1 N hN R r g (by omega))
    have fC2 : frC F h F' (up2 h' 101 14 (h' 101 14 - 1)) := fC1.trans ⟨⟨rfl, rfl, fun _ _ => rfl, rfl, rfl⟩, rfl, fun _ _ _ => rfl, fun a k q => up2_ne (by omega)⟩
    rcases R with ⟨W', t', p', cl', l1, l2, l3, X, Q, vv, bb⟩ | R
    · obtain ⟨Q1, Q2, Q3, Q4, Q5, Q6, Q7, Q8⟩ := id Q
      obtain ⟨s2, dd2, hc2⟩ := Q2
      have T3 : top m' t0 (nI 2) (nI 0) (nI 0) := by
        obtain ⟨b1, b2, b3⟩ := bb.1 t0 (by omega)
        refine ⟨Q5, T2, hc2.2.2.2.2.2.2.2.2.2.2.2.2.2.2.2.1, ?_, ?_, ?_⟩
        · rw [b1, pm, tk_s, if_pos rfl]
        · rw [b2, pm, tk_x, if_pos rfl]
        · rw [b3, pm, tk_w, if_pos rfl]
      have e14 : h' 101 14 - 1 = nI d := by rw [Q3]; show nI (d + 1) - nI 1 = _; rw [q_sub (by omega)]; rfl
      rw [e14] at EC fC2
      refine ⟨v, F', _, _, EC, g0.trans (go_done T3 Q4), fC2, fM1.trans ?_, Or.inl ⟨W', t', p', cl', l1, l2, l3, X, ?_, ?_, ?_⟩⟩
      · intro a k q1 q2 q3 q4 q5
        by_cases c : a = 115
        · rw [up2_nj (by omega), up2_nj (by omega)]
        · rw [up2_ne c, up2_ne c]
      · refine Q.mv (fun a k q => ?_) rfl (fun k q1 q2 q3 q4 q5 => ?_) (fun a k q1 q2 q3 q4 q5 => ?_) rfl rfl Q6
        · by_cases c : a = 101
          · rw [up2_nj (by omega)]
          · rw [up2_ne c]
        · rw [up2_nj q2, up2_nj q1]
        · rw [up2_ne q1, up2_ne q1]
      · exact vv
      · refine sb.trans (m := m) (sb_pm (m := up2 m 115 36 (nI t0)) (s := s) (d := d) (dd := dd) (kp := kp)) bb (by omega) (Nat.le_refl _) |>.trans (t1 := t0) (k1 := kp) ⟨fun i hi => ⟨rfl, rfl, rfl⟩, fun i hi => rfl⟩ (Nat.le_refl _) (Nat.le_refl _)
    · refine ⟨v, F', _, m', EC, g0, fC2, fM1, Or.inr (R.mv (fun a k q => ?_) (fun _ _ _ _ => rfl) (fun _ _ _ _ => rfl))⟩
      by_cases c : a = 101
      · rw [up2_nj (by omega)]
      · rw [up2_ne c]
