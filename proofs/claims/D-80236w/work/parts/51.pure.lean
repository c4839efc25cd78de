/-! INPUTS, 4: the component lays them -/
theorem frI.head {K : Nat → Nat} {V : Nat → Int32} {F : Frm} {h : HI} {i : Nat} : frI F h (fwr F 102 i none) (iH K V h i) :=
  ⟨rfl, rfl, fun a k q => up2_ne q, fun a k q1 q2 q3 => iH_o (by omega) (by omega)⟩
theorem inp_ok {K : Nat → Nat} {V : Nat → Int32} {n : Nat} {TY E : Nat → Nat} (hn : n ≤ 40) (hK : ∀ k, K k ≤ 2) : ∀ (L y i j : Nat), lv L y → L ≤ 2 → bh K n (L + 1) y i = some j → TY i = y → (∀ k, i ≤ k → k < j → iOK K n n TY E k) → ∀ (F : Frm) (h : HI), F.2.1 113 = (0, 40) → F.2.1 114 = (0, 40) → h 101 21 = nI i → h 101 4 = nI i → h 101 7 = nI (cnt K i) → (∀ k, k < n → h 113 k = nI (K k)) → (∀ k, k < n → h 114 k = V k) →
    ∃ F' h', (∀ N R r g, L + 1 ≤ r → (tie6 N R r) F 113 114 (nI y) h g = some (.inl (nI i, F', h', g))) ∧ frI F h F' h' ∧ h' 101 21 = nI j ∧ h' 101 4 = nI j ∧ h' 101 7 = nI (cnt K j) ∧ laidC K V E i j h' ∧
      (∀ a k, (a = 104 ∨ a = 105 ∨ a = 109) → (k < i ∨ j ≤ k) → h' a k = h a k) ∧ ∀ a c, (a = 106 ∨ a = 107) → c < cnt K i → h' a c = h a c := by
  intro L
  induction L with
  | zero =>
    intro y i j hy hL hb hT hI F h t1 t2 h1 h2 h3 hk hv
    have y0 : y = 0 := by unfold lv at hy; omega
    have hj := bh_lt _ _ _ _ hb
    rw [bh] at hb
    split at hb
    · cases hb
    · rename_i c
      split at hb
      · rename_i c2; exact absurd (Or.inr (Or.inr ⟨c2, y0⟩)) c
      · rename_i c2
        cases hb
        refine ⟨fwr F 102 i none, iH K V h i, fun N R r g hr => ?_, frI.head, rfl, rfl, ?_, fun k q1 q2 => ?_, fun a k q1 q2 => iH_o (by omega) (by omega), fun a k q1 q2 => iH_o (by omega) (by omega)⟩
        · obtain ⟨r, rfl⟩ : ∃ r0, r = r0 + 1 := ⟨r - 1, by omega⟩
          show pX7_input_0 N R (tie6 N R r) F 113 114 (nI y) h g = _
          rw [in_head hn (by omega) (hK i) t1 t2 h1 h2 (hk i (by omega)) (hv i (by omega)), if_neg c2]
        · rw [cnt, if_neg c2]; exact h3
        · have : k = i := by omega
          subst this
          refine ⟨?_, ?_, ?_, fun q => absurd q c2⟩
          · unfold iH; rw [up2_ne (by decide), up2_ne (by decide), up2_ne (by decide), up2_eq]
          · unfold iH; rw [up2_ne (by decide), up2_eq]
          · unfold iH; rw [up2_eq, if_neg c2]
  | succ L ih =>
    intro y i j hy hL hb hT hI F h t1 t2 h1 h2 h3 hk hv
    have hj := bh_lt _ _ _ _ hb
    have hb0 := hb
    rw [bh] at hb
    split at hb
    · cases hb
    · rename_i c
      split at hb
      · rename_i c2
        have y0 : ¬ y = 0 := fun e => c (Or.inr (Or.inr ⟨c2, e⟩))
        obtain ⟨l1, l2, y1, y4⟩ := lv_step hy y0
        split at hb
        · cases hb
        · rename_i e he
          have b1 := bh_lt _ _ _ _ he
          have b2 := bh_lt _ _ _ _ hb
          obtain ⟨p1, p2, p3⟩ := hI i (Nat.le_refl _) (by omega)
          obtain ⟨q1, q2, q3, q4, q5, q6⟩ := p3 c2
          have eE : E i = e := by
            rw [hT, ← bh_3 l1 (by omega), he] at q2
            injection q2 with q2; exact q2.symm
          have hcnt : cnt K (i + 1) = cnt K i + 1 := by rw [cnt, if_pos c2]
          have hci := cnt_id (K := K) i
          obtain ⟨ha, hha⟩ : ∃ ha, ha = up2 (up2 (iH K V h i) 101 7 (nI (cnt K i + 1))) 105 i (nI (cnt K i)) := ⟨_, rfl⟩
          have haO : ∀ a k, ¬ (a = 101 ∧ k = 7) → ¬ (a = 105 ∧ k = i) → ha a k = iH K V h i a k := fun a k z1 z2 => by rw [hha, up2_o z2, up2_o z1]
          -- first part
          obtain ⟨F1, h4, E1, f1, g1, g2, g3, L1, o1, o2⟩ := ih (fOf y) (i + 1) e l1 (by omega) he (by rw [q5, hT]) (fun k z1 z2 => hI k (by omega) (by omega)) (fwr F 102 i none) ha t1 t2 (by rw [hha]; rfl) (by rw [hha]; rfl) (by rw [hcnt, hha]; rfl) (fun k z => by rw [haO _ _ (by omega) (by omega), iH_o (by omega) (by omega)]; exact hk k z) (fun k z => by rw [haO _ _ (by omega) (by omega), iH_o (by omega) (by omega)]; exact hv k z)
          obtain ⟨hb4, hhb4⟩ : ∃ hb4, hb4 = up2 h4 106 (cnt K i) (nI (i + 1)) := ⟨_, rfl⟩
          have hbO : ∀ a k, ¬ (a = 106 ∧ k = cnt K i) → hb4 a k = h4 a k := fun a k z => by rw [hhb4, up2_o z]
          -- second part
          obtain ⟨F2, h5, E2, f2, k1, k2, k3, L2, o3, o4⟩ := ih (sOf y) e j l2 (by omega) hb (by rw [← eE, q6, hT]) (fun k z1 z2 => hI k (by omega) z2) F1 hb4 (by rw [f1.2.1]; exact t1) (by rw [f1.2.1]; exact t2) (by rw [hbO _ _ (by omega)]; exact g1) (by rw [hbO _ _ (by omega)]; exact g2) (by rw [hbO _ _ (by omega)]; exact g3)
            (fun k z => by rw [hbO _ _ (by omega), f1.2.2.2 _ _ (by omega) (by omega) (by omega), haO _ _ (by omega) (by omega), iH_o (by omega) (by omega)]; exact hk k z) (fun k z => by rw [hbO _ _ (by omega), f1.2.2.2 _ _ (by omega) (by omega) (by omega), haO _ _ (by omega) (by omega), iH_o (by omega) (by omega)]; exact hv k z)
          have ce : cnt K (i + 1) ≤ cnt K e := cnt_le (by omega)
          obtain ⟨h6, hh6⟩ : ∃ h6, h6 = up2 h5 107 (cnt K i) (nI e) := ⟨_, rfl⟩
          have h6O : ∀ a k, ¬ (a = 107 ∧ k = cnt K i) → h6 a k = h5 a k := fun a k z => by rw [hh6, up2_o z]
          refine ⟨F2, h6, fun N R r g hr => ?_, ?_, ?_, ?_, ?_, fun k z1 z2 => ?_, fun a k z1 z2 => ?_, fun a k z1 z2 => ?_⟩
          · obtain ⟨r, rfl⟩ : ∃ r0, r = r0 + 1 := ⟨r - 1, by omega⟩
            show pX7_input_0 N R (tie6 N R r) F 113 114 (nI y) h g = _
            have hv1 : vin (nI i) 1540 = true := by rw [q_vin (by omega)]; exact decide_eq_true (by omega)
            have hv2 : vin (nI (cnt K i)) 1540 = true := by rw [q_vin (by omega)]; exact decide_eq_true (by omega)
            rw [in_head hn (by omega) (hK i) t1 t2 h1 h2 (hk i (by omega)) (hv i (by omega)), if_pos c2, bnd_eq, h3, bnd_eq, gd_t hv1, bnd_eq, c_left y1 y4, obi_some, show nI (cnt K i) + 1 = nI (cnt K i + 1) from q_add _ 1, ← hha, E1 N R r g (by omega), ogi_l, gd_t hv2, bnd_eq, show ix (nI (cnt K i)) = cnt K i from q_ix (by omega), c_right y1 y4, obi_some, ← hhb4, E2 N R r g (by omega), ogi_l, gd_t hv2, bnd_eq, ← hh6]
          · refine (((frI.head (K := K) (V := V) (h := h)).trans (show frI (fwr F 102 i none) (iH K V h i) (fwr F 102 i none) ha from ⟨rfl, rfl, fun _ _ _ => rfl, fun a k z1 z2 z3 => haO a k (by omega) (by omega)⟩)).trans f1).trans (((show frI F1 h4 F1 hb4 from ⟨rfl, rfl, fun _ _ _ => rfl, fun a k z1 z2 z3 => hbO a k (by omega)⟩).trans f2).trans ⟨rfl, rfl, fun _ _ _ => rfl, fun a k z1 z2 z3 => h6O a k (by omega)⟩)
          · rw [h6O _ _ (by omega)]; exact k1
          · rw [h6O _ _ (by omega)]; exact k2
          · rw [h6O _ _ (by omega)]; exact k3
          · by_cases ki : k = i
            · subst ki
              have cl : cnt K k < cnt K e := by omega
              refine ⟨?_, ?_, ?_, fun _ => ⟨?_, ?_⟩⟩
              · rw [h6O _ _ (by omega), o3 _ _ (by omega) (by omega), hbO _ _ (by omega), o1 _ _ (by omega) (by omega), haO _ _ (by omega) (by omega)]
                unfold iH; rw [up2_ne (by decide), up2_ne (by decide), up2_ne (by decide), up2_eq]
              · rw [h6O _ _ (by omega), o3 _ _ (by omega) (by omega), hbO _ _ (by omega), o1 _ _ (by omega) (by omega), haO _ _ (by omega) (by omega)]
                unfold iH; rw [up2_ne (by decide), up2_eq]
              · rw [h6O _ _ (by omega), o3 _ _ (by omega) (by omega), hbO _ _ (by omega), o1 _ _ (by omega) (by omega), hha, up2_eq, if_pos c2]
              · rw [h6O _ _ (by omega), o4 _ _ (by omega) cl, hhb4, up2_eq]
              · rw [hh6, up2_eq, eE]
            · by_cases ke : k < e
              · obtain ⟨w1, w2, w3, w4⟩ := L1 k (by omega) ke
                refine ⟨?_, ?_, ?_, fun z => ?_⟩
                · rw [h6O _ _ (by omega), o3 _ _ (by omega) (by omega), hbO _ _ (by omega)]; exact w1
                · rw [h6O _ _ (by omega), o3 _ _ (by omega) (by omega), hbO _ _ (by omega)]; exact w2
                · rw [h6O _ _ (by omega), o3 _ _ (by omega) (by omega), hbO _ _ (by omega)]; exact w3
                · have ck : cnt K k < cnt K e := cnt_lt ke z
                  have ck2 : cnt K (i + 1) ≤ cnt K k := cnt_le (by omega)
                  obtain ⟨x1, x2⟩ := w4 z
                  refine ⟨?_, ?_⟩
                  · rw [h6O _ _ (by omega), o4 _ _ (by omega) ck, hbO _ _ (by omega)]; exact x1
                  · rw [h6O _ _ (by omega), o4 _ _ (by omega) ck, hbO _ _ (by omega)]; exact x2
              · obtain ⟨w1, w2, w3, w4⟩ := L2 k (by omega) z2
                refine ⟨?_, ?_, ?_, fun z => ?_⟩
                · rw [h6O _ _ (by omega)]; exact w1
                · rw [h6O _ _ (by omega)]; exact w2
                · rw [h6O _ _ (by omega)]; exact w3
                · have ck2 : cnt K (i + 1) ≤ cnt K k := cnt_le (by omega)
                  obtain ⟨x1, x2⟩ := w4 z
                  refine ⟨?_, ?_⟩
                  · rw [h6O _ _ (by omega)]; exact x1
                  · rw [h6O _ _ (by omega)]; exact x2
          · rw [h6O _ _ (by omega), o3 _ _ z1 (by omega), hbO _ _ (by omega), o1 _ _ z1 (by omega), haO _ _ (by omega) (by omega), iH_o (by omega) (by omega)]
          · rw [h6O _ _ (by omega), o4 _ _ z1 (by omega), hbO _ _ (by omega), o2 _ _ z1 (by omega), haO _ _ (by omega) (by omega), iH_o (by omega) (by omega)]
      · rename_i c2
        cases hb
        refine ⟨fwr F 102 i none, iH K V h i, fun N R r g hr => ?_, frI.head, rfl, rfl, ?_, fun k q1 q2 => ?_, fun a k q1 q2 => iH_o (by omega) (by omega), fun a k q1 q2 => iH_o (by omega) (by omega)⟩
        · obtain ⟨r, rfl⟩ : ∃ r0, r = r0 + 1 := ⟨r - 1, by omega⟩
          show pX7_input_0 N R (tie6 N R r) F 113 114 (nI y) h g = _
          rw [in_head hn (by omega) (hK i) t1 t2 h1 h2 (hk i (by omega)) (hv i (by omega)), if_neg c2]
        · rw [cnt, if_neg c2]; exact h3
        · have : k = i := by omega
          subst this
          refine ⟨?_, ?_, ?_, fun q => absurd q c2⟩
          · unfold iH; rw [up2_ne (by decide), up2_ne (by decide), up2_ne (by decide), up2_eq]
          · unfold iH; rw [up2_ne (by decide), up2_eq]
          · unfold iH; rw [up2_eq, if_neg c2]
