/-! INPUTS, 3: types of inputs (plain); the component lays them -/
def cnt (K : Nat → Nat) : Nat → Nat
  | 0 => 0
  | k + 1 => cnt K k + if K k = 2 then 1 else 0
theorem cnt_mono {K : Nat → Nat} : ∀ (r k : Nat), cnt K k ≤ cnt K (k + r) := by
  intro r
  induction r with
  | zero => intro k; exact Nat.le_refl _
  | succ r ih => intro k; have := ih k; rw [← Nat.add_assoc, cnt]; omega
theorem cnt_le {K : Nat → Nat} {a b : Nat} (h : a ≤ b) : cnt K a ≤ cnt K b := by
  have := cnt_mono (K := K) (b - a) a
  rw [show a + (b - a) = b by omega] at this; exact this
theorem cnt_lt {K : Nat → Nat} {a b : Nat} (h : a < b) (h2 : K a = 2) : cnt K a < cnt K b := by
  have := cnt_le (K := K) (show a + 1 ≤ b by omega)
  rw [cnt, if_pos h2] at this; omega
theorem cnt_id {K : Nat → Nat} : ∀ k, cnt K k ≤ k := by
  intro k
  induction k with
  | zero => exact Nat.le_refl _
  | succ k ih => rw [cnt]; split <;> omega
/-- the type of input k, and where the second part of a pair begins -/
def iOK (K : Nat → Nat) (n j : Nat) (TY E : Nat → Nat) (k : Nat) : Prop := TY k ≤ 4 ∧ (K k = 0 → TY k = 0) ∧ (K k = 2 → 1 ≤ TY k ∧ bh K n 3 (fOf (TY k)) (k + 1) = some (E k) ∧ k + 1 < E k ∧ E k < j ∧ TY (k + 1) = fOf (TY k) ∧ TY (E k) = sOf (TY k))
theorem ty_of {K : Nat → Nat} {n : Nat} : ∀ (L y i j : Nat), lv L y → L ≤ 2 → bh K n (L + 1) y i = some j → ∀ (TY E : Nat → Nat), ∃ TY' E' : Nat → Nat, (∀ k, (k < i ∨ j ≤ k) → TY' k = TY k ∧ E' k = E k) ∧ TY' i = y ∧ ∀ k, i ≤ k → k < j → iOK K n j TY' E' k ∧ (¬ k = i → TY' k ≤ 1) := by
  intro L
  induction L with
  | zero =>
    intro y i j hy hL hb TY E
    have y0 : y = 0 := by unfold lv at hy; omega
    rw [bh] at hb
    split at hb
    · cases hb
    · rename_i c
      split at hb
      · rename_i c2; exact absurd (Or.inr (Or.inr ⟨c2, y0⟩)) c
      · rename_i c2
        cases hb
        refine ⟨fun k => if k = i then y else TY k, E, fun k hk => ⟨if_neg (by omega), rfl⟩, if_pos rfl, fun k h1 h2 => ?_⟩
        have : k = i := by omega
        subst this
        refine ⟨⟨?_, fun _ => ?_, fun q => absurd q c2⟩, fun q => absurd rfl q⟩
        · dsimp only; rw [if_pos rfl]; omega
        · dsimp only; rw [if_pos rfl]; exact y0
  | succ L ih =>
    intro y i j hy hL hb TY E
    have y4 : y ≤ 4 := by unfold lv at hy; omega
    rw [bh] at hb
    split at hb
    · cases hb
    · rename_i c
      split at hb
      · rename_i c2
        have y0 : ¬ y = 0 := fun e => c (Or.inr (Or.inr ⟨c2, e⟩))
        obtain ⟨l1, l2, y1, -⟩ := lv_step hy y0
        split at hb
        · cases hb
        · rename_i e he
          have b1 := bh_lt _ _ _ _ he
          have b2 := bh_lt _ _ _ _ hb
          obtain ⟨T1, E1, a1, a2, a3⟩ := ih _ _ _ l1 (by omega) he (fun k => if k = i then y else TY k) (fun k => if k = i then e else E k)
          obtain ⟨T2, E2, c1, c2', c3⟩ := ih _ _ _ l2 (by omega) hb T1 E1
          have f1 := fOf_le y
          have f2 := sOf_le y
          have ti : T2 i = y := by rw [(c1 i (by omega)).1, (a1 i (by omega)).1]; exact if_pos rfl
          have ei : E2 i = e := by rw [(c1 i (by omega)).2, (a1 i (by omega)).2]; exact if_pos rfl
          refine ⟨T2, E2, fun k hk => ⟨?_, ?_⟩, ti, fun k h1 h2 => ?_⟩
          · rw [(c1 k (by omega)).1, (a1 k (by omega)).1]; exact if_neg (by omega)
          · rw [(c1 k (by omega)).2, (a1 k (by omega)).2]; exact if_neg (by omega)
          · by_cases ki : k = i
            · subst ki
              refine ⟨⟨by omega, fun q => by omega, fun _ => ⟨by omega, ?_, by omega, by omega, ?_, ?_⟩⟩, fun q => absurd rfl q⟩
              · rw [ti, ei, ← bh_3 l1 (by omega)]; exact he
              · rw [ti, (c1 (k + 1) (by omega)).1]; exact a2
              · rw [ti, ei]; exact c2'
            · by_cases ke : k < e
              · obtain ⟨⟨p1, p2, p3⟩, p4⟩ := a3 k (by omega) ke
                rw [iOK, (c1 k (by omega)).1, (c1 k (by omega)).2]
                refine ⟨⟨p1, p2, fun q => ?_⟩, fun _ => ?_⟩
                · obtain ⟨q1, q2, q3, q4, q5, q6⟩ := p3 q
                  exact ⟨q1, q2, q3, by omega, by rw [(c1 (k + 1) (by omega)).1]; exact q5, by rw [(c1 (E1 k) (by omega)).1]; exact q6⟩
                · by_cases kk : k = i + 1
                  · subst kk; rw [a2]; omega
                  · exact p4 kk
              · obtain ⟨p1, p2⟩ := c3 k (by omega) h2
                refine ⟨p1, fun _ => ?_⟩
                by_cases kk : k = e
                · subst kk; rw [c2']; omega
                · exact p2 kk
      · rename_i c2
        cases hb
        refine ⟨fun k => if k = i then y else TY k, E, fun k hk => ⟨if_neg (by omega), rfl⟩, if_pos rfl, fun k h1 h2 => ?_⟩
        have : k = i := by omega
        subst this
        refine ⟨⟨?_, fun q => ?_, fun q => absurd q c2⟩, fun q => absurd rfl q⟩
        · dsimp only; rw [if_pos rfl]; omega
        · dsimp only; rw [if_pos rfl]; omega
theorem up2_o {α : Type} {f : Nat → Nat → α} {a i : Nat} {x : α} {b j : Nat} (h : ¬ (b = a ∧ j = i)) : up2 f a i x b j = f b j := by
  by_cases e : b = a
  · rw [up2_nj (fun q => h ⟨e, q⟩)]
  · rw [up2_ne e]
theorem i8_s {s : Nat} (h : s = 2 ∨ s = 3) : (nI s).toInt8.toInt32.toInt8.toInt32 = nI s := by rcases h with rfl | rfl <;> decide
/-- what laying inputs may change, in the component -/
def frI (F : Frm) (h : HI) (F' : Frm) (h' : HI) : Prop := F'.1 = F.1 ∧ F'.2.1 = F.2.1 ∧ (∀ a k, a ≠ 102 → F'.2.2 a k = F.2.2 a k) ∧ ∀ a k, ¬ (103 ≤ a ∧ a ≤ 107) → ¬ a = 109 → ¬ (a = 101 ∧ (k = 4 ∨ k = 7 ∨ k = 21)) → h' a k = h a k
theorem frI.trans {F F1 F2 : Frm} {h h1 h2 : HI} (a : frI F h F1 h1) (b : frI F1 h1 F2 h2) : frI F h F2 h2 :=
  ⟨b.1.trans a.1, b.2.1.trans a.2.1, fun x k q => (b.2.2.1 x k q).trans (a.2.2.1 x k q), fun x k q1 q2 q3 => (b.2.2.2 x k q1 q2 q3).trans (a.2.2.2 x k q1 q2 q3)⟩
/-- inputs i .. j - 1 lie there as things -/
def laidC (K : Nat → Nat) (V : Nat → Int32) (E : Nat → Nat) (i j : Nat) (h : HI) : Prop := ∀ k, i ≤ k → k < j → h 104 k = nI (if K k = 1 then 3 else 2) ∧ h 109 k = nI 0 ∧ h 105 k = (if K k = 2 then nI (cnt K k) else V k) ∧ (K k = 2 → h 106 (cnt K k) = nI (k + 1) ∧ h 107 (cnt K k) = nI (E k))
/-- the head of input(): one thing is put -/
def iH (K : Nat → Nat) (V : Nat → Int32) (h : HI) (i : Nat) : HI := up2 (up2 (up2 (up2 (up2 (up2 h 101 21 (nI (i + 1))) 103 i (nI 0)) 104 i (nI (if K i = 1 then 3 else 2))) 101 4 (nI (i + 1))) 109 i (nI 0)) 105 i (V i)
theorem iH_o {K : Nat → Nat} {V : Nat → Int32} {h : HI} {i a k : Nat} (q : ¬ (a = 101 ∧ (k = 4 ∨ k = 21))) (q1 : ¬ (k = i ∧ (a = 103 ∨ a = 104 ∨ a = 105 ∨ a = 109))) : iH K V h i a k = h a k := by
  unfold iH
  rw [up2_o (by omega), up2_o (by omega), up2_o (by omega), up2_o (by omega), up2_o (by omega), up2_o (by omega)]
theorem in_head {K : Nat → Nat} {V : Nat → Int32} {n N R i : Nat} {y : Int32} {C : ty6} {F : Frm} {h : HI} {g : HL} (hn : n ≤ 40) (hi : i < n) (hK : K i ≤ 2) (t1 : F.2.1 113 = (0, 40)) (t2 : F.2.1 114 = (0, 40)) (h1 : h 101 21 = nI i) (h2 : h 101 4 = nI i) (hk : h 113 i = nI (K i)) (hv : h 114 i = V i) :
    pX7_input_0 N R C F 113 114 y h g = if K i = 2 then
      (bnd (h 101 7) fun y9 => bnd (up2 (iH K V h i) 101 7 (h 101 7 + 1)) fun h10 => gd (vin (nI i) 1540) <| bnd (up2 h10 105 i y9) fun h11 => obi (ppX1_left N R (fwr F 102 i none) y h11 g) fun y12 h13 g14 => ogi (C (fwr F 102 i none) 113 114 y12 h13 g14) fun y15 F18 h16 g17 => gd (vin y9 1540) <| bnd (up2 h16 106 (ix y9) y15) fun h19 => obi (ppX1_right N R F18 y h19 g17) fun y20 h21 g22 => ogi (C F18 113 114 y20 h21 g22) fun y23 F26 h24 g25 => gd (vin y9 1540) <| bnd (up2 h24 107 (ix y9) y23) fun h27 => some (.inl (nI i, F26, h27, g25)))
      else some (.inl (nI i, fwr F 102 i none, iH K V h i, g)) := by
  have hx : ix (nI i) = i := q_ix (by omega)
  have hv1 : vin (nI i) (F.2.1 113).2 = true := by rw [t1, q_vin (by omega)]; exact decide_eq_true (show i < 40 by omega)
  have hv2 : vin (nI i) 1540 = true := by rw [q_vin (by omega)]; exact decide_eq_true (show i < 1540 by omega)
  have hv3 : vin (nI i) 40 = true := by rw [q_vin (by omega)]; exact decide_eq_true (show i < 40 by omega)
  have e32 : ∀ s, (s = 2 ∨ s = 3) → s = (if K i = 1 then 3 else 2) → pX7_input_32 N R C F 113 114 y (nI i) 0 (nI s) (up2 h 101 21 (nI (i + 1))) g = if K i = 2 then
      (bnd (h 101 7) fun y9 => bnd (up2 (iH K V h i) 101 7 (h 101 7 + 1)) fun h10 => gd (vin (nI i) 1540) <| bnd (up2 h10 105 i y9) fun h11 => obi (ppX1_left N R (fwr F 102 i none) y h11 g) fun y12 h13 g14 => ogi (C (fwr F 102 i none) 113 114 y12 h13 g14) fun y15 F18 h16 g17 => gd (vin y9 1540) <| bnd (up2 h16 106 (ix y9) y15) fun h19 => obi (ppX1_right N R F18 y h19 g17) fun y20 h21 g22 => ogi (C F18 113 114 y20 h21 g22) fun y23 F26 h24 g25 => gd (vin y9 1540) <| bnd (up2 h24 107 (ix y9) y23) fun h27 => some (.inl (nI i, F26, h27, g25)))
      else some (.inl (nI i, fwr F 102 i none, iH K V h i, g)) := by
    intro s hs hse
    have ep : ppX7_putn N R F 0 (nI s) (up2 h 101 21 (nI (i + 1))) g = some (.inl (nI i, fwr F 102 i none, up2 (up2 (up2 (up2 h 101 21 (nI (i + 1))) 103 i (nI 0)) 104 i (nI s)) 101 4 (nI (i + 1)), g)) := by
      show pX7_putn_0 N R F 0 (nI s) (up2 h 101 21 (nI (i + 1))) g = _
      have h4 : up2 h 101 21 (nI (i + 1)) 101 4 = nI i := h2
      have h5 : up2 (up2 h 101 21 (nI (i + 1))) 103 i 0 101 4 = nI i := h2
      have h6 : up2 (up2 (up2 h 101 21 (nI (i + 1))) 103 i 0) 104 i (nI s) 101 4 = nI i := h2
      rw [pX7_putn_0, h4, gd_t hv2, bnd_eq, gd_t hv2, bnd_eq, hx, h5, gd_t hv2, bnd_eq, hx, i8_s hs, h6, bnd_eq, show nI i + 1 = nI (i + 1) from q_add i 1, up2_eq, show nI (i + 1) - 1 = nI i from by rw [show nI (i + 1) - 1 = nI (i + 1 - 1) from q_sub (b := 1) (by omega)]; rfl]
      rfl
    subst hse
    rw [pX7_input_32, ep, ogi_l, gd_t hv3, bnd_eq, hx]
    have g1 : ∀ {α : Type} (x : Option α), gd (decide (((fwr F 102 i none).2.1 114).1 = 0)) x = x := fun x => gd_t (by show decide ((F.2.1 114).1 = 0) = true; rw [t2]; rfl)
    have g2 : ∀ {α : Type} (x : Option α), gd (decide (((fwr F 102 i none).2.1 113).1 = 0)) x = x := fun x => gd_t (by show decide ((F.2.1 113).1 = 0) = true; rw [t1]; rfl)
    have g3 : vin (nI i) ((fwr F 102 i none).2.1 114).2 = true := by show vin (nI i) (F.2.1 114).2 = true; rw [t2, q_vin (by omega)]; exact decide_eq_true (show i < 40 by omega)
    have g4 : vin (nI i) ((fwr F 102 i none).2.1 113).2 = true := hv1
    rw [g1, bnd_eq, gd_t g3, gd_t hv2, bnd_eq, g2, bnd_eq, gd_t g4]
    have e114 : up2 (up2 (up2 (up2 (up2 h 101 21 (nI (i + 1))) 103 i (nI 0)) 104 i (nI (if K i = 1 then 3 else 2))) 101 4 (nI (i + 1))) 109 i 0 114 i = V i := hv
    rw [e114]
    have eH : up2 (up2 (up2 (up2 (up2 (up2 h 101 21 (nI (i + 1))) 103 i (nI 0)) 104 i (nI (if K i = 1 then 3 else 2))) 101 4 (nI (i + 1))) 109 i 0) 105 i (V i) = iH K V h i := rfl
    rw [eH, show iH K V h i 113 i = nI (K i) from hk, show iH K V h i 101 7 = h 101 7 from rfl]
    by_cases c : K i = 2
    · rw [if_pos (show nI (K i) = 2 from by rw [c]; rfl), if_pos c]
    · rw [if_neg (show ¬ nI (K i) = 2 from nI_ne (b := 2) (by omega) (by omega) c), if_neg c]
  rw [pX7_input_0, bnd_eq, h1, bnd_eq, show nI i + 1 = nI (i + 1) from q_add i 1, gd_t (by rw [t1]; rfl), bnd_eq, gd_t hv1, hx, show up2 h 101 21 (nI (i + 1)) 113 i = nI (K i) from hk]
  by_cases c : K i = 1
  · rw [if_pos (show nI (K i) = 1 from by rw [c]; rfl)]
    exact e32 3 (Or.inr rfl) (by rw [if_pos c])
  · rw [if_neg (show ¬ nI (K i) = 1 from nI_ne (b := 1) (by omega) (by omega) c)]
    exact e32 2 (Or.inl rfl) (by rw [if_neg c])
