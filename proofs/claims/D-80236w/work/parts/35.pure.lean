/-! RUNS, 1: what one step does to the common state -/
theorem th_old {I t j : Nat} (hI : I ≤ 40) (h : j < I + t) : ¬ th I j = 40 + t := by unfold th; split <;> omega
theorem th_new {I t : Nat} : th I (I + t) = 40 + t := by unfold th; rw [if_neg (by omega)]; omega
theorem th_lt {I t j : Nat} (hI : I ≤ 40) (ht : t ≤ 1500) (h : j < I + t) : th I j < 1540 := by unfold th; split <;> omega
theorem th_ne {I i j : Nat} (hI : I ≤ 40) (h : ¬ i = j) : ¬ th I i = th I j := by unfold th; split <;> split <;> omega
theorem pi_lt {W : PG} {I IP t p cl c : Nat} (hB : rB W I IP t p cl) (h : c < IP + p) : pi' W IP c < 1540 := by
  unfold pi'
  obtain ⟨-, -, -, h4, -, h6, -⟩ := hB
  split
  · exact (h6 c (by assumption)).2
  · omega
theorem nWF.x {G : PG} {k0 nf x : Nat} (H : nWF G k0 nf x) : x < 2002 := H.2.2.2.1
theorem vr0 {W : PG} {IP p : Nat} {v : Int32} : vr W IP p 0 v (nI 0) v := Or.inl ⟨rfl, rfl, rfl⟩
theorem RC.put {G W : PG} {I IP t p cl x e : Nat} {F F' : Frm} {h m h' m' : HI} (H : RC G W I IP t p cl F h m) (ht : t < 1500) (he : eok G W cl x e) (hy : G 4 x ≤ 4)
    (e0 : ∀ k, F'.2.2 102 k = if k = I + t then some (G 5 x) else F.2.2 102 k)
    (e3 : ∀ k, h' 103 k = if k = I + t then nI (16 * e) else h 103 k) (e4 : ∀ k, h' 104 k = if k = I + t then nI 0 else h 104 k)
    (e5 : ∀ a k, 105 ≤ a → a ≤ 109 → h' a k = h a k)
    (f1 : ∀ k, m' 148 k = if k = 40 + t then nI x else m 148 k) (f2 : ∀ k, m' 149 k = if k = 40 + t then nI e else m 149 k)
    (f3 : ∀ k, m' 150 k = if k = 40 + t then nI 0 else m 150 k) (f4 : ∀ k, m' 153 k = if k = 40 + t then nI 0 else m 153 k)
    (f5 : ∀ a k, 151 ≤ a → a ≤ 156 → a ≠ 153 → m' a k = m a k) : RC G (up2 W 1 (I + t) (G 4 x)) I IP (t + 1) p cl F' h' m' ∧ ext W (up2 W 1 (I + t) (G 4 x)) I IP t p cl := by
  have hE : ext W (up2 W 1 (I + t) (G 4 x)) I IP t p cl := by
    refine ⟨up2_row (by decide), fun j hj => up2_nj (by omega), fun c hc => ⟨up2_ne (by decide), up2_ne (by decide)⟩, fun c hc => up2_ne (by decide), fun k hk => ?_⟩
    rw [up2_ne (by decide)]; exact hk
  refine ⟨?_, hE⟩
  obtain ⟨⟨hI, hIP, -, hp, hcl, hW, hV⟩, H1, H2, H3⟩ := H
  refine ⟨⟨hI, hIP, by omega, hp, hcl, by rw [hE.1]; exact hW, fun k hk hk2 => by rw [up2_ne (by decide)]; exact hV.1 k hk hk2, fun k hk => by rw [up2_ne (by decide)]; exact hV.2 k (by omega)⟩, fun j hj => ?_, fun c hc => ?_, fun e1 he1 s hs q => ?_⟩
  · by_cases c : j = I + t
    · subst c
      refine ⟨⟨by rw [up2_eq]; exact hy, fun q => by rw [up2_ne (by decide), hV.2 _ (by omega)] at q; cases q⟩, 0, by decide, ?_, ?_, fun _ => ⟨by omega, x, e, ?_, ?_, ?_, ?_, he.ext hE (Nat.le_refl _), ?_⟩, fun q => by omega, fun q => by omega, fun _ => ?_⟩
      · rw [e4, if_pos rfl]
      · rw [f3, th_new, if_pos rfl]
      · rw [e0, if_pos rfl]
      · rw [f1, th_new, if_pos rfl]
      · rw [e3, if_pos rfl]
      · rw [f2, th_new, if_pos rfl]
      · rw [up2_eq]
      · rw [f4, th_new, if_pos rfl]; rfl
    · have hj2 : j < I + t := by omega
      have hn := th_old hI hj2
      obtain ⟨b1, s, b2, b3, b4, b5, b6, b7, b8⟩ := H1 j hj2
      refine ⟨⟨by rw [hE.2.1 j hj2]; exact b1.1, fun q => by rw [e4, if_neg c]; exact b1.2 (by rw [up2_ne (by decide)] at q; exact q)⟩, s, b2, ?_, ?_, fun q => ?_, fun q => ?_, fun q => ?_, fun q => ?_⟩
      · rw [e4, if_neg c]; exact b3
      · rw [f3, if_neg hn]; exact b4
      · obtain ⟨c1, x1, e1, c2, c3, c4, c5, c6, c7⟩ := b5 q
        refine ⟨c1, x1, e1, ?_, ?_, ?_, ?_, c6.ext hE (Nat.le_refl _), ?_⟩
        · rw [e0, if_neg c]; exact c2
        · rw [f1, if_neg hn]; exact c3
        · rw [e3, if_neg c]; exact c4
        · rw [f2, if_neg hn]; exact c5
        · rw [hE.2.1 j hj2]; exact c7
      · rw [hE.2.1 j hj2, e5 105 _ (by decide) (by decide), f5 151 _ (by decide) (by decide) (by decide), f5 152 _ (by decide) (by decide) (by decide)]
        exact (b6 q).ext hE (Nat.le_refl _)
      · rw [e5 109 _ (by decide) (by decide), f4, if_neg (by omega)]; exact b7 q
      · rw [f4, if_neg hn]; exact b8 q
  · obtain ⟨b1, b2, i, j, b3, b4, b5, b6, b7, b8, b9, c1⟩ := H2 c hc
    rw [rP, (hE.2.2.1 c hc).1, (hE.2.2.1 c hc).2, pi'.ext hE, e5 106 _ (by decide) (by decide), e5 107 _ (by decide) (by decide), f5 154 _ (by decide) (by decide) (by decide), f5 155 _ (by decide) (by decide) (by decide)]
    refine ⟨b1, b2, i, j, b3, b4, by omega, by omega, b7, b8, ?_, ?_⟩
    · rw [hE.2.1 i b5]; exact b9
    · rw [hE.2.1 j b6]; exact c1
  · rw [up2_ne (by decide)] at q
    obtain ⟨j, b1, b2, b3, b4⟩ := H3 e1 he1 s hs q
    refine ⟨j, by omega, ?_, ?_, ?_⟩
    · rw [e5 108 _ (by decide) (by decide)]; exact b2
    · rw [f5 156 _ (by decide) (by decide) (by decide)]; exact b3
    · rw [hE.2.1 j b1, hE.2.2.2.1 e1 he1]; exact b4
/-- a slot is filled -/
theorem RC.slot {G W : PG} {I IP t p cl e s j : Nat} {F F' : Frm} {h m h' m' : HI} (H : RC G W I IP t p cl F h m) (he : e ≤ cl) (hs : s < 16) (hj : j < I + t) (hy : W 1 j = G 14 (16 * W 3 e + s))
    (e0 : ∀ k, F'.2.2 102 k = F.2.2 102 k) (e1 : ∀ a k, 103 ≤ a → a ≤ 109 → a ≠ 108 → h' a k = h a k) (e2 : ∀ k, h' 108 k = if k = 16 * e + s then nI j else h 108 k)
    (f1 : ∀ a k, 148 ≤ a → a ≤ 155 → m' a k = m a k) (f2 : ∀ k, m' 156 k = if k = 16 * e + s then nI (th I j) else m 156 k) :
    RC G (up2 W 4 (16 * e + s) 1) I IP t p cl F' h' m' ∧ ext W (up2 W 4 (16 * e + s) 1) I IP t p cl := by
  have hE : ext W (up2 W 4 (16 * e + s) 1) I IP t p cl := by
    refine ⟨up2_row (by decide), fun j hj => up2_ne (by decide), fun c hc => ⟨up2_ne (by decide), up2_ne (by decide)⟩, fun c hc => up2_ne (by decide), fun k hk => ?_⟩
    rw [up2_at]; split
    · split
      · rfl
      · exact hk
    · exact hk
  refine ⟨?_, hE⟩
  obtain ⟨⟨hI, hIP, ht, hp, hcl, hW, hV⟩, H1, H2, H3⟩ := H
  refine ⟨⟨hI, hIP, ht, hp, hcl, by rw [hE.1]; exact hW, fun k hk hk2 => by rw [up2_nj (by omega)]; exact hV.1 k hk hk2, fun k hk => by rw [up2_nj (by omega)]; exact hV.2 k hk⟩, fun j hj => ?_, fun c hc => ?_, fun e3 he3 s3 hs3 q => ?_⟩
  · obtain ⟨b1, s, b2, b3, b4, b5, b6, b7, b8⟩ := H1 j hj
    refine ⟨⟨by rw [hE.2.1 j hj]; exact b1.1, fun q => by rw [e1 104 _ (by decide) (by decide) (by decide)]; exact b1.2 (by rw [up2_nj (by omega)] at q; exact q)⟩, s, b2, ?_, ?_, fun q => ?_, fun q => ?_, fun q => ?_, fun q => ?_⟩
    · rw [e1 104 _ (by decide) (by decide) (by decide)]; exact b3
    · rw [f1 150 _ (by decide) (by decide)]; exact b4
    · obtain ⟨c1, x1, e4, c2, c3, c4, c5, c6, c7⟩ := b5 q
      refine ⟨c1, x1, e4, ?_, ?_, ?_, ?_, c6.ext hE (Nat.le_refl _), ?_⟩
      · rw [e0]; exact c2
      · rw [f1 148 _ (by decide) (by decide)]; exact c3
      · rw [e1 103 _ (by decide) (by decide) (by decide)]; exact c4
      · rw [f1 149 _ (by decide) (by decide)]; exact c5
      · rw [hE.2.1 j hj]; exact c7
    · rw [hE.2.1 j hj, e1 105 _ (by decide) (by decide) (by decide), f1 151 _ (by decide) (by decide), f1 152 _ (by decide) (by decide)]
      exact (b6 q).ext hE (Nat.le_refl _)
    · rw [e1 109 _ (by decide) (by decide) (by decide), f1 153 _ (by decide) (by decide)]; exact b7 q
    · rw [f1 153 _ (by decide) (by decide)]; exact b8 q
  · obtain ⟨b1, b2, i, j, b3, b4, b5, b6, b7, b8, b9, c1⟩ := H2 c hc
    rw [rP, (hE.2.2.1 c hc).1, (hE.2.2.1 c hc).2, pi'.ext hE, e1 106 _ (by decide) (by decide) (by decide), e1 107 _ (by decide) (by decide) (by decide), f1 154 _ (by decide) (by decide), f1 155 _ (by decide) (by decide)]
    refine ⟨b1, b2, i, j, b3, b4, by omega, by omega, b7, b8, ?_, ?_⟩
    · rw [hE.2.1 i b5]; exact b9
    · rw [hE.2.1 j b6]; exact c1
  · by_cases c : 16 * e3 + s3 = 16 * e + s
    · have c1 : e3 = e := by omega
      have c2 : s3 = s := by omega
      subst c1; subst c2
      refine ⟨j, hj, ?_, ?_, ?_⟩
      · rw [e2, if_pos rfl]
      · rw [f2, if_pos rfl]
      · rw [hE.2.1 j hj, hE.2.2.2.1 e3 he3]; exact hy
    · rw [up2_nj c] at q
      obtain ⟨j, b1, b2, b3, b4⟩ := H3 e3 he3 s3 hs3 q
      refine ⟨j, by omega, ?_, ?_, ?_⟩
      · rw [e2, if_neg c]; exact b2
      · rw [f2, if_neg c]; exact b3
      · rw [hE.2.1 j b1, hE.2.2.2.1 e3 he3]; exact b4
/-- a pair is made: its two things are there -/
theorem RC.pair {G W : PG} {I IP t p cl y i j : Nat} {F F' : Frm} {h m h' m' : HI} (H : RC G W I IP t p cl F h m) (hp : p < 1500) (hy : 1 ≤ y ∧ y ≤ 4) (hi : i < I + t) (hj : j < I + t) (y1 : W 1 i = fOf y) (y2 : W 1 j = sOf y)
    (e0 : ∀ k, F'.2.2 102 k = F.2.2 102 k) (e1 : ∀ a k, 103 ≤ a → a ≤ 109 → a ≠ 106 → a ≠ 107 → h' a k = h a k) (e2 : ∀ k, h' 106 k = if k = IP + p then nI i else h 106 k) (e3 : ∀ k, h' 107 k = if k = IP + p then nI j else h 107 k)
    (f1 : ∀ a k, 148 ≤ a → a ≤ 156 → a ≠ 154 → a ≠ 155 → m' a k = m a k) (f2 : ∀ k, m' 154 k = if k = p then nI (th I i) else m 154 k) (f3 : ∀ k, m' 155 k = if k = p then nI (th I j) else m 155 k) :
    RC G (up2 (up2 W 2 (IP + p) y) 6 (IP + p) j) I IP t (p + 1) cl F' h' m' ∧ ext W (up2 (up2 W 2 (IP + p) y) 6 (IP + p) j) I IP t p cl := by
  have hE : ext W (up2 (up2 W 2 (IP + p) y) 6 (IP + p) j) I IP t p cl := by
    refine ⟨rfl, fun j hj => rfl, fun c hc => ⟨?_, ?_⟩, fun c hc => rfl, fun k hk => hk⟩
    · rw [up2_ne (by decide), up2_nj (by omega)]
    · rw [up2_nj (by omega), up2_ne (by decide)]
  refine ⟨?_, hE⟩
  obtain ⟨⟨hI, hIP, ht, hp2, hcl, hW, hV⟩, H1, H2, H3⟩ := H
  refine ⟨⟨hI, hIP, ht, by omega, hcl, by rw [hE.1]; exact hW, hV.1, hV.2⟩, fun j hj => ?_, fun c hc => ?_, fun e4 he4 s4 hs4 q => ?_⟩
  · obtain ⟨b1, s, b2, b3, b4, b5, b6, b7, b8⟩ := H1 j hj
    refine ⟨⟨by rw [hE.2.1 j hj]; exact b1.1, fun q => by rw [e1 104 _ (by decide) (by decide) (by decide) (by decide)]; exact b1.2 q⟩, s, b2, ?_, ?_, fun q => ?_, fun q => ?_, fun q => ?_, fun q => ?_⟩
    · rw [e1 104 _ (by decide) (by decide) (by decide) (by decide)]; exact b3
    · rw [f1 150 _ (by decide) (by decide) (by decide) (by decide)]; exact b4
    · obtain ⟨c1, x1, e4, c2, c3, c4, c5, c6, c7⟩ := b5 q
      refine ⟨c1, x1, e4, ?_, ?_, ?_, ?_, c6.ext hE (Nat.le_refl _), ?_⟩
      · rw [e0]; exact c2
      · rw [f1 148 _ (by decide) (by decide) (by decide) (by decide)]; exact c3
      · rw [e1 103 _ (by decide) (by decide) (by decide) (by decide)]; exact c4
      · rw [f1 149 _ (by decide) (by decide) (by decide) (by decide)]; exact c5
      · rw [hE.2.1 j hj]; exact c7
    · rw [hE.2.1 j hj, e1 105 _ (by decide) (by decide) (by decide) (by decide), f1 151 _ (by decide) (by decide) (by decide) (by decide), f1 152 _ (by decide) (by decide) (by decide) (by decide)]
      exact (b6 q).ext hE (by omega)
    · rw [e1 109 _ (by decide) (by decide) (by decide) (by decide), f1 153 _ (by decide) (by decide) (by decide) (by decide)]; exact b7 q
    · rw [f1 153 _ (by decide) (by decide) (by decide) (by decide)]; exact b8 q
  · by_cases cc : c = IP + p
    · subst cc
      have hq : pi' (up2 (up2 W 2 (IP + p) y) 6 (IP + p) j) IP (IP + p) = p := by unfold pi'; rw [if_neg (by omega)]; omega
      have hz : up2 (up2 W 2 (IP + p) y) 6 (IP + p) j 2 (IP + p) = y := by rw [up2_ne (by decide), up2_eq]
      rw [rP, hq, hz, up2_eq, e2, e3, f2, f3, if_pos rfl, if_pos rfl, if_pos rfl, if_pos rfl]
      exact ⟨hy.1, hy.2, i, j, rfl, rfl, hi, hj, rfl, rfl, by rw [hE.2.1 i hi]; exact y1, by rw [hE.2.1 j hj]; exact ⟨y2, rfl⟩⟩
    · have hc2 : c < IP + p := by omega
      have hn : ¬ pi' W IP c = p := by
        unfold pi'; split
        · have := (hW c (by assumption)).1; omega
        · omega
      obtain ⟨b1, b2, i, j, b3, b4, b5, b6, b7, b8, b9, c1⟩ := H2 c hc2
      rw [rP, (hE.2.2.1 c hc2).1, (hE.2.2.1 c hc2).2, pi'.ext hE, e2, e3, f2, f3, if_neg cc, if_neg cc, if_neg hn, if_neg hn]
      refine ⟨b1, b2, i, j, b3, b4, by omega, by omega, b7, b8, ?_, ?_⟩
      · rw [hE.2.1 i b5]; exact b9
      · rw [hE.2.1 j b6]; exact c1
  · obtain ⟨j, b1, b2, b3, b4⟩ := H3 e4 he4 s4 hs4 q
    refine ⟨j, by omega, ?_, ?_, ?_⟩
    · rw [e1 108 _ (by decide) (by decide) (by decide) (by decide)]; exact b2
    · rw [f1 156 _ (by decide) (by decide) (by decide) (by decide)]; exact b3
    · rw [hE.2.1 j b1, hE.2.2.2.1 e4 he4]; exact b4
/-- a call is made: a frame with nothing in it -/
theorem RC.call {G W : PG} {I IP t p cl k : Nat} {F : Frm} {h m : HI} (H : RC G W I IP t p cl F h m) (hc : cl < 1500) :
    RC G (up2 W 3 (cl + 1) k) I IP t p (cl + 1) F h m ∧ ext W (up2 W 3 (cl + 1) k) I IP t p cl := by
  have hE : ext W (up2 W 3 (cl + 1) k) I IP t p cl := by
    refine ⟨up2_row (by decide), fun j hj => up2_ne (by decide), fun c hc => ⟨up2_ne (by decide), up2_ne (by decide)⟩, fun c hc => up2_nj (by omega), fun k hk => ?_⟩
    rw [up2_ne (by decide)]; exact hk
  refine ⟨?_, hE⟩
  obtain ⟨⟨hI, hIP, ht, hp2, hcl, hW, hV⟩, H1, H2, H3⟩ := H
  refine ⟨⟨hI, hIP, ht, hp2, hc, by rw [hE.1]; exact hW, fun k hk hk2 => by rw [up2_ne (by decide)]; exact hV.1 k (by omega) hk2, fun k hk => by rw [up2_ne (by decide)]; exact hV.2 k hk⟩, fun j hj => ?_, fun c hc => ?_, fun e4 he4 s4 hs4 q => ?_⟩
  · obtain ⟨b1, s, b2, b3, b4, b5, b6, b7, b8⟩ := H1 j hj
    refine ⟨⟨by rw [hE.2.1 j hj]; exact b1.1, fun q => b1.2 (by rw [up2_ne (by decide)] at q; exact q)⟩, s, b2, b3, b4, fun q => ?_, fun q => ?_, b7, b8⟩
    · obtain ⟨c1, x1, e4, c2, c3, c4, c5, c6, c7⟩ := b5 q
      refine ⟨c1, x1, e4, c2, c3, c4, c5, c6.ext hE (by omega), ?_⟩
      rw [hE.2.1 j hj]; exact c7
    · rw [hE.2.1 j hj]; exact (b6 q).ext hE (by omega)
  · obtain ⟨b1, b2, i, j, b3, b4, b5, b6, b7, b8, b9, c1⟩ := H2 c hc
    rw [rP, (hE.2.2.1 c hc).1, (hE.2.2.1 c hc).2, pi'.ext hE]
    refine ⟨b1, b2, i, j, b3, b4, by omega, by omega, b7, b8, ?_, ?_⟩
    · rw [hE.2.1 i b5]; exact b9
    · rw [hE.2.1 j b6]; exact c1
  · rw [up2_ne (by decide)] at q
    by_cases c : e4 = cl + 1
    · rw [hV.1 (16 * e4 + s4) (by omega) (by omega)] at q; cases q
    · obtain ⟨j, b1, b2, b3, b4⟩ := H3 e4 (by omega) s4 hs4 q
      exact ⟨j, by omega, b2, b3, by rw [hE.2.1 j b1, hE.2.2.2.1 e4 (by omega)]; exact b4⟩
/-- the state of thing j is set (1: being worked out; 2: with a value) -/
theorem RC.state {G W : PG} {I IP t p cl j s : Nat} {F F' : Frm} {h m h' m' : HI} (H : RC G W I IP t p cl F h m) (hj : j < I + t) (hs : s = 1 ∨ s = 2)
    (e0 : ∀ k, F'.2.2 102 k = F.2.2 102 k) (e1 : ∀ a k, 103 ≤ a → a ≤ 109 → a ≠ 104 → a ≠ 105 → a ≠ 109 → h' a k = h a k) (e2 : ∀ k, h' 104 k = if k = j then nI s else h 104 k) (e3 : ∀ k, ¬ k = j → h' 105 k = h 105 k) (e4 : ∀ k, ¬ k = j → h' 109 k = h 109 k)
    (f1 : ∀ a k, 148 ≤ a → a ≤ 156 → a ≠ 150 → a ≠ 151 → a ≠ 152 → a ≠ 153 → m' a k = m a k) (f2 : ∀ k, m' 150 k = if k = th I j then nI s else m 150 k) (f3 : ∀ k, ¬ k = th I j → m' 151 k = m 151 k ∧ m' 152 k = m 152 k ∧ m' 153 k = m 153 k)
    (v1 : s = 2 → vr W IP p (W 1 j) (h' 105 j) (m' 151 (th I j)) (m' 152 (th I j))) (v2 : j < I → h' 109 j = m' 153 j) (v3 : I ≤ j → m' 153 (th I j) = nI 1) :
    RC G (up2 W 4 (30000 + j) 1) I IP t p cl F' h' m' ∧ ext W (up2 W 4 (30000 + j) 1) I IP t p cl := by
  have hE : ext W (up2 W 4 (30000 + j) 1) I IP t p cl := by
    refine ⟨up2_row (by decide), fun j hj => up2_ne (by decide), fun c hc => ⟨up2_ne (by decide), up2_ne (by decide)⟩, fun c hc => up2_ne (by decide), fun k hk => ?_⟩
    rw [up2_at]; split
    · split
      · rfl
      · exact hk
    · exact hk
  refine ⟨?_, hE⟩
  obtain ⟨⟨hI, hIP, ht, hp2, hcl, hW, hV⟩, H1, H2, H3⟩ := H
  refine ⟨⟨hI, hIP, ht, hp2, hcl, by rw [hE.1]; exact hW, fun k hk hk2 => by rw [up2_nj (by omega)]; exact hV.1 k hk hk2, fun k hk => by rw [up2_nj (by omega)]; exact hV.2 k hk⟩, fun i hi => ?_, fun c hc => ?_, fun e4 he4 s4 hs4 q => ?_⟩
  · by_cases cc : i = j
    · subst cc
      refine ⟨⟨by rw [hE.2.1 i hi]; exact (H1 i hi).1.1, fun q => ?_⟩, s, by omega, ?_, ?_, fun q => by omega, fun q => ?_, v2, fun q => ?_⟩
      · rw [e2, if_pos rfl, q_inj (by omega) (by omega)]; omega
      · rw [e2, if_pos rfl]
      · rw [f2, if_pos rfl]
      · rw [hE.2.1 i hi]; exact (v1 q).ext hE (Nat.le_refl _)
      · rw [v3 q, if_neg (by omega)]
    · have hn := th_ne hI cc
      have cn : ¬ 30000 + i = 30000 + j := by omega
      obtain ⟨b1, s, b2, b3, b4, b5, b6, b7, b8⟩ := H1 i hi
      obtain ⟨g1, g2, g3⟩ := f3 _ hn
      refine ⟨⟨by rw [hE.2.1 i hi]; exact b1.1, fun q => by rw [e2, if_neg cc]; exact b1.2 (by rw [up2_nj cn] at q; exact q)⟩, s, b2, ?_, ?_, fun q => ?_, fun q => ?_, fun q => ?_, fun q => ?_⟩
      · rw [e2, if_neg cc]; exact b3
      · rw [f2, if_neg hn]; exact b4
      · obtain ⟨c1, x1, e4, c2, c3, c4, c5, c6, c7⟩ := b5 q
        refine ⟨c1, x1, e4, ?_, ?_, ?_, ?_, c6.ext hE (Nat.le_refl _), by rw [hE.2.1 i hi]; exact c7⟩
        · rw [e0]; exact c2
        · rw [f1 148 _ (by decide) (by decide) (by decide) (by decide) (by decide) (by decide)]; exact c3
        · rw [e1 103 _ (by decide) (by decide) (by decide) (by decide) (by decide)]; exact c4
        · rw [f1 149 _ (by decide) (by decide) (by decide) (by decide) (by decide) (by decide)]; exact c5
      · rw [e3 i cc, g1, g2, hE.2.1 i hi]; exact (b6 q).ext hE (Nat.le_refl _)
      · have e : th I i = i := by unfold th; rw [if_pos q]
        rw [e] at g3
        rw [e4 i cc, g3]; exact b7 q
      · rw [g3]; exact b8 q
  · obtain ⟨b1, b2, i, j, b3, b4, b5, b6, b7, b8, b9, c1⟩ := H2 c hc
    rw [rP, (hE.2.2.1 c hc).1, (hE.2.2.1 c hc).2, pi'.ext hE, e1 106 _ (by decide) (by decide) (by decide) (by decide) (by decide), e1 107 _ (by decide) (by decide) (by decide) (by decide) (by decide), f1 154 _ (by decide) (by decide) (by decide) (by decide) (by decide) (by decide), f1 155 _ (by decide) (by decide) (by decide) (by decide) (by decide) (by decide)]
    exact ⟨b1, b2, i, j, b3, b4, b5, b6, b7, b8, by rw [hE.2.1 i b5]; exact b9, by rw [hE.2.1 j b6]; exact c1⟩
  · rw [up2_nj (by omega)] at q
    obtain ⟨j, b1, b2, b3, b4⟩ := H3 e4 he4 s4 hs4 q
    refine ⟨j, b1, ?_, ?_, ?_⟩
    · rw [e1 108 _ (by decide) (by decide) (by decide) (by decide) (by decide)]; exact b2
    · rw [f1 156 _ (by decide) (by decide) (by decide) (by decide) (by decide) (by decide)]; exact b3
    · rw [hE.2.1 j b1, hE.2.2.2.1 e4 he4]; exact b4
/-- the same core, behind changes at a pair that is not yet one -/
theorem RC.fresh {G W : PG} {I IP t p cl : Nat} {F F' : Frm} {h m h' m' : HI} (H : RC G W I IP t p cl F h m) (hp : p < 1500) (e0 : ∀ k, F'.2.2 102 k = F.2.2 102 k) (e1 : ∀ a k, 103 ≤ a → a ≤ 109 → ¬ ((a = 106 ∨ a = 107) ∧ k = IP + p) → h' a k = h a k) (e2 : ∀ a k, 148 ≤ a → a ≤ 156 → ¬ ((a = 154 ∨ a = 155) ∧ k = p) → m' a k = m a k) : RC G W I IP t p cl F' h' m' := by
  obtain ⟨⟨hI, hIP, ht, hp2, hcl, hW, hV⟩, H1, H2, H3⟩ := id H
  refine ⟨H.1, fun j hj => ?_, fun c hc => ?_, fun e he s hs q => ?_⟩
  · have := H1 j hj
    unfold rT at this ⊢
    rw [e0, e1 104 _ (by decide) (by decide) (by omega), e1 103 _ (by decide) (by decide) (by omega), e1 105 _ (by decide) (by decide) (by omega), e1 109 _ (by decide) (by decide) (by omega), e2 148 _ (by decide) (by decide) (by omega), e2 149 _ (by decide) (by decide) (by omega), e2 150 _ (by decide) (by decide) (by omega), e2 151 _ (by decide) (by decide) (by omega), e2 152 _ (by decide) (by decide) (by omega), e2 153 _ (by decide) (by decide) (by omega), e2 153 _ (by decide) (by decide) (by omega)]
    exact this
  · have := H2 c hc
    have hn : ¬ pi' W IP c = p := by
      unfold pi'; split
      · have := (hW c (by assumption)).1; omega
      · omega
    unfold rP at this ⊢
    rw [e1 106 _ (by decide) (by decide) (by omega), e1 107 _ (by decide) (by decide) (by omega), e2 154 _ (by decide) (by decide) (by omega), e2 155 _ (by decide) (by decide) (by omega)]
    exact this
  · have := H3 e he s hs q
    unfold rE at this ⊢
    rw [e1 108 _ (by decide) (by decide) (by omega), e2 156 _ (by decide) (by decide) (by omega)]
    exact this
