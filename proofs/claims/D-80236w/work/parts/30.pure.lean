/-! THE MODEL AS PURE FUNCTIONS (printed by gen/walkp.py): p<X>_0 N args h g = some (answer, h', g'); none: an index out of its array, or the fuel N of its loops is out -/
set_option maxRecDepth 100000
def bnd {α β : Type} (x : α) (k : α → β) : β := k x
def gd {α : Type} (b : Bool) (x : Option α) : Option α := if b = true then x else none
def vin (i : Int32) (n : Nat) : Bool := decide (0 ≤ i) && decide (ix i < n)
def isBb (x : Int32) : Bool := x == 0 || x == 1
def obv {β : Type} (x : Option (HI × HL)) (k : HI → HL → Option β) : Option β := match x with
  | some (h, g) => k h g
  | none => none
def obi {β : Type} (x : Option (Int32 × HI × HL)) (k : Int32 → HI → HL → Option β) : Option β := match x with
  | some (y, h, g) => k y h g
  | none => none
def obl {β : Type} (x : Option (Int64 × HI × HL)) (k : Int64 → HI → HL → Option β) : Option β := match x with
  | some (y, h, g) => k y h g
  | none => none
def eqv (h9 : HI) (g9 : HL) : HI → HL → Prop := fun h g => h = h9 ∧ g = g9
def eqi (y9 : Int32) (h9 : HI) (g9 : HL) : Int32 → HI → HL → Prop := fun y h g => y = y9 ∧ h = h9 ∧ g = g9
def eql (y9 : Int64) (h9 : HI) (g9 : HL) : Int64 → HI → HL → Prop := fun y h g => y = y9 ∧ h = h9 ∧ g = g9
theorem bndE {α β : Type} {x y : α} {k : α → β} {r : β} (e : y = x) (h : bnd x k = r) : k y = r := by subst e; exact h
theorem gdE {α : Type} {b : Bool} {x : Option α} {r : α} (h : gd b x = some r) : b = true ∧ x = some r := by
  unfold gd at h
  cases b with
  | true => exact ⟨rfl, h⟩
  | false => cases h
theorem iteT {α : Type} {c : Prop} {d : Decidable c} {a b r : α} (h : c) (e : (if c then a else b) = r) : a = r := by rw [if_pos h] at e; exact e
theorem iteF {α : Type} {c : Prop} {d : Decidable c} {a b r : α} (h : ¬ c) (e : (if c then a else b) = r) : b = r := by rw [if_neg h] at e; exact e
theorem vinE {i : Int32} {n : Nat} (h : vin i n = true) : vp_in i n := by
  unfold vin at h
  simp only [Bool.and_eq_true, decide_eq_true_eq] at h
  intro q
  rcases q with q | q
  · exact absurd h.1 (Int32.not_le.mpr q)
  · exact absurd q (Nat.not_le.mpr h.2)
theorem isBbE {x : Int32} (h : isBb x = true) : isB x := by
  unfold isBb at h
  simp only [Bool.or_eq_true, beq_iff_eq] at h
  rcases h with rfl | rfl
  · exact isB0
  · exact isB1
theorem nzE {x : Int32} (h : (!(x == 0)) = true) : ¬ x = 0 := by
  intro e
  subst e
  cases h
theorem obvE {β : Type} {x : Option (HI × HL)} {k : HI → HL → Option β} {r : β} (h : obv x k = some r) : ∃ h1 g1, x = some (h1, g1) ∧ k h1 g1 = some r := by
  cases x with
  | none => cases h
  | some q => exact ⟨q.1, q.2, rfl, h⟩
theorem obiE {β : Type} {x : Option (Int32 × HI × HL)} {k : Int32 → HI → HL → Option β} {r : β} (h : obi x k = some r) : ∃ y h1 g1, x = some (y, h1, g1) ∧ k y h1 g1 = some r := by
  cases x with
  | none => cases h
  | some q => exact ⟨q.1, q.2.1, q.2.2, rfl, h⟩
theorem oblE {β : Type} {x : Option (Int64 × HI × HL)} {k : Int64 → HI → HL → Option β} {r : β} (h : obl x k = some r) : ∃ y h1 g1, x = some (y, h1, g1) ∧ k y h1 g1 = some r := by
  cases x with
  | none => cases h
  | some q => exact ⟨q.1, q.2.1, q.2.2, rfl, h⟩
def pX8_thrown_0 (N : Nat) (h : HI) (g : HL) : Option (Int32 × HI × HL) :=
  some ((h 115 0), h, g)
theorem jX8_thrown_0 {D : DE} {f : Nat} {F : Frm} (hF : k_Fix F) {N : Nat} {y9 : Int32} {h9 : HI} {g9 : HL}  : ∀ (h : HI) (g : HL), pX8_thrown_0 N h g = some (y9, h9, g9) → JX8_thrown_0 D f (eqi y9 h9 g9) F h g  := by
  intro h g E
  unfold pX8_thrown_0 at E
  cases E; exact ⟨rfl, rfl, rfl⟩
abbrev pX8_thrown (N : Nat) (h : HI) (g : HL) : Option (Int32 × HI × HL) := pX8_thrown_0 N h g
theorem sX8_thrown {D : DE} {f : Nat} {F : Frm} (hF : k_Fix F) {N : Nat} {y9 : Int32} {h9 : HI} {g9 : HL} {h : HI} {g : HL} (E : pX8_thrown N h g = some (y9, h9, g9)) : Si D f mX8_thrown [.ref (ad D 115)] F h g (eqi y9 h9 g9) := wX8_thrown (f := f) hF  (jX8_thrown_0 hF _ _ E)
def pX8_within_0 (N : Nat) (x0 : Int64) (x2 : Int64) (x4 : Int64) (h : HI) (g : HL) : Option (Int32 × HI × HL) :=
  if (lg_cmp x0 x2) < 0 then
    some (0, h, g)
  else
    if 0 < (lg_cmp x0 x4) then
      some (0, h, g)
    else
      some (1, h, g)
theorem jX8_within_0 {D : DE} {f : Nat} {F : Frm} (hF : k_Fix F) {N : Nat} {y9 : Int32} {h9 : HI} {g9 : HL}  : ∀ (x0 : Int64) (x2 : Int64) (x4 : Int64) (h : HI) (g : HL), pX8_within_0 N x0 x2 x4 h g = some (y9, h9, g9) → JX8_within_0 D f (eqi y9 h9 g9) F h g x0 x2 x4 := by
  intro x0 x2 x4 h g E
  unfold pX8_within_0 at E
  refine ⟨fun c0 => ?_, fun c0 => ?_⟩
  · replace E := iteT c0 E
    cases E; exact ⟨rfl, rfl, rfl⟩
  · replace E := iteF c0 E
    refine ⟨fun c0 => ?_, fun c0 => ?_⟩
    · replace E := iteT c0 E
      cases E; exact ⟨rfl, rfl, rfl⟩
    · replace E := iteF c0 E
      cases E; exact ⟨rfl, rfl, rfl⟩
abbrev pX8_within (N : Nat) (x0 : Int64) (x2 : Int64) (x4 : Int64) (h : HI) (g : HL) : Option (Int32 × HI × HL) := pX8_within_0 N x0 x2 x4 h g
theorem sX8_within {D : DE} {f : Nat} {F : Frm} (hF : k_Fix F) {N : Nat} {y9 : Int32} {h9 : HI} {g9 : HL} {x0 : Int64} {x2 : Int64} {x4 : Int64} {h : HI} {g : HL} (E : pX8_within N x0 x2 x4 h g = some (y9, h9, g9)) : Si D f mX8_within [.long x0, .long x2, .long x4] F h g (eqi y9 h9 g9) := wX8_within (f := f) hF _ _ _ (jX8_within_0 hF _ _ _ _ _ E)
def pX8_feed_87 (N : Nat) (K34 : Int32 → Int32 → Int32 → Int32 → Int32 → Int32 → HI → HL → Option (Int32 × HI × HL)) (x1 : Int32) (x2 : Int32) (x3 : Int32) (x4 : Int32) (x5 : Int32) (x6 : Int32) (s0 : Int32) (h : HI) (g : HL) : Option (Int32 × HI × HL) :=
  bnd ((s0 >>> ((24 - (8 * (x6 - x6 / 4 * 4))) &&& 31)) &&& 255) fun (y1 : Int32) =>
  gd (vin (h 115 2) 4000) <|
  bnd (up2 h 116 (ix (h 115 2)) y1) fun (h2 : HI) =>
  bnd (up2 h2 115 2 ((h2 115 2) + 1)) fun (h3 : HI) =>
  bnd (x6 + 1) fun (y4 : Int32) =>
  K34 x1 x2 x3 x4 x5 y4 h3 g
theorem jX8_feed_87 {D : DE} {f : Nat} {F : Frm} (hF : k_Fix F) {N : Nat} {K34 : Int32 → Int32 → Int32 → Int32 → Int32 → Int32 → HI → HL → Option (Int32 × HI × HL)} {y9 : Int32} {h9 : HI} {g9 : HL} (hK34 : ∀ (x1 : Int32) (x2 : Int32) (x3 : Int32) (x4 : Int32) (x5 : Int32) (x6 : Int32) (h : HI) (g : HL), K34 x1 x2 x3 x4 x5 x6 h g = some (y9, h9, g9) → V D mX8_feed f (qi F (eqi y9 h9 g9)) 34 [(0, .ref (ad D 115)), (1, .int x1), (2, .int x2), (3, .int x3), (4, .int x4), (5, .int x5), (6, .int x6)] [] (F, h, g)) : ∀ (x1 : Int32) (x2 : Int32) (x3 : Int32) (x4 : Int32) (x5 : Int32) (x6 : Int32) (s0 : Int32) (h : HI) (g : HL), pX8_feed_87 N K34 x1 x2 x3 x4 x5 x6 s0 h g = some (y9, h9, g9) → JX8_feed_87 D f (eqi y9 h9 g9) F h g x1 x2 x3 x4 x5 x6 s0 := by
  intro x1 x2 x3 x4 x5 x6 s0 h g E
  unfold pX8_feed_87 at E
  intro y1 e0; replace E := bndE e0 E
  obtain ⟨z0, E⟩ := gdE E; refine ⟨vinE z0, ?_⟩
  intro h2 e0; replace E := bndE e0 E
  intro h3 e0; replace E := bndE e0 E
  intro y4 e0; replace E := bndE e0 E
  exact hK34 _ _ _ _ _ _ _ _ E
def pX8_feed_34 (N : Nat) : Nat → Int32 → Int32 → Int32 → Int32 → Int32 → Int32 → HI → HL → Option (Int32 × HI × HL)
  | 0, _, _, _, _, _, _, _, _ => none
  | n + 1, x1, x2, x3, x4, x5, x6, h, g =>
    if 20 ≤ x6 then
      some ((h 115 2), h, g)
    else
      if 4 ≤ x6 then
        if 8 ≤ x6 then
          if 12 ≤ x6 then
            if 16 ≤ x6 then
              pX8_feed_87 N (pX8_feed_34 N n) x1 x2 x3 x4 x5 x6 x5 h g
            else
              pX8_feed_87 N (pX8_feed_34 N n) x1 x2 x3 x4 x5 x6 x4 h g
          else
            pX8_feed_87 N (pX8_feed_34 N n) x1 x2 x3 x4 x5 x6 x3 h g
        else
          pX8_feed_87 N (pX8_feed_34 N n) x1 x2 x3 x4 x5 x6 x2 h g
      else
        pX8_feed_87 N (pX8_feed_34 N n) x1 x2 x3 x4 x5 x6 x1 h g
theorem lX8_feed_34 {D : DE} {f : Nat} {F : Frm} (hF : k_Fix F) {N : Nat} {y9 : Int32} {h9 : HI} {g9 : HL}  : ∀ (n : Nat) (x1 : Int32) (x2 : Int32) (x3 : Int32) (x4 : Int32) (x5 : Int32) (x6 : Int32) (h : HI) (g : HL), pX8_feed_34 N n x1 x2 x3 x4 x5 x6 h g = some (y9, h9, g9) → V D mX8_feed f (qi F (eqi y9 h9 g9)) 34 [(0, .ref (ad D 115)), (1, .int x1), (2, .int x2), (3, .int x3), (4, .int x4), (5, .int x5), (6, .int x6)] [] (F, h, g) := by
  intro n
  induction n with
  | zero => intro x1 x2 x3 x4 x5 x6 h g E; cases E
  | succ n hK34 =>
    intro x1 x2 x3 x4 x5 x6 h g E
    rw [pX8_feed_34] at E
    refine bX8_feed_34 (f := f) hF x1 x2 x3 x4 x5 x6 ?_
    refine ⟨fun c0 => ?_, fun c0 => ?_⟩
    · replace E := iteT c0 E
      cases E; exact ⟨rfl, rfl, rfl⟩
    · replace E := iteF c0 E
      refine ⟨fun c0 => ?_, fun c0 => ?_⟩
      · replace E := iteT c0 E
        refine ⟨fun c0 => ?_, fun c0 => ?_⟩
        · replace E := iteT c0 E
          refine ⟨fun c0 => ?_, fun c0 => ?_⟩
          · replace E := iteT c0 E
            refine ⟨fun c0 => ?_, fun c0 => ?_⟩
            · replace E := iteT c0 E
              exact jX8_feed_87 hF hK34 _ _ _ _ _ _ _ _ _ E
            · replace E := iteF c0 E
              exact jX8_feed_87 hF hK34 _ _ _ _ _ _ _ _ _ E
          · replace E := iteF c0 E
            exact jX8_feed_87 hF hK34 _ _ _ _ _ _ _ _ _ E
        · replace E := iteF c0 E
          exact jX8_feed_87 hF hK34 _ _ _ _ _ _ _ _ _ E
      · replace E := iteF c0 E
        exact jX8_feed_87 hF hK34 _ _ _ _ _ _ _ _ _ E
def pX8_feed_19 (N : Nat) (x1 : Int32) (x2 : Int32) (x3 : Int32) (x4 : Int32) (x5 : Int32) (s1 : Int32) (h : HI) (g : HL) : Option (Int32 × HI × HL) :=
  bnd (up2 h 115 0 s1) fun (h1 : HI) =>
  if (h1 115 0) ≤ 0 then
    pX8_feed_34 N N x1 x2 x3 x4 x5 0 h1 g
  else
    some (0, h1, g)
theorem jX8_feed_19 {D : DE} {f : Nat} {F : Frm} (hF : k_Fix F) {N : Nat} {y9 : Int32} {h9 : HI} {g9 : HL}  : ∀ (x1 : Int32) (x2 : Int32) (x3 : Int32) (x4 : Int32) (x5 : Int32) (s1 : Int32) (h : HI) (g : HL), pX8_feed_19 N x1 x2 x3 x4 x5 s1 h g = some (y9, h9, g9) → JX8_feed_19 D f (eqi y9 h9 g9) F h g x1 x2 x3 x4 x5 s1 := by
  intro x1 x2 x3 x4 x5 s1 h g E
  unfold pX8_feed_19 at E
  intro h1 e0; replace E := bndE e0 E
  refine ⟨fun c0 => ?_, fun c0 => ?_⟩
  · replace E := iteT c0 E
    exact lX8_feed_34 hF  N _ _ _ _ _ _ _ _ E
  · replace E := iteF c0 E
    cases E; exact ⟨rfl, rfl, rfl⟩
def pX8_feed_0 (N : Nat) (x1 : Int32) (x2 : Int32) (x3 : Int32) (x4 : Int32) (x5 : Int32) (h : HI) (g : HL) : Option (Int32 × HI × HL) :=
  if ((h 115 2) + 20) ≤ 4000 then
    pX8_feed_19 N x1 x2 x3 x4 x5 0 h g
  else
    pX8_feed_19 N x1 x2 x3 x4 x5 1 h g
theorem jX8_feed_0 {D : DE} {f : Nat} {F : Frm} (hF : k_Fix F) {N : Nat} {y9 : Int32} {h9 : HI} {g9 : HL}  : ∀ (x1 : Int32) (x2 : Int32) (x3 : Int32) (x4 : Int32) (x5 : Int32) (h : HI) (g : HL), pX8_feed_0 N x1 x2 x3 x4 x5 h g = some (y9, h9, g9) → JX8_feed_0 D f (eqi y9 h9 g9) F h g x1 x2 x3 x4 x5 := by
  intro x1 x2 x3 x4 x5 h g E
  unfold pX8_feed_0 at E
  refine ⟨fun c0 => ?_, fun c0 => ?_⟩
  · replace E := iteT c0 E
    exact jX8_feed_19 hF  _ _ _ _ _ _ _ _ E
  · replace E := iteF c0 E
    exact jX8_feed_19 hF  _ _ _ _ _ _ _ _ E
abbrev pX8_feed (N : Nat) (x1 : Int32) (x2 : Int32) (x3 : Int32) (x4 : Int32) (x5 : Int32) (h : HI) (g : HL) : Option (Int32 × HI × HL) := pX8_feed_0 N x1 x2 x3 x4 x5 h g
theorem sX8_feed {D : DE} {f : Nat} {F : Frm} (hF : k_Fix F) {N : Nat} {y9 : Int32} {h9 : HI} {g9 : HL} {x1 : Int32} {x2 : Int32} {x3 : Int32} {x4 : Int32} {x5 : Int32} {h : HI} {g : HL} (E : pX8_feed N x1 x2 x3 x4 x5 h g = some (y9, h9, g9)) : Si D f mX8_feed [.ref (ad D 115), .int x1, .int x2, .int x3, .int x4, .int x5] F h g (eqi y9 h9 g9) := wX8_feed (f := f) hF _ _ _ _ _ (jX8_feed_0 hF _ _ _ _ _ _ _ E)
def pX8_cut_20 (N : Nat) (x1 : Int32) (s1 : Int32) (h : HI) (g : HL) : Option (Int32 × HI × HL) :=
  bnd (up2 h 115 0 s1) fun (h1 : HI) =>
  if (h1 115 0) ≤ 0 then
    bnd ((h1 115 2) - x1) fun (y2 : Int32) =>
    bnd (up2 h1 115 2 x1) fun (h3 : HI) =>
    some (y2, h3, g)
  else
    some (0, h1, g)
theorem jX8_cut_20 {D : DE} {f : Nat} {F : Frm} (hF : k_Fix F) {N : Nat} {y9 : Int32} {h9 : HI} {g9 : HL}  : ∀ (x1 : Int32) (s1 : Int32) (h : HI) (g : HL), pX8_cut_20 N x1 s1 h g = some (y9, h9, g9) → JX8_cut_20 D f (eqi y9 h9 g9) F h g x1 s1 := by
  intro x1 s1 h g E
  unfold pX8_cut_20 at E
  intro h1 e0; replace E := bndE e0 E
  refine ⟨fun c0 => ?_, fun c0 => ?_⟩
  · replace E := iteT c0 E
    intro y2 e0; replace E := bndE e0 E
    intro h3 e0; replace E := bndE e0 E
    cases E; exact ⟨rfl, rfl, rfl⟩
  · replace E := iteF c0 E
    cases E; exact ⟨rfl, rfl, rfl⟩
def pX8_cut_0 (N : Nat) (x1 : Int32) (h : HI) (g : HL) : Option (Int32 × HI × HL) :=
  obi (pX8_within N x1.toInt64 0 ((h 115 2).toInt64) h g) fun (y3 : Int32) (h1 : HI) (g2 : HL) =>
  if y3 = 0 then
    pX8_cut_20 N x1 1 h1 g2
  else
    pX8_cut_20 N x1 0 h1 g2
theorem jX8_cut_0 {D : DE} {f : Nat} {F : Frm} (hF : k_Fix F) {N : Nat} {y9 : Int32} {h9 : HI} {g9 : HL}  : ∀ (x1 : Int32) (h : HI) (g : HL), pX8_cut_0 N x1 h g = some (y9, h9, g9) → JX8_cut_0 D f (eqi y9 h9 g9) F h g x1 := by
  intro x1 h g E
  unfold pX8_cut_0 at E
  obtain ⟨y3, h1, g2, e0, E⟩ := obiE E
  refine Si.mono (sX8_within (f := f) hF e0) (fun y8 h8 g8 hq => ?_)
  obtain ⟨rfl, rfl, rfl⟩ := hq
  refine ⟨fun c0 => ?_, fun c0 => ?_⟩
  · replace E := iteT c0 E
    exact jX8_cut_20 hF  _ _ _ _ E
  · replace E := iteF c0 E
    exact jX8_cut_20 hF  _ _ _ _ E
abbrev pX8_cut (N : Nat) (x1 : Int32) (h : HI) (g : HL) : Option (Int32 × HI × HL) := pX8_cut_0 N x1 h g
theorem sX8_cut {D : DE} {f : Nat} {F : Frm} (hF : k_Fix F) {N : Nat} {y9 : Int32} {h9 : HI} {g9 : HL} {x1 : Int32} {h : HI} {g : HL} (E : pX8_cut N x1 h g = some (y9, h9, g9)) : Si D (f + 1) mX8_cut [.ref (ad D 115), .int x1] F h g (eqi y9 h9 g9) := wX8_cut (f := f) hF _ (jX8_cut_0 hF _ _ _ E)
def pX8_firstOf_0 (N : Nat) (x0 : Int32) (h : HI) (g : HL) : Option (Int32 × HI × HL) :=
  if x0 < 3 then
    some (0, h, g)
  else
    some (1, h, g)
theorem jX8_firstOf_0 {D : DE} {f : Nat} {F : Frm} (hF : k_Fix F) {N : Nat} {y9 : Int32} {h9 : HI} {g9 : HL}  : ∀ (x0 : Int32) (h : HI) (g : HL), pX8_firstOf_0 N x0 h g = some (y9, h9, g9) → JX8_firstOf_0 D f (eqi y9 h9 g9) F h g x0 := by
  intro x0 h g E
  unfold pX8_firstOf_0 at E
  refine ⟨fun c0 => ?_, fun c0 => ?_⟩
  · replace E := iteT c0 E
    cases E; exact ⟨rfl, rfl, rfl⟩
  · replace E := iteF c0 E
    cases E; exact ⟨rfl, rfl, rfl⟩
abbrev pX8_firstOf (N : Nat) (x0 : Int32) (h : HI) (g : HL) : Option (Int32 × HI × HL) := pX8_firstOf_0 N x0 h g
theorem sX8_firstOf {D : DE} {f : Nat} {F : Frm} (hF : k_Fix F) {N : Nat} {y9 : Int32} {h9 : HI} {g9 : HL} {x0 : Int32} {h : HI} {g : HL} (E : pX8_firstOf N x0 h g = some (y9, h9, g9)) : Si D f mX8_firstOf [.int x0] F h g (eqi y9 h9 g9) := wX8_firstOf (f := f) hF _ (jX8_firstOf_0 hF _ _ _ E)
def pX8_secondOf_0 (N : Nat) (x0 : Int32) (h : HI) (g : HL) : Option (Int32 × HI × HL) :=
  if x0 = 2 then
    some (1, h, g)
  else
    if x0 = 4 then
      some (1, h, g)
    else
      some (0, h, g)
theorem jX8_secondOf_0 {D : DE} {f : Nat} {F : Frm} (hF : k_Fix F) {N : Nat} {y9 : Int32} {h9 : HI} {g9 : HL}  : ∀ (x0 : Int32) (h : HI) (g : HL), pX8_secondOf_0 N x0 h g = some (y9, h9, g9) → JX8_secondOf_0 D f (eqi y9 h9 g9) F h g x0 := by
  intro x0 h g E
  unfold pX8_secondOf_0 at E
  refine ⟨fun c0 => ?_, fun c0 => ?_⟩
  · replace E := iteT c0 E
    cases E; exact ⟨rfl, rfl, rfl⟩
  · replace E := iteF c0 E
    refine ⟨fun c0 => ?_, fun c0 => ?_⟩
    · replace E := iteF c0 E
      cases E; exact ⟨rfl, rfl, rfl⟩
    · replace E := iteT c0 E
      cases E; exact ⟨rfl, rfl, rfl⟩
abbrev pX8_secondOf (N : Nat) (x0 : Int32) (h : HI) (g : HL) : Option (Int32 × HI × HL) := pX8_secondOf_0 N x0 h g
theorem sX8_secondOf {D : DE} {f : Nat} {F : Frm} (hF : k_Fix F) {N : Nat} {y9 : Int32} {h9 : HI} {g9 : HL} {x0 : Int32} {h : HI} {g : HL} (E : pX8_secondOf N x0 h g = some (y9, h9, g9)) : Si D f mX8_secondOf [.int x0] F h g (eqi y9 h9 g9) := wX8_secondOf (f := f) hF _ (jX8_secondOf_0 hF _ _ _ E)
def pX8_pairOf_0 (N : Nat) (x0 : Int32) (x1 : Int32) (h : HI) (g : HL) : Option (Int32 × HI × HL) :=
  if 1 < x0 then
    some ((-1), h, g)
  else
    if x1 ≤ 1 then
      some (((1 + (2 * x0)) + x1), h, g)
    else
      some ((-1), h, g)
theorem jX8_pairOf_0 {D : DE} {f : Nat} {F : Frm} (hF : k_Fix F) {N : Nat} {y9 : Int32} {h9 : HI} {g9 : HL}  : ∀ (x0 : Int32) (x1 : Int32) (h : HI) (g : HL), pX8_pairOf_0 N x0 x1 h g = some (y9, h9, g9) → JX8_pairOf_0 D f (eqi y9 h9 g9) F h g x0 x1 := by
  intro x0 x1 h g E
  unfold pX8_pairOf_0 at E
  refine ⟨fun c0 => ?_, fun c0 => ?_⟩
  · replace E := iteT c0 E
    cases E; exact ⟨rfl, rfl, rfl⟩
  · replace E := iteF c0 E
    refine ⟨fun c0 => ?_, fun c0 => ?_⟩
    · replace E := iteT c0 E
      cases E; exact ⟨rfl, rfl, rfl⟩
    · replace E := iteF c0 E
      cases E; exact ⟨rfl, rfl, rfl⟩
abbrev pX8_pairOf (N : Nat) (x0 : Int32) (x1 : Int32) (h : HI) (g : HL) : Option (Int32 × HI × HL) := pX8_pairOf_0 N x0 x1 h g
theorem sX8_pairOf {D : DE} {f : Nat} {F : Frm} (hF : k_Fix F) {N : Nat} {y9 : Int32} {h9 : HI} {g9 : HL} {x0 : Int32} {x1 : Int32} {h : HI} {g : HL} (E : pX8_pairOf N x0 x1 h g = some (y9, h9, g9)) : Si D f mX8_pairOf [.int x0, .int x1] F h g (eqi y9 h9 g9) := wX8_pairOf (f := f) hF _ _ (jX8_pairOf_0 hF _ _ _ _ E)
def pX8_demands_0 (N : Nat) (x0 : Int32) (h : HI) (g : HL) : Option (Int32 × HI × HL) :=
  if x0 = 0 then
    some (2, h, g)
  else
    if x0 = 1 then
      some (5, h, g)
    else
      if x0 = 4 then
        some (26, h, g)
      else
        some (11, h, g)
theorem jX8_demands_0 {D : DE} {f : Nat} {F : Frm} (hF : k_Fix F) {N : Nat} {y9 : Int32} {h9 : HI} {g9 : HL}  : ∀ (x0 : Int32) (h : HI) (g : HL), pX8_demands_0 N x0 h g = some (y9, h9, g9) → JX8_demands_0 D f (eqi y9 h9 g9) F h g x0 := by
  intro x0 h g E
  unfold pX8_demands_0 at E
  refine ⟨fun c0 => ?_, fun c0 => ?_⟩
  · replace E := iteF c0 E
    refine ⟨fun c0 => ?_, fun c0 => ?_⟩
    · replace E := iteF c0 E
      refine ⟨fun c0 => ?_, fun c0 => ?_⟩
      · replace E := iteF c0 E
        cases E; exact ⟨rfl, rfl, rfl⟩
      · replace E := iteT c0 E
        cases E; exact ⟨rfl, rfl, rfl⟩
    · replace E := iteT c0 E
      cases E; exact ⟨rfl, rfl, rfl⟩
  · replace E := iteT c0 E
    cases E; exact ⟨rfl, rfl, rfl⟩
abbrev pX8_demands (N : Nat) (x0 : Int32) (h : HI) (g : HL) : Option (Int32 × HI × HL) := pX8_demands_0 N x0 h g
theorem sX8_demands {D : DE} {f : Nat} {F : Frm} (hF : k_Fix F) {N : Nat} {y9 : Int32} {h9 : HI} {g9 : HL} {x0 : Int32} {h : HI} {g : HL} (E : pX8_demands N x0 h g = some (y9, h9, g9)) : Si D f mX8_demands [.int x0] F h g (eqi y9 h9 g9) := wX8_demands (f := f) hF _ (jX8_demands_0 hF _ _ _ E)
def pX8_nearBoth_64 (N : Nat) (x2 : Int32) (x4 : Int32) (x6 : Int32) (s0 : Int32) (s1 : Int32) (s2 : Int32) (h : HI) (g : HL) : Option (Int32 × HI × HL) :=
  if x2 = 0 then
    some (((s0 + (s1 * s2)) + (x4 &&& x6)), h, g)
  else
    some (((s0 + (s1 * s2)) + (x4 ||| x6)), h, g)
theorem jX8_nearBoth_64 {D : DE} {f : Nat} {F : Frm} (hF : k_Fix F) {N : Nat} {y9 : Int32} {h9 : HI} {g9 : HL}  : ∀ (x2 : Int32) (x4 : Int32) (x6 : Int32) (s0 : Int32) (s1 : Int32) (s2 : Int32) (h : HI) (g : HL), pX8_nearBoth_64 N x2 x4 x6 s0 s1 s2 h g = some (y9, h9, g9) → JX8_nearBoth_64 D f (eqi y9 h9 g9) F h g x2 x4 x6 s0 s1 s2 := by
  intro x2 x4 x6 s0 s1 s2 h g E
  unfold pX8_nearBoth_64 at E
  refine ⟨fun c0 => ?_, fun c0 => ?_⟩
  · replace E := iteT c0 E
    cases E; exact ⟨rfl, rfl, rfl⟩
  · replace E := iteF c0 E
    cases E; exact ⟨rfl, rfl, rfl⟩
def pX8_nearBoth_8 (N : Nat) (x0 : Int32) (x1 : Int32) (x2 : Int32) (h : HI) (g : HL) : Option (Int32 × HI × HL) :=
  if x2 = 0 then
    some (0, h, g)
  else
    some ((x0 + x1), h, g)
theorem jX8_nearBoth_8 {D : DE} {f : Nat} {F : Frm} (hF : k_Fix F) {N : Nat} {y9 : Int32} {h9 : HI} {g9 : HL}  : ∀ (x0 : Int32) (x1 : Int32) (x2 : Int32) (h : HI) (g : HL), pX8_nearBoth_8 N x0 x1 x2 h g = some (y9, h9, g9) → JX8_nearBoth_8 D f (eqi y9 h9 g9) F h g x0 x1 x2 := by
  intro x0 x1 x2 h g E
  unfold pX8_nearBoth_8 at E
  refine ⟨fun c0 => ?_, fun c0 => ?_⟩
  · replace E := iteT c0 E
    cases E; exact ⟨rfl, rfl, rfl⟩
  · replace E := iteF c0 E
    cases E; exact ⟨rfl, rfl, rfl⟩
def pX8_nearBoth_0 (N : Nat) (x0 : Int32) (x1 : Int32) (x2 : Int32) (h : HI) (g : HL) : Option (Int32 × HI × HL) :=
  if x0 = 0 then
    pX8_nearBoth_8 N x0 x1 x2 h g
  else
    if x1 = 0 then
      pX8_nearBoth_8 N x0 x1 x2 h g
    else
      bnd ((x0 - 1) / 2) fun (y1 : Int32) =>
      bnd ((x0 - 1) - (x0 - 1) / 2 * 2) fun (y2 : Int32) =>
      bnd ((x1 - 1) / 2) fun (y3 : Int32) =>
      bnd ((x1 - 1) - (x1 - 1) / 2 * 2) fun (y4 : Int32) =>
      if x2 = 0 then
        pX8_nearBoth_64 N x2 y2 y4 1 2 (y1 &&& y3) h g
      else
        pX8_nearBoth_64 N x2 y2 y4 1 2 (y1 ||| y3) h g
theorem jX8_nearBoth_0 {D : DE} {f : Nat} {F : Frm} (hF : k_Fix F) {N : Nat} {y9 : Int32} {h9 : HI} {g9 : HL}  : ∀ (x0 : Int32) (x1 : Int32) (x2 : Int32) (h : HI) (g : HL), pX8_nearBoth_0 N x0 x1 x2 h g = some (y9, h9, g9) → JX8_nearBoth_0 D f (eqi y9 h9 g9) F h g x0 x1 x2 := by
  intro x0 x1 x2 h g E
  unfold pX8_nearBoth_0 at E
  refine ⟨fun c0 => ?_, fun c0 => ?_⟩
  · replace E := iteT c0 E
    exact jX8_nearBoth_8 hF  _ _ _ _ _ E
  · replace E := iteF c0 E
    refine ⟨fun c0 => ?_, fun c0 => ?_⟩
    · replace E := iteF c0 E
      intro y1 e0; replace E := bndE e0 E
      intro y2 e0; replace E := bndE e0 E
      intro y3 e0; replace E := bndE e0 E
      intro y4 e0; replace E := bndE e0 E
      refine ⟨fun c0 => ?_, fun c0 => ?_⟩
      · replace E := iteT c0 E
        exact jX8_nearBoth_64 hF  _ _ _ _ _ _ _ _ E
      · replace E := iteF c0 E
        exact jX8_nearBoth_64 hF  _ _ _ _ _ _ _ _ E
    · replace E := iteT c0 E
      exact jX8_nearBoth_8 hF  _ _ _ _ _ E
abbrev pX8_nearBoth (N : Nat) (x0 : Int32) (x1 : Int32) (x2 : Int32) (h : HI) (g : HL) : Option (Int32 × HI × HL) := pX8_nearBoth_0 N x0 x1 x2 h g
theorem sX8_nearBoth {D : DE} {f : Nat} {F : Frm} (hF : k_Fix F) {N : Nat} {y9 : Int32} {h9 : HI} {g9 : HL} {x0 : Int32} {x1 : Int32} {x2 : Int32} {h : HI} {g : HL} (E : pX8_nearBoth N x0 x1 x2 h g = some (y9, h9, g9)) : Si D f mX8_nearBoth [.int x0, .int x1, .int x2] F h g (eqi y9 h9 g9) := wX8_nearBoth (f := f) hF _ _ _ (jX8_nearBoth_0 hF _ _ _ _ _ E)
def pX8_partBoth_0 (N : Nat) (x0 : Int32) (x1 : Int32) (x2 : Int32) (x3 : Int32) (h : HI) (g : HL) : Option (Int32 × HI × HL) :=
  if x0 = 0 then
    if x3 = 0 then
      some ((x1 &&& x2), h, g)
    else
      some ((x1 ||| x2), h, g)
  else
    obi (pX8_nearBoth N x1 x2 x3 h g) fun (y3 : Int32) (h1 : HI) (g2 : HL) =>
    some (y3, h1, g2)
theorem jX8_partBoth_0 {D : DE} {f : Nat} {F : Frm} (hF : k_Fix F) {N : Nat} {y9 : Int32} {h9 : HI} {g9 : HL}  : ∀ (x0 : Int32) (x1 : Int32) (x2 : Int32) (x3 : Int32) (h : HI) (g : HL), pX8_partBoth_0 N x0 x1 x2 x3 h g = some (y9, h9, g9) → JX8_partBoth_0 D f (eqi y9 h9 g9) F h g x0 x1 x2 x3 := by
  intro x0 x1 x2 x3 h g E
  unfold pX8_partBoth_0 at E
  refine ⟨fun c0 => ?_, fun c0 => ?_⟩
  · replace E := iteF c0 E
    obtain ⟨y3, h1, g2, e0, E⟩ := obiE E
    refine Si.mono (sX8_nearBoth (f := f) hF e0) (fun y8 h8 g8 hq => ?_)
    obtain ⟨rfl, rfl, rfl⟩ := hq
    cases E; exact ⟨rfl, rfl, rfl⟩
  · replace E := iteT c0 E
    refine ⟨fun c0 => ?_, fun c0 => ?_⟩
    · replace E := iteT c0 E
      cases E; exact ⟨rfl, rfl, rfl⟩
    · replace E := iteF c0 E
      cases E; exact ⟨rfl, rfl, rfl⟩
abbrev pX8_partBoth (N : Nat) (x0 : Int32) (x1 : Int32) (x2 : Int32) (x3 : Int32) (h : HI) (g : HL) : Option (Int32 × HI × HL) := pX8_partBoth_0 N x0 x1 x2 x3 h g
theorem sX8_partBoth {D : DE} {f : Nat} {F : Frm} (hF : k_Fix F) {N : Nat} {y9 : Int32} {h9 : HI} {g9 : HL} {x0 : Int32} {x1 : Int32} {x2 : Int32} {x3 : Int32} {h : HI} {g : HL} (E : pX8_partBoth N x0 x1 x2 x3 h g = some (y9, h9, g9)) : Si D (f + 1) mX8_partBoth [.int x0, .int x1, .int x2, .int x3] F h g (eqi y9 h9 g9) := wX8_partBoth (f := f) hF _ _ _ _ (jX8_partBoth_0 hF _ _ _ _ _ _ E)
def pX8_joined_20 (N : Nat) (x1 : Int32) (x2 : Int32) (x3 : Int32) (h : HI) (g : HL) : Option (Int32 × HI × HL) :=
  if x3 = 0 then
    some (0, h, g)
  else
    some ((x1 + x2), h, g)
theorem jX8_joined_20 {D : DE} {f : Nat} {F : Frm} (hF : k_Fix F) {N : Nat} {y9 : Int32} {h9 : HI} {g9 : HL}  : ∀ (x1 : Int32) (x2 : Int32) (x3 : Int32) (h : HI) (g : HL), pX8_joined_20 N x1 x2 x3 h g = some (y9, h9, g9) → JX8_joined_20 D (f + 1) (eqi y9 h9 g9) F h g x1 x2 x3 := by
  intro x1 x2 x3 h g E
  unfold pX8_joined_20 at E
  refine ⟨fun c0 => ?_, fun c0 => ?_⟩
  · replace E := iteT c0 E
    cases E; exact ⟨rfl, rfl, rfl⟩
  · replace E := iteF c0 E
    cases E; exact ⟨rfl, rfl, rfl⟩
def pX8_joined_12 (N : Nat) (x1 : Int32) (x2 : Int32) (x3 : Int32) (h : HI) (g : HL) : Option (Int32 × HI × HL) :=
  if x1 = 0 then
    pX8_joined_20 N x1 x2 x3 h g
  else
    if x2 = 0 then
      pX8_joined_20 N x1 x2 x3 h g
    else
      some (1, h, g)
theorem jX8_joined_12 {D : DE} {f : Nat} {F : Frm} (hF : k_Fix F) {N : Nat} {y9 : Int32} {h9 : HI} {g9 : HL}  : ∀ (x1 : Int32) (x2 : Int32) (x3 : Int32) (h : HI) (g : HL), pX8_joined_12 N x1 x2 x3 h g = some (y9, h9, g9) → JX8_joined_12 D (f + 1) (eqi y9 h9 g9) F h g x1 x2 x3 := by
  intro x1 x2 x3 h g E
  unfold pX8_joined_12 at E
  refine ⟨fun c0 => ?_, fun c0 => ?_⟩
  · replace E := iteT c0 E
    exact jX8_joined_20 hF  _ _ _ _ _ E
  · replace E := iteF c0 E
    refine ⟨fun c0 => ?_, fun c0 => ?_⟩
    · replace E := iteF c0 E
      cases E; exact ⟨rfl, rfl, rfl⟩
    · replace E := iteT c0 E
      exact jX8_joined_20 hF  _ _ _ _ _ E
def pX8_joined_0 (N : Nat) (x0 : Int32) (x1 : Int32) (x2 : Int32) (x3 : Int32) (h : HI) (g : HL) : Option (Int32 × HI × HL) :=
  if x0 = 0 then
    pX8_joined_12 N x1 x2 x3 h g
  else
    if x1 = 0 then
      pX8_joined_12 N x1 x2 x3 h g
    else
      if x2 = 0 then
        pX8_joined_12 N x1 x2 x3 h g
      else
        obi (pX8_secondOf N x0 h g) fun (y3 : Int32) (h1 : HI) (g2 : HL) =>
        obi (pX8_demands N y3 h1 g2) fun (y6 : Int32) (h4 : HI) (g5 : HL) =>
        obi (pX8_firstOf N x0 h4 g5) fun (y9 : Int32) (h7 : HI) (g8 : HL) =>
        gd ((!(y6 == 0))) <|
        gd ((!(y6 == 0))) <|
        obi (pX8_partBoth N y9 ((x1 - 1) / y6) ((x2 - 1) / y6) x3 h7 g8) fun (y12 : Int32) (h10 : HI) (g11 : HL) =>
        obi (pX8_secondOf N x0 h10 g11) fun (y15 : Int32) (h13 : HI) (g14 : HL) =>
        gd ((!(y6 == 0))) <|
        gd ((!(y6 == 0))) <|
        obi (pX8_partBoth N y15 ((x1 - 1) - (x1 - 1) / y6 * y6) ((x2 - 1) - (x2 - 1) / y6 * y6) x3 h13 g14) fun (y18 : Int32) (h16 : HI) (g17 : HL) =>
        some (((1 + (y12 * y6)) + y18), h16, g17)
theorem jX8_joined_0 {D : DE} {f : Nat} {F : Frm} (hF : k_Fix F) {N : Nat} {y9 : Int32} {h9 : HI} {g9 : HL}  : ∀ (x0 : Int32) (x1 : Int32) (x2 : Int32) (x3 : Int32) (h : HI) (g : HL), pX8_joined_0 N x0 x1 x2 x3 h g = some (y9, h9, g9) → JX8_joined_0 D (f + 1) (eqi y9 h9 g9) F h g x0 x1 x2 x3 := by
  intro x0 x1 x2 x3 h g E
  unfold pX8_joined_0 at E
  refine ⟨fun c0 => ?_, fun c0 => ?_⟩
  · replace E := iteT c0 E
    exact jX8_joined_12 hF  _ _ _ _ _ E
  · replace E := iteF c0 E
    refine ⟨fun c0 => ?_, fun c0 => ?_⟩
    · replace E := iteT c0 E
      exact jX8_joined_12 hF  _ _ _ _ _ E
    · replace E := iteF c0 E
      refine ⟨fun c0 => ?_, fun c0 => ?_⟩
      · replace E := iteF c0 E
        obtain ⟨y3, h1, g2, e0, E⟩ := obiE E
        refine Si.mono (sX8_secondOf (f := f + 1) hF e0) (fun y8 h8 g8 hq => ?_)
        obtain ⟨rfl, rfl, rfl⟩ := hq
        obtain ⟨y6, h4, g5, e0, E⟩ := obiE E
        refine Si.mono (sX8_demands (f := f + 1) hF e0) (fun y8 h8 g8 hq => ?_)
        obtain ⟨rfl, rfl, rfl⟩ := hq
        obtain ⟨y9, h7, g8, e0, E⟩ := obiE E
        refine Si.mono (sX8_firstOf (f := f + 1) hF e0) (fun y8 h8 g8 hq => ?_)
        obtain ⟨rfl, rfl, rfl⟩ := hq
        obtain ⟨z0, E⟩ := gdE E; refine ⟨nzE z0, ?_⟩
        obtain ⟨z0, E⟩ := gdE E; refine ⟨nzE z0, ?_⟩
        obtain ⟨y12, h10, g11, e0, E⟩ := obiE E
        refine Si.mono (sX8_partBoth (f := f) hF e0) (fun y8 h8 g8 hq => ?_)
        obtain ⟨rfl, rfl, rfl⟩ := hq
        obtain ⟨y15, h13, g14, e0, E⟩ := obiE E
        refine Si.mono (sX8_secondOf (f := f + 1) hF e0) (fun y8 h8 g8 hq => ?_)
        obtain ⟨rfl, rfl, rfl⟩ := hq
        obtain ⟨z0, E⟩ := gdE E; refine ⟨nzE z0, ?_⟩
        obtain ⟨z0, E⟩ := gdE E; refine ⟨nzE z0, ?_⟩
        obtain ⟨y18, h16, g17, e0, E⟩ := obiE E
        refine Si.mono (sX8_partBoth (f := f) hF e0) (fun y8 h8 g8 hq => ?_)
        obtain ⟨rfl, rfl, rfl⟩ := hq
        cases E; exact ⟨rfl, rfl, rfl⟩
      · replace E := iteT c0 E
        exact jX8_joined_12 hF  _ _ _ _ _ E
abbrev pX8_joined (N : Nat) (x0 : Int32) (x1 : Int32) (x2 : Int32) (x3 : Int32) (h : HI) (g : HL) : Option (Int32 × HI × HL) := pX8_joined_0 N x0 x1 x2 x3 h g
theorem sX8_joined {D : DE} {f : Nat} {F : Frm} (hF : k_Fix F) {N : Nat} {y9 : Int32} {h9 : HI} {g9 : HL} {x0 : Int32} {x1 : Int32} {x2 : Int32} {x3 : Int32} {h : HI} {g : HL} (E : pX8_joined N x0 x1 x2 x3 h g = some (y9, h9, g9)) : Si D (f + 2) mX8_joined [.int x0, .int x1, .int x2, .int x3] F h g (eqi y9 h9 g9) := wX8_joined (f := (f + 1)) hF _ _ _ _ (jX8_joined_0 hF _ _ _ _ _ _ E)
def pX8_stop_0 (N : Nat) (x1 : Int32) (x2 : Int32) (h : HI) (g : HL) : Option (HI × HL) :=
  if (h 115 9) = 0 then
    bnd (up2 h 115 9 x1) fun (h1 : HI) =>
    bnd (up2 h1 115 10 x2) fun (h2 : HI) =>
    some (h2, g)
  else
    some (h, g)
theorem jX8_stop_0 {D : DE} {f : Nat} {F : Frm} (hF : k_Fix F) {N : Nat} {h9 : HI} {g9 : HL}  : ∀ (x1 : Int32) (x2 : Int32) (h : HI) (g : HL), pX8_stop_0 N x1 x2 h g = some (h9, g9) → JX8_stop_0 D f (eqv h9 g9) F h g x1 x2 := by
  intro x1 x2 h g E
  unfold pX8_stop_0 at E
  refine ⟨fun c0 => ?_, fun c0 => ?_⟩
  · replace E := iteF c0 E
    cases E; exact ⟨rfl, rfl⟩
  · replace E := iteT c0 E
    intro h1 e0; replace E := bndE e0 E
    intro h2 e0; replace E := bndE e0 E
    cases E; exact ⟨rfl, rfl⟩
abbrev pX8_stop (N : Nat) (x1 : Int32) (x2 : Int32) (h : HI) (g : HL) : Option (HI × HL) := pX8_stop_0 N x1 x2 h g
theorem sX8_stop {D : DE} {f : Nat} {F : Frm} (hF : k_Fix F) {N : Nat} {h9 : HI} {g9 : HL} {x1 : Int32} {x2 : Int32} {h : HI} {g : HL} (E : pX8_stop N x1 x2 h g = some (h9, g9)) : Sv D f mX8_stop [.ref (ad D 115), .int x1, .int x2] F h g (eqv h9 g9) := wX8_stop (f := f) hF _ _ (jX8_stop_0 hF _ _ _ _ E)
def pX8_isDigit_0 (N : Nat) (x0 : Int32) (h : HI) (g : HL) : Option (Int32 × HI × HL) :=
  if x0 < 48 then
    some (0, h, g)
  else
    if 57 < x0 then
      some (0, h, g)
    else
      some (1, h, g)
theorem jX8_isDigit_0 {D : DE} {f : Nat} {F : Frm} (hF : k_Fix F) {N : Nat} {y9 : Int32} {h9 : HI} {g9 : HL}  : ∀ (x0 : Int32) (h : HI) (g : HL), pX8_isDigit_0 N x0 h g = some (y9, h9, g9) → JX8_isDigit_0 D f (eqi y9 h9 g9) F h g x0 := by
  intro x0 h g E
  unfold pX8_isDigit_0 at E
  refine ⟨fun c0 => ?_, fun c0 => ?_⟩
  · replace E := iteT c0 E
    cases E; exact ⟨rfl, rfl, rfl⟩
  · replace E := iteF c0 E
    refine ⟨fun c0 => ?_, fun c0 => ?_⟩
    · replace E := iteT c0 E
      cases E; exact ⟨rfl, rfl, rfl⟩
    · replace E := iteF c0 E
      cases E; exact ⟨rfl, rfl, rfl⟩
abbrev pX8_isDigit (N : Nat) (x0 : Int32) (h : HI) (g : HL) : Option (Int32 × HI × HL) := pX8_isDigit_0 N x0 h g
theorem sX8_isDigit {D : DE} {f : Nat} {F : Frm} (hF : k_Fix F) {N : Nat} {y9 : Int32} {h9 : HI} {g9 : HL} {x0 : Int32} {h : HI} {g : HL} (E : pX8_isDigit N x0 h g = some (y9, h9, g9)) : Si D f mX8_isDigit [.int x0] F h g (eqi y9 h9 g9) := wX8_isDigit (f := f) hF _ (jX8_isDigit_0 hF _ _ _ E)
def pX8_isRow_0 (N : Nat) (x0 : Int32) (h : HI) (g : HL) : Option (Int32 × HI × HL) :=
  obi (pX8_isDigit N x0 h g) fun (y3 : Int32) (h1 : HI) (g2 : HL) =>
  if y3 = 0 then
    if x0 < 97 then
      some (0, h1, g2)
    else
      if 122 < x0 then
        some (0, h1, g2)
      else
        some (1, h1, g2)
  else
    some (1, h1, g2)
theorem jX8_isRow_0 {D : DE} {f : Nat} {F : Frm} (hF : k_Fix F) {N : Nat} {y9 : Int32} {h9 : HI} {g9 : HL}  : ∀ (x0 : Int32) (h : HI) (g : HL), pX8_isRow_0 N x0 h g = some (y9, h9, g9) → JX8_isRow_0 D f (eqi y9 h9 g9) F h g x0 := by
  intro x0 h g E
  unfold pX8_isRow_0 at E
  obtain ⟨y3, h1, g2, e0, E⟩ := obiE E
  refine Si.mono (sX8_isDigit (f := f) hF e0) (fun y8 h8 g8 hq => ?_)
  obtain ⟨rfl, rfl, rfl⟩ := hq
  refine ⟨fun c0 => ?_, fun c0 => ?_⟩
  · replace E := iteF c0 E
    cases E; exact ⟨rfl, rfl, rfl⟩
  · replace E := iteT c0 E
    refine ⟨fun c0 => ?_, fun c0 => ?_⟩
    · replace E := iteT c0 E
      cases E; exact ⟨rfl, rfl, rfl⟩
    · replace E := iteF c0 E
      refine ⟨fun c0 => ?_, fun c0 => ?_⟩
      · replace E := iteT c0 E
        cases E; exact ⟨rfl, rfl, rfl⟩
      · replace E := iteF c0 E
        cases E; exact ⟨rfl, rfl, rfl⟩
abbrev pX8_isRow (N : Nat) (x0 : Int32) (h : HI) (g : HL) : Option (Int32 × HI × HL) := pX8_isRow_0 N x0 h g
theorem sX8_isRow {D : DE} {f : Nat} {F : Frm} (hF : k_Fix F) {N : Nat} {y9 : Int32} {h9 : HI} {g9 : HL} {x0 : Int32} {h : HI} {g : HL} (E : pX8_isRow N x0 h g = some (y9, h9, g9)) : Si D (f + 1) mX8_isRow [.int x0] F h g (eqi y9 h9 g9) := wX8_isRow (f := f) hF _ (jX8_isRow_0 hF _ _ _ E)
def pX8_packed_0 (N : Nat) (x0 : Int32) (x1 : Int32) (x2 : Int32) (x3 : Int32) (h : HI) (g : HL) : Option (Int64 × HI × HL) :=
  bnd ((x0.toInt64 <<< ((24 : Int32).toInt64 &&& 63)) ||| ((x1 <<< (16 &&& 31)).toInt64)) fun (y1 : Int64) =>
  bnd ((y1 ||| ((x2 <<< (8 &&& 31)).toInt64)) ||| x3.toInt64) fun (y2 : Int64) =>
  some (y2, h, g)
theorem jX8_packed_0 {D : DE} {f : Nat} {F : Frm} (hF : k_Fix F) {N : Nat} {y9 : Int64} {h9 : HI} {g9 : HL}  : ∀ (x0 : Int32) (x1 : Int32) (x2 : Int32) (x3 : Int32) (h : HI) (g : HL), pX8_packed_0 N x0 x1 x2 x3 h g = some (y9, h9, g9) → JX8_packed_0 D f (eql y9 h9 g9) F h g x0 x1 x2 x3 := by
  intro x0 x1 x2 x3 h g E
  unfold pX8_packed_0 at E
  intro y1 e0; replace E := bndE e0 E
  intro y2 e0; replace E := bndE e0 E
  cases E; exact ⟨rfl, rfl, rfl⟩
abbrev pX8_packed (N : Nat) (x0 : Int32) (x1 : Int32) (x2 : Int32) (x3 : Int32) (h : HI) (g : HL) : Option (Int64 × HI × HL) := pX8_packed_0 N x0 x1 x2 x3 h g
theorem sX8_packed {D : DE} {f : Nat} {F : Frm} (hF : k_Fix F) {N : Nat} {y9 : Int64} {h9 : HI} {g9 : HL} {x0 : Int32} {x1 : Int32} {x2 : Int32} {x3 : Int32} {h : HI} {g : HL} (E : pX8_packed N x0 x1 x2 x3 h g = some (y9, h9, g9)) : Sl D f mX8_packed [.int x0, .int x1, .int x2, .int x3] F h g (eql y9 h9 g9) := wX8_packed (f := f) hF _ _ _ _ (jX8_packed_0 hF _ _ _ _ _ _ E)
def pX8_wordOf_0 (N : Nat) (x0 : Int64) (h : HI) (g : HL) : Option (Int32 × HI × HL) :=
  obl (pX8_packed N 0 110 117 109 h g) fun (y3 : Int64) (h1 : HI) (g2 : HL) =>
  if (lg_cmp x0 y3) = 0 then
    some (1, h1, g2)
  else
    obl (pX8_packed N 0 0 105 102 h1 g2) fun (y6 : Int64) (h4 : HI) (g5 : HL) =>
    if (lg_cmp x0 y6) = 0 then
      some (2, h4, g5)
    else
      obl (pX8_packed N 116 104 101 110 h4 g5) fun (y9 : Int64) (h7 : HI) (g8 : HL) =>
      if (lg_cmp x0 y9) = 0 then
        some (3, h7, g8)
      else
        obl (pX8_packed N 101 108 115 101 h7 g8) fun (y12 : Int64) (h10 : HI) (g11 : HL) =>
        if (lg_cmp x0 y12) = 0 then
          some (4, h10, g11)
        else
          obl (pX8_packed N 0 108 101 116 h10 g11) fun (y15 : Int64) (h13 : HI) (g14 : HL) =>
          if (lg_cmp x0 y15) = 0 then
            some (5, h13, g14)
          else
            obl (pX8_packed N 0 0 105 110 h13 g14) fun (y18 : Int64) (h16 : HI) (g17 : HL) =>
            if (lg_cmp x0 y18) = 0 then
              some (6, h16, g17)
            else
              obl (pX8_packed N 99 97 115 101 h16 g17) fun (y21 : Int64) (h19 : HI) (g20 : HL) =>
              if (lg_cmp x0 y21) = 0 then
                some (7, h19, g20)
              else
                obl (pX8_packed N 0 0 111 102 h19 g20) fun (y24 : Int64) (h22 : HI) (g23 : HL) =>
                if (lg_cmp x0 y24) = 0 then
                  some (8, h22, g23)
                else
                  obl (pX8_packed N 102 97 105 108 h22 g23) fun (y27 : Int64) (h25 : HI) (g26 : HL) =>
                  if (lg_cmp x0 y27) = 0 then
                    some (9, h25, g26)
                  else
                    some (0, h25, g26)
theorem jX8_wordOf_0 {D : DE} {f : Nat} {F : Frm} (hF : k_Fix F) {N : Nat} {y9 : Int32} {h9 : HI} {g9 : HL}  : ∀ (x0 : Int64) (h : HI) (g : HL), pX8_wordOf_0 N x0 h g = some (y9, h9, g9) → JX8_wordOf_0 D f (eqi y9 h9 g9) F h g x0 := by
  intro x0 h g E
  unfold pX8_wordOf_0 at E
  obtain ⟨y3, h1, g2, e0, E⟩ := oblE E
  refine Sl.mono (sX8_packed (f := f) hF e0) (fun y8 h8 g8 hq => ?_)
  obtain ⟨rfl, rfl, rfl⟩ := hq
  refine ⟨fun c0 => ?_, fun c0 => ?_⟩
  · replace E := iteF c0 E
    obtain ⟨y6, h4, g5, e0, E⟩ := oblE E
    refine Sl.mono (sX8_packed (f := f) hF e0) (fun y8 h8 g8 hq => ?_)
    obtain ⟨rfl, rfl, rfl⟩ := hq
    refine ⟨fun c0 => ?_, fun c0 => ?_⟩
    · replace E := iteF c0 E
      obtain ⟨y9, h7, g8, e0, E⟩ := oblE E
      refine Sl.mono (sX8_packed (f := f) hF e0) (fun y8 h8 g8 hq => ?_)
      obtain ⟨rfl, rfl, rfl⟩ := hq
      refine ⟨fun c0 => ?_, fun c0 => ?_⟩
      · replace E := iteF c0 E
        obtain ⟨y12, h10, g11, e0, E⟩ := oblE E
        refine Sl.mono (sX8_packed (f := f) hF e0) (fun y8 h8 g8 hq => ?_)
        obtain ⟨rfl, rfl, rfl⟩ := hq
        refine ⟨fun c0 => ?_, fun c0 => ?_⟩
        · replace E := iteF c0 E
          obtain ⟨y15, h13, g14, e0, E⟩ := oblE E
          refine Sl.mono (sX8_packed (f := f) hF e0) (fun y8 h8 g8 hq => ?_)
          obtain ⟨rfl, rfl, rfl⟩ := hq
          refine ⟨fun c0 => ?_, fun c0 => ?_⟩
          · replace E := iteF c0 E
            obtain ⟨y18, h16, g17, e0, E⟩ := oblE E
            refine Sl.mono (sX8_packed (f := f) hF e0) (fun y8 h8 g8 hq => ?_)
            obtain ⟨rfl, rfl, rfl⟩ := hq
            refine ⟨fun c0 => ?_, fun c0 => ?_⟩
            · replace E := iteF c0 E
              obtain ⟨y21, h19, g20, e0, E⟩ := oblE E
              refine Sl.mono (sX8_packed (f := f) hF e0) (fun y8 h8 g8 hq => ?_)
              obtain ⟨rfl, rfl, rfl⟩ := hq
              refine ⟨fun c0 => ?_, fun c0 => ?_⟩
              · replace E := iteF c0 E
                obtain ⟨y24, h22, g23, e0, E⟩ := oblE E
                refine Sl.mono (sX8_packed (f := f) hF e0) (fun y8 h8 g8 hq => ?_)
                obtain ⟨rfl, rfl, rfl⟩ := hq
                refine ⟨fun c0 => ?_, fun c0 => ?_⟩
                · replace E := iteF c0 E
                  obtain ⟨y27, h25, g26, e0, E⟩ := oblE E
                  refine Sl.mono (sX8_packed (f := f) hF e0) (fun y8 h8 g8 hq => ?_)
                  obtain ⟨rfl, rfl, rfl⟩ := hq
                  refine ⟨fun c0 => ?_, fun c0 => ?_⟩
                  · replace E := iteF c0 E
                    cases E; exact ⟨rfl, rfl, rfl⟩
                  · replace E := iteT c0 E
                    cases E; exact ⟨rfl, rfl, rfl⟩
                · replace E := iteT c0 E
                  cases E; exact ⟨rfl, rfl, rfl⟩
              · replace E := iteT c0 E
                cases E; exact ⟨rfl, rfl, rfl⟩
            · replace E := iteT c0 E
              cases E; exact ⟨rfl, rfl, rfl⟩
          · replace E := iteT c0 E
            cases E; exact ⟨rfl, rfl, rfl⟩
        · replace E := iteT c0 E
          cases E; exact ⟨rfl, rfl, rfl⟩
      · replace E := iteT c0 E
        cases E; exact ⟨rfl, rfl, rfl⟩
    · replace E := iteT c0 E
      cases E; exact ⟨rfl, rfl, rfl⟩
  · replace E := iteT c0 E
    cases E; exact ⟨rfl, rfl, rfl⟩
abbrev pX8_wordOf (N : Nat) (x0 : Int64) (h : HI) (g : HL) : Option (Int32 × HI × HL) := pX8_wordOf_0 N x0 h g
theorem sX8_wordOf {D : DE} {f : Nat} {F : Frm} (hF : k_Fix F) {N : Nat} {y9 : Int32} {h9 : HI} {g9 : HL} {x0 : Int64} {h : HI} {g : HL} (E : pX8_wordOf N x0 h g = some (y9, h9, g9)) : Si D (f + 1) mX8_wordOf [.long x0] F h g (eqi y9 h9 g9) := wX8_wordOf (f := f) hF _ (jX8_wordOf_0 hF _ _ _ E)
def pX8_row_229 (N : Nat) (h : HI) (g : HL) : Option (HI × HL) :=
  if (h 115 4) = 0 then
    obv (pX8_stop N 1 (h 115 5) h g) fun (h1 : HI) (g2 : HL) =>
    some (h1, g2)
  else
    some (h, g)
theorem jX8_row_229 {D : DE} {f : Nat} {F : Frm} (hF : k_Fix F) {N : Nat} {h9 : HI} {g9 : HL}  : ∀ (h : HI) (g : HL), pX8_row_229 N h g = some (h9, g9) → JX8_row_229 D (f + 1) (eqv h9 g9) F h g  := by
  intro h g E
  unfold pX8_row_229 at E
  refine ⟨fun c0 => ?_, fun c0 => ?_⟩
  · replace E := iteF c0 E
    cases E; exact ⟨rfl, rfl⟩
  · replace E := iteT c0 E
    obtain ⟨h1, g2, e0, E⟩ := obvE E
    refine Sv.mono (sX8_stop (f := f + 1) hF e0) (fun h8 g8 hq => ?_)
    obtain ⟨rfl, rfl⟩ := hq
    cases E; exact ⟨rfl, rfl⟩
def pX8_row_221 (N : Nat) (x2 : Int64) (s1 : Int32) (h : HI) (g : HL) : Option (HI × HL) :=
  bnd (up2 h 115 4 s1) fun (h1 : HI) =>
  bnd (up2 g 115 7 x2) fun (g2 : HL) =>
  pX8_row_229 N h1 g2
theorem jX8_row_221 {D : DE} {f : Nat} {F : Frm} (hF : k_Fix F) {N : Nat} {h9 : HI} {g9 : HL}  : ∀ (x2 : Int64) (s1 : Int32) (h : HI) (g : HL), pX8_row_221 N x2 s1 h g = some (h9, g9) → JX8_row_221 D (f + 1) (eqv h9 g9) F h g x2 s1 := by
  intro x2 s1 h g E
  unfold pX8_row_221 at E
  intro h1 e0; replace E := bndE e0 E
  intro g2 e0; replace E := bndE e0 E
  exact jX8_row_229 hF  _ _ E
def pX8_row_195 (N : Nat) (x2 : Int64) (x6 : Int32) (s0 : Int32) (h : HI) (g : HL) : Option (HI × HL) :=
  if s0 ≤ 0 then
    if 8 < x6 then
      pX8_row_221 N x2 0 h g
    else
      pX8_row_221 N x2 10 h g
  else
    pX8_row_221 N x2 s0 h g
theorem jX8_row_195 {D : DE} {f : Nat} {F : Frm} (hF : k_Fix F) {N : Nat} {h9 : HI} {g9 : HL}  : ∀ (x2 : Int64) (x6 : Int32) (s0 : Int32) (h : HI) (g : HL), pX8_row_195 N x2 x6 s0 h g = some (h9, g9) → JX8_row_195 D (f + 1) (eqv h9 g9) F h g x2 x6 s0 := by
  intro x2 x6 s0 h g E
  unfold pX8_row_195 at E
  refine ⟨fun c0 => ?_, fun c0 => ?_⟩
  · replace E := iteT c0 E
    refine ⟨fun c0 => ?_, fun c0 => ?_⟩
    · replace E := iteT c0 E
      exact jX8_row_221 hF  _ _ _ _ E
    · replace E := iteF c0 E
      exact jX8_row_221 hF  _ _ _ _ E
  · replace E := iteF c0 E
    exact jX8_row_221 hF  _ _ _ _ E
def pX8_row_168 (N : Nat) (x4 : Int64) (s1 : Int32) (h : HI) (g : HL) : Option (HI × HL) :=
  bnd (up2 h 115 4 s1) fun (h1 : HI) =>
  bnd (up2 h1 115 8 x4.toInt32) fun (h2 : HI) =>
  pX8_row_229 N h2 g
theorem jX8_row_168 {D : DE} {f : Nat} {F : Frm} (hF : k_Fix F) {N : Nat} {h9 : HI} {g9 : HL}  : ∀ (x4 : Int64) (s1 : Int32) (h : HI) (g : HL), pX8_row_168 N x4 s1 h g = some (h9, g9) → JX8_row_168 D (f + 1) (eqv h9 g9) F h g x4 s1 := by
  intro x4 s1 h g E
  unfold pX8_row_168 at E
  intro h1 e0; replace E := bndE e0 E
  intro h2 e0; replace E := bndE e0 E
  exact jX8_row_229 hF  _ _ E
def pX8_row_167 (N : Nat) (x4 : Int64) (h : HI) (g : HL) : Option (HI × HL) :=
  pX8_row_168 N x4 0 h g
theorem jX8_row_167 {D : DE} {f : Nat} {F : Frm} (hF : k_Fix F) {N : Nat} {h9 : HI} {g9 : HL}  : ∀ (x4 : Int64) (h : HI) (g : HL), pX8_row_167 N x4 h g = some (h9, g9) → JX8_row_167 D (f + 1) (eqv h9 g9) F h g x4 := by
  intro x4 h g E
  unfold pX8_row_167 at E
  exact jX8_row_168 hF  _ _ _ _ E
def pX8_row_124 (N : Nat) (x1 : Int32) (x2 : Int64) (x4 : Int64) (h : HI) (g : HL) : Option (HI × HL) :=
  bnd ((h 115 3) - (h 115 5)) fun (y1 : Int32) =>
  gd (vin (h 115 5) 4000) <|
  obi (pX8_isDigit N (h 116 (ix (h 115 5))) h g) fun (y4 : Int32) (h2 : HI) (g3 : HL) =>
  if y4 = 0 then
    if 4 < y1 then
      pX8_row_195 N x2 y1 0 h2 g3
    else
      obi (pX8_wordOf N x2 h2 g3) fun (y7 : Int32) (h5 : HI) (g6 : HL) =>
      pX8_row_195 N x2 y1 y7 h5 g6
  else
    if x1 = 0 then
      pX8_row_167 N x4 h2 g3
    else
      if 9 < y1 then
        pX8_row_167 N x4 h2 g3
      else
        pX8_row_168 N x4 11 h2 g3
theorem jX8_row_124 {D : DE} {f : Nat} {F : Frm} (hF : k_Fix F) {N : Nat} {h9 : HI} {g9 : HL}  : ∀ (x1 : Int32) (x2 : Int64) (x4 : Int64) (h : HI) (g : HL), pX8_row_124 N x1 x2 x4 h g = some (h9, g9) → JX8_row_124 D (f + 1) (eqv h9 g9) F h g x1 x2 x4 := by
  intro x1 x2 x4 h g E
  unfold pX8_row_124 at E
  intro y1 e0; replace E := bndE e0 E
  obtain ⟨z0, E⟩ := gdE E; refine ⟨vinE z0, ?_⟩
  obtain ⟨y4, h2, g3, e0, E⟩ := obiE E
  refine Si.mono (sX8_isDigit (f := f + 1) hF e0) (fun y8 h8 g8 hq => ?_)
  obtain ⟨rfl, rfl, rfl⟩ := hq
  refine ⟨fun c0 => ?_, fun c0 => ?_⟩
  · replace E := iteT c0 E
    refine ⟨fun c0 => ?_, fun c0 => ?_⟩
    · replace E := iteT c0 E
      exact jX8_row_195 hF  _ _ _ _ _ E
    · replace E := iteF c0 E
      obtain ⟨y7, h5, g6, e0, E⟩ := obiE E
      refine Si.mono (sX8_wordOf (f := f) hF e0) (fun y8 h8 g8 hq => ?_)
      obtain ⟨rfl, rfl, rfl⟩ := hq
      exact jX8_row_195 hF  _ _ _ _ _ E
  · replace E := iteF c0 E
    refine ⟨fun c0 => ?_, fun c0 => ?_⟩
    · replace E := iteT c0 E
      exact jX8_row_167 hF  _ _ _ E
    · replace E := iteF c0 E
      refine ⟨fun c0 => ?_, fun c0 => ?_⟩
      · replace E := iteT c0 E
        exact jX8_row_167 hF  _ _ _ E
      · replace E := iteF c0 E
        exact jX8_row_168 hF  _ _ _ _ E
def pX8_row_109 (N : Nat) (K7 : Int32 → Int64 → Int64 → HI → HL → Option (HI × HL)) (x1 : Int32) (x2 : Int64) (s0 : Int64) (h : HI) (g : HL) : Option (HI × HL) :=
  bnd (up2 h 115 3 ((h 115 3) + 1)) fun (h1 : HI) =>
  K7 x1 x2 s0 h1 g
theorem jX8_row_109 {D : DE} {f : Nat} {F : Frm} (hF : k_Fix F) {N : Nat} {K7 : Int32 → Int64 → Int64 → HI → HL → Option (HI × HL)} {h9 : HI} {g9 : HL} (hK7 : ∀ (x1 : Int32) (x2 : Int64) (x4 : Int64) (h : HI) (g : HL), K7 x1 x2 x4 h g = some (h9, g9) → V D mX8_row (f + 2) (qv F (eqv h9 g9)) 7 [(0, .ref (ad D 115)), (1, .int x1), (2, .long x2), (4, .long x4)] [] (F, h, g)) : ∀ (x1 : Int32) (x2 : Int64) (s0 : Int64) (h : HI) (g : HL), pX8_row_109 N K7 x1 x2 s0 h g = some (h9, g9) → JX8_row_109 D (f + 1) (eqv h9 g9) F h g x1 x2 s0 := by
  intro x1 x2 s0 h g E
  unfold pX8_row_109 at E
  intro h1 e0; replace E := bndE e0 E
  exact hK7 _ _ _ _ _ E
def pX8_row_57 (N : Nat) (K7 : Int32 → Int64 → Int64 → HI → HL → Option (HI × HL)) (x2 : Int64) (x4 : Int64) (s0 : Int32) (h : HI) (g : HL) : Option (HI × HL) :=
  gd (vin (h 115 3) 4000) <|
  bnd ((x2 <<< ((8 : Int32).toInt64 &&& 63)) ||| ((h 116 (ix (h 115 3))).toInt64)) fun (y1 : Int64) =>
  if (lg_cmp x4 1000000000) ≤ 0 then
    gd (vin (h 115 3) 4000) <|
    bnd (((10 * x4) + ((h 116 (ix (h 115 3))).toInt64)) - 48) fun (y2 : Int64) =>
    pX8_row_109 N K7 s0 y1 y2 h g
  else
    pX8_row_109 N K7 s0 y1 x4 h g
theorem jX8_row_57 {D : DE} {f : Nat} {F : Frm} (hF : k_Fix F) {N : Nat} {K7 : Int32 → Int64 → Int64 → HI → HL → Option (HI × HL)} {h9 : HI} {g9 : HL} (hK7 : ∀ (x1 : Int32) (x2 : Int64) (x4 : Int64) (h : HI) (g : HL), K7 x1 x2 x4 h g = some (h9, g9) → V D mX8_row (f + 2) (qv F (eqv h9 g9)) 7 [(0, .ref (ad D 115)), (1, .int x1), (2, .long x2), (4, .long x4)] [] (F, h, g)) : ∀ (x2 : Int64) (x4 : Int64) (s0 : Int32) (h : HI) (g : HL), pX8_row_57 N K7 x2 x4 s0 h g = some (h9, g9) → JX8_row_57 D (f + 1) (eqv h9 g9) F h g x2 x4 s0 := by
  intro x2 x4 s0 h g E
  unfold pX8_row_57 at E
  obtain ⟨z0, E⟩ := gdE E; refine ⟨vinE z0, ?_⟩
  intro y1 e0; replace E := bndE e0 E
  refine ⟨fun c0 => ?_, fun c0 => ?_⟩
  · replace E := iteT c0 E
    obtain ⟨z0, E⟩ := gdE E; refine ⟨vinE z0, ?_⟩
    intro y2 e0; replace E := bndE e0 E
    exact jX8_row_109 hF hK7 _ _ _ _ _ E
  · replace E := iteF c0 E
    exact jX8_row_109 hF hK7 _ _ _ _ _ E
def pX8_row_56 (N : Nat) (K7 : Int32 → Int64 → Int64 → HI → HL → Option (HI × HL)) (x2 : Int64) (x4 : Int64) (h : HI) (g : HL) : Option (HI × HL) :=
  pX8_row_57 N K7 x2 x4 0 h g
theorem jX8_row_56 {D : DE} {f : Nat} {F : Frm} (hF : k_Fix F) {N : Nat} {K7 : Int32 → Int64 → Int64 → HI → HL → Option (HI × HL)} {h9 : HI} {g9 : HL} (hK7 : ∀ (x1 : Int32) (x2 : Int64) (x4 : Int64) (h : HI) (g : HL), K7 x1 x2 x4 h g = some (h9, g9) → V D mX8_row (f + 2) (qv F (eqv h9 g9)) 7 [(0, .ref (ad D 115)), (1, .int x1), (2, .long x2), (4, .long x4)] [] (F, h, g)) : ∀ (x2 : Int64) (x4 : Int64) (h : HI) (g : HL), pX8_row_56 N K7 x2 x4 h g = some (h9, g9) → JX8_row_56 D (f + 1) (eqv h9 g9) F h g x2 x4 := by
  intro x2 x4 h g E
  unfold pX8_row_56 at E
  exact jX8_row_57 hF hK7 _ _ _ _ _ E
def pX8_row_7 (N : Nat) : Nat → Int32 → Int64 → Int64 → HI → HL → Option (HI × HL)
  | 0, _, _, _, _, _ => none
  | n + 1, x1, x2, x4, h, g =>
    if (h 115 2) ≤ (h 115 3) then
      pX8_row_124 N x1 x2 x4 h g
    else
      gd (vin (h 115 3) 4000) <|
      obi (pX8_isRow N (h 116 (ix (h 115 3))) h g) fun (y3 : Int32) (h1 : HI) (g2 : HL) =>
      if y3 = 0 then
        pX8_row_124 N x1 x2 x4 h1 g2
      else
        if x1 = 0 then
          pX8_row_56 N (pX8_row_7 N n) x2 x4 h1 g2
        else
          gd (vin (h1 115 3) 4000) <|
          obi (pX8_isDigit N (h1 116 (ix (h1 115 3))) h1 g2) fun (y6 : Int32) (h4 : HI) (g5 : HL) =>
          if y6 = 0 then
            pX8_row_56 N (pX8_row_7 N n) x2 x4 h4 g5
          else
            pX8_row_57 N (pX8_row_7 N n) x2 x4 1 h4 g5
theorem lX8_row_7 {D : DE} {f : Nat} {F : Frm} (hF : k_Fix F) {N : Nat} {h9 : HI} {g9 : HL}  : ∀ (n : Nat) (x1 : Int32) (x2 : Int64) (x4 : Int64) (h : HI) (g : HL), pX8_row_7 N n x1 x2 x4 h g = some (h9, g9) → V D mX8_row (f + 2) (qv F (eqv h9 g9)) 7 [(0, .ref (ad D 115)), (1, .int x1), (2, .long x2), (4, .long x4)] [] (F, h, g) := by
  intro n
  induction n with
  | zero => intro x1 x2 x4 h g E; cases E
  | succ n hK7 =>
    intro x1 x2 x4 h g E
    rw [pX8_row_7] at E
    refine bX8_row_7 (f := (f + 1)) hF x1 x2 x4 ?_
    refine ⟨fun c0 => ?_, fun c0 => ?_⟩
    · replace E := iteT c0 E
      exact jX8_row_124 hF  _ _ _ _ _ E
    · replace E := iteF c0 E
      obtain ⟨z0, E⟩ := gdE E; refine ⟨vinE z0, ?_⟩
      obtain ⟨y3, h1, g2, e0, E⟩ := obiE E
      refine Si.mono (sX8_isRow (f := f) hF e0) (fun y8 h8 g8 hq => ?_)
      obtain ⟨rfl, rfl, rfl⟩ := hq
      refine ⟨fun c0 => ?_, fun c0 => ?_⟩
      · replace E := iteT c0 E
        exact jX8_row_124 hF  _ _ _ _ _ E
      · replace E := iteF c0 E
        refine ⟨fun c0 => ?_, fun c0 => ?_⟩
        · replace E := iteT c0 E
          exact jX8_row_56 hF hK7 _ _ _ _ E
        · replace E := iteF c0 E
          obtain ⟨z0, E⟩ := gdE E; refine ⟨vinE z0, ?_⟩
          obtain ⟨y6, h4, g5, e0, E⟩ := obiE E
          refine Si.mono (sX8_isDigit (f := f + 1) hF e0) (fun y8 h8 g8 hq => ?_)
          obtain ⟨rfl, rfl, rfl⟩ := hq
          refine ⟨fun c0 => ?_, fun c0 => ?_⟩
          · replace E := iteT c0 E
            exact jX8_row_56 hF hK7 _ _ _ _ E
          · replace E := iteF c0 E
            exact jX8_row_57 hF hK7 _ _ _ _ _ E
def pX8_row_0 (N : Nat) (h : HI) (g : HL) : Option (HI × HL) :=
  pX8_row_7 N N 1 0 0 h g
theorem jX8_row_0 {D : DE} {f : Nat} {F : Frm} (hF : k_Fix F) {N : Nat} {h9 : HI} {g9 : HL}  : ∀ (h : HI) (g : HL), pX8_row_0 N h g = some (h9, g9) → JX8_row_0 D (f + 1) (eqv h9 g9) F h g  := by
  intro h g E
  unfold pX8_row_0 at E
  exact lX8_row_7 hF  N _ _ _ _ _ E
abbrev pX8_row (N : Nat) (h : HI) (g : HL) : Option (HI × HL) := pX8_row_0 N h g
theorem sX8_row {D : DE} {f : Nat} {F : Frm} (hF : k_Fix F) {N : Nat} {h9 : HI} {g9 : HL} {h : HI} {g : HL} (E : pX8_row N h g = some (h9, g9)) : Sv D (f + 2) mX8_row [.ref (ad D 115)] F h g (eqv h9 g9) := wX8_row (f := (f + 1)) hF  (jX8_row_0 hF _ _ E)
def pX8_next_280 (N : Nat) (s1 : Int32) (h : HI) (g : HL) : Option (HI × HL) :=
  bnd (up2 h 115 4 s1) fun (h1 : HI) =>
  if (h1 115 4) = 0 then
    obv (pX8_stop N 1 (h1 115 5) h1 g) fun (h2 : HI) (g3 : HL) =>
    some (h2, g3)
  else
    some (h1, g)
theorem jX8_next_280 {D : DE} {f : Nat} {F : Frm} (hF : k_Fix F) {N : Nat} {h9 : HI} {g9 : HL}  : ∀ (s1 : Int32) (h : HI) (g : HL), pX8_next_280 N s1 h g = some (h9, g9) → JX8_next_280 D (f + 2) (eqv h9 g9) F h g s1 := by
  intro s1 h g E
  unfold pX8_next_280 at E
  intro h1 e0; replace E := bndE e0 E
  refine ⟨fun c0 => ?_, fun c0 => ?_⟩
  · replace E := iteF c0 E
    cases E; exact ⟨rfl, rfl⟩
  · replace E := iteT c0 E
    obtain ⟨h2, g3, e0, E⟩ := obvE E
    refine Sv.mono (sX8_stop (f := f + 2) hF e0) (fun h8 g8 hq => ?_)
    obtain ⟨rfl, rfl⟩ := hq
    cases E; exact ⟨rfl, rfl⟩
def pX8_next_168 (N : Nat) (x1 : Int32) (h : HI) (g : HL) : Option (HI × HL) :=
  if x1 = 61 then
    pX8_next_280 N 13 h g
  else
    if x1 = 40 then
      pX8_next_280 N 14 h g
    else
      if x1 = 41 then
        pX8_next_280 N 15 h g
      else
        if x1 = 44 then
          pX8_next_280 N 16 h g
        else
          if x1 = 59 then
            pX8_next_280 N 17 h g
          else
            if x1 = 58 then
              pX8_next_280 N 18 h g
            else
              if x1 = 43 then
                pX8_next_280 N 19 h g
              else
                if x1 = 45 then
                  pX8_next_280 N 20 h g
                else
                  if x1 = 42 then
                    pX8_next_280 N 21 h g
                  else
                    if x1 = 60 then
                      pX8_next_280 N 22 h g
                    else
                      pX8_next_280 N 0 h g
theorem jX8_next_168 {D : DE} {f : Nat} {F : Frm} (hF : k_Fix F) {N : Nat} {h9 : HI} {g9 : HL}  : ∀ (x1 : Int32) (h : HI) (g : HL), pX8_next_168 N x1 h g = some (h9, g9) → JX8_next_168 D (f + 2) (eqv h9 g9) F h g x1 := by
  intro x1 h g E
  unfold pX8_next_168 at E
  refine ⟨fun c0 => ?_, fun c0 => ?_⟩
  · replace E := iteF c0 E
    refine ⟨fun c0 => ?_, fun c0 => ?_⟩
    · replace E := iteF c0 E
      refine ⟨fun c0 => ?_, fun c0 => ?_⟩
      · replace E := iteF c0 E
        refine ⟨fun c0 => ?_, fun c0 => ?_⟩
        · replace E := iteF c0 E
          refine ⟨fun c0 => ?_, fun c0 => ?_⟩
          · replace E := iteF c0 E
            refine ⟨fun c0 => ?_, fun c0 => ?_⟩
            · replace E := iteF c0 E
              refine ⟨fun c0 => ?_, fun c0 => ?_⟩
              · replace E := iteF c0 E
                refine ⟨fun c0 => ?_, fun c0 => ?_⟩
                · replace E := iteF c0 E
                  refine ⟨fun c0 => ?_, fun c0 => ?_⟩
                  · replace E := iteF c0 E
                    refine ⟨fun c0 => ?_, fun c0 => ?_⟩
                    · replace E := iteF c0 E
                      exact jX8_next_280 hF  _ _ _ E
                    · replace E := iteT c0 E
                      exact jX8_next_280 hF  _ _ _ E
                  · replace E := iteT c0 E
                    exact jX8_next_280 hF  _ _ _ E
                · replace E := iteT c0 E
                  exact jX8_next_280 hF  _ _ _ E
              · replace E := iteT c0 E
                exact jX8_next_280 hF  _ _ _ E
            · replace E := iteT c0 E
              exact jX8_next_280 hF  _ _ _ E
          · replace E := iteT c0 E
            exact jX8_next_280 hF  _ _ _ E
        · replace E := iteT c0 E
          exact jX8_next_280 hF  _ _ _ E
      · replace E := iteT c0 E
        exact jX8_next_280 hF  _ _ _ E
    · replace E := iteT c0 E
      exact jX8_next_280 hF  _ _ _ E
  · replace E := iteT c0 E
    exact jX8_next_280 hF  _ _ _ E
def pX8_next_52 (N : Nat) (h : HI) (g : HL) : Option (HI × HL) :=
  bnd (up2 h 115 5 (h 115 3)) fun (h1 : HI) =>
  if (h1 115 3) = (h1 115 2) then
    bnd (up2 h1 115 4 23) fun (h12 : HI) =>
    some (h12, g)
  else
    bnd (up2 h1 115 6 ((h1 115 6) + 1)) fun (h2 : HI) =>
    gd (vin (h2 115 3) 4000) <|
    bnd (h2 116 (ix (h2 115 3))) fun (y3 : Int32) =>
    obi (pX8_isRow N y3 h2 g) fun (y6 : Int32) (h4 : HI) (g5 : HL) =>
    if y6 = 0 then
      bnd (up2 h4 115 3 ((h4 115 3) + 1)) fun (h7 : HI) =>
      if y3 = 61 then
        if (h7 115 2) ≤ (h7 115 3) then
          pX8_next_168 N y3 h7 g5
        else
          gd (vin (h7 115 3) 4000) <|
          if (h7 116 (ix (h7 115 3))) = 61 then
            bnd (up2 h7 115 3 ((h7 115 3) + 1)) fun (h8 : HI) =>
            bnd (up2 h8 115 4 12) fun (h9 : HI) =>
            some (h9, g5)
          else
            pX8_next_168 N y3 h7 g5
      else
        pX8_next_168 N y3 h7 g5
    else
      obv (pX8_row N h4 g5) fun (h10 : HI) (g11 : HL) =>
      some (h10, g11)
theorem jX8_next_52 {D : DE} {f : Nat} {F : Frm} (hF : k_Fix F) {N : Nat} {h9 : HI} {g9 : HL}  : ∀ (h : HI) (g : HL), pX8_next_52 N h g = some (h9, g9) → JX8_next_52 D (f + 2) (eqv h9 g9) F h g  := by
  intro h g E
  unfold pX8_next_52 at E
  intro h1 e0; replace E := bndE e0 E
  refine ⟨fun c0 => ?_, fun c0 => ?_⟩
  · replace E := iteF c0 E
    intro h2 e0; replace E := bndE e0 E
    obtain ⟨z0, E⟩ := gdE E; refine ⟨vinE z0, ?_⟩
    intro y3 e0; replace E := bndE e0 E
    obtain ⟨y6, h4, g5, e0, E⟩ := obiE E
    refine Si.mono (sX8_isRow (f := f + 1) hF e0) (fun y8 h8 g8 hq => ?_)
    obtain ⟨rfl, rfl, rfl⟩ := hq
    refine ⟨fun c0 => ?_, fun c0 => ?_⟩
    · replace E := iteT c0 E
      intro h7 e0; replace E := bndE e0 E
      refine ⟨fun c0 => ?_, fun c0 => ?_⟩
      · replace E := iteF c0 E
        exact jX8_next_168 hF  _ _ _ E
      · replace E := iteT c0 E
        refine ⟨fun c0 => ?_, fun c0 => ?_⟩
        · replace E := iteT c0 E
          exact jX8_next_168 hF  _ _ _ E
        · replace E := iteF c0 E
          obtain ⟨z0, E⟩ := gdE E; refine ⟨vinE z0, ?_⟩
          refine ⟨fun c0 => ?_, fun c0 => ?_⟩
          · replace E := iteF c0 E
            exact jX8_next_168 hF  _ _ _ E
          · replace E := iteT c0 E
            intro h8 e0; replace E := bndE e0 E
            intro h9 e0; replace E := bndE e0 E
            cases E; exact ⟨rfl, rfl⟩
    · replace E := iteF c0 E
      obtain ⟨h10, g11, e0, E⟩ := obvE E
      refine Sv.mono (sX8_row (f := f) hF e0) (fun h8 g8 hq => ?_)
      obtain ⟨rfl, rfl⟩ := hq
      cases E; exact ⟨rfl, rfl⟩
  · replace E := iteT c0 E
    intro h12 e0; replace E := bndE e0 E
    cases E; exact ⟨rfl, rfl⟩
def pX8_next_39 (N : Nat) (K0 : HI → HL → Option (HI × HL)) (h : HI) (g : HL) : Option (HI × HL) :=
  bnd (up2 h 115 3 ((h 115 3) + 1)) fun (h1 : HI) =>
  K0 h1 g
theorem jX8_next_39 {D : DE} {f : Nat} {F : Frm} (hF : k_Fix F) {N : Nat} {K0 : HI → HL → Option (HI × HL)} {h9 : HI} {g9 : HL} (hK0 : ∀ (h : HI) (g : HL), K0 h g = some (h9, g9) → V D mX8_next (f + 3) (qv F (eqv h9 g9)) 0 [(0, .ref (ad D 115))] [] (F, h, g)) : ∀ (h : HI) (g : HL), pX8_next_39 N K0 h g = some (h9, g9) → JX8_next_39 D (f + 2) (eqv h9 g9) F h g  := by
  intro h g E
  unfold pX8_next_39 at E
  intro h1 e0; replace E := bndE e0 E
  exact hK0 _ _ E
def pX8_next_0 (N : Nat) : Nat → HI → HL → Option (HI × HL)
  | 0, _, _ => none
  | n + 1, h, g =>
    if (h 115 2) ≤ (h 115 3) then
      pX8_next_52 N h g
    else
      gd (vin (h 115 3) 4000) <|
      if (h 116 (ix (h 115 3))) = 32 then
        pX8_next_39 N (pX8_next_0 N n) h g
      else
        gd (vin (h 115 3) 4000) <|
        if (h 116 (ix (h 115 3))) = 10 then
          pX8_next_39 N (pX8_next_0 N n) h g
        else
          pX8_next_52 N h g
theorem lX8_next_0 {D : DE} {f : Nat} {F : Frm} (hF : k_Fix F) {N : Nat} {h9 : HI} {g9 : HL}  : ∀ (n : Nat) (h : HI) (g : HL), pX8_next_0 N n h g = some (h9, g9) → V D mX8_next (f + 3) (qv F (eqv h9 g9)) 0 [(0, .ref (ad D 115))] [] (F, h, g) := by
  intro n
  induction n with
  | zero => intro h g E; cases E
  | succ n hK0 =>
    intro h g E
    rw [pX8_next_0] at E
    refine bX8_next_0 (f := (f + 2)) hF  ?_
    refine ⟨fun c0 => ?_, fun c0 => ?_⟩
    · replace E := iteT c0 E
      exact jX8_next_52 hF  _ _ E
    · replace E := iteF c0 E
      obtain ⟨z0, E⟩ := gdE E; refine ⟨vinE z0, ?_⟩
      refine ⟨fun c0 => ?_, fun c0 => ?_⟩
      · replace E := iteT c0 E
        exact jX8_next_39 hF hK0 _ _ E
      · replace E := iteF c0 E
        obtain ⟨z0, E⟩ := gdE E; refine ⟨vinE z0, ?_⟩
        refine ⟨fun c0 => ?_, fun c0 => ?_⟩
        · replace E := iteF c0 E
          exact jX8_next_52 hF  _ _ E
        · replace E := iteT c0 E
          exact jX8_next_39 hF hK0 _ _ E
abbrev pX8_next (N : Nat) (h : HI) (g : HL) : Option (HI × HL) := pX8_next_0 N N h g
theorem sX8_next {D : DE} {f : Nat} {F : Frm} (hF : k_Fix F) {N : Nat} {h9 : HI} {g9 : HL} {h : HI} {g : HL} (E : pX8_next N h g = some (h9, g9)) : Sv D (f + 3) mX8_next [.ref (ad D 115)] F h g (eqv h9 g9) := Cl.ofV (by decide) (Nat.le_of_ble_eq_true rfl) rfl (lX8_next_0 hF N _ _ E)
def pX8_pass_27 (N : Nat) (h : HI) (g : HL) : Option (HI × HL) :=
  if (h 115 9) = 0 then
    obv (pX8_next N h g) fun (h1 : HI) (g2 : HL) =>
    some (h1, g2)
  else
    some (h, g)
theorem jX8_pass_27 {D : DE} {f : Nat} {F : Frm} (hF : k_Fix F) {N : Nat} {h9 : HI} {g9 : HL}  : ∀ (h : HI) (g : HL), pX8_pass_27 N h g = some (h9, g9) → JX8_pass_27 D (f + 3) (eqv h9 g9) F h g  := by
  intro h g E
  unfold pX8_pass_27 at E
  refine ⟨fun c0 => ?_, fun c0 => ?_⟩
  · replace E := iteF c0 E
    cases E; exact ⟨rfl, rfl⟩
  · replace E := iteT c0 E
    obtain ⟨h1, g2, e0, E⟩ := obvE E
    refine Sv.mono (sX8_next (f := f) hF e0) (fun h8 g8 hq => ?_)
    obtain ⟨rfl, rfl⟩ := hq
    cases E; exact ⟨rfl, rfl⟩
def pX8_pass_0 (N : Nat) (h : HI) (g : HL) : Option (HI × HL) :=
  if (h 115 9) = 0 then
    if (h 115 6) ≤ 1000 then
      pX8_pass_27 N h g
    else
      obv (pX8_stop N 6 (h 115 5) h g) fun (h1 : HI) (g2 : HL) =>
      pX8_pass_27 N h1 g2
  else
    pX8_pass_27 N h g
theorem jX8_pass_0 {D : DE} {f : Nat} {F : Frm} (hF : k_Fix F) {N : Nat} {h9 : HI} {g9 : HL}  : ∀ (h : HI) (g : HL), pX8_pass_0 N h g = some (h9, g9) → JX8_pass_0 D (f + 3) (eqv h9 g9) F h g  := by
  intro h g E
  unfold pX8_pass_0 at E
  refine ⟨fun c0 => ?_, fun c0 => ?_⟩
  · replace E := iteF c0 E
    exact jX8_pass_27 hF  _ _ E
  · replace E := iteT c0 E
    refine ⟨fun c0 => ?_, fun c0 => ?_⟩
    · replace E := iteT c0 E
      exact jX8_pass_27 hF  _ _ E
    · replace E := iteF c0 E
      obtain ⟨h1, g2, e0, E⟩ := obvE E
      refine Sv.mono (sX8_stop (f := f + 3) hF e0) (fun h8 g8 hq => ?_)
      obtain ⟨rfl, rfl⟩ := hq
      exact jX8_pass_27 hF  _ _ E
abbrev pX8_pass (N : Nat) (h : HI) (g : HL) : Option (HI × HL) := pX8_pass_0 N h g
theorem sX8_pass {D : DE} {f : Nat} {F : Frm} (hF : k_Fix F) {N : Nat} {h9 : HI} {g9 : HL} {h : HI} {g : HL} (E : pX8_pass N h g = some (h9, g9)) : Sv D (f + 4) mX8_pass [.ref (ad D 115)] F h g (eqv h9 g9) := wX8_pass (f := (f + 3)) hF  (jX8_pass_0 hF _ _ E)
def pX8_want_0 (N : Nat) (x1 : Int32) (h : HI) (g : HL) : Option (HI × HL) :=
  if (h 115 9) = 0 then
    if (h 115 4) = x1 then
      obv (pX8_pass N h g) fun (h3 : HI) (g4 : HL) =>
      some (h3, g4)
    else
      obv (pX8_stop N 2 (h 115 5) h g) fun (h5 : HI) (g6 : HL) =>
      obv (pX8_pass N h5 g6) fun (h7 : HI) (g8 : HL) =>
      some (h7, g8)
  else
    obv (pX8_pass N h g) fun (h1 : HI) (g2 : HL) =>
    some (h1, g2)
theorem jX8_want_0 {D : DE} {f : Nat} {F : Frm} (hF : k_Fix F) {N : Nat} {h9 : HI} {g9 : HL}  : ∀ (x1 : Int32) (h : HI) (g : HL), pX8_want_0 N x1 h g = some (h9, g9) → JX8_want_0 D (f + 4) (eqv h9 g9) F h g x1 := by
  intro x1 h g E
  unfold pX8_want_0 at E
  refine ⟨fun c0 => ?_, fun c0 => ?_⟩
  · replace E := iteF c0 E
    obtain ⟨h1, g2, e0, E⟩ := obvE E
    refine Sv.mono (sX8_pass (f := f) hF e0) (fun h8 g8 hq => ?_)
    obtain ⟨rfl, rfl⟩ := hq
    cases E; exact ⟨rfl, rfl⟩
  · replace E := iteT c0 E
    refine ⟨fun c0 => ?_, fun c0 => ?_⟩
    · replace E := iteT c0 E
      obtain ⟨h3, g4, e0, E⟩ := obvE E
      refine Sv.mono (sX8_pass (f := f) hF e0) (fun h8 g8 hq => ?_)
      obtain ⟨rfl, rfl⟩ := hq
      cases E; exact ⟨rfl, rfl⟩
    · replace E := iteF c0 E
      obtain ⟨h5, g6, e0, E⟩ := obvE E
      refine Sv.mono (sX8_stop (f := f + 4) hF e0) (fun h8 g8 hq => ?_)
      obtain ⟨rfl, rfl⟩ := hq
      obtain ⟨h7, g8, e0, E⟩ := obvE E
      refine Sv.mono (sX8_pass (f := f) hF e0) (fun h8 g8 hq => ?_)
      obtain ⟨rfl, rfl⟩ := hq
      cases E; exact ⟨rfl, rfl⟩
abbrev pX8_want (N : Nat) (x1 : Int32) (h : HI) (g : HL) : Option (HI × HL) := pX8_want_0 N x1 h g
theorem sX8_want {D : DE} {f : Nat} {F : Frm} (hF : k_Fix F) {N : Nat} {h9 : HI} {g9 : HL} {x1 : Int32} {h : HI} {g : HL} (E : pX8_want N x1 h g = some (h9, g9)) : Sv D (f + 5) mX8_want [.ref (ad D 115), .int x1] F h g (eqv h9 g9) := wX8_want (f := (f + 4)) hF _ (jX8_want_0 hF _ _ _ E)
def pX8_node_20 (N : Nat) (x1 : Int32) (x2 : Int32) (s0 : Int32) (h : HI) (g : HL) : Option (Int32 × HI × HL) :=
  bnd (up2 h 115 29 (s0 + 1)) fun (h1 : HI) =>
  gd (vin s0 2002) <|
  bnd (up2 h1 124 (ix s0) x1) fun (h2 : HI) =>
  gd (vin s0 2002) <|
  bnd (up2 h2 128 (ix s0) x2) fun (h3 : HI) =>
  some (s0, h3, g)
theorem jX8_node_20 {D : DE} {f : Nat} {F : Frm} (hF : k_Fix F) {N : Nat} {y9 : Int32} {h9 : HI} {g9 : HL}  : ∀ (x1 : Int32) (x2 : Int32) (s0 : Int32) (h : HI) (g : HL), pX8_node_20 N x1 x2 s0 h g = some (y9, h9, g9) → JX8_node_20 D f (eqi y9 h9 g9) F h g x1 x2 s0 := by
  intro x1 x2 s0 h g E
  unfold pX8_node_20 at E
  intro h1 e0; replace E := bndE e0 E
  obtain ⟨z0, E⟩ := gdE E; refine ⟨vinE z0, ?_⟩
  intro h2 e0; replace E := bndE e0 E
  obtain ⟨z0, E⟩ := gdE E; refine ⟨vinE z0, ?_⟩
  intro h3 e0; replace E := bndE e0 E
  cases E; exact ⟨rfl, rfl, rfl⟩
def pX8_node_0 (N : Nat) (x1 : Int32) (x2 : Int32) (h : HI) (g : HL) : Option (Int32 × HI × HL) :=
  if 2001 ≤ (h 115 29) then
    pX8_node_20 N x1 x2 2001 h g
  else
    pX8_node_20 N x1 x2 (h 115 29) h g
theorem jX8_node_0 {D : DE} {f : Nat} {F : Frm} (hF : k_Fix F) {N : Nat} {y9 : Int32} {h9 : HI} {g9 : HL}  : ∀ (x1 : Int32) (x2 : Int32) (h : HI) (g : HL), pX8_node_0 N x1 x2 h g = some (y9, h9, g9) → JX8_node_0 D f (eqi y9 h9 g9) F h g x1 x2 := by
  intro x1 x2 h g E
  unfold pX8_node_0 at E
  refine ⟨fun c0 => ?_, fun c0 => ?_⟩
  · replace E := iteT c0 E
    exact jX8_node_20 hF  _ _ _ _ _ E
  · replace E := iteF c0 E
    exact jX8_node_20 hF  _ _ _ _ _ E
abbrev pX8_node (N : Nat) (x1 : Int32) (x2 : Int32) (h : HI) (g : HL) : Option (Int32 × HI × HL) := pX8_node_0 N x1 x2 h g
theorem sX8_node {D : DE} {f : Nat} {F : Frm} (hF : k_Fix F) {N : Nat} {y9 : Int32} {h9 : HI} {g9 : HL} {x1 : Int32} {x2 : Int32} {h : HI} {g : HL} (E : pX8_node N x1 x2 h g = some (y9, h9, g9)) : Si D f mX8_node [.ref (ad D 115), .int x1, .int x2] F h g (eqi y9 h9 g9) := wX8_node (f := f) hF _ _ (jX8_node_0 hF _ _ _ _ E)
def pX8_isParam_48 (N : Nat) (K5 : Int64 → Int32 → Int32 → HI → HL → Option (Int32 × HI × HL)) (x1 : Int64) (x4 : Int32) (s0 : Int32) (h : HI) (g : HL) : Option (Int32 × HI × HL) :=
  bnd (x4 + 1) fun (y1 : Int32) =>
  K5 x1 s0 y1 h g
theorem jX8_isParam_48 {D : DE} {f : Nat} {F : Frm} (hF : k_Fix F) {N : Nat} {K5 : Int64 → Int32 → Int32 → HI → HL → Option (Int32 × HI × HL)} {y9 : Int32} {h9 : HI} {g9 : HL} (hK5 : ∀ (x1 : Int64) (x3 : Int32) (x4 : Int32) (h : HI) (g : HL), K5 x1 x3 x4 h g = some (y9, h9, g9) → V D mX8_isParam f (qi F (eqi y9 h9 g9)) 5 [(0, .ref (ad D 115)), (1, .long x1), (3, .int x3), (4, .int x4)] [] (F, h, g)) : ∀ (x1 : Int64) (x4 : Int32) (s0 : Int32) (h : HI) (g : HL), pX8_isParam_48 N K5 x1 x4 s0 h g = some (y9, h9, g9) → JX8_isParam_48 D f (eqi y9 h9 g9) F h g x1 x4 s0 := by
  intro x1 x4 s0 h g E
  unfold pX8_isParam_48 at E
  intro y1 e0; replace E := bndE e0 E
  exact hK5 _ _ _ _ _ E
def pX8_isParam_43 (N : Nat) (K5 : Int64 → Int32 → Int32 → HI → HL → Option (Int32 × HI × HL)) (x1 : Int64) (x4 : Int32) (h : HI) (g : HL) : Option (Int32 × HI × HL) :=
  pX8_isParam_48 N K5 x1 x4 1 h g
theorem jX8_isParam_43 {D : DE} {f : Nat} {F : Frm} (hF : k_Fix F) {N : Nat} {K5 : Int64 → Int32 → Int32 → HI → HL → Option (Int32 × HI × HL)} {y9 : Int32} {h9 : HI} {g9 : HL} (hK5 : ∀ (x1 : Int64) (x3 : Int32) (x4 : Int32) (h : HI) (g : HL), K5 x1 x3 x4 h g = some (y9, h9, g9) → V D mX8_isParam f (qi F (eqi y9 h9 g9)) 5 [(0, .ref (ad D 115)), (1, .long x1), (3, .int x3), (4, .int x4)] [] (F, h, g)) : ∀ (x1 : Int64) (x4 : Int32) (h : HI) (g : HL), pX8_isParam_43 N K5 x1 x4 h g = some (y9, h9, g9) → JX8_isParam_43 D f (eqi y9 h9 g9) F h g x1 x4 := by
  intro x1 x4 h g E
  unfold pX8_isParam_43 at E
  exact jX8_isParam_48 hF hK5 _ _ _ _ _ E
def pX8_isParam_5 (N : Nat) : Nat → Int64 → Int32 → Int32 → HI → HL → Option (Int32 × HI × HL)
  | 0, _, _, _, _, _ => none
  | n + 1, x1, x3, x4, h, g =>
    gd (vin (h 115 33) 24) <|
    if (h 119 (ix (h 115 33))) ≤ x4 then
      gd (isBb x3) <|
      some (x3, h, g)
    else
      if x3 = 0 then
        gd (vin ((16 * (h 115 33)) + x4) 384) <|
        if (lg_cmp (g 122 (ix ((16 * (h 115 33)) + x4))) x1) = 0 then
          pX8_isParam_43 N (pX8_isParam_5 N n) x1 x4 h g
        else
          pX8_isParam_48 N (pX8_isParam_5 N n) x1 x4 0 h g
      else
        pX8_isParam_43 N (pX8_isParam_5 N n) x1 x4 h g
theorem lX8_isParam_5 {D : DE} {f : Nat} {F : Frm} (hF : k_Fix F) {N : Nat} {y9 : Int32} {h9 : HI} {g9 : HL}  : ∀ (n : Nat) (x1 : Int64) (x3 : Int32) (x4 : Int32) (h : HI) (g : HL), pX8_isParam_5 N n x1 x3 x4 h g = some (y9, h9, g9) → V D mX8_isParam f (qi F (eqi y9 h9 g9)) 5 [(0, .ref (ad D 115)), (1, .long x1), (3, .int x3), (4, .int x4)] [] (F, h, g) := by
  intro n
  induction n with
  | zero => intro x1 x3 x4 h g E; cases E
  | succ n hK5 =>
    intro x1 x3 x4 h g E
    rw [pX8_isParam_5] at E
    refine bX8_isParam_5 (f := f) hF x1 x3 x4 ?_
    obtain ⟨z0, E⟩ := gdE E; refine ⟨vinE z0, ?_⟩
    refine ⟨fun c0 => ?_, fun c0 => ?_⟩
    · replace E := iteT c0 E
      obtain ⟨z0, E⟩ := gdE E; refine ⟨isBbE z0, ?_⟩
      cases E; exact ⟨rfl, rfl, rfl⟩
    · replace E := iteF c0 E
      refine ⟨fun c0 => ?_, fun c0 => ?_⟩
      · replace E := iteF c0 E
        exact jX8_isParam_43 hF hK5 _ _ _ _ E
      · replace E := iteT c0 E
        obtain ⟨z0, E⟩ := gdE E; refine ⟨vinE z0, ?_⟩
        refine ⟨fun c0 => ?_, fun c0 => ?_⟩
        · replace E := iteF c0 E
          exact jX8_isParam_48 hF hK5 _ _ _ _ _ E
        · replace E := iteT c0 E
          exact jX8_isParam_43 hF hK5 _ _ _ _ E
def pX8_isParam_0 (N : Nat) (x1 : Int64) (h : HI) (g : HL) : Option (Int32 × HI × HL) :=
  pX8_isParam_5 N N x1 0 0 h g
theorem jX8_isParam_0 {D : DE} {f : Nat} {F : Frm} (hF : k_Fix F) {N : Nat} {y9 : Int32} {h9 : HI} {g9 : HL}  : ∀ (x1 : Int64) (h : HI) (g : HL), pX8_isParam_0 N x1 h g = some (y9, h9, g9) → JX8_isParam_0 D f (eqi y9 h9 g9) F h g x1 := by
  intro x1 h g E
  unfold pX8_isParam_0 at E
  exact lX8_isParam_5 hF  N _ _ _ _ _ E
abbrev pX8_isParam (N : Nat) (x1 : Int64) (h : HI) (g : HL) : Option (Int32 × HI × HL) := pX8_isParam_0 N x1 h g
theorem sX8_isParam {D : DE} {f : Nat} {F : Frm} (hF : k_Fix F) {N : Nat} {y9 : Int32} {h9 : HI} {g9 : HL} {x1 : Int64} {h : HI} {g : HL} (E : pX8_isParam N x1 h g = some (y9, h9, g9)) : Si D f mX8_isParam [.ref (ad D 115), .long x1] F h g (eqi y9 h9 g9) := wX8_isParam (f := f) hF _ (jX8_isParam_0 hF _ _ _ E)
def pX8_name_104 (N : Nat) (h : HI) (g : HL) : Option (Int32 × HI × HL) :=
  if (h 115 9) = 0 then
    gd (vin (h 115 33) 24) <|
    bnd (h 120 (ix (h 115 33))) fun (y1 : Int32) =>
    gd (vin ((16 * (h 115 33)) + y1) 384) <|
    bnd (up2 g 122 (ix ((16 * (h 115 33)) + y1)) (g 115 7)) fun (g2 : HL) =>
    gd (vin (h 115 33) 24) <|
    gd (vin (h 115 33) 24) <|
    bnd (up2 h 120 (ix (h 115 33)) ((h 120 (ix (h 115 33))) + 1)) fun (h3 : HI) =>
    obv (pX8_pass N h3 g2) fun (h4 : HI) (g5 : HL) =>
    some (y1, h4, g5)
  else
    some (0, h, g)
theorem jX8_name_104 {D : DE} {f : Nat} {F : Frm} (hF : k_Fix F) {N : Nat} {y9 : Int32} {h9 : HI} {g9 : HL}  : ∀ (h : HI) (g : HL), pX8_name_104 N h g = some (y9, h9, g9) → JX8_name_104 D (f + 4) (eqi y9 h9 g9) F h g  := by
  intro h g E
  unfold pX8_name_104 at E
  refine ⟨fun c0 => ?_, fun c0 => ?_⟩
  · replace E := iteT c0 E
    obtain ⟨z0, E⟩ := gdE E; refine ⟨vinE z0, ?_⟩
    intro y1 e0; replace E := bndE e0 E
    obtain ⟨z0, E⟩ := gdE E; refine ⟨vinE z0, ?_⟩
    intro g2 e0; replace E := bndE e0 E
    obtain ⟨z0, E⟩ := gdE E; refine ⟨vinE z0, ?_⟩
    obtain ⟨z0, E⟩ := gdE E; refine ⟨vinE z0, ?_⟩
    intro h3 e0; replace E := bndE e0 E
    obtain ⟨h4, g5, e0, E⟩ := obvE E
    refine Sv.mono (sX8_pass (f := f) hF e0) (fun h8 g8 hq => ?_)
    obtain ⟨rfl, rfl⟩ := hq
    cases E; exact ⟨rfl, rfl, rfl⟩
  · replace E := iteF c0 E
    cases E; exact ⟨rfl, rfl, rfl⟩
def pX8_name_94 (N : Nat) (h : HI) (g : HL) : Option (Int32 × HI × HL) :=
  obv (pX8_stop N 6 (h 115 5) h g) fun (h1 : HI) (g2 : HL) =>
  pX8_name_104 N h1 g2
theorem jX8_name_94 {D : DE} {f : Nat} {F : Frm} (hF : k_Fix F) {N : Nat} {y9 : Int32} {h9 : HI} {g9 : HL}  : ∀ (h : HI) (g : HL), pX8_name_94 N h g = some (y9, h9, g9) → JX8_name_94 D (f + 4) (eqi y9 h9 g9) F h g  := by
  intro h g E
  unfold pX8_name_94 at E
  obtain ⟨h1, g2, e0, E⟩ := obvE E
  refine Sv.mono (sX8_stop (f := f + 4) hF e0) (fun h8 g8 hq => ?_)
  obtain ⟨rfl, rfl⟩ := hq
  exact jX8_name_104 hF  _ _ E
def pX8_name_80 (N : Nat) (h : HI) (g : HL) : Option (Int32 × HI × HL) :=
  gd (vin (h 115 33) 24) <|
  if (h 120 (ix (h 115 33))) = 16 then
    pX8_name_94 N h g
  else
    pX8_name_104 N h g
theorem jX8_name_80 {D : DE} {f : Nat} {F : Frm} (hF : k_Fix F) {N : Nat} {y9 : Int32} {h9 : HI} {g9 : HL}  : ∀ (h : HI) (g : HL), pX8_name_80 N h g = some (y9, h9, g9) → JX8_name_80 D (f + 4) (eqi y9 h9 g9) F h g  := by
  intro h g E
  unfold pX8_name_80 at E
  obtain ⟨z0, E⟩ := gdE E; refine ⟨vinE z0, ?_⟩
  refine ⟨fun c0 => ?_, fun c0 => ?_⟩
  · replace E := iteF c0 E
    exact jX8_name_104 hF  _ _ E
  · replace E := iteT c0 E
    exact jX8_name_94 hF  _ _ E
def pX8_name_56 (N : Nat) (x1 : Int32) (h : HI) (g : HL) : Option (Int32 × HI × HL) :=
  if (h 115 9) = 0 then
    if x1 = 0 then
      pX8_name_80 N h g
    else
      gd (vin (h 115 33) 24) <|
      if (h 119 (ix (h 115 33))) = 4 then
        pX8_name_94 N h g
      else
        pX8_name_80 N h g
  else
    pX8_name_104 N h g
theorem jX8_name_56 {D : DE} {f : Nat} {F : Frm} (hF : k_Fix F) {N : Nat} {y9 : Int32} {h9 : HI} {g9 : HL}  : ∀ (x1 : Int32) (h : HI) (g : HL), pX8_name_56 N x1 h g = some (y9, h9, g9) → JX8_name_56 D (f + 4) (eqi y9 h9 g9) F h g x1 := by
  intro x1 h g E
  unfold pX8_name_56 at E
  refine ⟨fun c0 => ?_, fun c0 => ?_⟩
  · replace E := iteF c0 E
    exact jX8_name_104 hF  _ _ E
  · replace E := iteT c0 E
    refine ⟨fun c0 => ?_, fun c0 => ?_⟩
    · replace E := iteT c0 E
      exact jX8_name_80 hF  _ _ E
    · replace E := iteF c0 E
      obtain ⟨z0, E⟩ := gdE E; refine ⟨vinE z0, ?_⟩
      refine ⟨fun c0 => ?_, fun c0 => ?_⟩
      · replace E := iteT c0 E
        exact jX8_name_94 hF  _ _ E
      · replace E := iteF c0 E
        exact jX8_name_80 hF  _ _ E
def pX8_name_25 (N : Nat) (x1 : Int32) (h : HI) (g : HL) : Option (Int32 × HI × HL) :=
  if (h 115 9) = 0 then
    if x1 = 0 then
      pX8_name_56 N x1 h g
    else
      obi (pX8_isParam N (g 115 7) h g) fun (y3 : Int32) (h1 : HI) (g2 : HL) =>
      if y3 = 0 then
        pX8_name_56 N x1 h1 g2
      else
        obv (pX8_stop N 3 (h1 115 5) h1 g2) fun (h4 : HI) (g5 : HL) =>
        pX8_name_56 N x1 h4 g5
  else
    pX8_name_56 N x1 h g
theorem jX8_name_25 {D : DE} {f : Nat} {F : Frm} (hF : k_Fix F) {N : Nat} {y9 : Int32} {h9 : HI} {g9 : HL}  : ∀ (x1 : Int32) (h : HI) (g : HL), pX8_name_25 N x1 h g = some (y9, h9, g9) → JX8_name_25 D (f + 4) (eqi y9 h9 g9) F h g x1 := by
  intro x1 h g E
  unfold pX8_name_25 at E
  refine ⟨fun c0 => ?_, fun c0 => ?_⟩
  · replace E := iteF c0 E
    exact jX8_name_56 hF  _ _ _ E
  · replace E := iteT c0 E
    refine ⟨fun c0 => ?_, fun c0 => ?_⟩
    · replace E := iteT c0 E
      exact jX8_name_56 hF  _ _ _ E
    · replace E := iteF c0 E
      obtain ⟨y3, h1, g2, e0, E⟩ := obiE E
      refine Si.mono (sX8_isParam (f := f + 4) hF e0) (fun y8 h8 g8 hq => ?_)
      obtain ⟨rfl, rfl, rfl⟩ := hq
      refine ⟨fun c0 => ?_, fun c0 => ?_⟩
      · replace E := iteT c0 E
        exact jX8_name_56 hF  _ _ _ E
      · replace E := iteF c0 E
        obtain ⟨h4, g5, e0, E⟩ := obvE E
        refine Sv.mono (sX8_stop (f := f + 4) hF e0) (fun h8 g8 hq => ?_)
        obtain ⟨rfl, rfl⟩ := hq
        exact jX8_name_56 hF  _ _ _ E
def pX8_name_0 (N : Nat) (x1 : Int32) (h : HI) (g : HL) : Option (Int32 × HI × HL) :=
  if (h 115 9) = 0 then
    if (h 115 4) = 10 then
      pX8_name_25 N x1 h g
    else
      obv (pX8_stop N 2 (h 115 5) h g) fun (h1 : HI) (g2 : HL) =>
      pX8_name_25 N x1 h1 g2
  else
    pX8_name_25 N x1 h g
theorem jX8_name_0 {D : DE} {f : Nat} {F : Frm} (hF : k_Fix F) {N : Nat} {y9 : Int32} {h9 : HI} {g9 : HL}  : ∀ (x1 : Int32) (h : HI) (g : HL), pX8_name_0 N x1 h g = some (y9, h9, g9) → JX8_name_0 D (f + 4) (eqi y9 h9 g9) F h g x1 := by
  intro x1 h g E
  unfold pX8_name_0 at E
  refine ⟨fun c0 => ?_, fun c0 => ?_⟩
  · replace E := iteF c0 E
    exact jX8_name_25 hF  _ _ _ E
  · replace E := iteT c0 E
    refine ⟨fun c0 => ?_, fun c0 => ?_⟩
    · replace E := iteT c0 E
      exact jX8_name_25 hF  _ _ _ E
    · replace E := iteF c0 E
      obtain ⟨h1, g2, e0, E⟩ := obvE E
      refine Sv.mono (sX8_stop (f := f + 4) hF e0) (fun h8 g8 hq => ?_)
      obtain ⟨rfl, rfl⟩ := hq
      exact jX8_name_25 hF  _ _ _ E
abbrev pX8_name (N : Nat) (x1 : Int32) (h : HI) (g : HL) : Option (Int32 × HI × HL) := pX8_name_0 N x1 h g
theorem sX8_name {D : DE} {f : Nat} {F : Frm} (hF : k_Fix F) {N : Nat} {y9 : Int32} {h9 : HI} {g9 : HL} {x1 : Int32} {h : HI} {g : HL} (E : pX8_name N x1 h g = some (y9, h9, g9)) : Si D (f + 5) mX8_name [.ref (ad D 115), .int x1] F h g (eqi y9 h9 g9) := wX8_name (f := (f + 4)) hF _ (jX8_name_0 hF _ _ _ E)
def pX8_push_0 (N : Nat) (x1 : Int32) (x2 : Int32) (h : HI) (g : HL) : Option (HI × HL) :=
  if 3000 ≤ (h 115 36) then
    some (h, g)
  else
    gd (vin (h 115 36) 3000) <|
    bnd (up2 h 134 (ix (h 115 36)) x1) fun (h1 : HI) =>
    gd (vin (h1 115 36) 3000) <|
    bnd (up2 h1 135 (ix (h1 115 36)) x2) fun (h2 : HI) =>
    bnd (up2 h2 115 36 ((h2 115 36) + 1)) fun (h3 : HI) =>
    some (h3, g)
theorem jX8_push_0 {D : DE} {f : Nat} {F : Frm} (hF : k_Fix F) {N : Nat} {h9 : HI} {g9 : HL}  : ∀ (x1 : Int32) (x2 : Int32) (h : HI) (g : HL), pX8_push_0 N x1 x2 h g = some (h9, g9) → JX8_push_0 D f (eqv h9 g9) F h g x1 x2 := by
  intro x1 x2 h g E
  unfold pX8_push_0 at E
  refine ⟨fun c0 => ?_, fun c0 => ?_⟩
  · replace E := iteT c0 E
    cases E; exact ⟨rfl, rfl⟩
  · replace E := iteF c0 E
    obtain ⟨z0, E⟩ := gdE E; refine ⟨vinE z0, ?_⟩
    intro h1 e0; replace E := bndE e0 E
    obtain ⟨z0, E⟩ := gdE E; refine ⟨vinE z0, ?_⟩
    intro h2 e0; replace E := bndE e0 E
    intro h3 e0; replace E := bndE e0 E
    cases E; exact ⟨rfl, rfl⟩
abbrev pX8_push (N : Nat) (x1 : Int32) (x2 : Int32) (h : HI) (g : HL) : Option (HI × HL) := pX8_push_0 N x1 x2 h g
theorem sX8_push {D : DE} {f : Nat} {F : Frm} (hF : k_Fix F) {N : Nat} {h9 : HI} {g9 : HL} {x1 : Int32} {x2 : Int32} {h : HI} {g : HL} (E : pX8_push N x1 x2 h g = some (h9, g9)) : Sv D f mX8_push [.ref (ad D 115), .int x1, .int x2] F h g (eqv h9 g9) := wX8_push (f := f) hF _ _ (jX8_push_0 hF _ _ _ _ E)
def pX8_make_0 (N : Nat) (x1 : Int32) (h : HI) (g : HL) : Option (HI × HL) :=
  if 1100 ≤ (h 115 38) then
    some (h, g)
  else
    gd (vin (h 115 38) 1100) <|
    bnd (up2 h 136 (ix (h 115 38)) x1) fun (h1 : HI) =>
    bnd (up2 h1 115 38 ((h1 115 38) + 1)) fun (h2 : HI) =>
    some (h2, g)
theorem jX8_make_0 {D : DE} {f : Nat} {F : Frm} (hF : k_Fix F) {N : Nat} {h9 : HI} {g9 : HL}  : ∀ (x1 : Int32) (h : HI) (g : HL), pX8_make_0 N x1 h g = some (h9, g9) → JX8_make_0 D f (eqv h9 g9) F h g x1 := by
  intro x1 h g E
  unfold pX8_make_0 at E
  refine ⟨fun c0 => ?_, fun c0 => ?_⟩
  · replace E := iteT c0 E
    cases E; exact ⟨rfl, rfl⟩
  · replace E := iteF c0 E
    obtain ⟨z0, E⟩ := gdE E; refine ⟨vinE z0, ?_⟩
    intro h1 e0; replace E := bndE e0 E
    intro h2 e0; replace E := bndE e0 E
    cases E; exact ⟨rfl, rfl⟩
abbrev pX8_make (N : Nat) (x1 : Int32) (h : HI) (g : HL) : Option (HI × HL) := pX8_make_0 N x1 h g
theorem sX8_make {D : DE} {f : Nat} {F : Frm} (hF : k_Fix F) {N : Nat} {h9 : HI} {g9 : HL} {x1 : Int32} {h : HI} {g : HL} (E : pX8_make N x1 h g = some (h9, g9)) : Sv D f mX8_make [.ref (ad D 115), .int x1] F h g (eqv h9 g9) := wX8_make (f := f) hF _ (jX8_make_0 hF _ _ _ E)
def pX8_last_17 (N : Nat) (s1 : Int32) (s2 : Int32) (h : HI) (g : HL) : Option (Int32 × HI × HL) :=
  bnd (up2 h 115 38 (s1 - s2)) fun (h1 : HI) =>
  gd (vin (h1 115 38) 1100) <|
  some ((h1 136 (ix (h1 115 38))), h1, g)
theorem jX8_last_17 {D : DE} {f : Nat} {F : Frm} (hF : k_Fix F) {N : Nat} {y9 : Int32} {h9 : HI} {g9 : HL}  : ∀ (s1 : Int32) (s2 : Int32) (h : HI) (g : HL), pX8_last_17 N s1 s2 h g = some (y9, h9, g9) → JX8_last_17 D f (eqi y9 h9 g9) F h g s1 s2 := by
  intro s1 s2 h g E
  unfold pX8_last_17 at E
  intro h1 e0; replace E := bndE e0 E
  obtain ⟨z0, E⟩ := gdE E; refine ⟨vinE z0, ?_⟩
  cases E; exact ⟨rfl, rfl, rfl⟩
def pX8_last_0 (N : Nat) (h : HI) (g : HL) : Option (Int32 × HI × HL) :=
  if (h 115 38) ≤ 0 then
    pX8_last_17 N (h 115 38) 0 h g
  else
    pX8_last_17 N (h 115 38) 1 h g
theorem jX8_last_0 {D : DE} {f : Nat} {F : Frm} (hF : k_Fix F) {N : Nat} {y9 : Int32} {h9 : HI} {g9 : HL}  : ∀ (h : HI) (g : HL), pX8_last_0 N h g = some (y9, h9, g9) → JX8_last_0 D f (eqi y9 h9 g9) F h g  := by
  intro h g E
  unfold pX8_last_0 at E
  refine ⟨fun c0 => ?_, fun c0 => ?_⟩
  · replace E := iteT c0 E
    exact jX8_last_17 hF  _ _ _ _ E
  · replace E := iteF c0 E
    exact jX8_last_17 hF  _ _ _ _ E
abbrev pX8_last (N : Nat) (h : HI) (g : HL) : Option (Int32 × HI × HL) := pX8_last_0 N h g
theorem sX8_last {D : DE} {f : Nat} {F : Frm} (hF : k_Fix F) {N : Nat} {y9 : Int32} {h9 : HI} {g9 : HL} {h : HI} {g : HL} (E : pX8_last N h g = some (y9, h9, g9)) : Si D f mX8_last [.ref (ad D 115)] F h g (eqi y9 h9 g9) := wX8_last (f := f) hF  (jX8_last_0 hF _ _ E)
def pX8_onType_0 (N : Nat) (x1 : Int32) (x2 : Int32) (h : HI) (g : HL) : Option (HI × HL) :=
  if x1 = 1 then
    obv (pX8_want N x2 h g) fun (h27 : HI) (g28 : HL) =>
    some (h27, g28)
  else
    if x1 = 3 then
      bnd (up2 h 115 40 ((h 115 40) - 2)) fun (h21 : HI) =>
      gd (vin (h21 115 40) 16) <|
      gd (vin ((h21 115 40) + 1) 16) <|
      obi (pX8_pairOf N (h21 137 (ix (h21 115 40))) (h21 137 (ix ((h21 115 40) + 1))) h21 g) fun (y24 : Int32) (h22 : HI) (g23 : HL) =>
      gd (vin (h21 115 40) 16) <|
      bnd (up2 h22 137 (ix (h21 115 40)) y24) fun (h25 : HI) =>
      bnd (up2 h25 115 40 ((h25 115 40) + 1)) fun (h26 : HI) =>
      some (h26, g23)
    else
      if (h 115 4) = 1 then
        gd (vin (h 115 40) 16) <|
        bnd (up2 h 137 (ix (h 115 40)) 0) fun (h17 : HI) =>
        bnd (up2 h17 115 40 ((h17 115 40) + 1)) fun (h18 : HI) =>
        obv (pX8_pass N h18 g) fun (h19 : HI) (g20 : HL) =>
        some (h19, g20)
      else
        if (h 115 4) = 14 then
          if x2 = 2 then
            obv (pX8_stop N 6 (h 115 5) h g) fun (h13 : HI) (g14 : HL) =>
            some (h13, g14)
          else
            obv (pX8_pass N h g) fun (h1 : HI) (g2 : HL) =>
            obv (pX8_push N 3 0 h1 g2) fun (h3 : HI) (g4 : HL) =>
            obv (pX8_push N 1 15 h3 g4) fun (h5 : HI) (g6 : HL) =>
            obv (pX8_push N 2 (x2 + 1) h5 g6) fun (h7 : HI) (g8 : HL) =>
            obv (pX8_push N 1 16 h7 g8) fun (h9 : HI) (g10 : HL) =>
            obv (pX8_push N 2 (x2 + 1) h9 g10) fun (h11 : HI) (g12 : HL) =>
            some (h11, g12)
        else
          obv (pX8_stop N 2 (h 115 5) h g) fun (h15 : HI) (g16 : HL) =>
          some (h15, g16)
theorem jX8_onType_0 {D : DE} {f : Nat} {F : Frm} (hF : k_Fix F) {N : Nat} {h9 : HI} {g9 : HL}  : ∀ (x1 : Int32) (x2 : Int32) (h : HI) (g : HL), pX8_onType_0 N x1 x2 h g = some (h9, g9) → JX8_onType_0 D (f + 5) (eqv h9 g9) F h g x1 x2 := by
  intro x1 x2 h g E
  unfold pX8_onType_0 at E
  refine ⟨fun c0 => ?_, fun c0 => ?_⟩
  · replace E := iteF c0 E
    refine ⟨fun c0 => ?_, fun c0 => ?_⟩
    · replace E := iteF c0 E
      refine ⟨fun c0 => ?_, fun c0 => ?_⟩
      · replace E := iteF c0 E
        refine ⟨fun c0 => ?_, fun c0 => ?_⟩
        · replace E := iteT c0 E
          refine ⟨fun c0 => ?_, fun c0 => ?_⟩
          · replace E := iteF c0 E
            obtain ⟨h1, g2, e0, E⟩ := obvE E
            refine Sv.mono (sX8_pass (f := f + 1) hF e0) (fun h8 g8 hq => ?_)
            obtain ⟨rfl, rfl⟩ := hq
            obtain ⟨h3, g4, e0, E⟩ := obvE E
            refine Sv.mono (sX8_push (f := f + 5) hF e0) (fun h8 g8 hq => ?_)
            obtain ⟨rfl, rfl⟩ := hq
            obtain ⟨h5, g6, e0, E⟩ := obvE E
            refine Sv.mono (sX8_push (f := f + 5) hF e0) (fun h8 g8 hq => ?_)
            obtain ⟨rfl, rfl⟩ := hq
            obtain ⟨h7, g8, e0, E⟩ := obvE E
            refine Sv.mono (sX8_push (f := f + 5) hF e0) (fun h8 g8 hq => ?_)
            obtain ⟨rfl, rfl⟩ := hq
            obtain ⟨h9, g10, e0, E⟩ := obvE E
            refine Sv.mono (sX8_push (f := f + 5) hF e0) (fun h8 g8 hq => ?_)
            obtain ⟨rfl, rfl⟩ := hq
            obtain ⟨h11, g12, e0, E⟩ := obvE E
            refine Sv.mono (sX8_push (f := f + 5) hF e0) (fun h8 g8 hq => ?_)
            obtain ⟨rfl, rfl⟩ := hq
            cases E; exact ⟨rfl, rfl⟩
          · replace E := iteT c0 E
            obtain ⟨h13, g14, e0, E⟩ := obvE E
            refine Sv.mono (sX8_stop (f := f + 5) hF e0) (fun h8 g8 hq => ?_)
            obtain ⟨rfl, rfl⟩ := hq
            cases E; exact ⟨rfl, rfl⟩
        · replace E := iteF c0 E
          obtain ⟨h15, g16, e0, E⟩ := obvE E
          refine Sv.mono (sX8_stop (f := f + 5) hF e0) (fun h8 g8 hq => ?_)
          obtain ⟨rfl, rfl⟩ := hq
          cases E; exact ⟨rfl, rfl⟩
      · replace E := iteT c0 E
        obtain ⟨z0, E⟩ := gdE E; refine ⟨vinE z0, ?_⟩
        intro h17 e0; replace E := bndE e0 E
        intro h18 e0; replace E := bndE e0 E
        obtain ⟨h19, g20, e0, E⟩ := obvE E
        refine Sv.mono (sX8_pass (f := f + 1) hF e0) (fun h8 g8 hq => ?_)
        obtain ⟨rfl, rfl⟩ := hq
        cases E; exact ⟨rfl, rfl⟩
    · replace E := iteT c0 E
      intro h21 e0; replace E := bndE e0 E
      obtain ⟨z0, E⟩ := gdE E; refine ⟨vinE z0, ?_⟩
      obtain ⟨z0, E⟩ := gdE E; refine ⟨vinE z0, ?_⟩
      obtain ⟨y24, h22, g23, e0, E⟩ := obiE E
      refine Si.mono (sX8_pairOf (f := f + 5) hF e0) (fun y8 h8 g8 hq => ?_)
      obtain ⟨rfl, rfl, rfl⟩ := hq
      obtain ⟨z0, E⟩ := gdE E; refine ⟨vinE z0, ?_⟩
      intro h25 e0; replace E := bndE e0 E
      intro h26 e0; replace E := bndE e0 E
      cases E; exact ⟨rfl, rfl⟩
  · replace E := iteT c0 E
    obtain ⟨h27, g28, e0, E⟩ := obvE E
    refine Sv.mono (sX8_want (f := f) hF e0) (fun h8 g8 hq => ?_)
    obtain ⟨rfl, rfl⟩ := hq
    cases E; exact ⟨rfl, rfl⟩
abbrev pX8_onType (N : Nat) (x1 : Int32) (x2 : Int32) (h : HI) (g : HL) : Option (HI × HL) := pX8_onType_0 N x1 x2 h g
theorem sX8_onType {D : DE} {f : Nat} {F : Frm} (hF : k_Fix F) {N : Nat} {h9 : HI} {g9 : HL} {x1 : Int32} {x2 : Int32} {h : HI} {g : HL} (E : pX8_onType N x1 x2 h g = some (h9, g9)) : Sv D (f + 6) mX8_onType [.ref (ad D 115), .int x1, .int x2] F h g (eqv h9 g9) := wX8_onType (f := (f + 5)) hF _ _ (jX8_onType_0 hF _ _ _ _ E)
def pX8_begins_0 (N : Nat) (h : HI) (g : HL) : Option (Int32 × HI × HL) :=
  if (h 115 4) = 5 then
    some (1, h, g)
  else
    if (h 115 4) = 7 then
      some (1, h, g)
    else
      if (h 115 4) = 2 then
        some (1, h, g)
      else
        if (h 115 4) = 11 then
          some (1, h, g)
        else
          if (h 115 4) = 9 then
            some (1, h, g)
          else
            if (h 115 4) = 10 then
              some (1, h, g)
            else
              if (h 115 4) = 14 then
                some (1, h, g)
              else
                some (0, h, g)
theorem jX8_begins_0 {D : DE} {f : Nat} {F : Frm} (hF : k_Fix F) {N : Nat} {y9 : Int32} {h9 : HI} {g9 : HL}  : ∀ (h : HI) (g : HL), pX8_begins_0 N h g = some (y9, h9, g9) → JX8_begins_0 D f (eqi y9 h9 g9) F h g  := by
  intro h g E
  unfold pX8_begins_0 at E
  refine ⟨fun c0 => ?_, fun c0 => ?_⟩
  · replace E := iteT c0 E
    cases E; exact ⟨rfl, rfl, rfl⟩
  · replace E := iteF c0 E
    refine ⟨fun c0 => ?_, fun c0 => ?_⟩
    · replace E := iteT c0 E
      cases E; exact ⟨rfl, rfl, rfl⟩
    · replace E := iteF c0 E
      refine ⟨fun c0 => ?_, fun c0 => ?_⟩
      · replace E := iteT c0 E
        cases E; exact ⟨rfl, rfl, rfl⟩
      · replace E := iteF c0 E
        refine ⟨fun c0 => ?_, fun c0 => ?_⟩
        · replace E := iteT c0 E
          cases E; exact ⟨rfl, rfl, rfl⟩
        · replace E := iteF c0 E
          refine ⟨fun c0 => ?_, fun c0 => ?_⟩
          · replace E := iteT c0 E
            cases E; exact ⟨rfl, rfl, rfl⟩
          · replace E := iteF c0 E
            refine ⟨fun c0 => ?_, fun c0 => ?_⟩
            · replace E := iteT c0 E
              cases E; exact ⟨rfl, rfl, rfl⟩
            · replace E := iteF c0 E
              refine ⟨fun c0 => ?_, fun c0 => ?_⟩
              · replace E := iteF c0 E
                cases E; exact ⟨rfl, rfl, rfl⟩
              · replace E := iteT c0 E
                cases E; exact ⟨rfl, rfl, rfl⟩
abbrev pX8_begins (N : Nat) (h : HI) (g : HL) : Option (Int32 × HI × HL) := pX8_begins_0 N h g
theorem sX8_begins {D : DE} {f : Nat} {F : Frm} (hF : k_Fix F) {N : Nat} {y9 : Int32} {h9 : HI} {g9 : HL} {h : HI} {g : HL} (E : pX8_begins N h g = some (y9, h9, g9)) : Si D f mX8_begins [.ref (ad D 115)] F h g (eqi y9 h9 g9) := wX8_begins (f := f) hF  (jX8_begins_0 hF _ _ E)
def pX8_onE_0 (N : Nat) (h : HI) (g : HL) : Option (HI × HL) :=
  obi (pX8_begins N h g) fun (y3 : Int32) (h1 : HI) (g2 : HL) =>
  if y3 = 0 then
    obv (pX8_stop N 2 (h1 115 5) h1 g2) fun (h86 : HI) (g87 : HL) =>
    some (h86, g87)
  else
    if (h1 115 41) = 20 then
      obv (pX8_stop N 6 (h1 115 5) h1 g2) fun (h84 : HI) (g85 : HL) =>
      some (h84, g85)
    else
      bnd (up2 h1 115 41 ((h1 115 41) + 1)) fun (h4 : HI) =>
      obv (pX8_push N 5 0 h4 g2) fun (h5 : HI) (g6 : HL) =>
      if (h5 115 4) = 5 then
        obi (pX8_node N 3 (h5 115 5) h5 g6) fun (y65 : Int32) (h63 : HI) (g64 : HL) =>
        obv (pX8_push N 18 y65 h63 g64) fun (h66 : HI) (g67 : HL) =>
        obv (pX8_push N 16 y65 h66 g67) fun (h68 : HI) (g69 : HL) =>
        obv (pX8_push N 4 0 h68 g69) fun (h70 : HI) (g71 : HL) =>
        obv (pX8_push N 1 6 h70 g71) fun (h72 : HI) (g73 : HL) =>
        obv (pX8_push N 15 y65 h72 g73) fun (h74 : HI) (g75 : HL) =>
        obv (pX8_push N 4 0 h74 g75) fun (h76 : HI) (g77 : HL) =>
        obv (pX8_push N 1 13 h76 g77) fun (h78 : HI) (g79 : HL) =>
        obv (pX8_push N 13 y65 h78 g79) fun (h80 : HI) (g81 : HL) =>
        obv (pX8_pass N h80 g81) fun (h82 : HI) (g83 : HL) =>
        some (h82, g83)
      else
        if (h5 115 4) = 7 then
          obi (pX8_node N 4 (h5 115 5) h5 g6) fun (y36 : Int32) (h34 : HI) (g35 : HL) =>
          obv (pX8_push N 18 y36 h34 g35) fun (h37 : HI) (g38 : HL) =>
          obv (pX8_push N 16 y36 h37 g38) fun (h39 : HI) (g40 : HL) =>
          obv (pX8_push N 4 0 h39 g40) fun (h41 : HI) (g42 : HL) =>
          obv (pX8_push N 1 6 h41 g42) fun (h43 : HI) (g44 : HL) =>
          obv (pX8_push N 1 15 h43 g44) fun (h45 : HI) (g46 : HL) =>
          obv (pX8_push N 14 y36 h45 g46) fun (h47 : HI) (g48 : HL) =>
          obv (pX8_push N 1 16 h47 g48) fun (h49 : HI) (g50 : HL) =>
          obv (pX8_push N 13 y36 h49 g50) fun (h51 : HI) (g52 : HL) =>
          obv (pX8_push N 1 14 h51 g52) fun (h53 : HI) (g54 : HL) =>
          obv (pX8_push N 1 8 h53 g54) fun (h55 : HI) (g56 : HL) =>
          obv (pX8_push N 15 y36 h55 g56) fun (h57 : HI) (g58 : HL) =>
          obv (pX8_push N 4 0 h57 g58) fun (h59 : HI) (g60 : HL) =>
          obv (pX8_pass N h59 g60) fun (h61 : HI) (g62 : HL) =>
          some (h61, g62)
        else
          if (h5 115 4) = 2 then
            obi (pX8_node N 2 (h5 115 5) h5 g6) fun (y13 : Int32) (h11 : HI) (g12 : HL) =>
            obv (pX8_push N 18 y13 h11 g12) fun (h14 : HI) (g15 : HL) =>
            obv (pX8_push N 17 y13 h14 g15) fun (h16 : HI) (g17 : HL) =>
            obv (pX8_push N 4 0 h16 g17) fun (h18 : HI) (g19 : HL) =>
            obv (pX8_push N 1 4 h18 g19) fun (h20 : HI) (g21 : HL) =>
            obv (pX8_push N 16 y13 h20 g21) fun (h22 : HI) (g23 : HL) =>
            obv (pX8_push N 4 0 h22 g23) fun (h24 : HI) (g25 : HL) =>
            obv (pX8_push N 1 3 h24 g25) fun (h26 : HI) (g27 : HL) =>
            obv (pX8_push N 15 y13 h26 g27) fun (h28 : HI) (g29 : HL) =>
            obv (pX8_push N 4 0 h28 g29) fun (h30 : HI) (g31 : HL) =>
            obv (pX8_pass N h30 g31) fun (h32 : HI) (g33 : HL) =>
            some (h32, g33)
          else
            obv (pX8_push N 11 0 h5 g6) fun (h7 : HI) (g8 : HL) =>
            obv (pX8_push N 6 0 h7 g8) fun (h9 : HI) (g10 : HL) =>
            some (h9, g10)
theorem jX8_onE_0 {D : DE} {f : Nat} {F : Frm} (hF : k_Fix F) {N : Nat} {h9 : HI} {g9 : HL}  : ∀ (h : HI) (g : HL), pX8_onE_0 N h g = some (h9, g9) → JX8_onE_0 D (f + 4) (eqv h9 g9) F h g  := by
  intro h g E
  unfold pX8_onE_0 at E
  obtain ⟨y3, h1, g2, e0, E⟩ := obiE E
  refine Si.mono (sX8_begins (f := f + 4) hF e0) (fun y8 h8 g8 hq => ?_)
  obtain ⟨rfl, rfl, rfl⟩ := hq
  refine ⟨fun c0 => ?_, fun c0 => ?_⟩
  · replace E := iteF c0 E
    refine ⟨fun c0 => ?_, fun c0 => ?_⟩
    · replace E := iteF c0 E
      intro h4 e0; replace E := bndE e0 E
      obtain ⟨h5, g6, e0, E⟩ := obvE E
      refine Sv.mono (sX8_push (f := f + 4) hF e0) (fun h8 g8 hq => ?_)
      obtain ⟨rfl, rfl⟩ := hq
      refine ⟨fun c0 => ?_, fun c0 => ?_⟩
      · replace E := iteF c0 E
        refine ⟨fun c0 => ?_, fun c0 => ?_⟩
        · replace E := iteF c0 E
          refine ⟨fun c0 => ?_, fun c0 => ?_⟩
          · replace E := iteF c0 E
            obtain ⟨h7, g8, e0, E⟩ := obvE E
            refine Sv.mono (sX8_push (f := f + 4) hF e0) (fun h8 g8 hq => ?_)
            obtain ⟨rfl, rfl⟩ := hq
            obtain ⟨h9, g10, e0, E⟩ := obvE E
            refine Sv.mono (sX8_push (f := f + 4) hF e0) (fun h8 g8 hq => ?_)
            obtain ⟨rfl, rfl⟩ := hq
            cases E; exact ⟨rfl, rfl⟩
          · replace E := iteT c0 E
            obtain ⟨y13, h11, g12, e0, E⟩ := obiE E
            refine Si.mono (sX8_node (f := f + 4) hF e0) (fun y8 h8 g8 hq => ?_)
            obtain ⟨rfl, rfl, rfl⟩ := hq
            obtain ⟨h14, g15, e0, E⟩ := obvE E
            refine Sv.mono (sX8_push (f := f + 4) hF e0) (fun h8 g8 hq => ?_)
            obtain ⟨rfl, rfl⟩ := hq
            obtain ⟨h16, g17, e0, E⟩ := obvE E
            refine Sv.mono (sX8_push (f := f + 4) hF e0) (fun h8 g8 hq => ?_)
            obtain ⟨rfl, rfl⟩ := hq
            obtain ⟨h18, g19, e0, E⟩ := obvE E
            refine Sv.mono (sX8_push (f := f + 4) hF e0) (fun h8 g8 hq => ?_)
            obtain ⟨rfl, rfl⟩ := hq
            obtain ⟨h20, g21, e0, E⟩ := obvE E
            refine Sv.mono (sX8_push (f := f + 4) hF e0) (fun h8 g8 hq => ?_)
            obtain ⟨rfl, rfl⟩ := hq
            obtain ⟨h22, g23, e0, E⟩ := obvE E
            refine Sv.mono (sX8_push (f := f + 4) hF e0) (fun h8 g8 hq => ?_)
            obtain ⟨rfl, rfl⟩ := hq
            obtain ⟨h24, g25, e0, E⟩ := obvE E
            refine Sv.mono (sX8_push (f := f + 4) hF e0) (fun h8 g8 hq => ?_)
            obtain ⟨rfl, rfl⟩ := hq
            obtain ⟨h26, g27, e0, E⟩ := obvE E
            refine Sv.mono (sX8_push (f := f + 4) hF e0) (fun h8 g8 hq => ?_)
            obtain ⟨rfl, rfl⟩ := hq
            obtain ⟨h28, g29, e0, E⟩ := obvE E
            refine Sv.mono (sX8_push (f := f + 4) hF e0) (fun h8 g8 hq => ?_)
            obtain ⟨rfl, rfl⟩ := hq
            obtain ⟨h30, g31, e0, E⟩ := obvE E
            refine Sv.mono (sX8_push (f := f + 4) hF e0) (fun h8 g8 hq => ?_)
            obtain ⟨rfl, rfl⟩ := hq
            obtain ⟨h32, g33, e0, E⟩ := obvE E
            refine Sv.mono (sX8_pass (f := f) hF e0) (fun h8 g8 hq => ?_)
            obtain ⟨rfl, rfl⟩ := hq
            cases E; exact ⟨rfl, rfl⟩
        · replace E := iteT c0 E
          obtain ⟨y36, h34, g35, e0, E⟩ := obiE E
          refine Si.mono (sX8_node (f := f + 4) hF e0) (fun y8 h8 g8 hq => ?_)
          obtain ⟨rfl, rfl, rfl⟩ := hq
          obtain ⟨h37, g38, e0, E⟩ := obvE E
          refine Sv.mono (sX8_push (f := f + 4) hF e0) (fun h8 g8 hq => ?_)
          obtain ⟨rfl, rfl⟩ := hq
          obtain ⟨h39, g40, e0, E⟩ := obvE E
          refine Sv.mono (sX8_push (f := f + 4) hF e0) (fun h8 g8 hq => ?_)
          obtain ⟨rfl, rfl⟩ := hq
          obtain ⟨h41, g42, e0, E⟩ := obvE E
          refine Sv.mono (sX8_push (f := f + 4) hF e0) (fun h8 g8 hq => ?_)
          obtain ⟨rfl, rfl⟩ := hq
          obtain ⟨h43, g44, e0, E⟩ := obvE E
          refine Sv.mono (sX8_push (f := f + 4) hF e0) (fun h8 g8 hq => ?_)
          obtain ⟨rfl, rfl⟩ := hq
          obtain ⟨h45, g46, e0, E⟩ := obvE E
          refine Sv.mono (sX8_push (f := f + 4) hF e0) (fun h8 g8 hq => ?_)
          obtain ⟨rfl, rfl⟩ := hq
          obtain ⟨h47, g48, e0, E⟩ := obvE E
          refine Sv.mono (sX8_push (f := f + 4) hF e0) (fun h8 g8 hq => ?_)
          obtain ⟨rfl, rfl⟩ := hq
          obtain ⟨h49, g50, e0, E⟩ := obvE E
          refine Sv.mono (sX8_push (f := f + 4) hF e0) (fun h8 g8 hq => ?_)
          obtain ⟨rfl, rfl⟩ := hq
          obtain ⟨h51, g52, e0, E⟩ := obvE E
          refine Sv.mono (sX8_push (f := f + 4) hF e0) (fun h8 g8 hq => ?_)
          obtain ⟨rfl, rfl⟩ := hq
          obtain ⟨h53, g54, e0, E⟩ := obvE E
          refine Sv.mono (sX8_push (f := f + 4) hF e0) (fun h8 g8 hq => ?_)
          obtain ⟨rfl, rfl⟩ := hq
          obtain ⟨h55, g56, e0, E⟩ := obvE E
          refine Sv.mono (sX8_push (f := f + 4) hF e0) (fun h8 g8 hq => ?_)
          obtain ⟨rfl, rfl⟩ := hq
          obtain ⟨h57, g58, e0, E⟩ := obvE E
          refine Sv.mono (sX8_push (f := f + 4) hF e0) (fun h8 g8 hq => ?_)
          obtain ⟨rfl, rfl⟩ := hq
          obtain ⟨h59, g60, e0, E⟩ := obvE E
          refine Sv.mono (sX8_push (f := f + 4) hF e0) (fun h8 g8 hq => ?_)
          obtain ⟨rfl, rfl⟩ := hq
          obtain ⟨h61, g62, e0, E⟩ := obvE E
          refine Sv.mono (sX8_pass (f := f) hF e0) (fun h8 g8 hq => ?_)
          obtain ⟨rfl, rfl⟩ := hq
          cases E; exact ⟨rfl, rfl⟩
      · replace E := iteT c0 E
        obtain ⟨y65, h63, g64, e0, E⟩ := obiE E
        refine Si.mono (sX8_node (f := f + 4) hF e0) (fun y8 h8 g8 hq => ?_)
        obtain ⟨rfl, rfl, rfl⟩ := hq
        obtain ⟨h66, g67, e0, E⟩ := obvE E
        refine Sv.mono (sX8_push (f := f + 4) hF e0) (fun h8 g8 hq => ?_)
        obtain ⟨rfl, rfl⟩ := hq
        obtain ⟨h68, g69, e0, E⟩ := obvE E
        refine Sv.mono (sX8_push (f := f + 4) hF e0) (fun h8 g8 hq => ?_)
        obtain ⟨rfl, rfl⟩ := hq
        obtain ⟨h70, g71, e0, E⟩ := obvE E
        refine Sv.mono (sX8_push (f := f + 4) hF e0) (fun h8 g8 hq => ?_)
        obtain ⟨rfl, rfl⟩ := hq
        obtain ⟨h72, g73, e0, E⟩ := obvE E
        refine Sv.mono (sX8_push (f := f + 4) hF e0) (fun h8 g8 hq => ?_)
        obtain ⟨rfl, rfl⟩ := hq
        obtain ⟨h74, g75, e0, E⟩ := obvE E
        refine Sv.mono (sX8_push (f := f + 4) hF e0) (fun h8 g8 hq => ?_)
        obtain ⟨rfl, rfl⟩ := hq
        obtain ⟨h76, g77, e0, E⟩ := obvE E
        refine Sv.mono (sX8_push (f := f + 4) hF e0) (fun h8 g8 hq => ?_)
        obtain ⟨rfl, rfl⟩ := hq
        obtain ⟨h78, g79, e0, E⟩ := obvE E
        refine Sv.mono (sX8_push (f := f + 4) hF e0) (fun h8 g8 hq => ?_)
        obtain ⟨rfl, rfl⟩ := hq
        obtain ⟨h80, g81, e0, E⟩ := obvE E
        refine Sv.mono (sX8_push (f := f + 4) hF e0) (fun h8 g8 hq => ?_)
        obtain ⟨rfl, rfl⟩ := hq
        obtain ⟨h82, g83, e0, E⟩ := obvE E
        refine Sv.mono (sX8_pass (f := f) hF e0) (fun h8 g8 hq => ?_)
        obtain ⟨rfl, rfl⟩ := hq
        cases E; exact ⟨rfl, rfl⟩
    · replace E := iteT c0 E
      obtain ⟨h84, g85, e0, E⟩ := obvE E
      refine Sv.mono (sX8_stop (f := f + 4) hF e0) (fun h8 g8 hq => ?_)
      obtain ⟨rfl, rfl⟩ := hq
      cases E; exact ⟨rfl, rfl⟩
  · replace E := iteT c0 E
    obtain ⟨h86, g87, e0, E⟩ := obvE E
    refine Sv.mono (sX8_stop (f := f + 4) hF e0) (fun h8 g8 hq => ?_)
    obtain ⟨rfl, rfl⟩ := hq
    cases E; exact ⟨rfl, rfl⟩
abbrev pX8_onE (N : Nat) (h : HI) (g : HL) : Option (HI × HL) := pX8_onE_0 N h g
theorem sX8_onE {D : DE} {f : Nat} {F : Frm} (hF : k_Fix F) {N : Nat} {h9 : HI} {g9 : HL} {h : HI} {g : HL} (E : pX8_onE N h g = some (h9, g9)) : Sv D (f + 5) mX8_onE [.ref (ad D 115)] F h g (eqv h9 g9) := wX8_onE (f := (f + 4)) hF  (jX8_onE_0 hF _ _ E)
def pX8_onAtom_198 (N : Nat) (x2 : Int32) (h : HI) (g : HL) : Option (HI × HL) :=
  obv (pX8_make N x2 h g) fun (h1 : HI) (g2 : HL) =>
  some (h1, g2)
theorem jX8_onAtom_198 {D : DE} {f : Nat} {F : Frm} (hF : k_Fix F) {N : Nat} {h9 : HI} {g9 : HL}  : ∀ (x2 : Int32) (h : HI) (g : HL), pX8_onAtom_198 N x2 h g = some (h9, g9) → JX8_onAtom_198 D (f + 4) (eqv h9 g9) F h g x2 := by
  intro x2 h g E
  unfold pX8_onAtom_198 at E
  obtain ⟨h1, g2, e0, E⟩ := obvE E
  refine Sv.mono (sX8_make (f := f + 4) hF e0) (fun h8 g8 hq => ?_)
  obtain ⟨rfl, rfl⟩ := hq
  cases E; exact ⟨rfl, rfl⟩
def pX8_onAtom_181 (N : Nat) (x2 : Int32) (h : HI) (g : HL) : Option (HI × HL) :=
  obv (pX8_push N 21 x2 h g) fun (h1 : HI) (g2 : HL) =>
  obv (pX8_push N 1 15 h1 g2) fun (h3 : HI) (g4 : HL) =>
  some (h3, g4)
theorem jX8_onAtom_181 {D : DE} {f : Nat} {F : Frm} (hF : k_Fix F) {N : Nat} {h9 : HI} {g9 : HL}  : ∀ (x2 : Int32) (h : HI) (g : HL), pX8_onAtom_181 N x2 h g = some (h9, g9) → JX8_onAtom_181 D (f + 4) (eqv h9 g9) F h g x2 := by
  intro x2 h g E
  unfold pX8_onAtom_181 at E
  obtain ⟨h1, g2, e0, E⟩ := obvE E
  refine Sv.mono (sX8_push (f := f + 4) hF e0) (fun h8 g8 hq => ?_)
  obtain ⟨rfl, rfl⟩ := hq
  obtain ⟨h3, g4, e0, E⟩ := obvE E
  refine Sv.mono (sX8_push (f := f + 4) hF e0) (fun h8 g8 hq => ?_)
  obtain ⟨rfl, rfl⟩ := hq
  cases E; exact ⟨rfl, rfl⟩
def pX8_onAtom_0 (N : Nat) (h : HI) (g : HL) : Option (HI × HL) :=
  bnd (h 115 5) fun (y1 : Int32) =>
  if (h 115 4) = 11 then
    obi (pX8_node N 5 y1 h g) fun (y35 : Int32) (h33 : HI) (g34 : HL) =>
    gd (vin y35 2002) <|
    bnd (up2 h33 125 (ix y35) (h33 115 8)) fun (h36 : HI) =>
    obv (pX8_make N y35 h36 g34) fun (h37 : HI) (g38 : HL) =>
    obv (pX8_pass N h37 g38) fun (h39 : HI) (g40 : HL) =>
    some (h39, g40)
  else
    if (h 115 4) = 9 then
      obi (pX8_node N 6 y1 h g) fun (y26 : Int32) (h24 : HI) (g25 : HL) =>
      obv (pX8_push N 19 y26 h24 g25) fun (h27 : HI) (g28 : HL) =>
      obv (pX8_push N 2 0 h27 g28) fun (h29 : HI) (g30 : HL) =>
      obv (pX8_pass N h29 g30) fun (h31 : HI) (g32 : HL) =>
      some (h31, g32)
    else
      if (h 115 4) = 10 then
        obi (pX8_node N 7 y1 h g) fun (y12 : Int32) (h10 : HI) (g11 : HL) =>
        gd (vin y12 2002) <|
        bnd (up2 g11 130 (ix y12) (g11 115 7)) fun (g13 : HL) =>
        obv (pX8_pass N h10 g13) fun (h14 : HI) (g15 : HL) =>
        if (h14 115 9) = 0 then
          if (h14 115 4) = 14 then
            gd (vin y12 2002) <|
            bnd (up2 h14 124 (ix y12) 8) fun (h16 : HI) =>
            gd (vin y12 2002) <|
            bnd (up2 h16 126 (ix y12) (h16 115 32)) fun (h17 : HI) =>
            obv (pX8_pass N h17 g15) fun (h18 : HI) (g19 : HL) =>
            if (h18 115 9) = 0 then
              if (h18 115 4) = 15 then
                pX8_onAtom_181 N y12 h18 g19
              else
                obv (pX8_push N 20 y12 h18 g19) fun (h20 : HI) (g21 : HL) =>
                obv (pX8_push N 4 0 h20 g21) fun (h22 : HI) (g23 : HL) =>
                some (h22, g23)
            else
              pX8_onAtom_181 N y12 h18 g19
          else
            pX8_onAtom_198 N y12 h14 g15
        else
          pX8_onAtom_198 N y12 h14 g15
      else
        if (h 115 4) = 14 then
          obv (pX8_push N 22 y1 h g) fun (h4 : HI) (g5 : HL) =>
          obv (pX8_push N 4 0 h4 g5) fun (h6 : HI) (g7 : HL) =>
          obv (pX8_pass N h6 g7) fun (h8 : HI) (g9 : HL) =>
          some (h8, g9)
        else
          obv (pX8_stop N 2 (h 115 5) h g) fun (h2 : HI) (g3 : HL) =>
          some (h2, g3)
theorem jX8_onAtom_0 {D : DE} {f : Nat} {F : Frm} (hF : k_Fix F) {N : Nat} {h9 : HI} {g9 : HL}  : ∀ (h : HI) (g : HL), pX8_onAtom_0 N h g = some (h9, g9) → JX8_onAtom_0 D (f + 4) (eqv h9 g9) F h g  := by
  intro h g E
  unfold pX8_onAtom_0 at E
  intro y1 e0; replace E := bndE e0 E
  refine ⟨fun c0 => ?_, fun c0 => ?_⟩
  · replace E := iteF c0 E
    refine ⟨fun c0 => ?_, fun c0 => ?_⟩
    · replace E := iteF c0 E
      refine ⟨fun c0 => ?_, fun c0 => ?_⟩
      · replace E := iteF c0 E
        refine ⟨fun c0 => ?_, fun c0 => ?_⟩
        · replace E := iteF c0 E
          obtain ⟨h2, g3, e0, E⟩ := obvE E
          refine Sv.mono (sX8_stop (f := f + 4) hF e0) (fun h8 g8 hq => ?_)
          obtain ⟨rfl, rfl⟩ := hq
          cases E; exact ⟨rfl, rfl⟩
        · replace E := iteT c0 E
          obtain ⟨h4, g5, e0, E⟩ := obvE E
          refine Sv.mono (sX8_push (f := f + 4) hF e0) (fun h8 g8 hq => ?_)
          obtain ⟨rfl, rfl⟩ := hq
          obtain ⟨h6, g7, e0, E⟩ := obvE E
          refine Sv.mono (sX8_push (f := f + 4) hF e0) (fun h8 g8 hq => ?_)
          obtain ⟨rfl, rfl⟩ := hq
          obtain ⟨h8, g9, e0, E⟩ := obvE E
          refine Sv.mono (sX8_pass (f := f) hF e0) (fun h8 g8 hq => ?_)
          obtain ⟨rfl, rfl⟩ := hq
          cases E; exact ⟨rfl, rfl⟩
      · replace E := iteT c0 E
        obtain ⟨y12, h10, g11, e0, E⟩ := obiE E
        refine Si.mono (sX8_node (f := f + 4) hF e0) (fun y8 h8 g8 hq => ?_)
        obtain ⟨rfl, rfl, rfl⟩ := hq
        obtain ⟨z0, E⟩ := gdE E; refine ⟨vinE z0, ?_⟩
        intro g13 e0; replace E := bndE e0 E
        obtain ⟨h14, g15, e0, E⟩ := obvE E
        refine Sv.mono (sX8_pass (f := f) hF e0) (fun h8 g8 hq => ?_)
        obtain ⟨rfl, rfl⟩ := hq
        refine ⟨fun c0 => ?_, fun c0 => ?_⟩
        · replace E := iteF c0 E
          exact jX8_onAtom_198 hF  _ _ _ E
        · replace E := iteT c0 E
          refine ⟨fun c0 => ?_, fun c0 => ?_⟩
          · replace E := iteF c0 E
            exact jX8_onAtom_198 hF  _ _ _ E
          · replace E := iteT c0 E
            obtain ⟨z0, E⟩ := gdE E; refine ⟨vinE z0, ?_⟩
            intro h16 e0; replace E := bndE e0 E
            obtain ⟨z0, E⟩ := gdE E; refine ⟨vinE z0, ?_⟩
            intro h17 e0; replace E := bndE e0 E
            obtain ⟨h18, g19, e0, E⟩ := obvE E
            refine Sv.mono (sX8_pass (f := f) hF e0) (fun h8 g8 hq => ?_)
            obtain ⟨rfl, rfl⟩ := hq
            refine ⟨fun c0 => ?_, fun c0 => ?_⟩
            · replace E := iteF c0 E
              exact jX8_onAtom_181 hF  _ _ _ E
            · replace E := iteT c0 E
              refine ⟨fun c0 => ?_, fun c0 => ?_⟩
              · replace E := iteT c0 E
                exact jX8_onAtom_181 hF  _ _ _ E
              · replace E := iteF c0 E
                obtain ⟨h20, g21, e0, E⟩ := obvE E
                refine Sv.mono (sX8_push (f := f + 4) hF e0) (fun h8 g8 hq => ?_)
                obtain ⟨rfl, rfl⟩ := hq
                obtain ⟨h22, g23, e0, E⟩ := obvE E
                refine Sv.mono (sX8_push (f := f + 4) hF e0) (fun h8 g8 hq => ?_)
                obtain ⟨rfl, rfl⟩ := hq
                cases E; exact ⟨rfl, rfl⟩
    · replace E := iteT c0 E
      obtain ⟨y26, h24, g25, e0, E⟩ := obiE E
      refine Si.mono (sX8_node (f := f + 4) hF e0) (fun y8 h8 g8 hq => ?_)
      obtain ⟨rfl, rfl, rfl⟩ := hq
      obtain ⟨h27, g28, e0, E⟩ := obvE E
      refine Sv.mono (sX8_push (f := f + 4) hF e0) (fun h8 g8 hq => ?_)
      obtain ⟨rfl, rfl⟩ := hq
      obtain ⟨h29, g30, e0, E⟩ := obvE E
      refine Sv.mono (sX8_push (f := f + 4) hF e0) (fun h8 g8 hq => ?_)
      obtain ⟨rfl, rfl⟩ := hq
      obtain ⟨h31, g32, e0, E⟩ := obvE E
      refine Sv.mono (sX8_pass (f := f) hF e0) (fun h8 g8 hq => ?_)
      obtain ⟨rfl, rfl⟩ := hq
      cases E; exact ⟨rfl, rfl⟩
  · replace E := iteT c0 E
    obtain ⟨y35, h33, g34, e0, E⟩ := obiE E
    refine Si.mono (sX8_node (f := f + 4) hF e0) (fun y8 h8 g8 hq => ?_)
    obtain ⟨rfl, rfl, rfl⟩ := hq
    obtain ⟨z0, E⟩ := gdE E; refine ⟨vinE z0, ?_⟩
    intro h36 e0; replace E := bndE e0 E
    obtain ⟨h37, g38, e0, E⟩ := obvE E
    refine Sv.mono (sX8_make (f := f + 4) hF e0) (fun h8 g8 hq => ?_)
    obtain ⟨rfl, rfl⟩ := hq
    obtain ⟨h39, g40, e0, E⟩ := obvE E
    refine Sv.mono (sX8_pass (f := f) hF e0) (fun h8 g8 hq => ?_)
    obtain ⟨rfl, rfl⟩ := hq
    cases E; exact ⟨rfl, rfl⟩
abbrev pX8_onAtom (N : Nat) (h : HI) (g : HL) : Option (HI × HL) := pX8_onAtom_0 N h g
theorem sX8_onAtom {D : DE} {f : Nat} {F : Frm} (hF : k_Fix F) {N : Nat} {h9 : HI} {g9 : HL} {h : HI} {g : HL} (E : pX8_onAtom N h g = some (h9, g9)) : Sv D (f + 5) mX8_onAtom [.ref (ad D 115)] F h g (eqv h9 g9) := wX8_onAtom (f := (f + 4)) hF  (jX8_onAtom_0 hF _ _ E)
def pX8_onSum_242 (N : Nat) (s1 : Int32) (h : HI) (g : HL) : Option (HI × HL) :=
  obv (pX8_push N s1 0 h g) fun (h1 : HI) (g2 : HL) =>
  obv (pX8_pass N h1 g2) fun (h3 : HI) (g4 : HL) =>
  some (h3, g4)
theorem jX8_onSum_242 {D : DE} {f : Nat} {F : Frm} (hF : k_Fix F) {N : Nat} {h9 : HI} {g9 : HL}  : ∀ (s1 : Int32) (h : HI) (g : HL), pX8_onSum_242 N s1 h g = some (h9, g9) → JX8_onSum_242 D (f + 5) (eqv h9 g9) F h g s1 := by
  intro s1 h g E
  unfold pX8_onSum_242 at E
  obtain ⟨h1, g2, e0, E⟩ := obvE E
  refine Sv.mono (sX8_push (f := f + 5) hF e0) (fun h8 g8 hq => ?_)
  obtain ⟨rfl, rfl⟩ := hq
  obtain ⟨h3, g4, e0, E⟩ := obvE E
  refine Sv.mono (sX8_pass (f := f + 1) hF e0) (fun h8 g8 hq => ?_)
  obtain ⟨rfl, rfl⟩ := hq
  cases E; exact ⟨rfl, rfl⟩
def pX8_onSum_205 (N : Nat) (x1 : Int32) (h : HI) (g : HL) : Option (HI × HL) :=
  bnd (h 115 4) fun (y1 : Int32) =>
  obv (pX8_push N 12 y1 h g) fun (h2 : HI) (g3 : HL) =>
  if x1 = 11 then
    pX8_onSum_242 N 6 h2 g3
  else
    if x1 = 7 then
      pX8_onSum_242 N 8 h2 g3
    else
      pX8_onSum_242 N 10 h2 g3
theorem jX8_onSum_205 {D : DE} {f : Nat} {F : Frm} (hF : k_Fix F) {N : Nat} {h9 : HI} {g9 : HL}  : ∀ (x1 : Int32) (h : HI) (g : HL), pX8_onSum_205 N x1 h g = some (h9, g9) → JX8_onSum_205 D (f + 5) (eqv h9 g9) F h g x1 := by
  intro x1 h g E
  unfold pX8_onSum_205 at E
  intro y1 e0; replace E := bndE e0 E
  obtain ⟨h2, g3, e0, E⟩ := obvE E
  refine Sv.mono (sX8_push (f := f + 5) hF e0) (fun h8 g8 hq => ?_)
  obtain ⟨rfl, rfl⟩ := hq
  refine ⟨fun c0 => ?_, fun c0 => ?_⟩
  · replace E := iteF c0 E
    refine ⟨fun c0 => ?_, fun c0 => ?_⟩
    · replace E := iteF c0 E
      exact jX8_onSum_242 hF  _ _ _ E
    · replace E := iteT c0 E
      exact jX8_onSum_242 hF  _ _ _ E
  · replace E := iteT c0 E
    exact jX8_onSum_242 hF  _ _ _ E
def pX8_onSum_0 (N : Nat) (x1 : Int32) (x2 : Int32) (h : HI) (g : HL) : Option (HI × HL) :=
  if x1 = 5 then
    bnd (up2 h 115 41 ((h 115 41) - 1)) fun (h25 : HI) =>
    some (h25, g)
  else
    if x1 = 6 then
      obv (pX8_push N 7 0 h g) fun (h21 : HI) (g22 : HL) =>
      obv (pX8_push N 8 0 h21 g22) fun (h23 : HI) (g24 : HL) =>
      some (h23, g24)
    else
      if x1 = 8 then
        obv (pX8_push N 9 0 h g) fun (h17 : HI) (g18 : HL) =>
        obv (pX8_push N 10 0 h17 g18) fun (h19 : HI) (g20 : HL) =>
        some (h19, g20)
      else
        if x1 = 10 then
          obv (pX8_onAtom N h g) fun (h15 : HI) (g16 : HL) =>
          some (h15, g16)
        else
          if x1 = 12 then
            obi (pX8_last N h g) fun (y3 : Int32) (h1 : HI) (g2 : HL) =>
            obi (pX8_last N h1 g2) fun (y6 : Int32) (h4 : HI) (g5 : HL) =>
            gd (vin y6 2002) <|
            obi (pX8_node N 1 (h4 128 (ix y6)) h4 g5) fun (y9 : Int32) (h7 : HI) (g8 : HL) =>
            gd (vin y9 2002) <|
            bnd (up2 h7 125 (ix y9) y6) fun (h10 : HI) =>
            gd (vin y9 2002) <|
            bnd (up2 h10 126 (ix y9) y3) fun (h11 : HI) =>
            gd (vin y9 2002) <|
            bnd (up2 h11 127 (ix y9) x2) fun (h12 : HI) =>
            obv (pX8_make N y9 h12 g8) fun (h13 : HI) (g14 : HL) =>
            some (h13, g14)
          else
            if x1 = 11 then
              if (h 115 4) = 22 then
                pX8_onSum_205 N x1 h g
              else
                if (h 115 4) = 12 then
                  pX8_onSum_205 N x1 h g
                else
                  some (h, g)
            else
              if x1 = 7 then
                if (h 115 4) = 19 then
                  pX8_onSum_205 N x1 h g
                else
                  if (h 115 4) = 20 then
                    pX8_onSum_205 N x1 h g
                  else
                    some (h, g)
              else
                if (h 115 4) = 21 then
                  pX8_onSum_205 N x1 h g
                else
                  some (h, g)
theorem jX8_onSum_0 {D : DE} {f : Nat} {F : Frm} (hF : k_Fix F) {N : Nat} {h9 : HI} {g9 : HL}  : ∀ (x1 : Int32) (x2 : Int32) (h : HI) (g : HL), pX8_onSum_0 N x1 x2 h g = some (h9, g9) → JX8_onSum_0 D (f + 5) (eqv h9 g9) F h g x1 x2 := by
  intro x1 x2 h g E
  unfold pX8_onSum_0 at E
  refine ⟨fun c0 => ?_, fun c0 => ?_⟩
  · replace E := iteF c0 E
    refine ⟨fun c0 => ?_, fun c0 => ?_⟩
    · replace E := iteF c0 E
      refine ⟨fun c0 => ?_, fun c0 => ?_⟩
      · replace E := iteF c0 E
        refine ⟨fun c0 => ?_, fun c0 => ?_⟩
        · replace E := iteF c0 E
          refine ⟨fun c0 => ?_, fun c0 => ?_⟩
          · replace E := iteF c0 E
            refine ⟨fun c0 => ?_, fun c0 => ?_⟩
            · replace E := iteF c0 E
              refine ⟨fun c0 => ?_, fun c0 => ?_⟩
              · replace E := iteF c0 E
                refine ⟨fun c0 => ?_, fun c0 => ?_⟩
                · replace E := iteF c0 E
                  cases E; exact ⟨rfl, rfl⟩
                · replace E := iteT c0 E
                  exact jX8_onSum_205 hF  _ _ _ E
              · replace E := iteT c0 E
                refine ⟨fun c0 => ?_, fun c0 => ?_⟩
                · replace E := iteT c0 E
                  exact jX8_onSum_205 hF  _ _ _ E
                · replace E := iteF c0 E
                  refine ⟨fun c0 => ?_, fun c0 => ?_⟩
                  · replace E := iteF c0 E
                    cases E; exact ⟨rfl, rfl⟩
                  · replace E := iteT c0 E
                    exact jX8_onSum_205 hF  _ _ _ E
            · replace E := iteT c0 E
              refine ⟨fun c0 => ?_, fun c0 => ?_⟩
              · replace E := iteT c0 E
                exact jX8_onSum_205 hF  _ _ _ E
              · replace E := iteF c0 E
                refine ⟨fun c0 => ?_, fun c0 => ?_⟩
                · replace E := iteF c0 E
                  cases E; exact ⟨rfl, rfl⟩
                · replace E := iteT c0 E
                  exact jX8_onSum_205 hF  _ _ _ E
          · replace E := iteT c0 E
            obtain ⟨y3, h1, g2, e0, E⟩ := obiE E
            refine Si.mono (sX8_last (f := f + 5) hF e0) (fun y8 h8 g8 hq => ?_)
            obtain ⟨rfl, rfl, rfl⟩ := hq
            obtain ⟨y6, h4, g5, e0, E⟩ := obiE E
            refine Si.mono (sX8_last (f := f + 5) hF e0) (fun y8 h8 g8 hq => ?_)
            obtain ⟨rfl, rfl, rfl⟩ := hq
            obtain ⟨z0, E⟩ := gdE E; refine ⟨vinE z0, ?_⟩
            obtain ⟨y9, h7, g8, e0, E⟩ := obiE E
            refine Si.mono (sX8_node (f := f + 5) hF e0) (fun y8 h8 g8 hq => ?_)
            obtain ⟨rfl, rfl, rfl⟩ := hq
            obtain ⟨z0, E⟩ := gdE E; refine ⟨vinE z0, ?_⟩
            intro h10 e0; replace E := bndE e0 E
            obtain ⟨z0, E⟩ := gdE E; refine ⟨vinE z0, ?_⟩
            intro h11 e0; replace E := bndE e0 E
            obtain ⟨z0, E⟩ := gdE E; refine ⟨vinE z0, ?_⟩
            intro h12 e0; replace E := bndE e0 E
            obtain ⟨h13, g14, e0, E⟩ := obvE E
            refine Sv.mono (sX8_make (f := f + 5) hF e0) (fun h8 g8 hq => ?_)
            obtain ⟨rfl, rfl⟩ := hq
            cases E; exact ⟨rfl, rfl⟩
        · replace E := iteT c0 E
          obtain ⟨h15, g16, e0, E⟩ := obvE E
          refine Sv.mono (sX8_onAtom (f := f) hF e0) (fun h8 g8 hq => ?_)
          obtain ⟨rfl, rfl⟩ := hq
          cases E; exact ⟨rfl, rfl⟩
      · replace E := iteT c0 E
        obtain ⟨h17, g18, e0, E⟩ := obvE E
        refine Sv.mono (sX8_push (f := f + 5) hF e0) (fun h8 g8 hq => ?_)
        obtain ⟨rfl, rfl⟩ := hq
        obtain ⟨h19, g20, e0, E⟩ := obvE E
        refine Sv.mono (sX8_push (f := f + 5) hF e0) (fun h8 g8 hq => ?_)
        obtain ⟨rfl, rfl⟩ := hq
        cases E; exact ⟨rfl, rfl⟩
    · replace E := iteT c0 E
      obtain ⟨h21, g22, e0, E⟩ := obvE E
      refine Sv.mono (sX8_push (f := f + 5) hF e0) (fun h8 g8 hq => ?_)
      obtain ⟨rfl, rfl⟩ := hq
      obtain ⟨h23, g24, e0, E⟩ := obvE E
      refine Sv.mono (sX8_push (f := f + 5) hF e0) (fun h8 g8 hq => ?_)
      obtain ⟨rfl, rfl⟩ := hq
      cases E; exact ⟨rfl, rfl⟩
  · replace E := iteT c0 E
    intro h25 e0; replace E := bndE e0 E
    cases E; exact ⟨rfl, rfl⟩
abbrev pX8_onSum (N : Nat) (x1 : Int32) (x2 : Int32) (h : HI) (g : HL) : Option (HI × HL) := pX8_onSum_0 N x1 x2 h g
theorem sX8_onSum {D : DE} {f : Nat} {F : Frm} (hF : k_Fix F) {N : Nat} {h9 : HI} {g9 : HL} {x1 : Int32} {x2 : Int32} {h : HI} {g : HL} (E : pX8_onSum N x1 x2 h g = some (h9, g9)) : Sv D (f + 6) mX8_onSum [.ref (ad D 115), .int x1, .int x2] F h g (eqv h9 g9) := wX8_onSum (f := (f + 5)) hF _ _ (jX8_onSum_0 hF _ _ _ _ E)
def pX8_onCouple_0 (N : Nat) (x1 : Int32) (h : HI) (g : HL) : Option (HI × HL) :=
  if (h 115 4) = 16 then
    obi (pX8_node N 9 x1 h g) fun (y3 : Int32) (h1 : HI) (g2 : HL) =>
    obi (pX8_last N h1 g2) fun (y6 : Int32) (h4 : HI) (g5 : HL) =>
    gd (vin y3 2002) <|
    bnd (up2 h4 125 (ix y3) y6) fun (h7 : HI) =>
    obv (pX8_push N 18 y3 h7 g5) fun (h8 : HI) (g9 : HL) =>
    obv (pX8_push N 1 15 h8 g9) fun (h10 : HI) (g11 : HL) =>
    obv (pX8_push N 16 y3 h10 g11) fun (h12 : HI) (g13 : HL) =>
    obv (pX8_push N 4 0 h12 g13) fun (h14 : HI) (g15 : HL) =>
    obv (pX8_pass N h14 g15) fun (h16 : HI) (g17 : HL) =>
    some (h16, g17)
  else
    obv (pX8_push N 1 15 h g) fun (h18 : HI) (g19 : HL) =>
    some (h18, g19)
theorem jX8_onCouple_0 {D : DE} {f : Nat} {F : Frm} (hF : k_Fix F) {N : Nat} {h9 : HI} {g9 : HL}  : ∀ (x1 : Int32) (h : HI) (g : HL), pX8_onCouple_0 N x1 h g = some (h9, g9) → JX8_onCouple_0 D (f + 4) (eqv h9 g9) F h g x1 := by
  intro x1 h g E
  unfold pX8_onCouple_0 at E
  refine ⟨fun c0 => ?_, fun c0 => ?_⟩
  · replace E := iteT c0 E
    obtain ⟨y3, h1, g2, e0, E⟩ := obiE E
    refine Si.mono (sX8_node (f := f + 4) hF e0) (fun y8 h8 g8 hq => ?_)
    obtain ⟨rfl, rfl, rfl⟩ := hq
    obtain ⟨y6, h4, g5, e0, E⟩ := obiE E
    refine Si.mono (sX8_last (f := f + 4) hF e0) (fun y8 h8 g8 hq => ?_)
    obtain ⟨rfl, rfl, rfl⟩ := hq
    obtain ⟨z0, E⟩ := gdE E; refine ⟨vinE z0, ?_⟩
    intro h7 e0; replace E := bndE e0 E
    obtain ⟨h8, g9, e0, E⟩ := obvE E
    refine Sv.mono (sX8_push (f := f + 4) hF e0) (fun h8 g8 hq => ?_)
    obtain ⟨rfl, rfl⟩ := hq
    obtain ⟨h10, g11, e0, E⟩ := obvE E
    refine Sv.mono (sX8_push (f := f + 4) hF e0) (fun h8 g8 hq => ?_)
    obtain ⟨rfl, rfl⟩ := hq
    obtain ⟨h12, g13, e0, E⟩ := obvE E
    refine Sv.mono (sX8_push (f := f + 4) hF e0) (fun h8 g8 hq => ?_)
    obtain ⟨rfl, rfl⟩ := hq
    obtain ⟨h14, g15, e0, E⟩ := obvE E
    refine Sv.mono (sX8_push (f := f + 4) hF e0) (fun h8 g8 hq => ?_)
    obtain ⟨rfl, rfl⟩ := hq
    obtain ⟨h16, g17, e0, E⟩ := obvE E
    refine Sv.mono (sX8_pass (f := f) hF e0) (fun h8 g8 hq => ?_)
    obtain ⟨rfl, rfl⟩ := hq
    cases E; exact ⟨rfl, rfl⟩
  · replace E := iteF c0 E
    obtain ⟨h18, g19, e0, E⟩ := obvE E
    refine Sv.mono (sX8_push (f := f + 4) hF e0) (fun h8 g8 hq => ?_)
    obtain ⟨rfl, rfl⟩ := hq
    cases E; exact ⟨rfl, rfl⟩
abbrev pX8_onCouple (N : Nat) (x1 : Int32) (h : HI) (g : HL) : Option (HI × HL) := pX8_onCouple_0 N x1 h g
theorem sX8_onCouple {D : DE} {f : Nat} {F : Frm} (hF : k_Fix F) {N : Nat} {h9 : HI} {g9 : HL} {x1 : Int32} {h : HI} {g : HL} (E : pX8_onCouple N x1 h g = some (h9, g9)) : Sv D (f + 5) mX8_onCouple [.ref (ad D 115), .int x1] F h g (eqv h9 g9) := wX8_onCouple (f := (f + 4)) hF _ (jX8_onCouple_0 hF _ _ _ E)
def pX8_onRest_304 (N : Nat) : Nat → Int32 → Int32 → Int32 → HI → HL → Option (HI × HL)
  | 0, _, _, _, _, _ => none
  | n + 1, x2, x4, x5, h, g =>
    if (h 115 32) ≤ x5 then
      bnd (up2 h 115 32 x4) fun (h1 : HI) =>
      obv (pX8_make N x2 h1 g) fun (h2 : HI) (g3 : HL) =>
      some (h2, g3)
    else
      gd (vin x5 1100) <|
      gd (vin (h 115 30) 2002) <|
      bnd (up2 h 131 (ix (h 115 30)) (h 133 (ix x5))) fun (h4 : HI) =>
      bnd (up2 h4 115 30 ((h4 115 30) + 1)) fun (h5 : HI) =>
      bnd (x5 + 1) fun (y6 : Int32) =>
      (pX8_onRest_304 N n) x2 x4 y6 h5 g
theorem lX8_onRest_304 {D : DE} {f : Nat} {F : Frm} (hF : k_Fix F) {N : Nat} {h9 : HI} {g9 : HL}  : ∀ (n : Nat) (x2 : Int32) (x4 : Int32) (x5 : Int32) (h : HI) (g : HL), pX8_onRest_304 N n x2 x4 x5 h g = some (h9, g9) → V D mX8_onRest (f + 6) (qv F (eqv h9 g9)) 304 [(0, .ref (ad D 115)), (2, .int x2), (4, .int x4), (5, .int x5)] [] (F, h, g) := by
  intro n
  induction n with
  | zero => intro x2 x4 x5 h g E; cases E
  | succ n hK304 =>
    intro x2 x4 x5 h g E
    rw [pX8_onRest_304] at E
    refine bX8_onRest_304 (f := (f + 5)) hF x2 x4 x5 ?_
    refine ⟨fun c0 => ?_, fun c0 => ?_⟩
    · replace E := iteT c0 E
      intro h1 e0; replace E := bndE e0 E
      obtain ⟨h2, g3, e0, E⟩ := obvE E
      refine Sv.mono (sX8_make (f := f + 5) hF e0) (fun h8 g8 hq => ?_)
      obtain ⟨rfl, rfl⟩ := hq
      cases E; exact ⟨rfl, rfl⟩
    · replace E := iteF c0 E
      obtain ⟨z0, E⟩ := gdE E; refine ⟨vinE z0, ?_⟩
      obtain ⟨z0, E⟩ := gdE E; refine ⟨vinE z0, ?_⟩
      intro h4 e0; replace E := bndE e0 E
      intro h5 e0; replace E := bndE e0 E
      intro y6 e0; replace E := bndE e0 E
      exact hK304 _ _ _ _ _ E
def pX8_onRest_111 (N : Nat) (h : HI) (g : HL) : Option (HI × HL) :=
  obi (pX8_name N 0 h g) fun (y3 : Int32) (h1 : HI) (g2 : HL) =>
  some (h1, g2)
theorem jX8_onRest_111 {D : DE} {f : Nat} {F : Frm} (hF : k_Fix F) {N : Nat} {h9 : HI} {g9 : HL}  : ∀ (h : HI) (g : HL), pX8_onRest_111 N h g = some (h9, g9) → JX8_onRest_111 D (f + 5) (eqv h9 g9) F h g  := by
  intro h g E
  unfold pX8_onRest_111 at E
  obtain ⟨y3, h1, g2, e0, E⟩ := obiE E
  refine Si.mono (sX8_name (f := f) hF e0) (fun y8 h8 g8 hq => ?_)
  obtain ⟨rfl, rfl, rfl⟩ := hq
  cases E; exact ⟨rfl, rfl⟩
def pX8_onRest_0 (N : Nat) (x1 : Int32) (x2 : Int32) (h : HI) (g : HL) : Option (HI × HL) :=
  if x1.toInt < 13 ∨ 21 < x1.toInt then
    obv (pX8_onCouple N x2 h g) fun (h1 : HI) (g2 : HL) =>
    some (h1, g2)
  else if x1 = 13 then
    obi (pX8_name N 0 h g) fun (y5 : Int32) (h3 : HI) (g4 : HL) =>
    gd (vin x2 2002) <|
    bnd (up2 h3 127 (ix x2) y5) fun (h6 : HI) =>
    some (h6, g4)
  else if x1 = 14 then
    if (h 115 4) = 10 then
      gd (vin x2 2002) <|
      gd (vin ((16 * (h 115 33)) + (h 127 (ix x2))) 384) <|
      bnd (lg_cmp (g 115 7) (g 122 (ix ((16 * (h 115 33)) + (h 127 (ix x2)))))) fun (y7 : Int32) =>
      if y7 = 0 then
        obv (pX8_stop N 3 (h 115 5) h g) fun (h8 : HI) (g9 : HL) =>
        pX8_onRest_111 N h8 g9
      else
        pX8_onRest_111 N h g
    else
      pX8_onRest_111 N h g
  else if x1 = 15 then
    obi (pX8_last N h g) fun (y12 : Int32) (h10 : HI) (g11 : HL) =>
    gd (vin x2 2002) <|
    bnd (up2 h10 125 (ix x2) y12) fun (h13 : HI) =>
    some (h13, g11)
  else if x1 = 16 then
    obi (pX8_last N h g) fun (y16 : Int32) (h14 : HI) (g15 : HL) =>
    gd (vin x2 2002) <|
    bnd (up2 h14 126 (ix x2) y16) fun (h17 : HI) =>
    some (h17, g15)
  else if x1 = 17 then
    obi (pX8_last N h g) fun (y20 : Int32) (h18 : HI) (g19 : HL) =>
    gd (vin x2 2002) <|
    bnd (up2 h18 127 (ix x2) y20) fun (h21 : HI) =>
    some (h21, g19)
  else if x1 = 18 then
    obv (pX8_make N x2 h g) fun (h22 : HI) (g23 : HL) =>
    some (h22, g23)
  else if x1 = 19 then
    bnd (up2 h 115 40 ((h 115 40) - 1)) fun (h24 : HI) =>
    gd (vin (h24 115 40) 16) <|
    gd (vin x2 2002) <|
    bnd (up2 h24 125 (ix x2) (h24 137 (ix (h24 115 40)))) fun (h25 : HI) =>
    obv (pX8_make N x2 h25 g) fun (h26 : HI) (g27 : HL) =>
    some (h26, g27)
  else if x1 = 20 then
    obi (pX8_last N h g) fun (y30 : Int32) (h28 : HI) (g29 : HL) =>
    gd (vin (h 115 32) 1100) <|
    bnd (up2 h28 133 (ix (h 115 32)) y30) fun (h31 : HI) =>
    bnd (up2 h31 115 32 ((h31 115 32) + 1)) fun (h32 : HI) =>
    if (h32 115 4) = 16 then
      obv (pX8_push N 20 x2 h32 g29) fun (h37 : HI) (g38 : HL) =>
      obv (pX8_push N 4 0 h37 g38) fun (h39 : HI) (g40 : HL) =>
      obv (pX8_pass N h39 g40) fun (h41 : HI) (g42 : HL) =>
      some (h41, g42)
    else
      obv (pX8_push N 21 x2 h32 g29) fun (h33 : HI) (g34 : HL) =>
      obv (pX8_push N 1 15 h33 g34) fun (h35 : HI) (g36 : HL) =>
      some (h35, g36)
  else
    gd (vin x2 2002) <|
    bnd (h 126 (ix x2)) fun (y43 : Int32) =>
    gd (vin x2 2002) <|
    bnd (up2 h 125 (ix x2) (h 115 30)) fun (h44 : HI) =>
    gd (vin x2 2002) <|
    bnd (up2 h44 126 (ix x2) ((h44 115 32) - y43)) fun (h45 : HI) =>
    pX8_onRest_304 N N x2 y43 y43 h45 g
theorem jX8_onRest_0 {D : DE} {f : Nat} {F : Frm} (hF : k_Fix F) {N : Nat} {h9 : HI} {g9 : HL}  : ∀ (x1 : Int32) (x2 : Int32) (h : HI) (g : HL), pX8_onRest_0 N x1 x2 h g = some (h9, g9) → JX8_onRest_0 D (f + 5) (eqv h9 g9) F h g x1 x2 := by
  intro x1 x2 h g E
  unfold pX8_onRest_0 at E
  refine ⟨fun c0 => ?_, fun c0 => ?_, fun c0 => ?_, fun c0 => ?_, fun c0 => ?_, fun c0 => ?_, fun c0 => ?_, fun c0 => ?_, fun c0 => ?_, fun c0 => ?_⟩
  · replace E := iteT c0 E
    obtain ⟨h1, g2, e0, E⟩ := obvE E
    refine Sv.mono (sX8_onCouple (f := f) hF e0) (fun h8 g8 hq => ?_)
    obtain ⟨rfl, rfl⟩ := hq
    cases E; exact ⟨rfl, rfl⟩
  · replace E := iteF (by rw [c0]; decide) E
    replace E := iteT c0 E
    obtain ⟨y5, h3, g4, e0, E⟩ := obiE E
    refine Si.mono (sX8_name (f := f) hF e0) (fun y8 h8 g8 hq => ?_)
    obtain ⟨rfl, rfl, rfl⟩ := hq
    obtain ⟨z0, E⟩ := gdE E; refine ⟨vinE z0, ?_⟩
    intro h6 e0; replace E := bndE e0 E
    cases E; exact ⟨rfl, rfl⟩
  · replace E := iteF (by rw [c0]; decide) E
    replace E := iteF (by rw [c0]; decide) E
    replace E := iteT c0 E
    refine ⟨fun c0 => ?_, fun c0 => ?_⟩
    · replace E := iteF c0 E
      exact jX8_onRest_111 hF  _ _ E
    · replace E := iteT c0 E
      obtain ⟨z0, E⟩ := gdE E; refine ⟨vinE z0, ?_⟩
      obtain ⟨z0, E⟩ := gdE E; refine ⟨vinE z0, ?_⟩
      intro y7 e0; replace E := bndE e0 E
      refine ⟨fun c0 => ?_, fun c0 => ?_⟩
      · replace E := iteF c0 E
        exact jX8_onRest_111 hF  _ _ E
      · replace E := iteT c0 E
        obtain ⟨h8, g9, e0, E⟩ := obvE E
        refine Sv.mono (sX8_stop (f := f + 5) hF e0) (fun h8 g8 hq => ?_)
        obtain ⟨rfl, rfl⟩ := hq
        exact jX8_onRest_111 hF  _ _ E
  · replace E := iteF (by rw [c0]; decide) E
    replace E := iteF (by rw [c0]; decide) E
    replace E := iteF (by rw [c0]; decide) E
    replace E := iteT c0 E
    obtain ⟨y12, h10, g11, e0, E⟩ := obiE E
    refine Si.mono (sX8_last (f := f + 5) hF e0) (fun y8 h8 g8 hq => ?_)
    obtain ⟨rfl, rfl, rfl⟩ := hq
    obtain ⟨z0, E⟩ := gdE E; refine ⟨vinE z0, ?_⟩
    intro h13 e0; replace E := bndE e0 E
    cases E; exact ⟨rfl, rfl⟩
  · replace E := iteF (by rw [c0]; decide) E
    replace E := iteF (by rw [c0]; decide) E
    replace E := iteF (by rw [c0]; decide) E
    replace E := iteF (by rw [c0]; decide) E
    replace E := iteT c0 E
    obtain ⟨y16, h14, g15, e0, E⟩ := obiE E
    refine Si.mono (sX8_last (f := f + 5) hF e0) (fun y8 h8 g8 hq => ?_)
    obtain ⟨rfl, rfl, rfl⟩ := hq
    obtain ⟨z0, E⟩ := gdE E; refine ⟨vinE z0, ?_⟩
    intro h17 e0; replace E := bndE e0 E
    cases E; exact ⟨rfl, rfl⟩
  · replace E := iteF (by rw [c0]; decide) E
    replace E := iteF (by rw [c0]; decide) E
    replace E := iteF (by rw [c0]; decide) E
    replace E := iteF (by rw [c0]; decide) E
    replace E := iteF (by rw [c0]; decide) E
    replace E := iteT c0 E
    obtain ⟨y20, h18, g19, e0, E⟩ := obiE E
    refine Si.mono (sX8_last (f := f + 5) hF e0) (fun y8 h8 g8 hq => ?_)
    obtain ⟨rfl, rfl, rfl⟩ := hq
    obtain ⟨z0, E⟩ := gdE E; refine ⟨vinE z0, ?_⟩
    intro h21 e0; replace E := bndE e0 E
    cases E; exact ⟨rfl, rfl⟩
  · replace E := iteF (by rw [c0]; decide) E
    replace E := iteF (by rw [c0]; decide) E
    replace E := iteF (by rw [c0]; decide) E
    replace E := iteF (by rw [c0]; decide) E
    replace E := iteF (by rw [c0]; decide) E
    replace E := iteF (by rw [c0]; decide) E
    replace E := iteT c0 E
    obtain ⟨h22, g23, e0, E⟩ := obvE E
    refine Sv.mono (sX8_make (f := f + 5) hF e0) (fun h8 g8 hq => ?_)
    obtain ⟨rfl, rfl⟩ := hq
    cases E; exact ⟨rfl, rfl⟩
  · replace E := iteF (by rw [c0]; decide) E
    replace E := iteF (by rw [c0]; decide) E
    replace E := iteF (by rw [c0]; decide) E
    replace E := iteF (by rw [c0]; decide) E
    replace E := iteF (by rw [c0]; decide) E
    replace E := iteF (by rw [c0]; decide) E
    replace E := iteF (by rw [c0]; decide) E
    replace E := iteT c0 E
    intro h24 e0; replace E := bndE e0 E
    obtain ⟨z0, E⟩ := gdE E; refine ⟨vinE z0, ?_⟩
    obtain ⟨z0, E⟩ := gdE E; refine ⟨vinE z0, ?_⟩
    intro h25 e0; replace E := bndE e0 E
    obtain ⟨h26, g27, e0, E⟩ := obvE E
    refine Sv.mono (sX8_make (f := f + 5) hF e0) (fun h8 g8 hq => ?_)
    obtain ⟨rfl, rfl⟩ := hq
    cases E; exact ⟨rfl, rfl⟩
  · replace E := iteF (by rw [c0]; decide) E
    replace E := iteF (by rw [c0]; decide) E
    replace E := iteF (by rw [c0]; decide) E
    replace E := iteF (by rw [c0]; decide) E
    replace E := iteF (by rw [c0]; decide) E
    replace E := iteF (by rw [c0]; decide) E
    replace E := iteF (by rw [c0]; decide) E
    replace E := iteF (by rw [c0]; decide) E
    replace E := iteT c0 E
    obtain ⟨y30, h28, g29, e0, E⟩ := obiE E
    refine Si.mono (sX8_last (f := f + 5) hF e0) (fun y8 h8 g8 hq => ?_)
    obtain ⟨rfl, rfl, rfl⟩ := hq
    obtain ⟨z0, E⟩ := gdE E; refine ⟨vinE z0, ?_⟩
    intro h31 e0; replace E := bndE e0 E
    intro h32 e0; replace E := bndE e0 E
    refine ⟨fun c0 => ?_, fun c0 => ?_⟩
    · replace E := iteF c0 E
      obtain ⟨h33, g34, e0, E⟩ := obvE E
      refine Sv.mono (sX8_push (f := f + 5) hF e0) (fun h8 g8 hq => ?_)
      obtain ⟨rfl, rfl⟩ := hq
      obtain ⟨h35, g36, e0, E⟩ := obvE E
      refine Sv.mono (sX8_push (f := f + 5) hF e0) (fun h8 g8 hq => ?_)
      obtain ⟨rfl, rfl⟩ := hq
      cases E; exact ⟨rfl, rfl⟩
    · replace E := iteT c0 E
      obtain ⟨h37, g38, e0, E⟩ := obvE E
      refine Sv.mono (sX8_push (f := f + 5) hF e0) (fun h8 g8 hq => ?_)
      obtain ⟨rfl, rfl⟩ := hq
      obtain ⟨h39, g40, e0, E⟩ := obvE E
      refine Sv.mono (sX8_push (f := f + 5) hF e0) (fun h8 g8 hq => ?_)
      obtain ⟨rfl, rfl⟩ := hq
      obtain ⟨h41, g42, e0, E⟩ := obvE E
      refine Sv.mono (sX8_pass (f := f + 1) hF e0) (fun h8 g8 hq => ?_)
      obtain ⟨rfl, rfl⟩ := hq
      cases E; exact ⟨rfl, rfl⟩
  · replace E := iteF (by rw [c0]; decide) E
    replace E := iteF (by rw [c0]; decide) E
    replace E := iteF (by rw [c0]; decide) E
    replace E := iteF (by rw [c0]; decide) E
    replace E := iteF (by rw [c0]; decide) E
    replace E := iteF (by rw [c0]; decide) E
    replace E := iteF (by rw [c0]; decide) E
    replace E := iteF (by rw [c0]; decide) E
    replace E := iteF (by rw [c0]; decide) E
    obtain ⟨z0, E⟩ := gdE E; refine ⟨vinE z0, ?_⟩
    intro y43 e0; replace E := bndE e0 E
    obtain ⟨z0, E⟩ := gdE E; refine ⟨vinE z0, ?_⟩
    intro h44 e0; replace E := bndE e0 E
    obtain ⟨z0, E⟩ := gdE E; refine ⟨vinE z0, ?_⟩
    intro h45 e0; replace E := bndE e0 E
    exact lX8_onRest_304 hF  N _ _ _ _ _ E
abbrev pX8_onRest (N : Nat) (x1 : Int32) (x2 : Int32) (h : HI) (g : HL) : Option (HI × HL) := pX8_onRest_0 N x1 x2 h g
theorem sX8_onRest {D : DE} {f : Nat} {F : Frm} (hF : k_Fix F) {N : Nat} {h9 : HI} {g9 : HL} {x1 : Int32} {x2 : Int32} {h : HI} {g : HL} (E : pX8_onRest N x1 x2 h g = some (h9, g9)) : Sv D (f + 6) mX8_onRest [.ref (ad D 115), .int x1, .int x2] F h g (eqv h9 g9) := wX8_onRest (f := (f + 5)) hF _ _ (jX8_onRest_0 hF _ _ _ _ E)
def pX8_parse_117 (N : Nat) (K26 : HI → HL → Option (HI × HL)) (h : HI) (g : HL) : Option (HI × HL) :=
  K26 h g
theorem jX8_parse_117 {D : DE} {f : Nat} {F : Frm} (hF : k_Fix F) {N : Nat} {K26 : HI → HL → Option (HI × HL)} {h9 : HI} {g9 : HL} (hK26 : ∀ (h : HI) (g : HL), K26 h g = some (h9, g9) → V D mX8_parse (f + 7) (qv F (eqv h9 g9)) 26 [(0, .ref (ad D 115))] [] (F, h, g)) : ∀ (h : HI) (g : HL), pX8_parse_117 N K26 h g = some (h9, g9) → JX8_parse_117 D (f + 6) (eqv h9 g9) F h g  := by
  intro h g E
  unfold pX8_parse_117 at E
  exact hK26 _ _ E
def pX8_parse_26 (N : Nat) : Nat → HI → HL → Option (HI × HL)
  | 0, _, _ => none
  | n + 1, h, g =>
    if (h 115 36) ≤ 0 then
      some (h, g)
    else
      if (h 115 9) = 0 then
        bnd (up2 h 115 36 ((h 115 36) - 1)) fun (h1 : HI) =>
        gd (vin (h1 115 36) 3000) <|
        bnd (h1 134 (ix (h1 115 36))) fun (y2 : Int32) =>
        gd (vin (h1 115 36) 3000) <|
        bnd (h1 135 (ix (h1 115 36))) fun (y3 : Int32) =>
        if 3 < y2 then
          if y2 = 4 then
            obv (pX8_onE N h1 g) fun (h8 : HI) (g9 : HL) =>
            pX8_parse_117 N (pX8_parse_26 N n) h8 g9
          else
            if 12 < y2 then
              obv (pX8_onRest N y2 y3 h1 g) fun (h4 : HI) (g5 : HL) =>
              pX8_parse_117 N (pX8_parse_26 N n) h4 g5
            else
              obv (pX8_onSum N y2 y3 h1 g) fun (h6 : HI) (g7 : HL) =>
              pX8_parse_117 N (pX8_parse_26 N n) h6 g7
        else
          obv (pX8_onType N y2 y3 h1 g) fun (h10 : HI) (g11 : HL) =>
          pX8_parse_117 N (pX8_parse_26 N n) h10 g11
      else
        some (h, g)
theorem lX8_parse_26 {D : DE} {f : Nat} {F : Frm} (hF : k_Fix F) {N : Nat} {h9 : HI} {g9 : HL}  : ∀ (n : Nat) (h : HI) (g : HL), pX8_parse_26 N n h g = some (h9, g9) → V D mX8_parse (f + 7) (qv F (eqv h9 g9)) 26 [(0, .ref (ad D 115))] [] (F, h, g) := by
  intro n
  induction n with
  | zero => intro h g E; cases E
  | succ n hK26 =>
    intro h g E
    rw [pX8_parse_26] at E
    refine bX8_parse_26 (f := (f + 6)) hF  ?_
    refine ⟨fun c0 => ?_, fun c0 => ?_⟩
    · replace E := iteT c0 E
      cases E; exact ⟨rfl, rfl⟩
    · replace E := iteF c0 E
      refine ⟨fun c0 => ?_, fun c0 => ?_⟩
      · replace E := iteF c0 E
        cases E; exact ⟨rfl, rfl⟩
      · replace E := iteT c0 E
        intro h1 e0; replace E := bndE e0 E
        obtain ⟨z0, E⟩ := gdE E; refine ⟨vinE z0, ?_⟩
        intro y2 e0; replace E := bndE e0 E
        obtain ⟨z0, E⟩ := gdE E; refine ⟨vinE z0, ?_⟩
        intro y3 e0; replace E := bndE e0 E
        refine ⟨fun c0 => ?_, fun c0 => ?_⟩
        · replace E := iteT c0 E
          refine ⟨fun c0 => ?_, fun c0 => ?_⟩
          · replace E := iteF c0 E
            refine ⟨fun c0 => ?_, fun c0 => ?_⟩
            · replace E := iteT c0 E
              obtain ⟨h4, g5, e0, E⟩ := obvE E
              refine Sv.mono (sX8_onRest (f := f) hF e0) (fun h8 g8 hq => ?_)
              obtain ⟨rfl, rfl⟩ := hq
              exact jX8_parse_117 hF hK26 _ _ E
            · replace E := iteF c0 E
              obtain ⟨h6, g7, e0, E⟩ := obvE E
              refine Sv.mono (sX8_onSum (f := f) hF e0) (fun h8 g8 hq => ?_)
              obtain ⟨rfl, rfl⟩ := hq
              exact jX8_parse_117 hF hK26 _ _ E
          · replace E := iteT c0 E
            obtain ⟨h8, g9, e0, E⟩ := obvE E
            refine Sv.mono (sX8_onE (f := f + 1) hF e0) (fun h8 g8 hq => ?_)
            obtain ⟨rfl, rfl⟩ := hq
            exact jX8_parse_117 hF hK26 _ _ E
        · replace E := iteF c0 E
          obtain ⟨h10, g11, e0, E⟩ := obvE E
          refine Sv.mono (sX8_onType (f := f) hF e0) (fun h8 g8 hq => ?_)
          obtain ⟨rfl, rfl⟩ := hq
          exact jX8_parse_117 hF hK26 _ _ E
def pX8_parse_0 (N : Nat) (x1 : Int32) (h : HI) (g : HL) : Option (HI × HL) :=
  bnd (up2 h 115 36 0) fun (h1 : HI) =>
  bnd (up2 h1 115 38 0) fun (h2 : HI) =>
  bnd (up2 h2 115 40 0) fun (h3 : HI) =>
  bnd (up2 h3 115 41 0) fun (h4 : HI) =>
  obv (pX8_push N x1 0 h4 g) fun (h5 : HI) (g6 : HL) =>
  pX8_parse_26 N N h5 g6
theorem jX8_parse_0 {D : DE} {f : Nat} {F : Frm} (hF : k_Fix F) {N : Nat} {h9 : HI} {g9 : HL}  : ∀ (x1 : Int32) (h : HI) (g : HL), pX8_parse_0 N x1 h g = some (h9, g9) → JX8_parse_0 D (f + 6) (eqv h9 g9) F h g x1 := by
  intro x1 h g E
  unfold pX8_parse_0 at E
  intro h1 e0; replace E := bndE e0 E
  intro h2 e0; replace E := bndE e0 E
  intro h3 e0; replace E := bndE e0 E
  intro h4 e0; replace E := bndE e0 E
  obtain ⟨h5, g6, e0, E⟩ := obvE E
  refine Sv.mono (sX8_push (f := f + 6) hF e0) (fun h8 g8 hq => ?_)
  obtain ⟨rfl, rfl⟩ := hq
  exact lX8_parse_26 hF  N _ _ E
abbrev pX8_parse (N : Nat) (x1 : Int32) (h : HI) (g : HL) : Option (HI × HL) := pX8_parse_0 N x1 h g
theorem sX8_parse {D : DE} {f : Nat} {F : Frm} (hF : k_Fix F) {N : Nat} {h9 : HI} {g9 : HL} {x1 : Int32} {h : HI} {g : HL} (E : pX8_parse N x1 h g = some (h9, g9)) : Sv D (f + 7) mX8_parse [.ref (ad D 115), .int x1] F h g (eqv h9 g9) := wX8_parse (f := (f + 6)) hF _ (jX8_parse_0 hF _ _ _ E)
def pX8_type_12 (N : Nat) (h : HI) (g : HL) : Option (Int32 × HI × HL) :=
  if (h 115 9) = 0 then
    some ((h 137 (ix 0)), h, g)
  else
    some (0, h, g)
theorem jX8_type_12 {D : DE} {f : Nat} {F : Frm} (hF : k_Fix F) {N : Nat} {y9 : Int32} {h9 : HI} {g9 : HL}  : ∀ (h : HI) (g : HL), pX8_type_12 N h g = some (y9, h9, g9) → JX8_type_12 D (f + 7) (eqi y9 h9 g9) F h g  := by
  intro h g E
  unfold pX8_type_12 at E
  refine ⟨fun c0 => ?_, fun c0 => ?_⟩
  · replace E := iteF c0 E
    cases E; exact ⟨rfl, rfl, rfl⟩
  · replace E := iteT c0 E
    cases E; exact ⟨rfl, rfl, rfl⟩
def pX8_type_0 (N : Nat) (h : HI) (g : HL) : Option (Int32 × HI × HL) :=
  if (h 115 9) = 0 then
    obv (pX8_parse N 2 h g) fun (h1 : HI) (g2 : HL) =>
    pX8_type_12 N h1 g2
  else
    pX8_type_12 N h g
theorem jX8_type_0 {D : DE} {f : Nat} {F : Frm} (hF : k_Fix F) {N : Nat} {y9 : Int32} {h9 : HI} {g9 : HL}  : ∀ (h : HI) (g : HL), pX8_type_0 N h g = some (y9, h9, g9) → JX8_type_0 D (f + 7) (eqi y9 h9 g9) F h g  := by
  intro h g E
  unfold pX8_type_0 at E
  refine ⟨fun c0 => ?_, fun c0 => ?_⟩
  · replace E := iteF c0 E
    exact jX8_type_12 hF  _ _ E
  · replace E := iteT c0 E
    obtain ⟨h1, g2, e0, E⟩ := obvE E
    refine Sv.mono (sX8_parse (f := f) hF e0) (fun h8 g8 hq => ?_)
    obtain ⟨rfl, rfl⟩ := hq
    exact jX8_type_12 hF  _ _ E
abbrev pX8_type (N : Nat) (h : HI) (g : HL) : Option (Int32 × HI × HL) := pX8_type_0 N h g
theorem sX8_type {D : DE} {f : Nat} {F : Frm} (hF : k_Fix F) {N : Nat} {y9 : Int32} {h9 : HI} {g9 : HL} {h : HI} {g : HL} (E : pX8_type N h g = some (y9, h9, g9)) : Si D (f + 8) mX8_type [.ref (ad D 115)] F h g (eqi y9 h9 g9) := wX8_type (f := (f + 7)) hF  (jX8_type_0 hF _ _ E)
def pX8_definition_340 (N : Nat) (h : HI) (g : HL) : Option (HI × HL) :=
  gd (vin (h 115 33) 24) <|
  bnd (up2 h 121 (ix (h 115 33)) (h 136 (ix 0))) fun (h1 : HI) =>
  obv (pX8_want N 17 h1 g) fun (h2 : HI) (g3 : HL) =>
  some (h2, g3)
theorem jX8_definition_340 {D : DE} {f : Nat} {F : Frm} (hF : k_Fix F) {N : Nat} {h9 : HI} {g9 : HL}  : ∀ (h : HI) (g : HL), pX8_definition_340 N h g = some (h9, g9) → JX8_definition_340 D (f + 8) (eqv h9 g9) F h g  := by
  intro h g E
  unfold pX8_definition_340 at E
  obtain ⟨z0, E⟩ := gdE E; refine ⟨vinE z0, ?_⟩
  intro h1 e0; replace E := bndE e0 E
  obtain ⟨h2, g3, e0, E⟩ := obvE E
  refine Sv.mono (sX8_want (f := f + 3) hF e0) (fun h8 g8 hq => ?_)
  obtain ⟨rfl, rfl⟩ := hq
  cases E; exact ⟨rfl, rfl⟩
def pX8_definition_294 (N : Nat) (K210 : Int32 → HI → HL → Option (HI × HL)) (x1 : Int32) (h : HI) (g : HL) : Option (HI × HL) :=
  K210 x1 h g
theorem jX8_definition_294 {D : DE} {f : Nat} {F : Frm} (hF : k_Fix F) {N : Nat} {K210 : Int32 → HI → HL → Option (HI × HL)} {h9 : HI} {g9 : HL} (hK210 : ∀ (x1 : Int32) (h : HI) (g : HL), K210 x1 h g = some (h9, g9) → V D mX8_definition (f + 9) (qv F (eqv h9 g9)) 210 [(0, .ref (ad D 115)), (1, .int x1)] [] (F, h, g)) : ∀ (x1 : Int32) (h : HI) (g : HL), pX8_definition_294 N K210 x1 h g = some (h9, g9) → JX8_definition_294 D (f + 8) (eqv h9 g9) F h g x1 := by
  intro x1 h g E
  unfold pX8_definition_294 at E
  exact hK210 _ _ _ E
def pX8_definition_285 (N : Nat) (K210 : Int32 → HI → HL → Option (HI × HL)) (s0 : Int32) (h : HI) (g : HL) : Option (HI × HL) :=
  if s0 = 0 then
    pX8_definition_294 N K210 s0 h g
  else
    obv (pX8_pass N h g) fun (h1 : HI) (g2 : HL) =>
    pX8_definition_294 N K210 s0 h1 g2
theorem jX8_definition_285 {D : DE} {f : Nat} {F : Frm} (hF : k_Fix F) {N : Nat} {K210 : Int32 → HI → HL → Option (HI × HL)} {h9 : HI} {g9 : HL} (hK210 : ∀ (x1 : Int32) (h : HI) (g : HL), K210 x1 h g = some (h9, g9) → V D mX8_definition (f + 9) (qv F (eqv h9 g9)) 210 [(0, .ref (ad D 115)), (1, .int x1)] [] (F, h, g)) : ∀ (s0 : Int32) (h : HI) (g : HL), pX8_definition_285 N K210 s0 h g = some (h9, g9) → JX8_definition_285 D (f + 8) (eqv h9 g9) F h g s0 := by
  intro s0 h g E
  unfold pX8_definition_285 at E
  refine ⟨fun c0 => ?_, fun c0 => ?_⟩
  · replace E := iteT c0 E
    exact jX8_definition_294 hF hK210 _ _ _ E
  · replace E := iteF c0 E
    obtain ⟨h1, g2, e0, E⟩ := obvE E
    refine Sv.mono (sX8_pass (f := f + 4) hF e0) (fun h8 g8 hq => ?_)
    obtain ⟨rfl, rfl⟩ := hq
    exact jX8_definition_294 hF hK210 _ _ _ E
def pX8_definition_284 (N : Nat) (K210 : Int32 → HI → HL → Option (HI × HL)) (h : HI) (g : HL) : Option (HI × HL) :=
  pX8_definition_285 N K210 0 h g
theorem jX8_definition_284 {D : DE} {f : Nat} {F : Frm} (hF : k_Fix F) {N : Nat} {K210 : Int32 → HI → HL → Option (HI × HL)} {h9 : HI} {g9 : HL} (hK210 : ∀ (x1 : Int32) (h : HI) (g : HL), K210 x1 h g = some (h9, g9) → V D mX8_definition (f + 9) (qv F (eqv h9 g9)) 210 [(0, .ref (ad D 115)), (1, .int x1)] [] (F, h, g)) : ∀ (h : HI) (g : HL), pX8_definition_284 N K210 h g = some (h9, g9) → JX8_definition_284 D (f + 8) (eqv h9 g9) F h g  := by
  intro h g E
  unfold pX8_definition_284 at E
  exact jX8_definition_285 hF hK210 _ _ _ E
def pX8_definition_240 (N : Nat) (K210 : Int32 → HI → HL → Option (HI × HL)) (x2 : Int32) (h : HI) (g : HL) : Option (HI × HL) :=
  obv (pX8_want N 18 h g) fun (h1 : HI) (g2 : HL) =>
  obi (pX8_type N h1 g2) fun (y5 : Int32) (h3 : HI) (g4 : HL) =>
  gd (vin ((16 * (h1 115 33)) + x2) 384) <|
  bnd (up2 h3 123 (ix ((16 * (h1 115 33)) + x2)) y5) fun (h6 : HI) =>
  if (h6 115 9) = 0 then
    if (h6 115 4) = 16 then
      pX8_definition_285 N K210 1 h6 g4
    else
      pX8_definition_284 N K210 h6 g4
  else
    pX8_definition_284 N K210 h6 g4
theorem jX8_definition_240 {D : DE} {f : Nat} {F : Frm} (hF : k_Fix F) {N : Nat} {K210 : Int32 → HI → HL → Option (HI × HL)} {h9 : HI} {g9 : HL} (hK210 : ∀ (x1 : Int32) (h : HI) (g : HL), K210 x1 h g = some (h9, g9) → V D mX8_definition (f + 9) (qv F (eqv h9 g9)) 210 [(0, .ref (ad D 115)), (1, .int x1)] [] (F, h, g)) : ∀ (x2 : Int32) (h : HI) (g : HL), pX8_definition_240 N K210 x2 h g = some (h9, g9) → JX8_definition_240 D (f + 8) (eqv h9 g9) F h g x2 := by
  intro x2 h g E
  unfold pX8_definition_240 at E
  obtain ⟨h1, g2, e0, E⟩ := obvE E
  refine Sv.mono (sX8_want (f := f + 3) hF e0) (fun h8 g8 hq => ?_)
  obtain ⟨rfl, rfl⟩ := hq
  obtain ⟨y5, h3, g4, e0, E⟩ := obiE E
  refine Si.mono (sX8_type (f := f) hF e0) (fun y8 h8 g8 hq => ?_)
  obtain ⟨rfl, rfl, rfl⟩ := hq
  obtain ⟨z0, E⟩ := gdE E; refine ⟨vinE z0, ?_⟩
  intro h6 e0; replace E := bndE e0 E
  refine ⟨fun c0 => ?_, fun c0 => ?_⟩
  · replace E := iteF c0 E
    exact jX8_definition_284 hF hK210 _ _ E
  · replace E := iteT c0 E
    refine ⟨fun c0 => ?_, fun c0 => ?_⟩
    · replace E := iteF c0 E
      exact jX8_definition_284 hF hK210 _ _ E
    · replace E := iteT c0 E
      exact jX8_definition_285 hF hK210 _ _ _ E
def pX8_definition_210 (N : Nat) : Nat → Int32 → HI → HL → Option (HI × HL)
  | 0, _, _, _ => none
  | n + 1, x1, h, g =>
    if x1 = 0 then
      obv (pX8_want N 15 h g) fun (h1 : HI) (g2 : HL) =>
      obv (pX8_want N 18 h1 g2) fun (h3 : HI) (g4 : HL) =>
      obi (pX8_type N h3 g4) fun (y7 : Int32) (h5 : HI) (g6 : HL) =>
      gd (vin (h3 115 33) 24) <|
      bnd (up2 h5 118 (ix (h3 115 33)) y7) fun (h8 : HI) =>
      obv (pX8_want N 13 h8 g6) fun (h9 : HI) (g10 : HL) =>
      if (h9 115 9) = 0 then
        obv (pX8_parse N 4 h9 g10) fun (h11 : HI) (g12 : HL) =>
        pX8_definition_340 N h11 g12
      else
        pX8_definition_340 N h9 g10
    else
      obi (pX8_name N 1 h g) fun (y15 : Int32) (h13 : HI) (g14 : HL) =>
      if (h13 115 9) = 0 then
        gd (vin (h13 115 33) 24) <|
        gd (vin (h13 115 33) 24) <|
        bnd (up2 h13 119 (ix (h13 115 33)) ((h13 119 (ix (h13 115 33))) + 1)) fun (h16 : HI) =>
        pX8_definition_240 N (pX8_definition_210 N n) y15 h16 g14
      else
        pX8_definition_240 N (pX8_definition_210 N n) y15 h13 g14
theorem lX8_definition_210 {D : DE} {f : Nat} {F : Frm} (hF : k_Fix F) {N : Nat} {h9 : HI} {g9 : HL}  : ∀ (n : Nat) (x1 : Int32) (h : HI) (g : HL), pX8_definition_210 N n x1 h g = some (h9, g9) → V D mX8_definition (f + 9) (qv F (eqv h9 g9)) 210 [(0, .ref (ad D 115)), (1, .int x1)] [] (F, h, g) := by
  intro n
  induction n with
  | zero => intro x1 h g E; cases E
  | succ n hK210 =>
    intro x1 h g E
    rw [pX8_definition_210] at E
    refine bX8_definition_210 (f := (f + 8)) hF x1 ?_
    refine ⟨fun c0 => ?_, fun c0 => ?_⟩
    · replace E := iteT c0 E
      obtain ⟨h1, g2, e0, E⟩ := obvE E
      refine Sv.mono (sX8_want (f := f + 3) hF e0) (fun h8 g8 hq => ?_)
      obtain ⟨rfl, rfl⟩ := hq
      obtain ⟨h3, g4, e0, E⟩ := obvE E
      refine Sv.mono (sX8_want (f := f + 3) hF e0) (fun h8 g8 hq => ?_)
      obtain ⟨rfl, rfl⟩ := hq
      obtain ⟨y7, h5, g6, e0, E⟩ := obiE E
      refine Si.mono (sX8_type (f := f) hF e0) (fun y8 h8 g8 hq => ?_)
      obtain ⟨rfl, rfl, rfl⟩ := hq
      obtain ⟨z0, E⟩ := gdE E; refine ⟨vinE z0, ?_⟩
      intro h8 e0; replace E := bndE e0 E
      obtain ⟨h9, g10, e0, E⟩ := obvE E
      refine Sv.mono (sX8_want (f := f + 3) hF e0) (fun h8 g8 hq => ?_)
      obtain ⟨rfl, rfl⟩ := hq
      refine ⟨fun c0 => ?_, fun c0 => ?_⟩
      · replace E := iteF c0 E
        exact jX8_definition_340 hF  _ _ E
      · replace E := iteT c0 E
        obtain ⟨h11, g12, e0, E⟩ := obvE E
        refine Sv.mono (sX8_parse (f := f + 1) hF e0) (fun h8 g8 hq => ?_)
        obtain ⟨rfl, rfl⟩ := hq
        exact jX8_definition_340 hF  _ _ E
    · replace E := iteF c0 E
      obtain ⟨y15, h13, g14, e0, E⟩ := obiE E
      refine Si.mono (sX8_name (f := f + 3) hF e0) (fun y8 h8 g8 hq => ?_)
      obtain ⟨rfl, rfl, rfl⟩ := hq
      refine ⟨fun c0 => ?_, fun c0 => ?_⟩
      · replace E := iteF c0 E
        exact jX8_definition_240 hF hK210 _ _ _ E
      · replace E := iteT c0 E
        obtain ⟨z0, E⟩ := gdE E; refine ⟨vinE z0, ?_⟩
        obtain ⟨z0, E⟩ := gdE E; refine ⟨vinE z0, ?_⟩
        intro h16 e0; replace E := bndE e0 E
        exact jX8_definition_240 hF hK210 _ _ _ E
def pX8_definition_209 (N : Nat) (s0 : Int32) (h : HI) (g : HL) : Option (HI × HL) :=
  pX8_definition_210 N N s0 h g
theorem jX8_definition_209 {D : DE} {f : Nat} {F : Frm} (hF : k_Fix F) {N : Nat} {h9 : HI} {g9 : HL}  : ∀ (s0 : Int32) (h : HI) (g : HL), pX8_definition_209 N s0 h g = some (h9, g9) → JX8_definition_209 D (f + 8) (eqv h9 g9) F h g s0 := by
  intro s0 h g E
  unfold pX8_definition_209 at E
  exact lX8_definition_210 hF  N _ _ _ E
def pX8_definition_208 (N : Nat) (h : HI) (g : HL) : Option (HI × HL) :=
  pX8_definition_209 N 0 h g
theorem jX8_definition_208 {D : DE} {f : Nat} {F : Frm} (hF : k_Fix F) {N : Nat} {h9 : HI} {g9 : HL}  : ∀ (h : HI) (g : HL), pX8_definition_208 N h g = some (h9, g9) → JX8_definition_208 D (f + 8) (eqv h9 g9) F h g  := by
  intro h g E
  unfold pX8_definition_208 at E
  exact jX8_definition_209 hF  _ _ _ E
def pX8_definition_111 (N : Nat) (h : HI) (g : HL) : Option (HI × HL) :=
  if (h 115 9) = 0 then
    bnd (up2 h 115 33 ((12 * (h 115 27)) + (h 115 28))) fun (h1 : HI) =>
    gd (vin (h1 115 33) 24) <|
    bnd (up2 g 117 (ix (h1 115 33)) (g 115 7)) fun (g2 : HL) =>
    gd (vin (h1 115 33) 24) <|
    bnd (up2 h1 119 (ix (h1 115 33)) 0) fun (h3 : HI) =>
    gd (vin (h3 115 33) 24) <|
    bnd (up2 h3 120 (ix (h3 115 33)) 0) fun (h4 : HI) =>
    bnd (up2 h4 115 28 ((h4 115 28) + 1)) fun (h5 : HI) =>
    obv (pX8_pass N h5 g2) fun (h6 : HI) (g7 : HL) =>
    obv (pX8_want N 14 h6 g7) fun (h8 : HI) (g9 : HL) =>
    if (h8 115 9) = 0 then
      if (h8 115 4) = 15 then
        pX8_definition_208 N h8 g9
      else
        pX8_definition_209 N 1 h8 g9
    else
      pX8_definition_208 N h8 g9
  else
    some (h, g)
theorem jX8_definition_111 {D : DE} {f : Nat} {F : Frm} (hF : k_Fix F) {N : Nat} {h9 : HI} {g9 : HL}  : ∀ (h : HI) (g : HL), pX8_definition_111 N h g = some (h9, g9) → JX8_definition_111 D (f + 8) (eqv h9 g9) F h g  := by
  intro h g E
  unfold pX8_definition_111 at E
  refine ⟨fun c0 => ?_, fun c0 => ?_⟩
  · replace E := iteT c0 E
    intro h1 e0; replace E := bndE e0 E
    obtain ⟨z0, E⟩ := gdE E; refine ⟨vinE z0, ?_⟩
    intro g2 e0; replace E := bndE e0 E
    obtain ⟨z0, E⟩ := gdE E; refine ⟨vinE z0, ?_⟩
    intro h3 e0; replace E := bndE e0 E
    obtain ⟨z0, E⟩ := gdE E; refine ⟨vinE z0, ?_⟩
    intro h4 e0; replace E := bndE e0 E
    intro h5 e0; replace E := bndE e0 E
    obtain ⟨h6, g7, e0, E⟩ := obvE E
    refine Sv.mono (sX8_pass (f := f + 4) hF e0) (fun h8 g8 hq => ?_)
    obtain ⟨rfl, rfl⟩ := hq
    obtain ⟨h8, g9, e0, E⟩ := obvE E
    refine Sv.mono (sX8_want (f := f + 3) hF e0) (fun h8 g8 hq => ?_)
    obtain ⟨rfl, rfl⟩ := hq
    refine ⟨fun c0 => ?_, fun c0 => ?_⟩
    · replace E := iteF c0 E
      exact jX8_definition_208 hF  _ _ E
    · replace E := iteT c0 E
      refine ⟨fun c0 => ?_, fun c0 => ?_⟩
      · replace E := iteT c0 E
        exact jX8_definition_208 hF  _ _ E
      · replace E := iteF c0 E
        exact jX8_definition_209 hF  _ _ _ E
  · replace E := iteF c0 E
    cases E; exact ⟨rfl, rfl⟩
def pX8_definition_85 (N : Nat) (h : HI) (g : HL) : Option (HI × HL) :=
  if (h 115 9) = 0 then
    if (h 115 28) = 12 then
      obv (pX8_stop N 6 (h 115 5) h g) fun (h1 : HI) (g2 : HL) =>
      pX8_definition_111 N h1 g2
    else
      pX8_definition_111 N h g
  else
    pX8_definition_111 N h g
theorem jX8_definition_85 {D : DE} {f : Nat} {F : Frm} (hF : k_Fix F) {N : Nat} {h9 : HI} {g9 : HL}  : ∀ (h : HI) (g : HL), pX8_definition_85 N h g = some (h9, g9) → JX8_definition_85 D (f + 8) (eqv h9 g9) F h g  := by
  intro h g E
  unfold pX8_definition_85 at E
  refine ⟨fun c0 => ?_, fun c0 => ?_⟩
  · replace E := iteF c0 E
    exact jX8_definition_111 hF  _ _ E
  · replace E := iteT c0 E
    refine ⟨fun c0 => ?_, fun c0 => ?_⟩
    · replace E := iteF c0 E
      exact jX8_definition_111 hF  _ _ E
    · replace E := iteT c0 E
      obtain ⟨h1, g2, e0, E⟩ := obvE E
      refine Sv.mono (sX8_stop (f := f + 8) hF e0) (fun h8 g8 hq => ?_)
      obtain ⟨rfl, rfl⟩ := hq
      exact jX8_definition_111 hF  _ _ E
def pX8_definition_79 (N : Nat) (K33 : Int32 → HI → HL → Option (HI × HL)) (x1 : Int32) (h : HI) (g : HL) : Option (HI × HL) :=
  bnd (x1 + 1) fun (y1 : Int32) =>
  K33 y1 h g
theorem jX8_definition_79 {D : DE} {f : Nat} {F : Frm} (hF : k_Fix F) {N : Nat} {K33 : Int32 → HI → HL → Option (HI × HL)} {h9 : HI} {g9 : HL} (hK33 : ∀ (x1 : Int32) (h : HI) (g : HL), K33 x1 h g = some (h9, g9) → V D mX8_definition (f + 9) (qv F (eqv h9 g9)) 33 [(0, .ref (ad D 115)), (1, .int x1)] [] (F, h, g)) : ∀ (x1 : Int32) (h : HI) (g : HL), pX8_definition_79 N K33 x1 h g = some (h9, g9) → JX8_definition_79 D (f + 8) (eqv h9 g9) F h g x1 := by
  intro x1 h g E
  unfold pX8_definition_79 at E
  intro y1 e0; replace E := bndE e0 E
  exact hK33 _ _ _ E
def pX8_definition_33 (N : Nat) : Nat → Int32 → HI → HL → Option (HI × HL)
  | 0, _, _, _ => none
  | n + 1, x1, h, g =>
    if ((12 * (h 115 27)) + (h 115 28)) ≤ x1 then
      pX8_definition_85 N h g
    else
      if (h 115 9) = 0 then
        gd (vin x1 24) <|
        if (lg_cmp (g 117 (ix x1)) (g 115 7)) = 0 then
          obv (pX8_stop N 3 (h 115 5) h g) fun (h1 : HI) (g2 : HL) =>
          pX8_definition_79 N (pX8_definition_33 N n) x1 h1 g2
        else
          pX8_definition_79 N (pX8_definition_33 N n) x1 h g
      else
        pX8_definition_85 N h g
theorem lX8_definition_33 {D : DE} {f : Nat} {F : Frm} (hF : k_Fix F) {N : Nat} {h9 : HI} {g9 : HL}  : ∀ (n : Nat) (x1 : Int32) (h : HI) (g : HL), pX8_definition_33 N n x1 h g = some (h9, g9) → V D mX8_definition (f + 9) (qv F (eqv h9 g9)) 33 [(0, .ref (ad D 115)), (1, .int x1)] [] (F, h, g) := by
  intro n
  induction n with
  | zero => intro x1 h g E; cases E
  | succ n hK33 =>
    intro x1 h g E
    rw [pX8_definition_33] at E
    refine bX8_definition_33 (f := (f + 8)) hF x1 ?_
    refine ⟨fun c0 => ?_, fun c0 => ?_⟩
    · replace E := iteT c0 E
      exact jX8_definition_85 hF  _ _ E
    · replace E := iteF c0 E
      refine ⟨fun c0 => ?_, fun c0 => ?_⟩
      · replace E := iteF c0 E
        exact jX8_definition_85 hF  _ _ E
      · replace E := iteT c0 E
        obtain ⟨z0, E⟩ := gdE E; refine ⟨vinE z0, ?_⟩
        refine ⟨fun c0 => ?_, fun c0 => ?_⟩
        · replace E := iteF c0 E
          exact jX8_definition_79 hF hK33 _ _ _ E
        · replace E := iteT c0 E
          obtain ⟨h1, g2, e0, E⟩ := obvE E
          refine Sv.mono (sX8_stop (f := f + 8) hF e0) (fun h8 g8 hq => ?_)
          obtain ⟨rfl, rfl⟩ := hq
          exact jX8_definition_79 hF hK33 _ _ _ E
def pX8_definition_25 (N : Nat) (h : HI) (g : HL) : Option (HI × HL) :=
  bnd (12 * (h 115 27)) fun (y1 : Int32) =>
  pX8_definition_33 N N y1 h g
theorem jX8_definition_25 {D : DE} {f : Nat} {F : Frm} (hF : k_Fix F) {N : Nat} {h9 : HI} {g9 : HL}  : ∀ (h : HI) (g : HL), pX8_definition_25 N h g = some (h9, g9) → JX8_definition_25 D (f + 8) (eqv h9 g9) F h g  := by
  intro h g E
  unfold pX8_definition_25 at E
  intro y1 e0; replace E := bndE e0 E
  exact lX8_definition_33 hF  N _ _ _ E
def pX8_definition_0 (N : Nat) (h : HI) (g : HL) : Option (HI × HL) :=
  if (h 115 9) = 0 then
    if (h 115 4) = 10 then
      pX8_definition_25 N h g
    else
      obv (pX8_stop N 2 (h 115 5) h g) fun (h1 : HI) (g2 : HL) =>
      pX8_definition_25 N h1 g2
  else
    pX8_definition_25 N h g
theorem jX8_definition_0 {D : DE} {f : Nat} {F : Frm} (hF : k_Fix F) {N : Nat} {h9 : HI} {g9 : HL}  : ∀ (h : HI) (g : HL), pX8_definition_0 N h g = some (h9, g9) → JX8_definition_0 D (f + 8) (eqv h9 g9) F h g  := by
  intro h g E
  unfold pX8_definition_0 at E
  refine ⟨fun c0 => ?_, fun c0 => ?_⟩
  · replace E := iteF c0 E
    exact jX8_definition_25 hF  _ _ E
  · replace E := iteT c0 E
    refine ⟨fun c0 => ?_, fun c0 => ?_⟩
    · replace E := iteT c0 E
      exact jX8_definition_25 hF  _ _ E
    · replace E := iteF c0 E
      obtain ⟨h1, g2, e0, E⟩ := obvE E
      refine Sv.mono (sX8_stop (f := f + 8) hF e0) (fun h8 g8 hq => ?_)
      obtain ⟨rfl, rfl⟩ := hq
      exact jX8_definition_25 hF  _ _ E
abbrev pX8_definition (N : Nat) (h : HI) (g : HL) : Option (HI × HL) := pX8_definition_0 N h g
theorem sX8_definition {D : DE} {f : Nat} {F : Frm} (hF : k_Fix F) {N : Nat} {h9 : HI} {g9 : HL} {h : HI} {g : HL} (E : pX8_definition N h g = some (h9, g9)) : Sv D (f + 9) mX8_definition [.ref (ad D 115)] F h g (eqv h9 g9) := wX8_definition (f := (f + 8)) hF  (jX8_definition_0 hF _ _ E)
def pX8_task_0 (N : Nat) (x1 : Int32) (x2 : Int32) (x3 : Int32) (h : HI) (g : HL) : Option (HI × HL) :=
  if 3000 ≤ (h 115 36) then
    some (h, g)
  else
    gd (vin (h 115 36) 3000) <|
    bnd (up2 h 138 (ix (h 115 36)) x3) fun (h1 : HI) =>
    obv (pX8_push N x1 x2 h1 g) fun (h2 : HI) (g3 : HL) =>
    some (h2, g3)
theorem jX8_task_0 {D : DE} {f : Nat} {F : Frm} (hF : k_Fix F) {N : Nat} {h9 : HI} {g9 : HL}  : ∀ (x1 : Int32) (x2 : Int32) (x3 : Int32) (h : HI) (g : HL), pX8_task_0 N x1 x2 x3 h g = some (h9, g9) → JX8_task_0 D f (eqv h9 g9) F h g x1 x2 x3 := by
  intro x1 x2 x3 h g E
  unfold pX8_task_0 at E
  refine ⟨fun c0 => ?_, fun c0 => ?_⟩
  · replace E := iteT c0 E
    cases E; exact ⟨rfl, rfl⟩
  · replace E := iteF c0 E
    obtain ⟨z0, E⟩ := gdE E; refine ⟨vinE z0, ?_⟩
    intro h1 e0; replace E := bndE e0 E
    obtain ⟨h2, g3, e0, E⟩ := obvE E
    refine Sv.mono (sX8_push (f := f) hF e0) (fun h8 g8 hq => ?_)
    obtain ⟨rfl, rfl⟩ := hq
    cases E; exact ⟨rfl, rfl⟩
abbrev pX8_task (N : Nat) (x1 : Int32) (x2 : Int32) (x3 : Int32) (h : HI) (g : HL) : Option (HI × HL) := pX8_task_0 N x1 x2 x3 h g
theorem sX8_task {D : DE} {f : Nat} {F : Frm} (hF : k_Fix F) {N : Nat} {h9 : HI} {g9 : HL} {x1 : Int32} {x2 : Int32} {x3 : Int32} {h : HI} {g : HL} (E : pX8_task N x1 x2 x3 h g = some (h9, g9)) : Sv D (f + 1) mX8_task [.ref (ad D 115), .int x1, .int x2, .int x3] F h g (eqv h9 g9) := wX8_task (f := f) hF _ _ _ (jX8_task_0 hF _ _ _ _ _ E)
def pX8_meant_7 (N : Nat) : Nat → Int64 → Int32 → HI → HL → Option (Int32 × HI × HL)
  | 0, _, _, _, _ => none
  | n + 1, x1, x3, h, g =>
    if x3 < 0 then
      some ((-1), h, g)
    else
      gd (vin x3 16) <|
      gd (vin ((16 * (h 115 33)) + (h 139 (ix x3))) 384) <|
      bnd (lg_cmp (g 122 (ix ((16 * (h 115 33)) + (h 139 (ix x3))))) x1) fun (y1 : Int32) =>
      if y1 = 0 then
        gd (vin x3 16) <|
        some ((h 139 (ix x3)), h, g)
      else
        bnd (x3 + (-1)) fun (y2 : Int32) =>
        (pX8_meant_7 N n) x1 y2 h g
theorem lX8_meant_7 {D : DE} {f : Nat} {F : Frm} (hF : k_Fix F) {N : Nat} {y9 : Int32} {h9 : HI} {g9 : HL}  : ∀ (n : Nat) (x1 : Int64) (x3 : Int32) (h : HI) (g : HL), pX8_meant_7 N n x1 x3 h g = some (y9, h9, g9) → V D mX8_meant f (qi F (eqi y9 h9 g9)) 7 [(0, .ref (ad D 115)), (1, .long x1), (3, .int x3)] [] (F, h, g) := by
  intro n
  induction n with
  | zero => intro x1 x3 h g E; cases E
  | succ n hK7 =>
    intro x1 x3 h g E
    rw [pX8_meant_7] at E
    refine bX8_meant_7 (f := f) hF x1 x3 ?_
    refine ⟨fun c0 => ?_, fun c0 => ?_⟩
    · replace E := iteT c0 E
      cases E; exact ⟨rfl, rfl, rfl⟩
    · replace E := iteF c0 E
      obtain ⟨z0, E⟩ := gdE E; refine ⟨vinE z0, ?_⟩
      obtain ⟨z0, E⟩ := gdE E; refine ⟨vinE z0, ?_⟩
      intro y1 e0; replace E := bndE e0 E
      refine ⟨fun c0 => ?_, fun c0 => ?_⟩
      · replace E := iteF c0 E
        intro y2 e0; replace E := bndE e0 E
        exact hK7 _ _ _ _ E
      · replace E := iteT c0 E
        obtain ⟨z0, E⟩ := gdE E; refine ⟨vinE z0, ?_⟩
        cases E; exact ⟨rfl, rfl, rfl⟩
def pX8_meant_0 (N : Nat) (x1 : Int64) (h : HI) (g : HL) : Option (Int32 × HI × HL) :=
  bnd ((h 115 44) - 1) fun (y1 : Int32) =>
  pX8_meant_7 N N x1 y1 h g
theorem jX8_meant_0 {D : DE} {f : Nat} {F : Frm} (hF : k_Fix F) {N : Nat} {y9 : Int32} {h9 : HI} {g9 : HL}  : ∀ (x1 : Int64) (h : HI) (g : HL), pX8_meant_0 N x1 h g = some (y9, h9, g9) → JX8_meant_0 D f (eqi y9 h9 g9) F h g x1 := by
  intro x1 h g E
  unfold pX8_meant_0 at E
  intro y1 e0; replace E := bndE e0 E
  exact lX8_meant_7 hF  N _ _ _ _ E
abbrev pX8_meant (N : Nat) (x1 : Int64) (h : HI) (g : HL) : Option (Int32 × HI × HL) := pX8_meant_0 N x1 h g
theorem sX8_meant {D : DE} {f : Nat} {F : Frm} (hF : k_Fix F) {N : Nat} {y9 : Int32} {h9 : HI} {g9 : HL} {x1 : Int64} {h : HI} {g : HL} (E : pX8_meant N x1 h g = some (y9, h9, g9)) : Si D f mX8_meant [.ref (ad D 115), .long x1] F h g (eqi y9 h9 g9) := wX8_meant (f := f) hF _ (jX8_meant_0 hF _ _ _ E)
def pX8_tells_0 (N : Nat) (x1 : Int32) (x2 : Int32) (h : HI) (g : HL) : Option (HI × HL) :=
  gd (vin ((16 * (h 115 33)) + x1) 384) <|
  bnd (up2 h 123 (ix ((16 * (h 115 33)) + x1)) x2) fun (h1 : HI) =>
  gd (vin (h1 115 44) 16) <|
  bnd (up2 h1 139 (ix (h1 115 44)) x1) fun (h2 : HI) =>
  bnd (up2 h2 115 44 ((h2 115 44) + 1)) fun (h3 : HI) =>
  some (h3, g)
theorem jX8_tells_0 {D : DE} {f : Nat} {F : Frm} (hF : k_Fix F) {N : Nat} {h9 : HI} {g9 : HL}  : ∀ (x1 : Int32) (x2 : Int32) (h : HI) (g : HL), pX8_tells_0 N x1 x2 h g = some (h9, g9) → JX8_tells_0 D f (eqv h9 g9) F h g x1 x2 := by
  intro x1 x2 h g E
  unfold pX8_tells_0 at E
  obtain ⟨z0, E⟩ := gdE E; refine ⟨vinE z0, ?_⟩
  intro h1 e0; replace E := bndE e0 E
  obtain ⟨z0, E⟩ := gdE E; refine ⟨vinE z0, ?_⟩
  intro h2 e0; replace E := bndE e0 E
  intro h3 e0; replace E := bndE e0 E
  cases E; exact ⟨rfl, rfl⟩
abbrev pX8_tells (N : Nat) (x1 : Int32) (x2 : Int32) (h : HI) (g : HL) : Option (HI × HL) := pX8_tells_0 N x1 x2 h g
theorem sX8_tells {D : DE} {f : Nat} {F : Frm} (hF : k_Fix F) {N : Nat} {h9 : HI} {g9 : HL} {x1 : Int32} {x2 : Int32} {h : HI} {g : HL} (E : pX8_tells N x1 x2 h g = some (h9, g9)) : Sv D f mX8_tells [.ref (ad D 115), .int x1, .int x2] F h g (eqv h9 g9) := wX8_tells (f := f) hF _ _ (jX8_tells_0 hF _ _ _ _ E)
def pX8_judgeCall_111 (N : Nat) : Nat → Int32 → Int32 → Int32 → HI → HL → Option (HI × HL)
  | 0, _, _, _, _, _ => none
  | n + 1, x1, x2, x3, h, g =>
    if x3 < 0 then
      some (h, g)
    else
      gd (vin x1 2002) <|
      gd (vin ((h 125 (ix x1)) + x3) 2002) <|
      gd (vin ((16 * x2) + x3) 384) <|
      obv (pX8_task N 1 (h 131 (ix ((h 125 (ix x1)) + x3))) (h 123 (ix ((16 * x2) + x3))) h g) fun (h1 : HI) (g2 : HL) =>
      bnd (x3 + (-1)) fun (y3 : Int32) =>
      (pX8_judgeCall_111 N n) x1 x2 y3 h1 g2
theorem lX8_judgeCall_111 {D : DE} {f : Nat} {F : Frm} (hF : k_Fix F) {N : Nat} {h9 : HI} {g9 : HL}  : ∀ (n : Nat) (x1 : Int32) (x2 : Int32) (x3 : Int32) (h : HI) (g : HL), pX8_judgeCall_111 N n x1 x2 x3 h g = some (h9, g9) → V D mX8_judgeCall (f + 2) (qv F (eqv h9 g9)) 111 [(0, .ref (ad D 115)), (1, .int x1), (2, .int x2), (3, .int x3)] [] (F, h, g) := by
  intro n
  induction n with
  | zero => intro x1 x2 x3 h g E; cases E
  | succ n hK111 =>
    intro x1 x2 x3 h g E
    rw [pX8_judgeCall_111] at E
    refine bX8_judgeCall_111 (f := (f + 1)) hF x1 x2 x3 ?_
    refine ⟨fun c0 => ?_, fun c0 => ?_⟩
    · replace E := iteT c0 E
      cases E; exact ⟨rfl, rfl⟩
    · replace E := iteF c0 E
      obtain ⟨z0, E⟩ := gdE E; refine ⟨vinE z0, ?_⟩
      obtain ⟨z0, E⟩ := gdE E; refine ⟨vinE z0, ?_⟩
      obtain ⟨z0, E⟩ := gdE E; refine ⟨vinE z0, ?_⟩
      obtain ⟨h1, g2, e0, E⟩ := obvE E
      refine Sv.mono (sX8_task (f := f) hF e0) (fun h8 g8 hq => ?_)
      obtain ⟨rfl, rfl⟩ := hq
      intro y3 e0; replace E := bndE e0 E
      exact hK111 _ _ _ _ _ E
def pX8_judgeCall_85 (N : Nat) (x1 : Int32) (s1 : Int32) (h : HI) (g : HL) : Option (HI × HL) :=
  gd (vin x1 2002) <|
  obv (pX8_stop N s1 (h 128 (ix x1)) h g) fun (h1 : HI) (g2 : HL) =>
  some (h1, g2)
theorem jX8_judgeCall_85 {D : DE} {f : Nat} {F : Frm} (hF : k_Fix F) {N : Nat} {h9 : HI} {g9 : HL}  : ∀ (x1 : Int32) (s1 : Int32) (h : HI) (g : HL), pX8_judgeCall_85 N x1 s1 h g = some (h9, g9) → JX8_judgeCall_85 D (f + 1) (eqv h9 g9) F h g x1 s1 := by
  intro x1 s1 h g E
  unfold pX8_judgeCall_85 at E
  obtain ⟨z0, E⟩ := gdE E; refine ⟨vinE z0, ?_⟩
  obtain ⟨h1, g2, e0, E⟩ := obvE E
  refine Sv.mono (sX8_stop (f := f + 1) hF e0) (fun h8 g8 hq => ?_)
  obtain ⟨rfl, rfl⟩ := hq
  cases E; exact ⟨rfl, rfl⟩
def pX8_judgeCall_74 (N : Nat) (x1 : Int32) (x2 : Int32) (h : HI) (g : HL) : Option (HI × HL) :=
  if x2 = (-1) then
    pX8_judgeCall_85 N x1 4 h g
  else
    pX8_judgeCall_85 N x1 5 h g
theorem jX8_judgeCall_74 {D : DE} {f : Nat} {F : Frm} (hF : k_Fix F) {N : Nat} {h9 : HI} {g9 : HL}  : ∀ (x1 : Int32) (x2 : Int32) (h : HI) (g : HL), pX8_judgeCall_74 N x1 x2 h g = some (h9, g9) → JX8_judgeCall_74 D (f + 1) (eqv h9 g9) F h g x1 x2 := by
  intro x1 x2 h g E
  unfold pX8_judgeCall_74 at E
  refine ⟨fun c0 => ?_, fun c0 => ?_⟩
  · replace E := iteF c0 E
    exact jX8_judgeCall_85 hF  _ _ _ _ E
  · replace E := iteT c0 E
    exact jX8_judgeCall_85 hF  _ _ _ _ E
def pX8_judgeCall_47 (N : Nat) (K10 : Int32 → Int32 → Int32 → HI → HL → Option (HI × HL)) (x1 : Int32) (x3 : Int32) (s0 : Int32) (h : HI) (g : HL) : Option (HI × HL) :=
  bnd (x3 + 1) fun (y1 : Int32) =>
  K10 x1 s0 y1 h g
theorem jX8_judgeCall_47 {D : DE} {f : Nat} {F : Frm} (hF : k_Fix F) {N : Nat} {K10 : Int32 → Int32 → Int32 → HI → HL → Option (HI × HL)} {h9 : HI} {g9 : HL} (hK10 : ∀ (x1 : Int32) (x2 : Int32) (x3 : Int32) (h : HI) (g : HL), K10 x1 x2 x3 h g = some (h9, g9) → V D mX8_judgeCall (f + 2) (qv F (eqv h9 g9)) 10 [(0, .ref (ad D 115)), (1, .int x1), (2, .int x2), (3, .int x3)] [] (F, h, g)) : ∀ (x1 : Int32) (x3 : Int32) (s0 : Int32) (h : HI) (g : HL), pX8_judgeCall_47 N K10 x1 x3 s0 h g = some (h9, g9) → JX8_judgeCall_47 D (f + 1) (eqv h9 g9) F h g x1 x3 s0 := by
  intro x1 x3 s0 h g E
  unfold pX8_judgeCall_47 at E
  intro y1 e0; replace E := bndE e0 E
  exact hK10 _ _ _ _ _ E
def pX8_judgeCall_10 (N : Nat) : Nat → Int32 → Int32 → Int32 → HI → HL → Option (HI × HL)
  | 0, _, _, _, _, _ => none
  | n + 1, x1, x2, x3, h, g =>
    if ((12 * (h 115 27)) + (h 115 28)) ≤ x3 then
      if x2 = (-1) then
        pX8_judgeCall_74 N x1 x2 h g
      else
        gd (vin x2 24) <|
        gd (vin x1 2002) <|
        if (h 119 (ix x2)) = (h 126 (ix x1)) then
          gd (vin x1 2002) <|
          bnd (up2 h 127 (ix x1) x2) fun (h1 : HI) =>
          gd (vin x1 2002) <|
          bnd ((h1 126 (ix x1)) - 1) fun (y2 : Int32) =>
          pX8_judgeCall_111 N N x1 x2 y2 h1 g
        else
          pX8_judgeCall_74 N x1 x2 h g
    else
      gd (vin x3 24) <|
      gd (vin x1 2002) <|
      if (lg_cmp (g 117 (ix x3)) (g 130 (ix x1))) = 0 then
        pX8_judgeCall_47 N (pX8_judgeCall_10 N n) x1 x3 x3 h g
      else
        pX8_judgeCall_47 N (pX8_judgeCall_10 N n) x1 x3 x2 h g
theorem lX8_judgeCall_10 {D : DE} {f : Nat} {F : Frm} (hF : k_Fix F) {N : Nat} {h9 : HI} {g9 : HL}  : ∀ (n : Nat) (x1 : Int32) (x2 : Int32) (x3 : Int32) (h : HI) (g : HL), pX8_judgeCall_10 N n x1 x2 x3 h g = some (h9, g9) → V D mX8_judgeCall (f + 2) (qv F (eqv h9 g9)) 10 [(0, .ref (ad D 115)), (1, .int x1), (2, .int x2), (3, .int x3)] [] (F, h, g) := by
  intro n
  induction n with
  | zero => intro x1 x2 x3 h g E; cases E
  | succ n hK10 =>
    intro x1 x2 x3 h g E
    rw [pX8_judgeCall_10] at E
    refine bX8_judgeCall_10 (f := (f + 1)) hF x1 x2 x3 ?_
    refine ⟨fun c0 => ?_, fun c0 => ?_⟩
    · replace E := iteT c0 E
      refine ⟨fun c0 => ?_, fun c0 => ?_⟩
      · replace E := iteT c0 E
        exact jX8_judgeCall_74 hF  _ _ _ _ E
      · replace E := iteF c0 E
        obtain ⟨z0, E⟩ := gdE E; refine ⟨vinE z0, ?_⟩
        obtain ⟨z0, E⟩ := gdE E; refine ⟨vinE z0, ?_⟩
        refine ⟨fun c0 => ?_, fun c0 => ?_⟩
        · replace E := iteT c0 E
          obtain ⟨z0, E⟩ := gdE E; refine ⟨vinE z0, ?_⟩
          intro h1 e0; replace E := bndE e0 E
          obtain ⟨z0, E⟩ := gdE E; refine ⟨vinE z0, ?_⟩
          intro y2 e0; replace E := bndE e0 E
          exact lX8_judgeCall_111 hF  N _ _ _ _ _ E
        · replace E := iteF c0 E
          exact jX8_judgeCall_74 hF  _ _ _ _ E
    · replace E := iteF c0 E
      obtain ⟨z0, E⟩ := gdE E; refine ⟨vinE z0, ?_⟩
      obtain ⟨z0, E⟩ := gdE E; refine ⟨vinE z0, ?_⟩
      refine ⟨fun c0 => ?_, fun c0 => ?_⟩
      · replace E := iteF c0 E
        exact jX8_judgeCall_47 hF hK10 _ _ _ _ _ E
      · replace E := iteT c0 E
        exact jX8_judgeCall_47 hF hK10 _ _ _ _ _ E
def pX8_judgeCall_0 (N : Nat) (x1 : Int32) (h : HI) (g : HL) : Option (HI × HL) :=
  bnd (12 * (h 115 27)) fun (y1 : Int32) =>
  pX8_judgeCall_10 N N x1 (-1) y1 h g
theorem jX8_judgeCall_0 {D : DE} {f : Nat} {F : Frm} (hF : k_Fix F) {N : Nat} {h9 : HI} {g9 : HL}  : ∀ (x1 : Int32) (h : HI) (g : HL), pX8_judgeCall_0 N x1 h g = some (h9, g9) → JX8_judgeCall_0 D (f + 1) (eqv h9 g9) F h g x1 := by
  intro x1 h g E
  unfold pX8_judgeCall_0 at E
  intro y1 e0; replace E := bndE e0 E
  exact lX8_judgeCall_10 hF  N _ _ _ _ _ E
abbrev pX8_judgeCall (N : Nat) (x1 : Int32) (h : HI) (g : HL) : Option (HI × HL) := pX8_judgeCall_0 N x1 h g
theorem sX8_judgeCall {D : DE} {f : Nat} {F : Frm} (hF : k_Fix F) {N : Nat} {h9 : HI} {g9 : HL} {x1 : Int32} {h : HI} {g : HL} (E : pX8_judgeCall N x1 h g = some (h9, g9)) : Sv D (f + 2) mX8_judgeCall [.ref (ad D 115), .int x1] F h g (eqv h9 g9) := wX8_judgeCall (f := (f + 1)) hF _ (jX8_judgeCall_0 hF _ _ _ E)
def pX8_onJudge_239 (N : Nat) (x1 : Int32) (x2 : Int32) (s1 : Int32) (s2 : Int32) (s3 : Int32) (h : HI) (g : HL) : Option (HI × HL) :=
  obv (pX8_task N s1 s2 s3 h g) fun (h1 : HI) (g2 : HL) =>
  gd (vin x1 2002) <|
  if x2 ≤ 0 then
    obv (pX8_task N 1 (h1 125 (ix x1)) (-1) h1 g2) fun (h3 : HI) (g4 : HL) =>
    some (h3, g4)
  else
    obi (pX8_firstOf N x2 h1 g2) fun (y7 : Int32) (h5 : HI) (g6 : HL) =>
    obv (pX8_task N 1 (h1 125 (ix x1)) y7 h5 g6) fun (h8 : HI) (g9 : HL) =>
    some (h8, g9)
theorem jX8_onJudge_239 {D : DE} {f : Nat} {F : Frm} (hF : k_Fix F) {N : Nat} {h9 : HI} {g9 : HL}  : ∀ (x1 : Int32) (x2 : Int32) (s1 : Int32) (s2 : Int32) (s3 : Int32) (h : HI) (g : HL), pX8_onJudge_239 N x1 x2 s1 s2 s3 h g = some (h9, g9) → JX8_onJudge_239 D (f + 2) (eqv h9 g9) F h g x1 x2 s1 s2 s3 := by
  intro x1 x2 s1 s2 s3 h g E
  unfold pX8_onJudge_239 at E
  obtain ⟨h1, g2, e0, E⟩ := obvE E
  refine Sv.mono (sX8_task (f := f + 1) hF e0) (fun h8 g8 hq => ?_)
  obtain ⟨rfl, rfl⟩ := hq
  obtain ⟨z0, E⟩ := gdE E; refine ⟨vinE z0, ?_⟩
  refine ⟨fun c0 => ?_, fun c0 => ?_⟩
  · replace E := iteT c0 E
    obtain ⟨h3, g4, e0, E⟩ := obvE E
    refine Sv.mono (sX8_task (f := f + 1) hF e0) (fun h8 g8 hq => ?_)
    obtain ⟨rfl, rfl⟩ := hq
    cases E; exact ⟨rfl, rfl⟩
  · replace E := iteF c0 E
    obtain ⟨y7, h5, g6, e0, E⟩ := obiE E
    refine Si.mono (sX8_firstOf (f := f + 2) hF e0) (fun y8 h8 g8 hq => ?_)
    obtain ⟨rfl, rfl, rfl⟩ := hq
    obtain ⟨h8, g9, e0, E⟩ := obvE E
    refine Sv.mono (sX8_task (f := f + 1) hF e0) (fun h8 g8 hq => ?_)
    obtain ⟨rfl, rfl⟩ := hq
    cases E; exact ⟨rfl, rfl⟩
def pX8_onJudge_91 (N : Nat) (x1 : Int32) (x3 : Int32) (h : HI) (g : HL) : Option (HI × HL) :=
  gd (vin x1 2002) <|
  bnd (up2 h 125 (ix x1) x3) fun (h1 : HI) =>
  some (h1, g)
theorem jX8_onJudge_91 {D : DE} {f : Nat} {F : Frm} (hF : k_Fix F) {N : Nat} {h9 : HI} {g9 : HL}  : ∀ (x1 : Int32) (x3 : Int32) (h : HI) (g : HL), pX8_onJudge_91 N x1 x3 h g = some (h9, g9) → JX8_onJudge_91 D (f + 2) (eqv h9 g9) F h g x1 x3 := by
  intro x1 x3 h g E
  unfold pX8_onJudge_91 at E
  obtain ⟨z0, E⟩ := gdE E; refine ⟨vinE z0, ?_⟩
  intro h1 e0; replace E := bndE e0 E
  cases E; exact ⟨rfl, rfl⟩
def pX8_onJudge_0 (N : Nat) (x1 : Int32) (x2 : Int32) (h : HI) (g : HL) : Option (HI × HL) :=
  obv (pX8_task N 4 x1 x2 h g) fun (h1 : HI) (g2 : HL) =>
  gd (vin x1 2002) <|
  bnd (h1 124 (ix x1)) fun (y3 : Int32) =>
  if y3.toInt < 1 ∨ 9 < y3.toInt then
    some (h1, g2)
  else if y3 = 1 then
    gd (vin x1 2002) <|
    obv (pX8_task N 1 (h1 126 (ix x1)) 0 h1 g2) fun (h4 : HI) (g5 : HL) =>
    gd (vin x1 2002) <|
    obv (pX8_task N 1 (h4 125 (ix x1)) 0 h4 g5) fun (h6 : HI) (g7 : HL) =>
    some (h6, g7)
  else if y3 = 2 then
    obv (pX8_task N 2 x1 x2 h1 g2) fun (h8 : HI) (g9 : HL) =>
    gd (vin x1 2002) <|
    obv (pX8_task N 1 (h8 126 (ix x1)) x2 h8 g9) fun (h10 : HI) (g11 : HL) =>
    gd (vin x1 2002) <|
    obv (pX8_task N 1 (h10 125 (ix x1)) 0 h10 g11) fun (h12 : HI) (g13 : HL) =>
    some (h12, g13)
  else if y3 = 3 then
    gd (vin x1 2002) <|
    obv (pX8_task N 1 (h1 126 (ix x1)) x2 h1 g2) fun (h14 : HI) (g15 : HL) =>
    obv (pX8_task N 3 x1 0 h14 g15) fun (h16 : HI) (g17 : HL) =>
    gd (vin x1 2002) <|
    gd (vin x1 2002) <|
    if (h16 124 (ix x1)) = 3 then
      obv (pX8_task N 1 (h16 125 (ix x1)) (-1) h16 g17) fun (h20 : HI) (g21 : HL) =>
      some (h20, g21)
    else
      obv (pX8_task N 1 (h16 125 (ix x1)) (-2) h16 g17) fun (h18 : HI) (g19 : HL) =>
      some (h18, g19)
  else if y3 = 4 then
    gd (vin x1 2002) <|
    obv (pX8_task N 1 (h1 126 (ix x1)) x2 h1 g2) fun (h22 : HI) (g23 : HL) =>
    obv (pX8_task N 3 x1 0 h22 g23) fun (h24 : HI) (g25 : HL) =>
    gd (vin x1 2002) <|
    gd (vin x1 2002) <|
    if (h24 124 (ix x1)) = 3 then
      obv (pX8_task N 1 (h24 125 (ix x1)) (-1) h24 g25) fun (h28 : HI) (g29 : HL) =>
      some (h28, g29)
    else
      obv (pX8_task N 1 (h24 125 (ix x1)) (-2) h24 g25) fun (h26 : HI) (g27 : HL) =>
      some (h26, g27)
  else if y3 = 5 then
    some (h1, g2)
  else if y3 = 6 then
    some (h1, g2)
  else if y3 = 7 then
    gd (vin x1 2002) <|
    obi (pX8_meant N (g2 130 (ix x1)) h1 g2) fun (y32 : Int32) (h30 : HI) (g31 : HL) =>
    if y32 = (-1) then
      gd (vin x1 2002) <|
      obv (pX8_stop N 4 (h30 128 (ix x1)) h30 g31) fun (h33 : HI) (g34 : HL) =>
      pX8_onJudge_91 N x1 y32 h33 g34
    else
      pX8_onJudge_91 N x1 y32 h30 g31
  else if y3 = 8 then
    obv (pX8_judgeCall N x1 h1 g2) fun (h35 : HI) (g36 : HL) =>
    some (h35, g36)
  else
    gd (vin x1 2002) <|
    if x2 ≤ 0 then
      pX8_onJudge_239 N x1 x2 1 (h1 126 (ix x1)) (-1) h1 g2
    else
      obi (pX8_secondOf N x2 h1 g2) fun (y39 : Int32) (h37 : HI) (g38 : HL) =>
      pX8_onJudge_239 N x1 x2 1 (h1 126 (ix x1)) y39 h37 g38
theorem jX8_onJudge_0 {D : DE} {f : Nat} {F : Frm} (hF : k_Fix F) {N : Nat} {h9 : HI} {g9 : HL}  : ∀ (x1 : Int32) (x2 : Int32) (h : HI) (g : HL), pX8_onJudge_0 N x1 x2 h g = some (h9, g9) → JX8_onJudge_0 D (f + 2) (eqv h9 g9) F h g x1 x2 := by
  intro x1 x2 h g E
  unfold pX8_onJudge_0 at E
  obtain ⟨h1, g2, e0, E⟩ := obvE E
  refine Sv.mono (sX8_task (f := f + 1) hF e0) (fun h8 g8 hq => ?_)
  obtain ⟨rfl, rfl⟩ := hq
  obtain ⟨z0, E⟩ := gdE E; refine ⟨vinE z0, ?_⟩
  intro y3 e0; replace E := bndE e0 E
  refine ⟨fun c0 => ?_, fun c0 => ?_, fun c0 => ?_, fun c0 => ?_, fun c0 => ?_, fun c0 => ?_, fun c0 => ?_, fun c0 => ?_, fun c0 => ?_, fun c0 => ?_⟩
  · replace E := iteT c0 E
    cases E; exact ⟨rfl, rfl⟩
  · replace E := iteF (by rw [c0]; decide) E
    replace E := iteT c0 E
    obtain ⟨z0, E⟩ := gdE E; refine ⟨vinE z0, ?_⟩
    obtain ⟨h4, g5, e0, E⟩ := obvE E
    refine Sv.mono (sX8_task (f := f + 1) hF e0) (fun h8 g8 hq => ?_)
    obtain ⟨rfl, rfl⟩ := hq
    obtain ⟨z0, E⟩ := gdE E; refine ⟨vinE z0, ?_⟩
    obtain ⟨h6, g7, e0, E⟩ := obvE E
    refine Sv.mono (sX8_task (f := f + 1) hF e0) (fun h8 g8 hq => ?_)
    obtain ⟨rfl, rfl⟩ := hq
    cases E; exact ⟨rfl, rfl⟩
  · replace E := iteF (by rw [c0]; decide) E
    replace E := iteF (by rw [c0]; decide) E
    replace E := iteT c0 E
    obtain ⟨h8, g9, e0, E⟩ := obvE E
    refine Sv.mono (sX8_task (f := f + 1) hF e0) (fun h8 g8 hq => ?_)
    obtain ⟨rfl, rfl⟩ := hq
    obtain ⟨z0, E⟩ := gdE E; refine ⟨vinE z0, ?_⟩
    obtain ⟨h10, g11, e0, E⟩ := obvE E
    refine Sv.mono (sX8_task (f := f + 1) hF e0) (fun h8 g8 hq => ?_)
    obtain ⟨rfl, rfl⟩ := hq
    obtain ⟨z0, E⟩ := gdE E; refine ⟨vinE z0, ?_⟩
    obtain ⟨h12, g13, e0, E⟩ := obvE E
    refine Sv.mono (sX8_task (f := f + 1) hF e0) (fun h8 g8 hq => ?_)
    obtain ⟨rfl, rfl⟩ := hq
    cases E; exact ⟨rfl, rfl⟩
  · replace E := iteF (by rw [c0]; decide) E
    replace E := iteF (by rw [c0]; decide) E
    replace E := iteF (by rw [c0]; decide) E
    replace E := iteT c0 E
    obtain ⟨z0, E⟩ := gdE E; refine ⟨vinE z0, ?_⟩
    obtain ⟨h14, g15, e0, E⟩ := obvE E
    refine Sv.mono (sX8_task (f := f + 1) hF e0) (fun h8 g8 hq => ?_)
    obtain ⟨rfl, rfl⟩ := hq
    obtain ⟨h16, g17, e0, E⟩ := obvE E
    refine Sv.mono (sX8_task (f := f + 1) hF e0) (fun h8 g8 hq => ?_)
    obtain ⟨rfl, rfl⟩ := hq
    obtain ⟨z0, E⟩ := gdE E; refine ⟨vinE z0, ?_⟩
    obtain ⟨z0, E⟩ := gdE E; refine ⟨vinE z0, ?_⟩
    refine ⟨fun c0 => ?_, fun c0 => ?_⟩
    · replace E := iteF c0 E
      obtain ⟨h18, g19, e0, E⟩ := obvE E
      refine Sv.mono (sX8_task (f := f + 1) hF e0) (fun h8 g8 hq => ?_)
      obtain ⟨rfl, rfl⟩ := hq
      cases E; exact ⟨rfl, rfl⟩
    · replace E := iteT c0 E
      obtain ⟨h20, g21, e0, E⟩ := obvE E
      refine Sv.mono (sX8_task (f := f + 1) hF e0) (fun h8 g8 hq => ?_)
      obtain ⟨rfl, rfl⟩ := hq
      cases E; exact ⟨rfl, rfl⟩
  · replace E := iteF (by rw [c0]; decide) E
    replace E := iteF (by rw [c0]; decide) E
    replace E := iteF (by rw [c0]; decide) E
    replace E := iteF (by rw [c0]; decide) E
    replace E := iteT c0 E
    obtain ⟨z0, E⟩ := gdE E; refine ⟨vinE z0, ?_⟩
    obtain ⟨h22, g23, e0, E⟩ := obvE E
    refine Sv.mono (sX8_task (f := f + 1) hF e0) (fun h8 g8 hq => ?_)
    obtain ⟨rfl, rfl⟩ := hq
    obtain ⟨h24, g25, e0, E⟩ := obvE E
    refine Sv.mono (sX8_task (f := f + 1) hF e0) (fun h8 g8 hq => ?_)
    obtain ⟨rfl, rfl⟩ := hq
    obtain ⟨z0, E⟩ := gdE E; refine ⟨vinE z0, ?_⟩
    obtain ⟨z0, E⟩ := gdE E; refine ⟨vinE z0, ?_⟩
    refine ⟨fun c0 => ?_, fun c0 => ?_⟩
    · replace E := iteF c0 E
      obtain ⟨h26, g27, e0, E⟩ := obvE E
      refine Sv.mono (sX8_task (f := f + 1) hF e0) (fun h8 g8 hq => ?_)
      obtain ⟨rfl, rfl⟩ := hq
      cases E; exact ⟨rfl, rfl⟩
    · replace E := iteT c0 E
      obtain ⟨h28, g29, e0, E⟩ := obvE E
      refine Sv.mono (sX8_task (f := f + 1) hF e0) (fun h8 g8 hq => ?_)
      obtain ⟨rfl, rfl⟩ := hq
      cases E; exact ⟨rfl, rfl⟩
  · replace E := iteF (by rw [c0]; decide) E
    replace E := iteF (by rw [c0]; decide) E
    replace E := iteF (by rw [c0]; decide) E
    replace E := iteF (by rw [c0]; decide) E
    replace E := iteF (by rw [c0]; decide) E
    replace E := iteT c0 E
    cases E; exact ⟨rfl, rfl⟩
  · replace E := iteF (by rw [c0]; decide) E
    replace E := iteF (by rw [c0]; decide) E
    replace E := iteF (by rw [c0]; decide) E
    replace E := iteF (by rw [c0]; decide) E
    replace E := iteF (by rw [c0]; decide) E
    replace E := iteF (by rw [c0]; decide) E
    replace E := iteT c0 E
    cases E; exact ⟨rfl, rfl⟩
  · replace E := iteF (by rw [c0]; decide) E
    replace E := iteF (by rw [c0]; decide) E
    replace E := iteF (by rw [c0]; decide) E
    replace E := iteF (by rw [c0]; decide) E
    replace E := iteF (by rw [c0]; decide) E
    replace E := iteF (by rw [c0]; decide) E
    replace E := iteF (by rw [c0]; decide) E
    replace E := iteT c0 E
    obtain ⟨z0, E⟩ := gdE E; refine ⟨vinE z0, ?_⟩
    obtain ⟨y32, h30, g31, e0, E⟩ := obiE E
    refine Si.mono (sX8_meant (f := f + 2) hF e0) (fun y8 h8 g8 hq => ?_)
    obtain ⟨rfl, rfl, rfl⟩ := hq
    refine ⟨fun c0 => ?_, fun c0 => ?_⟩
    · replace E := iteF c0 E
      exact jX8_onJudge_91 hF  _ _ _ _ E
    · replace E := iteT c0 E
      obtain ⟨z0, E⟩ := gdE E; refine ⟨vinE z0, ?_⟩
      obtain ⟨h33, g34, e0, E⟩ := obvE E
      refine Sv.mono (sX8_stop (f := f + 2) hF e0) (fun h8 g8 hq => ?_)
      obtain ⟨rfl, rfl⟩ := hq
      exact jX8_onJudge_91 hF  _ _ _ _ E
  · replace E := iteF (by rw [c0]; decide) E
    replace E := iteF (by rw [c0]; decide) E
    replace E := iteF (by rw [c0]; decide) E
    replace E := iteF (by rw [c0]; decide) E
    replace E := iteF (by rw [c0]; decide) E
    replace E := iteF (by rw [c0]; decide) E
    replace E := iteF (by rw [c0]; decide) E
    replace E := iteF (by rw [c0]; decide) E
    replace E := iteT c0 E
    obtain ⟨h35, g36, e0, E⟩ := obvE E
    refine Sv.mono (sX8_judgeCall (f := f) hF e0) (fun h8 g8 hq => ?_)
    obtain ⟨rfl, rfl⟩ := hq
    cases E; exact ⟨rfl, rfl⟩
  · replace E := iteF (by rw [c0]; decide) E
    replace E := iteF (by rw [c0]; decide) E
    replace E := iteF (by rw [c0]; decide) E
    replace E := iteF (by rw [c0]; decide) E
    replace E := iteF (by rw [c0]; decide) E
    replace E := iteF (by rw [c0]; decide) E
    replace E := iteF (by rw [c0]; decide) E
    replace E := iteF (by rw [c0]; decide) E
    replace E := iteF (by rw [c0]; decide) E
    obtain ⟨z0, E⟩ := gdE E; refine ⟨vinE z0, ?_⟩
    refine ⟨fun c0 => ?_, fun c0 => ?_⟩
    · replace E := iteT c0 E
      exact jX8_onJudge_239 hF  _ _ _ _ _ _ _ E
    · replace E := iteF c0 E
      obtain ⟨y39, h37, g38, e0, E⟩ := obiE E
      refine Si.mono (sX8_secondOf (f := f + 2) hF e0) (fun y8 h8 g8 hq => ?_)
      obtain ⟨rfl, rfl, rfl⟩ := hq
      exact jX8_onJudge_239 hF  _ _ _ _ _ _ _ E
abbrev pX8_onJudge (N : Nat) (x1 : Int32) (x2 : Int32) (h : HI) (g : HL) : Option (HI × HL) := pX8_onJudge_0 N x1 x2 h g
theorem sX8_onJudge {D : DE} {f : Nat} {F : Frm} (hF : k_Fix F) {N : Nat} {h9 : HI} {g9 : HL} {x1 : Int32} {x2 : Int32} {h : HI} {g : HL} (E : pX8_onJudge N x1 x2 h g = some (h9, g9)) : Sv D (f + 3) mX8_onJudge [.ref (ad D 115), .int x1, .int x2] F h g (eqv h9 g9) := wX8_onJudge (f := (f + 2)) hF _ _ (jX8_onJudge_0 hF _ _ _ _ E)
def pX8_onShut_202 (N : Nat) (x1 : Int32) (x4 : Int32) (h : HI) (g : HL) : Option (HI × HL) :=
  gd (vin x1 2002) <|
  bnd (up2 h 129 (ix x1) x4) fun (h1 : HI) =>
  some (h1, g)
theorem jX8_onShut_202 {D : DE} {f : Nat} {F : Frm} (hF : k_Fix F) {N : Nat} {h9 : HI} {g9 : HL}  : ∀ (x1 : Int32) (x4 : Int32) (h : HI) (g : HL), pX8_onShut_202 N x1 x4 h g = some (h9, g9) → JX8_onShut_202 D f (eqv h9 g9) F h g x1 x4 := by
  intro x1 x4 h g E
  unfold pX8_onShut_202 at E
  obtain ⟨z0, E⟩ := gdE E; refine ⟨vinE z0, ?_⟩
  intro h1 e0; replace E := bndE e0 E
  cases E; exact ⟨rfl, rfl⟩
def pX8_onShut_191 (N : Nat) (x1 : Int32) (x4 : Int32) (h : HI) (g : HL) : Option (HI × HL) :=
  gd (vin x1 2002) <|
  obv (pX8_stop N 5 (h 128 (ix x1)) h g) fun (h1 : HI) (g2 : HL) =>
  pX8_onShut_202 N x1 x4 h1 g2
theorem jX8_onShut_191 {D : DE} {f : Nat} {F : Frm} (hF : k_Fix F) {N : Nat} {h9 : HI} {g9 : HL}  : ∀ (x1 : Int32) (x4 : Int32) (h : HI) (g : HL), pX8_onShut_191 N x1 x4 h g = some (h9, g9) → JX8_onShut_191 D f (eqv h9 g9) F h g x1 x4 := by
  intro x1 x4 h g E
  unfold pX8_onShut_191 at E
  obtain ⟨z0, E⟩ := gdE E; refine ⟨vinE z0, ?_⟩
  obtain ⟨h1, g2, e0, E⟩ := obvE E
  refine Sv.mono (sX8_stop (f := f) hF e0) (fun h8 g8 hq => ?_)
  obtain ⟨rfl, rfl⟩ := hq
  exact jX8_onShut_202 hF  _ _ _ _ E
def pX8_onShut_180 (N : Nat) (x1 : Int32) (x2 : Int32) (x4 : Int32) (h : HI) (g : HL) : Option (HI × HL) :=
  if x2 = (-2) then
    if x4 = 0 then
      pX8_onShut_191 N x1 x4 h g
    else
      pX8_onShut_202 N x1 x4 h g
  else
    pX8_onShut_202 N x1 x4 h g
theorem jX8_onShut_180 {D : DE} {f : Nat} {F : Frm} (hF : k_Fix F) {N : Nat} {h9 : HI} {g9 : HL}  : ∀ (x1 : Int32) (x2 : Int32) (x4 : Int32) (h : HI) (g : HL), pX8_onShut_180 N x1 x2 x4 h g = some (h9, g9) → JX8_onShut_180 D f (eqv h9 g9) F h g x1 x2 x4 := by
  intro x1 x2 x4 h g E
  unfold pX8_onShut_180 at E
  refine ⟨fun c0 => ?_, fun c0 => ?_⟩
  · replace E := iteF c0 E
    exact jX8_onShut_202 hF  _ _ _ _ E
  · replace E := iteT c0 E
    refine ⟨fun c0 => ?_, fun c0 => ?_⟩
    · replace E := iteF c0 E
      exact jX8_onShut_202 hF  _ _ _ _ E
    · replace E := iteT c0 E
      exact jX8_onShut_191 hF  _ _ _ _ E
def pX8_onShut_162 (N : Nat) (x1 : Int32) (x2 : Int32) (s0 : Int32) (h : HI) (g : HL) : Option (HI × HL) :=
  if s0 = (-1) then
    pX8_onShut_191 N x1 s0 h g
  else
    if x2 < 0 then
      pX8_onShut_180 N x1 x2 s0 h g
    else
      if s0 = x2 then
        pX8_onShut_180 N x1 x2 s0 h g
      else
        pX8_onShut_191 N x1 s0 h g
theorem jX8_onShut_162 {D : DE} {f : Nat} {F : Frm} (hF : k_Fix F) {N : Nat} {h9 : HI} {g9 : HL}  : ∀ (x1 : Int32) (x2 : Int32) (s0 : Int32) (h : HI) (g : HL), pX8_onShut_162 N x1 x2 s0 h g = some (h9, g9) → JX8_onShut_162 D f (eqv h9 g9) F h g x1 x2 s0 := by
  intro x1 x2 s0 h g E
  unfold pX8_onShut_162 at E
  refine ⟨fun c0 => ?_, fun c0 => ?_⟩
  · replace E := iteT c0 E
    exact jX8_onShut_191 hF  _ _ _ _ E
  · replace E := iteF c0 E
    refine ⟨fun c0 => ?_, fun c0 => ?_⟩
    · replace E := iteT c0 E
      exact jX8_onShut_180 hF  _ _ _ _ _ E
    · replace E := iteF c0 E
      refine ⟨fun c0 => ?_, fun c0 => ?_⟩
      · replace E := iteF c0 E
        exact jX8_onShut_191 hF  _ _ _ _ E
      · replace E := iteT c0 E
        exact jX8_onShut_180 hF  _ _ _ _ _ E
def pX8_onShut_93 (N : Nat) (x1 : Int32) (x2 : Int32) (h : HI) (g : HL) : Option (HI × HL) :=
  gd (vin x1 2002) <|
  gd (vin (h 126 (ix x1)) 2002) <|
  pX8_onShut_162 N x1 x2 (h 129 (ix (h 126 (ix x1)))) h g
theorem jX8_onShut_93 {D : DE} {f : Nat} {F : Frm} (hF : k_Fix F) {N : Nat} {h9 : HI} {g9 : HL}  : ∀ (x1 : Int32) (x2 : Int32) (h : HI) (g : HL), pX8_onShut_93 N x1 x2 h g = some (h9, g9) → JX8_onShut_93 D f (eqv h9 g9) F h g x1 x2 := by
  intro x1 x2 h g E
  unfold pX8_onShut_93 at E
  obtain ⟨z0, E⟩ := gdE E; refine ⟨vinE z0, ?_⟩
  obtain ⟨z0, E⟩ := gdE E; refine ⟨vinE z0, ?_⟩
  exact jX8_onShut_162 hF  _ _ _ _ _ E
def pX8_onShut_31 (N : Nat) (x1 : Int32) (x2 : Int32) (x3 : Int32) (s1 : Int32) (s2 : Int32) (h : HI) (g : HL) : Option (HI × HL) :=
  bnd (up2 h 115 44 (s1 - s2)) fun (h1 : HI) =>
  if x3 = 6 then
    gd (vin x1 2002) <|
    pX8_onShut_162 N x1 x2 (h1 125 (ix x1)) h1 g
  else
    if x3 = 7 then
      gd (vin x1 2002) <|
      gd (vin ((16 * (h1 115 33)) + (h1 125 (ix x1))) 384) <|
      bnd (h1 123 (ix ((16 * (h1 115 33)) + (h1 125 (ix x1))))) fun (y5 : Int32) =>
      pX8_onShut_162 N x1 x2 y5 h1 g
    else
      if x3 = 2 then
        pX8_onShut_93 N x1 x2 h1 g
      else
        if x3 = 3 then
          pX8_onShut_93 N x1 x2 h1 g
        else
          if x3 = 4 then
            pX8_onShut_93 N x1 x2 h1 g
          else
            if x3 = 8 then
              gd (vin x1 2002) <|
              gd (vin (h1 127 (ix x1)) 24) <|
              pX8_onShut_162 N x1 x2 (h1 118 (ix (h1 127 (ix x1)))) h1 g
            else
              if x3 = 9 then
                gd (vin x1 2002) <|
                gd (vin (h1 125 (ix x1)) 2002) <|
                gd (vin x1 2002) <|
                gd (vin (h1 126 (ix x1)) 2002) <|
                obi (pX8_pairOf N (h1 129 (ix (h1 125 (ix x1)))) (h1 129 (ix (h1 126 (ix x1)))) h1 g) fun (y4 : Int32) (h2 : HI) (g3 : HL) =>
                pX8_onShut_162 N x1 x2 y4 h2 g3
              else
                pX8_onShut_162 N x1 x2 0 h1 g
theorem jX8_onShut_31 {D : DE} {f : Nat} {F : Frm} (hF : k_Fix F) {N : Nat} {h9 : HI} {g9 : HL}  : ∀ (x1 : Int32) (x2 : Int32) (x3 : Int32) (s1 : Int32) (s2 : Int32) (h : HI) (g : HL), pX8_onShut_31 N x1 x2 x3 s1 s2 h g = some (h9, g9) → JX8_onShut_31 D f (eqv h9 g9) F h g x1 x2 x3 s1 s2 := by
  intro x1 x2 x3 s1 s2 h g E
  unfold pX8_onShut_31 at E
  intro h1 e0; replace E := bndE e0 E
  refine ⟨fun c0 => ?_, fun c0 => ?_⟩
  · replace E := iteF c0 E
    refine ⟨fun c0 => ?_, fun c0 => ?_⟩
    · replace E := iteF c0 E
      refine ⟨fun c0 => ?_, fun c0 => ?_⟩
      · replace E := iteT c0 E
        exact jX8_onShut_93 hF  _ _ _ _ E
      · replace E := iteF c0 E
        refine ⟨fun c0 => ?_, fun c0 => ?_⟩
        · replace E := iteT c0 E
          exact jX8_onShut_93 hF  _ _ _ _ E
        · replace E := iteF c0 E
          refine ⟨fun c0 => ?_, fun c0 => ?_⟩
          · replace E := iteF c0 E
            refine ⟨fun c0 => ?_, fun c0 => ?_⟩
            · replace E := iteF c0 E
              refine ⟨fun c0 => ?_, fun c0 => ?_⟩
              · replace E := iteF c0 E
                exact jX8_onShut_162 hF  _ _ _ _ _ E
              · replace E := iteT c0 E
                obtain ⟨z0, E⟩ := gdE E; refine ⟨vinE z0, ?_⟩
                obtain ⟨z0, E⟩ := gdE E; refine ⟨vinE z0, ?_⟩
                obtain ⟨z0, E⟩ := gdE E; refine ⟨vinE z0, ?_⟩
                obtain ⟨z0, E⟩ := gdE E; refine ⟨vinE z0, ?_⟩
                obtain ⟨y4, h2, g3, e0, E⟩ := obiE E
                refine Si.mono (sX8_pairOf (f := f) hF e0) (fun y8 h8 g8 hq => ?_)
                obtain ⟨rfl, rfl, rfl⟩ := hq
                exact jX8_onShut_162 hF  _ _ _ _ _ E
            · replace E := iteT c0 E
              obtain ⟨z0, E⟩ := gdE E; refine ⟨vinE z0, ?_⟩
              obtain ⟨z0, E⟩ := gdE E; refine ⟨vinE z0, ?_⟩
              exact jX8_onShut_162 hF  _ _ _ _ _ E
          · replace E := iteT c0 E
            exact jX8_onShut_93 hF  _ _ _ _ E
    · replace E := iteT c0 E
      obtain ⟨z0, E⟩ := gdE E; refine ⟨vinE z0, ?_⟩
      obtain ⟨z0, E⟩ := gdE E; refine ⟨vinE z0, ?_⟩
      intro y5 e0; replace E := bndE e0 E
      exact jX8_onShut_162 hF  _ _ _ _ _ E
  · replace E := iteT c0 E
    obtain ⟨z0, E⟩ := gdE E; refine ⟨vinE z0, ?_⟩
    exact jX8_onShut_162 hF  _ _ _ _ _ E
def pX8_onShut_0 (N : Nat) (x1 : Int32) (x2 : Int32) (h : HI) (g : HL) : Option (HI × HL) :=
  gd (vin x1 2002) <|
  bnd (h 124 (ix x1)) fun (y1 : Int32) =>
  if y1 = 3 then
    pX8_onShut_31 N x1 x2 y1 (h 115 44) 1 h g
  else
    if y1 = 4 then
      pX8_onShut_31 N x1 x2 y1 (h 115 44) 2 h g
    else
      pX8_onShut_31 N x1 x2 y1 (h 115 44) 0 h g
theorem jX8_onShut_0 {D : DE} {f : Nat} {F : Frm} (hF : k_Fix F) {N : Nat} {h9 : HI} {g9 : HL}  : ∀ (x1 : Int32) (x2 : Int32) (h : HI) (g : HL), pX8_onShut_0 N x1 x2 h g = some (h9, g9) → JX8_onShut_0 D f (eqv h9 g9) F h g x1 x2 := by
  intro x1 x2 h g E
  unfold pX8_onShut_0 at E
  obtain ⟨z0, E⟩ := gdE E; refine ⟨vinE z0, ?_⟩
  intro y1 e0; replace E := bndE e0 E
  refine ⟨fun c0 => ?_, fun c0 => ?_⟩
  · replace E := iteF c0 E
    refine ⟨fun c0 => ?_, fun c0 => ?_⟩
    · replace E := iteF c0 E
      exact jX8_onShut_31 hF  _ _ _ _ _ _ _ E
    · replace E := iteT c0 E
      exact jX8_onShut_31 hF  _ _ _ _ _ _ _ E
  · replace E := iteT c0 E
    exact jX8_onShut_31 hF  _ _ _ _ _ _ _ E
abbrev pX8_onShut (N : Nat) (x1 : Int32) (x2 : Int32) (h : HI) (g : HL) : Option (HI × HL) := pX8_onShut_0 N x1 x2 h g
theorem sX8_onShut {D : DE} {f : Nat} {F : Frm} (hF : k_Fix F) {N : Nat} {h9 : HI} {g9 : HL} {x1 : Int32} {x2 : Int32} {h : HI} {g : HL} (E : pX8_onShut N x1 x2 h g = some (h9, g9)) : Sv D (f + 1) mX8_onShut [.ref (ad D 115), .int x1, .int x2] F h g (eqv h9 g9) := wX8_onShut (f := f) hF _ _ (jX8_onShut_0 hF _ _ _ _ E)
def pX8_judge_271 (N : Nat) (K71 : HI → HL → Option (HI × HL)) (h : HI) (g : HL) : Option (HI × HL) :=
  K71 h g
theorem jX8_judge_271 {D : DE} {f : Nat} {F : Frm} (hF : k_Fix F) {N : Nat} {K71 : HI → HL → Option (HI × HL)} {h9 : HI} {g9 : HL} (hK71 : ∀ (h : HI) (g : HL), K71 h g = some (h9, g9) → V D mX8_judge (f + 4) (qv F (eqv h9 g9)) 71 [(0, .ref (ad D 115))] [] (F, h, g)) : ∀ (h : HI) (g : HL), pX8_judge_271 N K71 h g = some (h9, g9) → JX8_judge_271 D (f + 3) (eqv h9 g9) F h g  := by
  intro h g E
  unfold pX8_judge_271 at E
  exact hK71 _ _ E
def pX8_judge_262 (N : Nat) (K71 : HI → HL → Option (HI × HL)) (h : HI) (g : HL) : Option (HI × HL) :=
  pX8_judge_271 N K71 h g
theorem jX8_judge_262 {D : DE} {f : Nat} {F : Frm} (hF : k_Fix F) {N : Nat} {K71 : HI → HL → Option (HI × HL)} {h9 : HI} {g9 : HL} (hK71 : ∀ (h : HI) (g : HL), K71 h g = some (h9, g9) → V D mX8_judge (f + 4) (qv F (eqv h9 g9)) 71 [(0, .ref (ad D 115))] [] (F, h, g)) : ∀ (h : HI) (g : HL), pX8_judge_262 N K71 h g = some (h9, g9) → JX8_judge_262 D (f + 3) (eqv h9 g9) F h g  := by
  intro h g E
  unfold pX8_judge_262 at E
  exact jX8_judge_271 hF hK71 _ _ E
def pX8_judge_233 (N : Nat) (K71 : HI → HL → Option (HI × HL)) (x1 : Int32) (x3 : Int32) (s1 : Int32) (s2 : Int32) (h : HI) (g : HL) : Option (HI × HL) :=
  obv (pX8_tells N s1 s2 h g) fun (h1 : HI) (g2 : HL) =>
  gd (vin x1 2002) <|
  if (h1 124 (ix x1)) = 4 then
    gd (vin x1 2002) <|
    obi (pX8_secondOf N x3 h1 g2) fun (y5 : Int32) (h3 : HI) (g4 : HL) =>
    obv (pX8_tells N ((h1 127 (ix x1)) + 1) y5 h3 g4) fun (h6 : HI) (g7 : HL) =>
    pX8_judge_262 N K71 h6 g7
  else
    pX8_judge_262 N K71 h1 g2
theorem jX8_judge_233 {D : DE} {f : Nat} {F : Frm} (hF : k_Fix F) {N : Nat} {K71 : HI → HL → Option (HI × HL)} {h9 : HI} {g9 : HL} (hK71 : ∀ (h : HI) (g : HL), K71 h g = some (h9, g9) → V D mX8_judge (f + 4) (qv F (eqv h9 g9)) 71 [(0, .ref (ad D 115))] [] (F, h, g)) : ∀ (x1 : Int32) (x3 : Int32) (s1 : Int32) (s2 : Int32) (h : HI) (g : HL), pX8_judge_233 N K71 x1 x3 s1 s2 h g = some (h9, g9) → JX8_judge_233 D (f + 3) (eqv h9 g9) F h g x1 x3 s1 s2 := by
  intro x1 x3 s1 s2 h g E
  unfold pX8_judge_233 at E
  obtain ⟨h1, g2, e0, E⟩ := obvE E
  refine Sv.mono (sX8_tells (f := f + 3) hF e0) (fun h8 g8 hq => ?_)
  obtain ⟨rfl, rfl⟩ := hq
  obtain ⟨z0, E⟩ := gdE E; refine ⟨vinE z0, ?_⟩
  refine ⟨fun c0 => ?_, fun c0 => ?_⟩
  · replace E := iteF c0 E
    exact jX8_judge_262 hF hK71 _ _ E
  · replace E := iteT c0 E
    obtain ⟨z0, E⟩ := gdE E; refine ⟨vinE z0, ?_⟩
    obtain ⟨y5, h3, g4, e0, E⟩ := obiE E
    refine Si.mono (sX8_secondOf (f := f + 3) hF e0) (fun y8 h8 g8 hq => ?_)
    obtain ⟨rfl, rfl, rfl⟩ := hq
    obtain ⟨h6, g7, e0, E⟩ := obvE E
    refine Sv.mono (sX8_tells (f := f + 3) hF e0) (fun h8 g8 hq => ?_)
    obtain ⟨rfl, rfl⟩ := hq
    exact jX8_judge_262 hF hK71 _ _ E
def pX8_judge_177 (N : Nat) (K71 : HI → HL → Option (HI × HL)) (s1 : Int32) (s2 : Int32) (s3 : Int32) (h : HI) (g : HL) : Option (HI × HL) :=
  obv (pX8_task N s1 s2 s3 h g) fun (h1 : HI) (g2 : HL) =>
  pX8_judge_271 N K71 h1 g2
theorem jX8_judge_177 {D : DE} {f : Nat} {F : Frm} (hF : k_Fix F) {N : Nat} {K71 : HI → HL → Option (HI × HL)} {h9 : HI} {g9 : HL} (hK71 : ∀ (h : HI) (g : HL), K71 h g = some (h9, g9) → V D mX8_judge (f + 4) (qv F (eqv h9 g9)) 71 [(0, .ref (ad D 115))] [] (F, h, g)) : ∀ (s1 : Int32) (s2 : Int32) (s3 : Int32) (h : HI) (g : HL), pX8_judge_177 N K71 s1 s2 s3 h g = some (h9, g9) → JX8_judge_177 D (f + 3) (eqv h9 g9) F h g s1 s2 s3 := by
  intro s1 s2 s3 h g E
  unfold pX8_judge_177 at E
  obtain ⟨h1, g2, e0, E⟩ := obvE E
  refine Sv.mono (sX8_task (f := f + 2) hF e0) (fun h8 g8 hq => ?_)
  obtain ⟨rfl, rfl⟩ := hq
  exact jX8_judge_271 hF hK71 _ _ E
def pX8_judge_71 (N : Nat) : Nat → HI → HL → Option (HI × HL)
  | 0, _, _ => none
  | n + 1, h, g =>
    if (h 115 36) ≤ 0 then
      some (h, g)
    else
      if (h 115 9) = 0 then
        bnd (up2 h 115 36 ((h 115 36) - 1)) fun (h1 : HI) =>
        gd (vin (h1 115 36) 3000) <|
        bnd (h1 135 (ix (h1 115 36))) fun (y2 : Int32) =>
        gd (vin (h1 115 36) 3000) <|
        bnd (h1 138 (ix (h1 115 36))) fun (y3 : Int32) =>
        gd (vin (h1 115 36) 3000) <|
        if (h1 134 (ix (h1 115 36))) = 1 then
          obv (pX8_onJudge N y2 y3 h1 g) fun (h10 : HI) (g11 : HL) =>
          pX8_judge_271 N (pX8_judge_71 N n) h10 g11
        else
          gd (vin (h1 115 36) 3000) <|
          if (h1 134 (ix (h1 115 36))) = 2 then
            gd (vin y2 2002) <|
            if 0 ≤ y3 then
              pX8_judge_177 N (pX8_judge_71 N n) 1 (h1 127 (ix y2)) y3 h1 g
            else
              gd (vin y2 2002) <|
              gd (vin (h1 126 (ix y2)) 2002) <|
              pX8_judge_177 N (pX8_judge_71 N n) 1 (h1 127 (ix y2)) (h1 129 (ix (h1 126 (ix y2)))) h1 g
          else
            gd (vin (h1 115 36) 3000) <|
            if (h1 134 (ix (h1 115 36))) = 3 then
              gd (vin y2 2002) <|
              gd (vin (h1 125 (ix y2)) 2002) <|
              bnd (h1 129 (ix (h1 125 (ix y2)))) fun (y6 : Int32) =>
              gd (vin y2 2002) <|
              gd (vin y2 2002) <|
              if (h1 124 (ix y2)) = 3 then
                pX8_judge_233 N (pX8_judge_71 N n) y2 y6 (h1 127 (ix y2)) y6 h1 g
              else
                obi (pX8_firstOf N y6 h1 g) fun (y9 : Int32) (h7 : HI) (g8 : HL) =>
                pX8_judge_233 N (pX8_judge_71 N n) y2 y6 (h1 127 (ix y2)) y9 h7 g8
            else
              obv (pX8_onShut N y2 y3 h1 g) fun (h4 : HI) (g5 : HL) =>
              pX8_judge_271 N (pX8_judge_71 N n) h4 g5
      else
        some (h, g)
theorem lX8_judge_71 {D : DE} {f : Nat} {F : Frm} (hF : k_Fix F) {N : Nat} {h9 : HI} {g9 : HL}  : ∀ (n : Nat) (h : HI) (g : HL), pX8_judge_71 N n h g = some (h9, g9) → V D mX8_judge (f + 4) (qv F (eqv h9 g9)) 71 [(0, .ref (ad D 115))] [] (F, h, g) := by
  intro n
  induction n with
  | zero => intro h g E; cases E
  | succ n hK71 =>
    intro h g E
    rw [pX8_judge_71] at E
    refine bX8_judge_71 (f := (f + 3)) hF  ?_
    refine ⟨fun c0 => ?_, fun c0 => ?_⟩
    · replace E := iteT c0 E
      cases E; exact ⟨rfl, rfl⟩
    · replace E := iteF c0 E
      refine ⟨fun c0 => ?_, fun c0 => ?_⟩
      · replace E := iteF c0 E
        cases E; exact ⟨rfl, rfl⟩
      · replace E := iteT c0 E
        intro h1 e0; replace E := bndE e0 E
        obtain ⟨z0, E⟩ := gdE E; refine ⟨vinE z0, ?_⟩
        intro y2 e0; replace E := bndE e0 E
        obtain ⟨z0, E⟩ := gdE E; refine ⟨vinE z0, ?_⟩
        intro y3 e0; replace E := bndE e0 E
        obtain ⟨z0, E⟩ := gdE E; refine ⟨vinE z0, ?_⟩
        refine ⟨fun c0 => ?_, fun c0 => ?_⟩
        · replace E := iteF c0 E
          obtain ⟨z0, E⟩ := gdE E; refine ⟨vinE z0, ?_⟩
          refine ⟨fun c0 => ?_, fun c0 => ?_⟩
          · replace E := iteF c0 E
            obtain ⟨z0, E⟩ := gdE E; refine ⟨vinE z0, ?_⟩
            refine ⟨fun c0 => ?_, fun c0 => ?_⟩
            · replace E := iteF c0 E
              obtain ⟨h4, g5, e0, E⟩ := obvE E
              refine Sv.mono (sX8_onShut (f := f + 2) hF e0) (fun h8 g8 hq => ?_)
              obtain ⟨rfl, rfl⟩ := hq
              exact jX8_judge_271 hF hK71 _ _ E
            · replace E := iteT c0 E
              obtain ⟨z0, E⟩ := gdE E; refine ⟨vinE z0, ?_⟩
              obtain ⟨z0, E⟩ := gdE E; refine ⟨vinE z0, ?_⟩
              intro y6 e0; replace E := bndE e0 E
              obtain ⟨z0, E⟩ := gdE E; refine ⟨vinE z0, ?_⟩
              obtain ⟨z0, E⟩ := gdE E; refine ⟨vinE z0, ?_⟩
              refine ⟨fun c0 => ?_, fun c0 => ?_⟩
              · replace E := iteF c0 E
                obtain ⟨y9, h7, g8, e0, E⟩ := obiE E
                refine Si.mono (sX8_firstOf (f := f + 3) hF e0) (fun y8 h8 g8 hq => ?_)
                obtain ⟨rfl, rfl, rfl⟩ := hq
                exact jX8_judge_233 hF hK71 _ _ _ _ _ _ E
              · replace E := iteT c0 E
                exact jX8_judge_233 hF hK71 _ _ _ _ _ _ E
          · replace E := iteT c0 E
            obtain ⟨z0, E⟩ := gdE E; refine ⟨vinE z0, ?_⟩
            refine ⟨fun c0 => ?_, fun c0 => ?_⟩
            · replace E := iteT c0 E
              exact jX8_judge_177 hF hK71 _ _ _ _ _ E
            · replace E := iteF c0 E
              obtain ⟨z0, E⟩ := gdE E; refine ⟨vinE z0, ?_⟩
              obtain ⟨z0, E⟩ := gdE E; refine ⟨vinE z0, ?_⟩
              exact jX8_judge_177 hF hK71 _ _ _ _ _ E
        · replace E := iteT c0 E
          obtain ⟨h10, g11, e0, E⟩ := obvE E
          refine Sv.mono (sX8_onJudge (f := f) hF e0) (fun h8 g8 hq => ?_)
          obtain ⟨rfl, rfl⟩ := hq
          exact jX8_judge_271 hF hK71 _ _ E
def pX8_judge_7 (N : Nat) : Nat → Int32 → HI → HL → Option (HI × HL)
  | 0, _, _, _ => none
  | n + 1, x1, h, g =>
    gd (vin (h 115 33) 24) <|
    if (h 119 (ix (h 115 33))) ≤ x1 then
      bnd (up2 h 115 36 0) fun (h1 : HI) =>
      gd (vin (h1 115 33) 24) <|
      gd (vin (h1 115 33) 24) <|
      obv (pX8_task N 1 (h1 121 (ix (h1 115 33))) (h1 118 (ix (h1 115 33))) h1 g) fun (h2 : HI) (g3 : HL) =>
      pX8_judge_71 N N h2 g3
    else
      gd (vin x1 16) <|
      bnd (up2 h 139 (ix x1) x1) fun (h4 : HI) =>
      bnd (up2 h4 115 44 ((h4 115 44) + 1)) fun (h5 : HI) =>
      bnd (x1 + 1) fun (y6 : Int32) =>
      (pX8_judge_7 N n) y6 h5 g
theorem lX8_judge_7 {D : DE} {f : Nat} {F : Frm} (hF : k_Fix F) {N : Nat} {h9 : HI} {g9 : HL}  : ∀ (n : Nat) (x1 : Int32) (h : HI) (g : HL), pX8_judge_7 N n x1 h g = some (h9, g9) → V D mX8_judge (f + 4) (qv F (eqv h9 g9)) 7 [(0, .ref (ad D 115)), (1, .int x1)] [] (F, h, g) := by
  intro n
  induction n with
  | zero => intro x1 h g E; cases E
  | succ n hK7 =>
    intro x1 h g E
    rw [pX8_judge_7] at E
    refine bX8_judge_7 (f := (f + 3)) hF x1 ?_
    obtain ⟨z0, E⟩ := gdE E; refine ⟨vinE z0, ?_⟩
    refine ⟨fun c0 => ?_, fun c0 => ?_⟩
    · replace E := iteT c0 E
      intro h1 e0; replace E := bndE e0 E
      obtain ⟨z0, E⟩ := gdE E; refine ⟨vinE z0, ?_⟩
      obtain ⟨z0, E⟩ := gdE E; refine ⟨vinE z0, ?_⟩
      obtain ⟨h2, g3, e0, E⟩ := obvE E
      refine Sv.mono (sX8_task (f := f + 2) hF e0) (fun h8 g8 hq => ?_)
      obtain ⟨rfl, rfl⟩ := hq
      exact lX8_judge_71 hF  N _ _ E
    · replace E := iteF c0 E
      obtain ⟨z0, E⟩ := gdE E; refine ⟨vinE z0, ?_⟩
      intro h4 e0; replace E := bndE e0 E
      intro h5 e0; replace E := bndE e0 E
      intro y6 e0; replace E := bndE e0 E
      exact hK7 _ _ _ E
def pX8_judge_0 (N : Nat) (h : HI) (g : HL) : Option (HI × HL) :=
  bnd (up2 h 115 44 0) fun (h1 : HI) =>
  pX8_judge_7 N N 0 h1 g
theorem jX8_judge_0 {D : DE} {f : Nat} {F : Frm} (hF : k_Fix F) {N : Nat} {h9 : HI} {g9 : HL}  : ∀ (h : HI) (g : HL), pX8_judge_0 N h g = some (h9, g9) → JX8_judge_0 D (f + 3) (eqv h9 g9) F h g  := by
  intro h g E
  unfold pX8_judge_0 at E
  intro h1 e0; replace E := bndE e0 E
  exact lX8_judge_7 hF  N _ _ _ E
abbrev pX8_judge (N : Nat) (h : HI) (g : HL) : Option (HI × HL) := pX8_judge_0 N h g
theorem sX8_judge {D : DE} {f : Nat} {F : Frm} (hF : k_Fix F) {N : Nat} {h9 : HI} {g9 : HL} {h : HI} {g : HL} (E : pX8_judge N h g = some (h9, g9)) : Sv D (f + 4) mX8_judge [.ref (ad D 115)] F h g (eqv h9 g9) := wX8_judge (f := (f + 3)) hF  (jX8_judge_0 hF _ _ E)
def pX8_read_168 (N : Nat) (h : HI) (g : HL) : Option (Int32 × HI × HL) :=
  bnd (up2 h 115 2 0) fun (h1 : HI) =>
  if (h1 115 9) = 0 then
    bnd (up2 h1 115 47 (h1 115 27)) fun (h2 : HI) =>
    gd (vin (h2 115 47) 2) <|
    bnd (up2 h2 132 (ix (h2 115 47)) (h2 115 28)) fun (h3 : HI) =>
    bnd (up2 h3 115 45 1) fun (h4 : HI) =>
    bnd (up2 h4 115 46 0) fun (h5 : HI) =>
    bnd (up2 h5 115 75 (-1)) fun (h6 : HI) =>
    some ((h6 115 28), h6, g)
  else
    some ((-(h1 115 9)), h1, g)
theorem jX8_read_168 {D : DE} {f : Nat} {F : Frm} (hF : k_Fix F) {N : Nat} {y9 : Int32} {h9 : HI} {g9 : HL}  : ∀ (h : HI) (g : HL), pX8_read_168 N h g = some (y9, h9, g9) → JX8_read_168 D (f + 9) (eqi y9 h9 g9) F h g  := by
  intro h g E
  unfold pX8_read_168 at E
  intro h1 e0; replace E := bndE e0 E
  refine ⟨fun c0 => ?_, fun c0 => ?_⟩
  · replace E := iteT c0 E
    intro h2 e0; replace E := bndE e0 E
    obtain ⟨z0, E⟩ := gdE E; refine ⟨vinE z0, ?_⟩
    intro h3 e0; replace E := bndE e0 E
    intro h4 e0; replace E := bndE e0 E
    intro h5 e0; replace E := bndE e0 E
    intro h6 e0; replace E := bndE e0 E
    cases E; exact ⟨rfl, rfl, rfl⟩
  · replace E := iteF c0 E
    cases E; exact ⟨rfl, rfl, rfl⟩
def pX8_read_125 (N : Nat) : Nat → HI → HL → Option (Int32 × HI × HL)
  | 0, _, _ => none
  | n + 1, h, g =>
    if ((12 * (h 115 27)) + (h 115 28)) ≤ (h 115 33) then
      pX8_read_168 N h g
    else
      if (h 115 9) = 0 then
        obv (pX8_judge N h g) fun (h1 : HI) (g2 : HL) =>
        bnd (up2 h1 115 33 ((h1 115 33) + 1)) fun (h3 : HI) =>
        (pX8_read_125 N n) h3 g2
      else
        pX8_read_168 N h g
theorem lX8_read_125 {D : DE} {f : Nat} {F : Frm} (hF : k_Fix F) {N : Nat} {y9 : Int32} {h9 : HI} {g9 : HL}  : ∀ (n : Nat) (h : HI) (g : HL), pX8_read_125 N n h g = some (y9, h9, g9) → V D mX8_read (f + 10) (qi F (eqi y9 h9 g9)) 125 [(0, .ref (ad D 115))] [] (F, h, g) := by
  intro n
  induction n with
  | zero => intro h g E; cases E
  | succ n hK125 =>
    intro h g E
    rw [pX8_read_125] at E
    refine bX8_read_125 (f := (f + 9)) hF  ?_
    refine ⟨fun c0 => ?_, fun c0 => ?_⟩
    · replace E := iteT c0 E
      exact jX8_read_168 hF  _ _ E
    · replace E := iteF c0 E
      refine ⟨fun c0 => ?_, fun c0 => ?_⟩
      · replace E := iteF c0 E
        exact jX8_read_168 hF  _ _ E
      · replace E := iteT c0 E
        obtain ⟨h1, g2, e0, E⟩ := obvE E
        refine Sv.mono (sX8_judge (f := f + 5) hF e0) (fun h8 g8 hq => ?_)
        obtain ⟨rfl, rfl⟩ := hq
        intro h3 e0; replace E := bndE e0 E
        exact hK125 _ _ E
def pX8_read_114 (N : Nat) (h : HI) (g : HL) : Option (Int32 × HI × HL) :=
  bnd (up2 h 115 33 (12 * (h 115 27))) fun (h1 : HI) =>
  pX8_read_125 N N h1 g
theorem jX8_read_114 {D : DE} {f : Nat} {F : Frm} (hF : k_Fix F) {N : Nat} {y9 : Int32} {h9 : HI} {g9 : HL}  : ∀ (h : HI) (g : HL), pX8_read_114 N h g = some (y9, h9, g9) → JX8_read_114 D (f + 9) (eqi y9 h9 g9) F h g  := by
  intro h g E
  unfold pX8_read_114 at E
  intro h1 e0; replace E := bndE e0 E
  exact lX8_read_125 hF  N _ _ E
def pX8_read_91 (N : Nat) : Nat → HI → HL → Option (Int32 × HI × HL)
  | 0, _, _ => none
  | n + 1, h, g =>
    if (h 115 9) = 0 then
      if (h 115 4) = 23 then
        pX8_read_114 N h g
      else
        obv (pX8_definition N h g) fun (h1 : HI) (g2 : HL) =>
        (pX8_read_91 N n) h1 g2
    else
      pX8_read_114 N h g
theorem lX8_read_91 {D : DE} {f : Nat} {F : Frm} (hF : k_Fix F) {N : Nat} {y9 : Int32} {h9 : HI} {g9 : HL}  : ∀ (n : Nat) (h : HI) (g : HL), pX8_read_91 N n h g = some (y9, h9, g9) → V D mX8_read (f + 10) (qi F (eqi y9 h9 g9)) 91 [(0, .ref (ad D 115))] [] (F, h, g) := by
  intro n
  induction n with
  | zero => intro h g E; cases E
  | succ n hK91 =>
    intro h g E
    rw [pX8_read_91] at E
    refine bX8_read_91 (f := (f + 9)) hF  ?_
    refine ⟨fun c0 => ?_, fun c0 => ?_⟩
    · replace E := iteF c0 E
      exact jX8_read_114 hF  _ _ E
    · replace E := iteT c0 E
      refine ⟨fun c0 => ?_, fun c0 => ?_⟩
      · replace E := iteT c0 E
        exact jX8_read_114 hF  _ _ E
      · replace E := iteF c0 E
        obtain ⟨h1, g2, e0, E⟩ := obvE E
        refine Sv.mono (sX8_definition (f := f) hF e0) (fun h8 g8 hq => ?_)
        obtain ⟨rfl, rfl⟩ := hq
        exact hK91 _ _ E
def pX8_read_26 (N : Nat) (s1 : Int32) (h : HI) (g : HL) : Option (Int32 × HI × HL) :=
  bnd (up2 h 115 27 s1) fun (h1 : HI) =>
  bnd (up2 h1 115 28 0) fun (h2 : HI) =>
  bnd (up2 h2 115 29 (1001 * (h2 115 27))) fun (h3 : HI) =>
  bnd (up2 h3 115 30 (1001 * (h3 115 27))) fun (h4 : HI) =>
  bnd (up2 h4 115 32 0) fun (h5 : HI) =>
  bnd (up2 h5 115 3 0) fun (h6 : HI) =>
  bnd (up2 h6 115 6 0) fun (h7 : HI) =>
  bnd (up2 h7 115 9 0) fun (h8 : HI) =>
  bnd (up2 h8 115 10 (-1)) fun (h9 : HI) =>
  obv (pX8_next N h9 g) fun (h10 : HI) (g11 : HL) =>
  obv (pX8_definition N h10 g11) fun (h12 : HI) (g13 : HL) =>
  pX8_read_91 N N h12 g13
theorem jX8_read_26 {D : DE} {f : Nat} {F : Frm} (hF : k_Fix F) {N : Nat} {y9 : Int32} {h9 : HI} {g9 : HL}  : ∀ (s1 : Int32) (h : HI) (g : HL), pX8_read_26 N s1 h g = some (y9, h9, g9) → JX8_read_26 D (f + 9) (eqi y9 h9 g9) F h g s1 := by
  intro s1 h g E
  unfold pX8_read_26 at E
  intro h1 e0; replace E := bndE e0 E
  intro h2 e0; replace E := bndE e0 E
  intro h3 e0; replace E := bndE e0 E
  intro h4 e0; replace E := bndE e0 E
  intro h5 e0; replace E := bndE e0 E
  intro h6 e0; replace E := bndE e0 E
  intro h7 e0; replace E := bndE e0 E
  intro h8 e0; replace E := bndE e0 E
  intro h9 e0; replace E := bndE e0 E
  obtain ⟨h10, g11, e0, E⟩ := obvE E
  refine Sv.mono (sX8_next (f := f + 6) hF e0) (fun h8 g8 hq => ?_)
  obtain ⟨rfl, rfl⟩ := hq
  obtain ⟨h12, g13, e0, E⟩ := obvE E
  refine Sv.mono (sX8_definition (f := f) hF e0) (fun h8 g8 hq => ?_)
  obtain ⟨rfl, rfl⟩ := hq
  exact lX8_read_91 hF  N _ _ E
def pX8_read_0 (N : Nat) (h : HI) (g : HL) : Option (Int32 × HI × HL) :=
  bnd (up2 h 115 0 0) fun (h1 : HI) =>
  if (h1 115 45) = 0 then
    pX8_read_26 N (h1 115 47) h1 g
  else
    pX8_read_26 N (1 - (h1 115 47)) h1 g
theorem jX8_read_0 {D : DE} {f : Nat} {F : Frm} (hF : k_Fix F) {N : Nat} {y9 : Int32} {h9 : HI} {g9 : HL}  : ∀ (h : HI) (g : HL), pX8_read_0 N h g = some (y9, h9, g9) → JX8_read_0 D (f + 9) (eqi y9 h9 g9) F h g  := by
  intro h g E
  unfold pX8_read_0 at E
  intro h1 e0; replace E := bndE e0 E
  refine ⟨fun c0 => ?_, fun c0 => ?_⟩
  · replace E := iteT c0 E
    exact jX8_read_26 hF  _ _ _ E
  · replace E := iteF c0 E
    exact jX8_read_26 hF  _ _ _ E
abbrev pX8_read (N : Nat) (h : HI) (g : HL) : Option (Int32 × HI × HL) := pX8_read_0 N h g
theorem sX8_read {D : DE} {f : Nat} {F : Frm} (hF : k_Fix F) {N : Nat} {y9 : Int32} {h9 : HI} {g9 : HL} {h : HI} {g : HL} (E : pX8_read N h g = some (y9, h9, g9)) : Si D (f + 10) mX8_read [.ref (ad D 115)] F h g (eqi y9 h9 g9) := wX8_read (f := (f + 9)) hF  (jX8_read_0 hF _ _ E)
def pX8_place_0 (N : Nat) (h : HI) (g : HL) : Option (Int32 × HI × HL) :=
  bnd (up2 h 115 0 0) fun (h1 : HI) =>
  some ((h1 115 10), h1, g)
theorem jX8_place_0 {D : DE} {f : Nat} {F : Frm} (hF : k_Fix F) {N : Nat} {y9 : Int32} {h9 : HI} {g9 : HL}  : ∀ (h : HI) (g : HL), pX8_place_0 N h g = some (y9, h9, g9) → JX8_place_0 D f (eqi y9 h9 g9) F h g  := by
  intro h g E
  unfold pX8_place_0 at E
  intro h1 e0; replace E := bndE e0 E
  cases E; exact ⟨rfl, rfl, rfl⟩
abbrev pX8_place (N : Nat) (h : HI) (g : HL) : Option (Int32 × HI × HL) := pX8_place_0 N h g
theorem sX8_place {D : DE} {f : Nat} {F : Frm} (hF : k_Fix F) {N : Nat} {y9 : Int32} {h9 : HI} {g9 : HL} {h : HI} {g : HL} (E : pX8_place N h g = some (y9, h9, g9)) : Si D f mX8_place [.ref (ad D 115)] F h g (eqi y9 h9 g9) := wX8_place (f := f) hF  (jX8_place_0 hF _ _ E)
def pX8_isFn_0 (N : Nat) (x1 : Int32) (h : HI) (g : HL) : Option (Int32 × HI × HL) :=
  if (h 115 45) = 0 then
    some (0, h, g)
  else
    gd (vin (h 115 47) 2) <|
    obi (pX8_within N x1.toInt64 0 (((h 132 (ix (h 115 47))) - 1).toInt64) h g) fun (y3 : Int32) (h1 : HI) (g2 : HL) =>
    if y3 = 0 then
      some (0, h1, g2)
    else
      some (1, h1, g2)
theorem jX8_isFn_0 {D : DE} {f : Nat} {F : Frm} (hF : k_Fix F) {N : Nat} {y9 : Int32} {h9 : HI} {g9 : HL}  : ∀ (x1 : Int32) (h : HI) (g : HL), pX8_isFn_0 N x1 h g = some (y9, h9, g9) → JX8_isFn_0 D f (eqi y9 h9 g9) F h g x1 := by
  intro x1 h g E
  unfold pX8_isFn_0 at E
  refine ⟨fun c0 => ?_, fun c0 => ?_⟩
  · replace E := iteT c0 E
    cases E; exact ⟨rfl, rfl, rfl⟩
  · replace E := iteF c0 E
    obtain ⟨z0, E⟩ := gdE E; refine ⟨vinE z0, ?_⟩
    obtain ⟨y3, h1, g2, e0, E⟩ := obiE E
    refine Si.mono (sX8_within (f := f) hF e0) (fun y8 h8 g8 hq => ?_)
    obtain ⟨rfl, rfl, rfl⟩ := hq
    refine ⟨fun c0 => ?_, fun c0 => ?_⟩
    · replace E := iteT c0 E
      cases E; exact ⟨rfl, rfl, rfl⟩
    · replace E := iteF c0 E
      cases E; exact ⟨rfl, rfl, rfl⟩
abbrev pX8_isFn (N : Nat) (x1 : Int32) (h : HI) (g : HL) : Option (Int32 × HI × HL) := pX8_isFn_0 N x1 h g
theorem sX8_isFn {D : DE} {f : Nat} {F : Frm} (hF : k_Fix F) {N : Nat} {y9 : Int32} {h9 : HI} {g9 : HL} {x1 : Int32} {h : HI} {g : HL} (E : pX8_isFn N x1 h g = some (y9, h9, g9)) : Si D (f + 1) mX8_isFn [.ref (ad D 115), .int x1] F h g (eqi y9 h9 g9) := wX8_isFn (f := f) hF _ (jX8_isFn_0 hF _ _ _ E)
def pX8_function_54 (N : Nat) (x2 : Int32) (x3 : Int32) (s1 : Int32) (h : HI) (g : HL) : Option (Int32 × HI × HL) :=
  bnd (up2 h 115 0 s1) fun (h1 : HI) =>
  if (h1 115 0) ≤ 0 then
    if x2 = 0 then
      gd (vin x3 24) <|
      some ((h1 119 (ix x3)), h1, g)
    else
      if x2 = 1 then
        gd (vin x3 24) <|
        some ((h1 120 (ix x3)), h1, g)
      else
        if x2 = 2 then
          gd (vin x3 24) <|
          obi (pX8_demands N (h1 118 (ix x3)) h1 g) fun (y7 : Int32) (h5 : HI) (g6 : HL) =>
          some (y7, h5, g6)
        else
          gd (vin (((16 * x3) + x2) - 3) 384) <|
          obi (pX8_demands N (h1 123 (ix (((16 * x3) + x2) - 3))) h1 g) fun (y4 : Int32) (h2 : HI) (g3 : HL) =>
          some (y4, h2, g3)
  else
    some (0, h1, g)
theorem jX8_function_54 {D : DE} {f : Nat} {F : Frm} (hF : k_Fix F) {N : Nat} {y9 : Int32} {h9 : HI} {g9 : HL}  : ∀ (x2 : Int32) (x3 : Int32) (s1 : Int32) (h : HI) (g : HL), pX8_function_54 N x2 x3 s1 h g = some (y9, h9, g9) → JX8_function_54 D (f + 1) (eqi y9 h9 g9) F h g x2 x3 s1 := by
  intro x2 x3 s1 h g E
  unfold pX8_function_54 at E
  intro h1 e0; replace E := bndE e0 E
  refine ⟨fun c0 => ?_, fun c0 => ?_⟩
  · replace E := iteT c0 E
    refine ⟨fun c0 => ?_, fun c0 => ?_⟩
    · replace E := iteF c0 E
      refine ⟨fun c0 => ?_, fun c0 => ?_⟩
      · replace E := iteF c0 E
        refine ⟨fun c0 => ?_, fun c0 => ?_⟩
        · replace E := iteF c0 E
          obtain ⟨z0, E⟩ := gdE E; refine ⟨vinE z0, ?_⟩
          obtain ⟨y4, h2, g3, e0, E⟩ := obiE E
          refine Si.mono (sX8_demands (f := f + 1) hF e0) (fun y8 h8 g8 hq => ?_)
          obtain ⟨rfl, rfl, rfl⟩ := hq
          cases E; exact ⟨rfl, rfl, rfl⟩
        · replace E := iteT c0 E
          obtain ⟨z0, E⟩ := gdE E; refine ⟨vinE z0, ?_⟩
          obtain ⟨y7, h5, g6, e0, E⟩ := obiE E
          refine Si.mono (sX8_demands (f := f + 1) hF e0) (fun y8 h8 g8 hq => ?_)
          obtain ⟨rfl, rfl, rfl⟩ := hq
          cases E; exact ⟨rfl, rfl, rfl⟩
      · replace E := iteT c0 E
        obtain ⟨z0, E⟩ := gdE E; refine ⟨vinE z0, ?_⟩
        cases E; exact ⟨rfl, rfl, rfl⟩
    · replace E := iteT c0 E
      obtain ⟨z0, E⟩ := gdE E; refine ⟨vinE z0, ?_⟩
      cases E; exact ⟨rfl, rfl, rfl⟩
  · replace E := iteF c0 E
    cases E; exact ⟨rfl, rfl, rfl⟩
def pX8_function_53 (N : Nat) (x2 : Int32) (x3 : Int32) (h : HI) (g : HL) : Option (Int32 × HI × HL) :=
  pX8_function_54 N x2 x3 1 h g
theorem jX8_function_53 {D : DE} {f : Nat} {F : Frm} (hF : k_Fix F) {N : Nat} {y9 : Int32} {h9 : HI} {g9 : HL}  : ∀ (x2 : Int32) (x3 : Int32) (h : HI) (g : HL), pX8_function_53 N x2 x3 h g = some (y9, h9, g9) → JX8_function_53 D (f + 1) (eqi y9 h9 g9) F h g x2 x3 := by
  intro x2 x3 h g E
  unfold pX8_function_53 at E
  exact jX8_function_54 hF  _ _ _ _ _ E
def pX8_function_40 (N : Nat) (x2 : Int32) (x3 : Int32) (s1 : Int64) (s2 : Int64) (s3 : Int32) (s5 : Int32) (h : HI) (g : HL) : Option (Int32 × HI × HL) :=
  gd (vin s5 24) <|
  obi (pX8_within N s1 s2 ((s3 + (h 119 (ix s5))).toInt64) h g) fun (y3 : Int32) (h1 : HI) (g2 : HL) =>
  if y3 = 0 then
    pX8_function_53 N x2 x3 h1 g2
  else
    pX8_function_54 N x2 x3 0 h1 g2
theorem jX8_function_40 {D : DE} {f : Nat} {F : Frm} (hF : k_Fix F) {N : Nat} {y9 : Int32} {h9 : HI} {g9 : HL}  : ∀ (x2 : Int32) (x3 : Int32) (s1 : Int64) (s2 : Int64) (s3 : Int32) (s5 : Int32) (h : HI) (g : HL), pX8_function_40 N x2 x3 s1 s2 s3 s5 h g = some (y9, h9, g9) → JX8_function_40 D (f + 1) (eqi y9 h9 g9) F h g x2 x3 s1 s2 s3 s5 := by
  intro x2 x3 s1 s2 s3 s5 h g E
  unfold pX8_function_40 at E
  obtain ⟨z0, E⟩ := gdE E; refine ⟨vinE z0, ?_⟩
  obtain ⟨y3, h1, g2, e0, E⟩ := obiE E
  refine Si.mono (sX8_within (f := f + 1) hF e0) (fun y8 h8 g8 hq => ?_)
  obtain ⟨rfl, rfl, rfl⟩ := hq
  refine ⟨fun c0 => ?_, fun c0 => ?_⟩
  · replace E := iteT c0 E
    exact jX8_function_53 hF  _ _ _ _ E
  · replace E := iteF c0 E
    exact jX8_function_54 hF  _ _ _ _ _ E
def pX8_function_0 (N : Nat) (x1 : Int32) (x2 : Int32) (h : HI) (g : HL) : Option (Int32 × HI × HL) :=
  bnd ((12 * (h 115 47)) + x1) fun (y1 : Int32) =>
  obi (pX8_isFn N x1 h g) fun (y4 : Int32) (h2 : HI) (g3 : HL) =>
  if y4 = 0 then
    pX8_function_53 N x2 y1 h2 g3
  else
    obi (pX8_isFn N x1 h2 g3) fun (y7 : Int32) (h5 : HI) (g6 : HL) =>
    if y7 = 0 then
      pX8_function_40 N x2 y1 x2.toInt64 0 2 0 h5 g6
    else
      pX8_function_40 N x2 y1 x2.toInt64 0 2 y1 h5 g6
theorem jX8_function_0 {D : DE} {f : Nat} {F : Frm} (hF : k_Fix F) {N : Nat} {y9 : Int32} {h9 : HI} {g9 : HL}  : ∀ (x1 : Int32) (x2 : Int32) (h : HI) (g : HL), pX8_function_0 N x1 x2 h g = some (y9, h9, g9) → JX8_function_0 D (f + 1) (eqi y9 h9 g9) F h g x1 x2 := by
  intro x1 x2 h g E
  unfold pX8_function_0 at E
  intro y1 e0; replace E := bndE e0 E
  obtain ⟨y4, h2, g3, e0, E⟩ := obiE E
  refine Si.mono (sX8_isFn (f := f) hF e0) (fun y8 h8 g8 hq => ?_)
  obtain ⟨rfl, rfl, rfl⟩ := hq
  refine ⟨fun c0 => ?_, fun c0 => ?_⟩
  · replace E := iteT c0 E
    exact jX8_function_53 hF  _ _ _ _ E
  · replace E := iteF c0 E
    obtain ⟨y7, h5, g6, e0, E⟩ := obiE E
    refine Si.mono (sX8_isFn (f := f) hF e0) (fun y8 h8 g8 hq => ?_)
    obtain ⟨rfl, rfl, rfl⟩ := hq
    refine ⟨fun c0 => ?_, fun c0 => ?_⟩
    · replace E := iteT c0 E
      exact jX8_function_40 hF  _ _ _ _ _ _ _ _ E
    · replace E := iteF c0 E
      exact jX8_function_40 hF  _ _ _ _ _ _ _ _ E
abbrev pX8_function (N : Nat) (x1 : Int32) (x2 : Int32) (h : HI) (g : HL) : Option (Int32 × HI × HL) := pX8_function_0 N x1 x2 h g
theorem sX8_function {D : DE} {f : Nat} {F : Frm} (hF : k_Fix F) {N : Nat} {y9 : Int32} {h9 : HI} {g9 : HL} {x1 : Int32} {x2 : Int32} {h : HI} {g : HL} (E : pX8_function N x1 x2 h g = some (y9, h9, g9)) : Si D (f + 2) mX8_function [.ref (ad D 115), .int x1, .int x2] F h g (eqi y9 h9 g9) := wX8_function (f := (f + 1)) hF _ _ (jX8_function_0 hF _ _ _ _ E)
def pX8_asking_0 (N : Nat) (x1 : Int32) (x2 : Int32) (x3 : Int32) (x4 : Int32) (h : HI) (g : HL) : Option (HI × HL) :=
  if 3000 ≤ (h 115 36) then
    some (h, g)
  else
    if 7900 < x4 then
      some (h, g)
    else
      gd (vin (h 115 36) 3000) <|
      bnd (up2 h 140 (ix (h 115 36)) x3) fun (h1 : HI) =>
      obv (pX8_task N x1 x2 x4 h1 g) fun (h2 : HI) (g3 : HL) =>
      some (h2, g3)
theorem jX8_asking_0 {D : DE} {f : Nat} {F : Frm} (hF : k_Fix F) {N : Nat} {h9 : HI} {g9 : HL}  : ∀ (x1 : Int32) (x2 : Int32) (x3 : Int32) (x4 : Int32) (h : HI) (g : HL), pX8_asking_0 N x1 x2 x3 x4 h g = some (h9, g9) → JX8_asking_0 D (f + 1) (eqv h9 g9) F h g x1 x2 x3 x4 := by
  intro x1 x2 x3 x4 h g E
  unfold pX8_asking_0 at E
  refine ⟨fun c0 => ?_, fun c0 => ?_⟩
  · replace E := iteT c0 E
    cases E; exact ⟨rfl, rfl⟩
  · replace E := iteF c0 E
    refine ⟨fun c0 => ?_, fun c0 => ?_⟩
    · replace E := iteT c0 E
      cases E; exact ⟨rfl, rfl⟩
    · replace E := iteF c0 E
      obtain ⟨z0, E⟩ := gdE E; refine ⟨vinE z0, ?_⟩
      intro h1 e0; replace E := bndE e0 E
      obtain ⟨h2, g3, e0, E⟩ := obvE E
      refine Sv.mono (sX8_task (f := f) hF e0) (fun h8 g8 hq => ?_)
      obtain ⟨rfl, rfl⟩ := hq
      cases E; exact ⟨rfl, rfl⟩
abbrev pX8_asking (N : Nat) (x1 : Int32) (x2 : Int32) (x3 : Int32) (x4 : Int32) (h : HI) (g : HL) : Option (HI × HL) := pX8_asking_0 N x1 x2 x3 x4 h g
theorem sX8_asking {D : DE} {f : Nat} {F : Frm} (hF : k_Fix F) {N : Nat} {h9 : HI} {g9 : HL} {x1 : Int32} {x2 : Int32} {x3 : Int32} {x4 : Int32} {h : HI} {g : HL} (E : pX8_asking N x1 x2 x3 x4 h g = some (h9, g9)) : Sv D (f + 2) mX8_asking [.ref (ad D 115), .int x1, .int x2, .int x3, .int x4] F h g (eqv h9 g9) := wX8_asking (f := (f + 1)) hF _ _ _ _ (jX8_asking_0 hF _ _ _ _ _ _ E)
def pX8_join_123 (N : Nat) (K26 : Int32 → Int32 → Int32 → Int32 → Int32 → HI → HL → Option (HI × HL)) (x1 : Int32) (x2 : Int32) (x3 : Int32) (x4 : Int32) (x5 : Int32) (s1 : Int32) (s2 : Int32) (h : HI) (g : HL) : Option (HI × HL) :=
  gd (vin s1 8000) <|
  bnd (up2 h 141 (ix s1) s2) fun (h1 : HI) =>
  bnd (x5 + 1) fun (y2 : Int32) =>
  K26 x1 x2 x3 x4 y2 h1 g
theorem jX8_join_123 {D : DE} {f : Nat} {F : Frm} (hF : k_Fix F) {N : Nat} {K26 : Int32 → Int32 → Int32 → Int32 → Int32 → HI → HL → Option (HI × HL)} {h9 : HI} {g9 : HL} (hK26 : ∀ (x1 : Int32) (x2 : Int32) (x3 : Int32) (x4 : Int32) (x5 : Int32) (h : HI) (g : HL), K26 x1 x2 x3 x4 x5 h g = some (h9, g9) → V D mX8_join (f + 3) (qv F (eqv h9 g9)) 26 [(0, .ref (ad D 115)), (1, .int x1), (2, .int x2), (3, .int x3), (4, .int x4), (5, .int x5)] [] (F, h, g)) : ∀ (x1 : Int32) (x2 : Int32) (x3 : Int32) (x4 : Int32) (x5 : Int32) (s1 : Int32) (s2 : Int32) (h : HI) (g : HL), pX8_join_123 N K26 x1 x2 x3 x4 x5 s1 s2 h g = some (h9, g9) → JX8_join_123 D (f + 2) (eqv h9 g9) F h g x1 x2 x3 x4 x5 s1 s2 := by
  intro x1 x2 x3 x4 x5 s1 s2 h g E
  unfold pX8_join_123 at E
  obtain ⟨z0, E⟩ := gdE E; refine ⟨vinE z0, ?_⟩
  intro h1 e0; replace E := bndE e0 E
  intro y2 e0; replace E := bndE e0 E
  exact hK26 _ _ _ _ _ _ _ E
def pX8_join_100 (N : Nat) (K26 : Int32 → Int32 → Int32 → Int32 → Int32 → HI → HL → Option (HI × HL)) (x1 : Int32) (x2 : Int32) (x3 : Int32) (x4 : Int32) (x5 : Int32) (x6 : Int32) (x7 : Int32) (s1 : Int32) (h : HI) (g : HL) : Option (HI × HL) :=
  gd (vin ((16 * (h 115 33)) + x5) 384) <|
  obi (pX8_joined N (h 123 (ix ((16 * (h 115 33)) + x5))) x6 x7 x2 h g) fun (y3 : Int32) (h1 : HI) (g2 : HL) =>
  pX8_join_123 N K26 x1 x2 x3 x4 x5 s1 y3 h1 g2
theorem jX8_join_100 {D : DE} {f : Nat} {F : Frm} (hF : k_Fix F) {N : Nat} {K26 : Int32 → Int32 → Int32 → Int32 → Int32 → HI → HL → Option (HI × HL)} {h9 : HI} {g9 : HL} (hK26 : ∀ (x1 : Int32) (x2 : Int32) (x3 : Int32) (x4 : Int32) (x5 : Int32) (h : HI) (g : HL), K26 x1 x2 x3 x4 x5 h g = some (h9, g9) → V D mX8_join (f + 3) (qv F (eqv h9 g9)) 26 [(0, .ref (ad D 115)), (1, .int x1), (2, .int x2), (3, .int x3), (4, .int x4), (5, .int x5)] [] (F, h, g)) : ∀ (x1 : Int32) (x2 : Int32) (x3 : Int32) (x4 : Int32) (x5 : Int32) (x6 : Int32) (x7 : Int32) (s1 : Int32) (h : HI) (g : HL), pX8_join_100 N K26 x1 x2 x3 x4 x5 x6 x7 s1 h g = some (h9, g9) → JX8_join_100 D (f + 2) (eqv h9 g9) F h g x1 x2 x3 x4 x5 x6 x7 s1 := by
  intro x1 x2 x3 x4 x5 x6 x7 s1 h g E
  unfold pX8_join_100 at E
  obtain ⟨z0, E⟩ := gdE E; refine ⟨vinE z0, ?_⟩
  obtain ⟨y3, h1, g2, e0, E⟩ := obiE E
  refine Si.mono (sX8_joined (f := f) hF e0) (fun y8 h8 g8 hq => ?_)
  obtain ⟨rfl, rfl, rfl⟩ := hq
  exact jX8_join_123 hF hK26 _ _ _ _ _ _ _ _ _ E
def pX8_join_86 (N : Nat) (K26 : Int32 → Int32 → Int32 → Int32 → Int32 → HI → HL → Option (HI × HL)) (x1 : Int32) (x2 : Int32) (x3 : Int32) (x4 : Int32) (x5 : Int32) (x6 : Int32) (x7 : Int32) (s1 : Int32) (h : HI) (g : HL) : Option (HI × HL) :=
  if x2 = 0 then
    if x4 = 0 then
      pX8_join_100 N K26 x1 x2 x3 x4 x5 x6 x7 s1 h g
    else
      pX8_join_123 N K26 x1 x2 x3 x4 x5 s1 x6 h g
  else
    pX8_join_100 N K26 x1 x2 x3 x4 x5 x6 x7 s1 h g
theorem jX8_join_86 {D : DE} {f : Nat} {F : Frm} (hF : k_Fix F) {N : Nat} {K26 : Int32 → Int32 → Int32 → Int32 → Int32 → HI → HL → Option (HI × HL)} {h9 : HI} {g9 : HL} (hK26 : ∀ (x1 : Int32) (x2 : Int32) (x3 : Int32) (x4 : Int32) (x5 : Int32) (h : HI) (g : HL), K26 x1 x2 x3 x4 x5 h g = some (h9, g9) → V D mX8_join (f + 3) (qv F (eqv h9 g9)) 26 [(0, .ref (ad D 115)), (1, .int x1), (2, .int x2), (3, .int x3), (4, .int x4), (5, .int x5)] [] (F, h, g)) : ∀ (x1 : Int32) (x2 : Int32) (x3 : Int32) (x4 : Int32) (x5 : Int32) (x6 : Int32) (x7 : Int32) (s1 : Int32) (h : HI) (g : HL), pX8_join_86 N K26 x1 x2 x3 x4 x5 x6 x7 s1 h g = some (h9, g9) → JX8_join_86 D (f + 2) (eqv h9 g9) F h g x1 x2 x3 x4 x5 x6 x7 s1 := by
  intro x1 x2 x3 x4 x5 x6 x7 s1 h g E
  unfold pX8_join_86 at E
  refine ⟨fun c0 => ?_, fun c0 => ?_⟩
  · replace E := iteF c0 E
    exact jX8_join_100 hF hK26 _ _ _ _ _ _ _ _ _ _ E
  · replace E := iteT c0 E
    refine ⟨fun c0 => ?_, fun c0 => ?_⟩
    · replace E := iteT c0 E
      exact jX8_join_100 hF hK26 _ _ _ _ _ _ _ _ _ _ E
    · replace E := iteF c0 E
      exact jX8_join_123 hF hK26 _ _ _ _ _ _ _ _ _ E
def pX8_join_26 (N : Nat) : Nat → Int32 → Int32 → Int32 → Int32 → Int32 → HI → HL → Option (HI × HL)
  | 0, _, _, _, _, _, _, _ => none
  | n + 1, x1, x2, x3, x4, x5, h, g =>
    gd (vin (h 115 33) 24) <|
    if (h 120 (ix (h 115 33))) ≤ x5 then
      if x2 = 0 then
        if x3 = 0 then
          gd (vin (x1 / 16) 500) <|
          bnd (up2 h 142 (ix (x1 / 16)) 0) fun (h1 : HI) =>
          some (h1, g)
        else
          if x4 = 0 then
            gd (vin (x1 / 16) 500) <|
            bnd (up2 h 142 (ix (x1 / 16)) 0) fun (h2 : HI) =>
            some (h2, g)
          else
            gd (vin (x1 / 16) 500) <|
            bnd (up2 h 142 (ix (x1 / 16)) 1) fun (h3 : HI) =>
            some (h3, g)
      else
        if x3 = 0 then
          if x4 = 0 then
            gd (vin (x1 / 16) 500) <|
            bnd (up2 h 142 (ix (x1 / 16)) 0) fun (h5 : HI) =>
            some (h5, g)
          else
            gd (vin (x1 / 16) 500) <|
            bnd (up2 h 142 (ix (x1 / 16)) 1) fun (h6 : HI) =>
            some (h6, g)
        else
          gd (vin (x1 / 16) 500) <|
          bnd (up2 h 142 (ix (x1 / 16)) 1) fun (h4 : HI) =>
          some (h4, g)
    else
      gd (vin (x1 + x5) 8000) <|
      bnd (h 141 (ix (x1 + x5))) fun (y7 : Int32) =>
      gd (vin ((x1 + 16) + x5) 8000) <|
      bnd (h 141 (ix ((x1 + 16) + x5))) fun (y8 : Int32) =>
      if x2 = 0 then
        if x3 = 0 then
          pX8_join_86 N (pX8_join_26 N n) x1 x2 x3 x4 x5 y7 y8 (x1 + x5) h g
        else
          pX8_join_123 N (pX8_join_26 N n) x1 x2 x3 x4 x5 (x1 + x5) y8 h g
      else
        pX8_join_86 N (pX8_join_26 N n) x1 x2 x3 x4 x5 y7 y8 (x1 + x5) h g
theorem lX8_join_26 {D : DE} {f : Nat} {F : Frm} (hF : k_Fix F) {N : Nat} {h9 : HI} {g9 : HL}  : ∀ (n : Nat) (x1 : Int32) (x2 : Int32) (x3 : Int32) (x4 : Int32) (x5 : Int32) (h : HI) (g : HL), pX8_join_26 N n x1 x2 x3 x4 x5 h g = some (h9, g9) → V D mX8_join (f + 3) (qv F (eqv h9 g9)) 26 [(0, .ref (ad D 115)), (1, .int x1), (2, .int x2), (3, .int x3), (4, .int x4), (5, .int x5)] [] (F, h, g) := by
  intro n
  induction n with
  | zero => intro x1 x2 x3 x4 x5 h g E; cases E
  | succ n hK26 =>
    intro x1 x2 x3 x4 x5 h g E
    rw [pX8_join_26] at E
    refine bX8_join_26 (f := (f + 2)) hF x1 x2 x3 x4 x5 ?_
    obtain ⟨z0, E⟩ := gdE E; refine ⟨vinE z0, ?_⟩
    refine ⟨fun c0 => ?_, fun c0 => ?_⟩
    · replace E := iteT c0 E
      refine ⟨fun c0 => ?_, fun c0 => ?_⟩
      · replace E := iteT c0 E
        refine ⟨fun c0 => ?_, fun c0 => ?_⟩
        · replace E := iteT c0 E
          obtain ⟨z0, E⟩ := gdE E; refine ⟨vinE z0, ?_⟩
          intro h1 e0; replace E := bndE e0 E
          cases E; exact ⟨rfl, rfl⟩
        · replace E := iteF c0 E
          refine ⟨fun c0 => ?_, fun c0 => ?_⟩
          · replace E := iteT c0 E
            obtain ⟨z0, E⟩ := gdE E; refine ⟨vinE z0, ?_⟩
            intro h2 e0; replace E := bndE e0 E
            cases E; exact ⟨rfl, rfl⟩
          · replace E := iteF c0 E
            obtain ⟨z0, E⟩ := gdE E; refine ⟨vinE z0, ?_⟩
            intro h3 e0; replace E := bndE e0 E
            cases E; exact ⟨rfl, rfl⟩
      · replace E := iteF c0 E
        refine ⟨fun c0 => ?_, fun c0 => ?_⟩
        · replace E := iteF c0 E
          obtain ⟨z0, E⟩ := gdE E; refine ⟨vinE z0, ?_⟩
          intro h4 e0; replace E := bndE e0 E
          cases E; exact ⟨rfl, rfl⟩
        · replace E := iteT c0 E
          refine ⟨fun c0 => ?_, fun c0 => ?_⟩
          · replace E := iteT c0 E
            obtain ⟨z0, E⟩ := gdE E; refine ⟨vinE z0, ?_⟩
            intro h5 e0; replace E := bndE e0 E
            cases E; exact ⟨rfl, rfl⟩
          · replace E := iteF c0 E
            obtain ⟨z0, E⟩ := gdE E; refine ⟨vinE z0, ?_⟩
            intro h6 e0; replace E := bndE e0 E
            cases E; exact ⟨rfl, rfl⟩
    · replace E := iteF c0 E
      obtain ⟨z0, E⟩ := gdE E; refine ⟨vinE z0, ?_⟩
      intro y7 e0; replace E := bndE e0 E
      obtain ⟨z0, E⟩ := gdE E; refine ⟨vinE z0, ?_⟩
      intro y8 e0; replace E := bndE e0 E
      refine ⟨fun c0 => ?_, fun c0 => ?_⟩
      · replace E := iteF c0 E
        exact jX8_join_86 hF hK26 _ _ _ _ _ _ _ _ _ _ E
      · replace E := iteT c0 E
        refine ⟨fun c0 => ?_, fun c0 => ?_⟩
        · replace E := iteT c0 E
          exact jX8_join_86 hF hK26 _ _ _ _ _ _ _ _ _ _ E
        · replace E := iteF c0 E
          exact jX8_join_123 hF hK26 _ _ _ _ _ _ _ _ _ E
def pX8_join_0 (N : Nat) (x1 : Int32) (x2 : Int32) (h : HI) (g : HL) : Option (HI × HL) :=
  gd (vin (x1 / 16) 500) <|
  bnd (h 142 (ix (x1 / 16))) fun (y1 : Int32) =>
  gd (vin ((x1 / 16) + 1) 500) <|
  bnd (h 142 (ix ((x1 / 16) + 1))) fun (y2 : Int32) =>
  pX8_join_26 N N x1 x2 y1 y2 0 h g
theorem jX8_join_0 {D : DE} {f : Nat} {F : Frm} (hF : k_Fix F) {N : Nat} {h9 : HI} {g9 : HL}  : ∀ (x1 : Int32) (x2 : Int32) (h : HI) (g : HL), pX8_join_0 N x1 x2 h g = some (h9, g9) → JX8_join_0 D (f + 2) (eqv h9 g9) F h g x1 x2 := by
  intro x1 x2 h g E
  unfold pX8_join_0 at E
  obtain ⟨z0, E⟩ := gdE E; refine ⟨vinE z0, ?_⟩
  intro y1 e0; replace E := bndE e0 E
  obtain ⟨z0, E⟩ := gdE E; refine ⟨vinE z0, ?_⟩
  intro y2 e0; replace E := bndE e0 E
  exact lX8_join_26 hF  N _ _ _ _ _ _ _ E
abbrev pX8_join (N : Nat) (x1 : Int32) (x2 : Int32) (h : HI) (g : HL) : Option (HI × HL) := pX8_join_0 N x1 x2 h g
theorem sX8_join {D : DE} {f : Nat} {F : Frm} (hF : k_Fix F) {N : Nat} {h9 : HI} {g9 : HL} {x1 : Int32} {x2 : Int32} {h : HI} {g : HL} (E : pX8_join N x1 x2 h g = some (h9, g9)) : Sv D (f + 3) mX8_join [.ref (ad D 115), .int x1, .int x2] F h g (eqv h9 g9) := wX8_join (f := (f + 2)) hF _ _ (jX8_join_0 hF _ _ _ _ E)
def pX8_onAsk_333 (N : Nat) (x1 : Int32) (x2 : Int32) (x3 : Int32) (s1 : Int32) (h : HI) (g : HL) : Option (HI × HL) :=
  obv (pX8_asking N s1 x1 0 x3 h g) fun (h1 : HI) (g2 : HL) =>
  gd (vin x1 2002) <|
  obv (pX8_asking N 1 (h1 126 (ix x1)) x2 x3 h1 g2) fun (h3 : HI) (g4 : HL) =>
  some (h3, g4)
theorem jX8_onAsk_333 {D : DE} {f : Nat} {F : Frm} (hF : k_Fix F) {N : Nat} {h9 : HI} {g9 : HL}  : ∀ (x1 : Int32) (x2 : Int32) (x3 : Int32) (s1 : Int32) (h : HI) (g : HL), pX8_onAsk_333 N x1 x2 x3 s1 h g = some (h9, g9) → JX8_onAsk_333 D (f + 2) (eqv h9 g9) F h g x1 x2 x3 s1 := by
  intro x1 x2 x3 s1 h g E
  unfold pX8_onAsk_333 at E
  obtain ⟨h1, g2, e0, E⟩ := obvE E
  refine Sv.mono (sX8_asking (f := f) hF e0) (fun h8 g8 hq => ?_)
  obtain ⟨rfl, rfl⟩ := hq
  obtain ⟨z0, E⟩ := gdE E; refine ⟨vinE z0, ?_⟩
  obtain ⟨h3, g4, e0, E⟩ := obvE E
  refine Sv.mono (sX8_asking (f := f) hF e0) (fun h8 g8 hq => ?_)
  obtain ⟨rfl, rfl⟩ := hq
  cases E; exact ⟨rfl, rfl⟩
def pX8_onAsk_321 (N : Nat) (x1 : Int32) (x2 : Int32) (x3 : Int32) (x4 : Int32) (h : HI) (g : HL) : Option (HI × HL) :=
  if x4 = 3 then
    pX8_onAsk_333 N x1 x2 x3 4 h g
  else
    pX8_onAsk_333 N x1 x2 x3 5 h g
theorem jX8_onAsk_321 {D : DE} {f : Nat} {F : Frm} (hF : k_Fix F) {N : Nat} {h9 : HI} {g9 : HL}  : ∀ (x1 : Int32) (x2 : Int32) (x3 : Int32) (x4 : Int32) (h : HI) (g : HL), pX8_onAsk_321 N x1 x2 x3 x4 h g = some (h9, g9) → JX8_onAsk_321 D (f + 2) (eqv h9 g9) F h g x1 x2 x3 x4 := by
  intro x1 x2 x3 x4 h g E
  unfold pX8_onAsk_321 at E
  refine ⟨fun c0 => ?_, fun c0 => ?_⟩
  · replace E := iteF c0 E
    exact jX8_onAsk_333 hF  _ _ _ _ _ _ E
  · replace E := iteT c0 E
    exact jX8_onAsk_333 hF  _ _ _ _ _ _ E
def pX8_onAsk_214 (N : Nat) (x1 : Int32) (x3 : Int32) (x6 : Int32) (h : HI) (g : HL) : Option (HI × HL) :=
  if x6 ≤ 0 then
    some (h, g)
  else
    gd (vin x1 2002) <|
    obv (pX8_asking N 1 (h 125 (ix x1)) x6 x3 h g) fun (h1 : HI) (g2 : HL) =>
    some (h1, g2)
theorem jX8_onAsk_214 {D : DE} {f : Nat} {F : Frm} (hF : k_Fix F) {N : Nat} {h9 : HI} {g9 : HL}  : ∀ (x1 : Int32) (x3 : Int32) (x6 : Int32) (h : HI) (g : HL), pX8_onAsk_214 N x1 x3 x6 h g = some (h9, g9) → JX8_onAsk_214 D (f + 2) (eqv h9 g9) F h g x1 x3 x6 := by
  intro x1 x3 x6 h g E
  unfold pX8_onAsk_214 at E
  refine ⟨fun c0 => ?_, fun c0 => ?_⟩
  · replace E := iteT c0 E
    cases E; exact ⟨rfl, rfl⟩
  · replace E := iteF c0 E
    obtain ⟨z0, E⟩ := gdE E; refine ⟨vinE z0, ?_⟩
    obtain ⟨h1, g2, e0, E⟩ := obvE E
    refine Sv.mono (sX8_asking (f := f) hF e0) (fun h8 g8 hq => ?_)
    obtain ⟨rfl, rfl⟩ := hq
    cases E; exact ⟨rfl, rfl⟩
def pX8_onAsk_182 (N : Nat) (x1 : Int32) (x3 : Int32) (x6 : Int32) (s0 : Int32) (h : HI) (g : HL) : Option (HI × HL) :=
  if s0 ≤ 0 then
    pX8_onAsk_214 N x1 x3 x6 h g
  else
    obv (pX8_asking N 2 x1 0 x3 h g) fun (h1 : HI) (g2 : HL) =>
    gd (vin x1 2002) <|
    obv (pX8_asking N 1 (h1 126 (ix x1)) s0 (x3 + 16) h1 g2) fun (h3 : HI) (g4 : HL) =>
    pX8_onAsk_214 N x1 x3 x6 h3 g4
theorem jX8_onAsk_182 {D : DE} {f : Nat} {F : Frm} (hF : k_Fix F) {N : Nat} {h9 : HI} {g9 : HL}  : ∀ (x1 : Int32) (x3 : Int32) (x6 : Int32) (s0 : Int32) (h : HI) (g : HL), pX8_onAsk_182 N x1 x3 x6 s0 h g = some (h9, g9) → JX8_onAsk_182 D (f + 2) (eqv h9 g9) F h g x1 x3 x6 s0 := by
  intro x1 x3 x6 s0 h g E
  unfold pX8_onAsk_182 at E
  refine ⟨fun c0 => ?_, fun c0 => ?_⟩
  · replace E := iteT c0 E
    exact jX8_onAsk_214 hF  _ _ _ _ _ E
  · replace E := iteF c0 E
    obtain ⟨h1, g2, e0, E⟩ := obvE E
    refine Sv.mono (sX8_asking (f := f) hF e0) (fun h8 g8 hq => ?_)
    obtain ⟨rfl, rfl⟩ := hq
    obtain ⟨z0, E⟩ := gdE E; refine ⟨vinE z0, ?_⟩
    obtain ⟨h3, g4, e0, E⟩ := obvE E
    refine Sv.mono (sX8_asking (f := f) hF e0) (fun h8 g8 hq => ?_)
    obtain ⟨rfl, rfl⟩ := hq
    exact jX8_onAsk_214 hF  _ _ _ _ _ E
def pX8_onAsk_163 (N : Nat) (x1 : Int32) (x2 : Int32) (x3 : Int32) (x4 : Int32) (x5 : Int32) (s0 : Int32) (h : HI) (g : HL) : Option (HI × HL) :=
  if x4 = 9 then
    gd ((!(x5 == 0))) <|
    pX8_onAsk_182 N x1 x3 s0 ((x2 - 1) - (x2 - 1) / x5 * x5) h g
  else
    pX8_onAsk_182 N x1 x3 s0 1 h g
theorem jX8_onAsk_163 {D : DE} {f : Nat} {F : Frm} (hF : k_Fix F) {N : Nat} {h9 : HI} {g9 : HL}  : ∀ (x1 : Int32) (x2 : Int32) (x3 : Int32) (x4 : Int32) (x5 : Int32) (s0 : Int32) (h : HI) (g : HL), pX8_onAsk_163 N x1 x2 x3 x4 x5 s0 h g = some (h9, g9) → JX8_onAsk_163 D (f + 2) (eqv h9 g9) F h g x1 x2 x3 x4 x5 s0 := by
  intro x1 x2 x3 x4 x5 s0 h g E
  unfold pX8_onAsk_163 at E
  refine ⟨fun c0 => ?_, fun c0 => ?_⟩
  · replace E := iteF c0 E
    exact jX8_onAsk_182 hF  _ _ _ _ _ _ E
  · replace E := iteT c0 E
    obtain ⟨z0, E⟩ := gdE E; refine ⟨nzE z0, ?_⟩
    exact jX8_onAsk_182 hF  _ _ _ _ _ _ E
def pX8_onAsk_144 (N : Nat) (x1 : Int32) (x2 : Int32) (x3 : Int32) (x4 : Int32) (s0 : Int32) (h : HI) (g : HL) : Option (HI × HL) :=
  if x4 = 9 then
    gd ((!(s0 == 0))) <|
    pX8_onAsk_163 N x1 x2 x3 x4 s0 ((x2 - 1) / s0) h g
  else
    pX8_onAsk_163 N x1 x2 x3 x4 s0 1 h g
theorem jX8_onAsk_144 {D : DE} {f : Nat} {F : Frm} (hF : k_Fix F) {N : Nat} {h9 : HI} {g9 : HL}  : ∀ (x1 : Int32) (x2 : Int32) (x3 : Int32) (x4 : Int32) (s0 : Int32) (h : HI) (g : HL), pX8_onAsk_144 N x1 x2 x3 x4 s0 h g = some (h9, g9) → JX8_onAsk_144 D (f + 2) (eqv h9 g9) F h g x1 x2 x3 x4 s0 := by
  intro x1 x2 x3 x4 s0 h g E
  unfold pX8_onAsk_144 at E
  refine ⟨fun c0 => ?_, fun c0 => ?_⟩
  · replace E := iteF c0 E
    exact jX8_onAsk_163 hF  _ _ _ _ _ _ _ _ E
  · replace E := iteT c0 E
    obtain ⟨z0, E⟩ := gdE E; refine ⟨nzE z0, ?_⟩
    exact jX8_onAsk_163 hF  _ _ _ _ _ _ _ _ E
def pX8_onAsk_121 (N : Nat) (x1 : Int32) (x2 : Int32) (x3 : Int32) (x4 : Int32) (h : HI) (g : HL) : Option (HI × HL) :=
  if x4 = 9 then
    gd (vin x1 2002) <|
    obi (pX8_secondOf N (h 129 (ix x1)) h g) fun (y3 : Int32) (h1 : HI) (g2 : HL) =>
    obi (pX8_demands N y3 h1 g2) fun (y6 : Int32) (h4 : HI) (g5 : HL) =>
    pX8_onAsk_144 N x1 x2 x3 x4 y6 h4 g5
  else
    pX8_onAsk_144 N x1 x2 x3 x4 1 h g
theorem jX8_onAsk_121 {D : DE} {f : Nat} {F : Frm} (hF : k_Fix F) {N : Nat} {h9 : HI} {g9 : HL}  : ∀ (x1 : Int32) (x2 : Int32) (x3 : Int32) (x4 : Int32) (h : HI) (g : HL), pX8_onAsk_121 N x1 x2 x3 x4 h g = some (h9, g9) → JX8_onAsk_121 D (f + 2) (eqv h9 g9) F h g x1 x2 x3 x4 := by
  intro x1 x2 x3 x4 h g E
  unfold pX8_onAsk_121 at E
  refine ⟨fun c0 => ?_, fun c0 => ?_⟩
  · replace E := iteF c0 E
    exact jX8_onAsk_144 hF  _ _ _ _ _ _ _ E
  · replace E := iteT c0 E
    obtain ⟨z0, E⟩ := gdE E; refine ⟨vinE z0, ?_⟩
    obtain ⟨y3, h1, g2, e0, E⟩ := obiE E
    refine Si.mono (sX8_secondOf (f := f + 2) hF e0) (fun y8 h8 g8 hq => ?_)
    obtain ⟨rfl, rfl, rfl⟩ := hq
    obtain ⟨y6, h4, g5, e0, E⟩ := obiE E
    refine Si.mono (sX8_demands (f := f + 2) hF e0) (fun y8 h8 g8 hq => ?_)
    obtain ⟨rfl, rfl, rfl⟩ := hq
    exact jX8_onAsk_144 hF  _ _ _ _ _ _ _ E
def pX8_onAsk_83 (N : Nat) (x1 : Int32) (x2 : Int32) (x3 : Int32) (x4 : Int32) (s1 : Int32) (s2 : Int32) (h : HI) (g : HL) : Option (HI × HL) :=
  gd (vin s1 500) <|
  gd (isBb s2) <|
  bnd (up2 h 142 (ix s1) s2) fun (h1 : HI) =>
  if x4 = 7 then
    gd (vin x1 2002) <|
    gd (vin (x3 + (h1 125 (ix x1))) 8000) <|
    bnd (up2 h1 141 (ix (x3 + (h1 125 (ix x1)))) x2) fun (h14 : HI) =>
    some (h14, g)
  else
    if x4 = 1 then
      pX8_onAsk_121 N x1 x2 x3 x4 h1 g
    else
      if x4 = 9 then
        pX8_onAsk_121 N x1 x2 x3 x4 h1 g
      else
        if x4 = 2 then
          obv (pX8_asking N 2 x1 0 x3 h1 g) fun (h4 : HI) (g5 : HL) =>
          obv (pX8_asking N 3 x1 0 (x3 + 16) h4 g5) fun (h6 : HI) (g7 : HL) =>
          gd (vin x1 2002) <|
          obv (pX8_asking N 1 (h6 127 (ix x1)) x2 (x3 + 32) h6 g7) fun (h8 : HI) (g9 : HL) =>
          gd (vin x1 2002) <|
          obv (pX8_asking N 1 (h8 126 (ix x1)) x2 (x3 + 16) h8 g9) fun (h10 : HI) (g11 : HL) =>
          gd (vin x1 2002) <|
          obv (pX8_asking N 1 (h10 125 (ix x1)) 1 x3 h10 g11) fun (h12 : HI) (g13 : HL) =>
          some (h12, g13)
        else
          if x4 = 3 then
            pX8_onAsk_321 N x1 x2 x3 x4 h1 g
          else
            if x4 = 4 then
              pX8_onAsk_321 N x1 x2 x3 x4 h1 g
            else
              if x4 = 8 then
                gd (vin (x3 / 16) 500) <|
                if (h1 142 (ix (x3 / 16))) = 0 then
                  obv (pX8_asking N 6 x1 (8 * x2) x3 h1 g) fun (h2 : HI) (g3 : HL) =>
                  some (h2, g3)
                else
                  some (h1, g)
              else
                some (h1, g)
theorem jX8_onAsk_83 {D : DE} {f : Nat} {F : Frm} (hF : k_Fix F) {N : Nat} {h9 : HI} {g9 : HL}  : ∀ (x1 : Int32) (x2 : Int32) (x3 : Int32) (x4 : Int32) (s1 : Int32) (s2 : Int32) (h : HI) (g : HL), pX8_onAsk_83 N x1 x2 x3 x4 s1 s2 h g = some (h9, g9) → JX8_onAsk_83 D (f + 2) (eqv h9 g9) F h g x1 x2 x3 x4 s1 s2 := by
  intro x1 x2 x3 x4 s1 s2 h g E
  unfold pX8_onAsk_83 at E
  obtain ⟨z0, E⟩ := gdE E; refine ⟨vinE z0, ?_⟩
  obtain ⟨z0, E⟩ := gdE E; refine ⟨isBbE z0, ?_⟩
  intro h1 e0; replace E := bndE e0 E
  refine ⟨fun c0 => ?_, fun c0 => ?_⟩
  · replace E := iteF c0 E
    refine ⟨fun c0 => ?_, fun c0 => ?_⟩
    · replace E := iteT c0 E
      exact jX8_onAsk_121 hF  _ _ _ _ _ _ E
    · replace E := iteF c0 E
      refine ⟨fun c0 => ?_, fun c0 => ?_⟩
      · replace E := iteF c0 E
        refine ⟨fun c0 => ?_, fun c0 => ?_⟩
        · replace E := iteF c0 E
          refine ⟨fun c0 => ?_, fun c0 => ?_⟩
          · replace E := iteT c0 E
            exact jX8_onAsk_321 hF  _ _ _ _ _ _ E
          · replace E := iteF c0 E
            refine ⟨fun c0 => ?_, fun c0 => ?_⟩
            · replace E := iteF c0 E
              refine ⟨fun c0 => ?_, fun c0 => ?_⟩
              · replace E := iteF c0 E
                cases E; exact ⟨rfl, rfl⟩
              · replace E := iteT c0 E
                obtain ⟨z0, E⟩ := gdE E; refine ⟨vinE z0, ?_⟩
                refine ⟨fun c0 => ?_, fun c0 => ?_⟩
                · replace E := iteF c0 E
                  cases E; exact ⟨rfl, rfl⟩
                · replace E := iteT c0 E
                  obtain ⟨h2, g3, e0, E⟩ := obvE E
                  refine Sv.mono (sX8_asking (f := f) hF e0) (fun h8 g8 hq => ?_)
                  obtain ⟨rfl, rfl⟩ := hq
                  cases E; exact ⟨rfl, rfl⟩
            · replace E := iteT c0 E
              exact jX8_onAsk_321 hF  _ _ _ _ _ _ E
        · replace E := iteT c0 E
          obtain ⟨h4, g5, e0, E⟩ := obvE E
          refine Sv.mono (sX8_asking (f := f) hF e0) (fun h8 g8 hq => ?_)
          obtain ⟨rfl, rfl⟩ := hq
          obtain ⟨h6, g7, e0, E⟩ := obvE E
          refine Sv.mono (sX8_asking (f := f) hF e0) (fun h8 g8 hq => ?_)
          obtain ⟨rfl, rfl⟩ := hq
          obtain ⟨z0, E⟩ := gdE E; refine ⟨vinE z0, ?_⟩
          obtain ⟨h8, g9, e0, E⟩ := obvE E
          refine Sv.mono (sX8_asking (f := f) hF e0) (fun h8 g8 hq => ?_)
          obtain ⟨rfl, rfl⟩ := hq
          obtain ⟨z0, E⟩ := gdE E; refine ⟨vinE z0, ?_⟩
          obtain ⟨h10, g11, e0, E⟩ := obvE E
          refine Sv.mono (sX8_asking (f := f) hF e0) (fun h8 g8 hq => ?_)
          obtain ⟨rfl, rfl⟩ := hq
          obtain ⟨z0, E⟩ := gdE E; refine ⟨vinE z0, ?_⟩
          obtain ⟨h12, g13, e0, E⟩ := obvE E
          refine Sv.mono (sX8_asking (f := f) hF e0) (fun h8 g8 hq => ?_)
          obtain ⟨rfl, rfl⟩ := hq
          cases E; exact ⟨rfl, rfl⟩
      · replace E := iteT c0 E
        exact jX8_onAsk_121 hF  _ _ _ _ _ _ E
  · replace E := iteT c0 E
    obtain ⟨z0, E⟩ := gdE E; refine ⟨vinE z0, ?_⟩
    obtain ⟨z0, E⟩ := gdE E; refine ⟨vinE z0, ?_⟩
    intro h14 e0; replace E := bndE e0 E
    cases E; exact ⟨rfl, rfl⟩
def pX8_onAsk_82 (N : Nat) (x1 : Int32) (x2 : Int32) (x3 : Int32) (x4 : Int32) (s1 : Int32) (h : HI) (g : HL) : Option (HI × HL) :=
  pX8_onAsk_83 N x1 x2 x3 x4 s1 0 h g
theorem jX8_onAsk_82 {D : DE} {f : Nat} {F : Frm} (hF : k_Fix F) {N : Nat} {h9 : HI} {g9 : HL}  : ∀ (x1 : Int32) (x2 : Int32) (x3 : Int32) (x4 : Int32) (s1 : Int32) (h : HI) (g : HL), pX8_onAsk_82 N x1 x2 x3 x4 s1 h g = some (h9, g9) → JX8_onAsk_82 D (f + 2) (eqv h9 g9) F h g x1 x2 x3 x4 s1 := by
  intro x1 x2 x3 x4 s1 h g E
  unfold pX8_onAsk_82 at E
  exact jX8_onAsk_83 hF  _ _ _ _ _ _ _ _ E
def pX8_onAsk_78 (N : Nat) (x1 : Int32) (x2 : Int32) (x3 : Int32) (x4 : Int32) (s1 : Int32) (h : HI) (g : HL) : Option (HI × HL) :=
  pX8_onAsk_83 N x1 x2 x3 x4 s1 1 h g
theorem jX8_onAsk_78 {D : DE} {f : Nat} {F : Frm} (hF : k_Fix F) {N : Nat} {h9 : HI} {g9 : HL}  : ∀ (x1 : Int32) (x2 : Int32) (x3 : Int32) (x4 : Int32) (s1 : Int32) (h : HI) (g : HL), pX8_onAsk_78 N x1 x2 x3 x4 s1 h g = some (h9, g9) → JX8_onAsk_78 D (f + 2) (eqv h9 g9) F h g x1 x2 x3 x4 s1 := by
  intro x1 x2 x3 x4 s1 h g E
  unfold pX8_onAsk_78 at E
  exact jX8_onAsk_83 hF  _ _ _ _ _ _ _ _ E
def pX8_onAsk_3 (N : Nat) : Nat → Int32 → Int32 → Int32 → Int32 → HI → HL → Option (HI × HL)
  | 0, _, _, _, _, _, _ => none
  | n + 1, x1, x2, x3, x4, h, g =>
    if 16 ≤ x4 then
      gd (vin x1 2002) <|
      bnd (h 124 (ix x1)) fun (y1 : Int32) =>
      if y1 = 6 then
        pX8_onAsk_78 N x1 x2 x3 y1 (x3 / 16) h g
      else
        if y1 = 8 then
          gd (vin x1 2002) <|
          bnd (26 * ((h 127 (ix x1)) - (h 127 (ix x1)) / 12 * 12)) fun (y2 : Int32) =>
          gd (vin (y2 + x2) 312) <|
          if (h 144 (ix (y2 + x2))) = 0 then
            pX8_onAsk_82 N x1 x2 x3 y1 (x3 / 16) h g
          else
            pX8_onAsk_78 N x1 x2 x3 y1 (x3 / 16) h g
        else
          pX8_onAsk_82 N x1 x2 x3 y1 (x3 / 16) h g
    else
      gd (vin (x3 + x4) 8000) <|
      bnd (up2 h 141 (ix (x3 + x4)) 0) fun (h3 : HI) =>
      bnd (x4 + 1) fun (y4 : Int32) =>
      (pX8_onAsk_3 N n) x1 x2 x3 y4 h3 g
theorem lX8_onAsk_3 {D : DE} {f : Nat} {F : Frm} (hF : k_Fix F) {N : Nat} {h9 : HI} {g9 : HL}  : ∀ (n : Nat) (x1 : Int32) (x2 : Int32) (x3 : Int32) (x4 : Int32) (h : HI) (g : HL), pX8_onAsk_3 N n x1 x2 x3 x4 h g = some (h9, g9) → V D mX8_onAsk (f + 3) (qv F (eqv h9 g9)) 3 [(0, .ref (ad D 115)), (1, .int x1), (2, .int x2), (3, .int x3), (4, .int x4)] [] (F, h, g) := by
  intro n
  induction n with
  | zero => intro x1 x2 x3 x4 h g E; cases E
  | succ n hK3 =>
    intro x1 x2 x3 x4 h g E
    rw [pX8_onAsk_3] at E
    refine bX8_onAsk_3 (f := (f + 2)) hF x1 x2 x3 x4 ?_
    refine ⟨fun c0 => ?_, fun c0 => ?_⟩
    · replace E := iteT c0 E
      obtain ⟨z0, E⟩ := gdE E; refine ⟨vinE z0, ?_⟩
      intro y1 e0; replace E := bndE e0 E
      refine ⟨fun c0 => ?_, fun c0 => ?_⟩
      · replace E := iteT c0 E
        exact jX8_onAsk_78 hF  _ _ _ _ _ _ _ E
      · replace E := iteF c0 E
        refine ⟨fun c0 => ?_, fun c0 => ?_⟩
        · replace E := iteF c0 E
          exact jX8_onAsk_82 hF  _ _ _ _ _ _ _ E
        · replace E := iteT c0 E
          obtain ⟨z0, E⟩ := gdE E; refine ⟨vinE z0, ?_⟩
          intro y2 e0; replace E := bndE e0 E
          obtain ⟨z0, E⟩ := gdE E; refine ⟨vinE z0, ?_⟩
          refine ⟨fun c0 => ?_, fun c0 => ?_⟩
          · replace E := iteT c0 E
            exact jX8_onAsk_82 hF  _ _ _ _ _ _ _ E
          · replace E := iteF c0 E
            exact jX8_onAsk_78 hF  _ _ _ _ _ _ _ E
    · replace E := iteF c0 E
      obtain ⟨z0, E⟩ := gdE E; refine ⟨vinE z0, ?_⟩
      intro h3 e0; replace E := bndE e0 E
      intro y4 e0; replace E := bndE e0 E
      exact hK3 _ _ _ _ _ _ E
def pX8_onAsk_0 (N : Nat) (x1 : Int32) (x2 : Int32) (x3 : Int32) (h : HI) (g : HL) : Option (HI × HL) :=
  pX8_onAsk_3 N N x1 x2 x3 0 h g
theorem jX8_onAsk_0 {D : DE} {f : Nat} {F : Frm} (hF : k_Fix F) {N : Nat} {h9 : HI} {g9 : HL}  : ∀ (x1 : Int32) (x2 : Int32) (x3 : Int32) (h : HI) (g : HL), pX8_onAsk_0 N x1 x2 x3 h g = some (h9, g9) → JX8_onAsk_0 D (f + 2) (eqv h9 g9) F h g x1 x2 x3 := by
  intro x1 x2 x3 h g E
  unfold pX8_onAsk_0 at E
  exact lX8_onAsk_3 hF  N _ _ _ _ _ _ E
abbrev pX8_onAsk (N : Nat) (x1 : Int32) (x2 : Int32) (x3 : Int32) (h : HI) (g : HL) : Option (HI × HL) := pX8_onAsk_0 N x1 x2 x3 h g
theorem sX8_onAsk {D : DE} {f : Nat} {F : Frm} (hF : k_Fix F) {N : Nat} {h9 : HI} {g9 : HL} {x1 : Int32} {x2 : Int32} {x3 : Int32} {h : HI} {g : HL} (E : pX8_onAsk N x1 x2 x3 h g = some (h9, g9)) : Sv D (f + 3) mX8_onAsk [.ref (ad D 115), .int x1, .int x2, .int x3] F h g (eqv h9 g9) := wX8_onAsk (f := (f + 2)) hF _ _ _ (jX8_onAsk_0 hF _ _ _ _ _ E)
def pX8_onArgument_57 (N : Nat) (x1 : Int32) (x2 : Int32) (x3 : Int32) (x4 : Int32) (x5 : Int32) (h : HI) (g : HL) : Option (HI × HL) :=
  gd (vin x1 2002) <|
  if (h 126 (ix x1)) ≤ x5 then
    some (h, g)
  else
    gd (vin (x3 / 16) 500) <|
    if (h 142 (ix (x3 / 16))) = 0 then
      obv (pX8_asking N 6 x1 ((((x2 / 8) * 8) + x5) + 1) x3 h g) fun (h1 : HI) (g2 : HL) =>
      obv (pX8_asking N 2 x1 0 x3 h1 g2) fun (h3 : HI) (g4 : HL) =>
      gd (vin x1 2002) <|
      gd (vin ((h3 125 (ix x1)) + x5) 2002) <|
      gd (vin ((4 * x4) + x5) 1248) <|
      obv (pX8_asking N 1 (h3 131 (ix ((h3 125 (ix x1)) + x5))) (h3 143 (ix ((4 * x4) + x5))) (x3 + 16) h3 g4) fun (h5 : HI) (g6 : HL) =>
      some (h5, g6)
    else
      some (h, g)
theorem jX8_onArgument_57 {D : DE} {f : Nat} {F : Frm} (hF : k_Fix F) {N : Nat} {h9 : HI} {g9 : HL}  : ∀ (x1 : Int32) (x2 : Int32) (x3 : Int32) (x4 : Int32) (x5 : Int32) (h : HI) (g : HL), pX8_onArgument_57 N x1 x2 x3 x4 x5 h g = some (h9, g9) → JX8_onArgument_57 D (f + 2) (eqv h9 g9) F h g x1 x2 x3 x4 x5 := by
  intro x1 x2 x3 x4 x5 h g E
  unfold pX8_onArgument_57 at E
  obtain ⟨z0, E⟩ := gdE E; refine ⟨vinE z0, ?_⟩
  refine ⟨fun c0 => ?_, fun c0 => ?_⟩
  · replace E := iteT c0 E
    cases E; exact ⟨rfl, rfl⟩
  · replace E := iteF c0 E
    obtain ⟨z0, E⟩ := gdE E; refine ⟨vinE z0, ?_⟩
    refine ⟨fun c0 => ?_, fun c0 => ?_⟩
    · replace E := iteF c0 E
      cases E; exact ⟨rfl, rfl⟩
    · replace E := iteT c0 E
      obtain ⟨h1, g2, e0, E⟩ := obvE E
      refine Sv.mono (sX8_asking (f := f) hF e0) (fun h8 g8 hq => ?_)
      obtain ⟨rfl, rfl⟩ := hq
      obtain ⟨h3, g4, e0, E⟩ := obvE E
      refine Sv.mono (sX8_asking (f := f) hF e0) (fun h8 g8 hq => ?_)
      obtain ⟨rfl, rfl⟩ := hq
      obtain ⟨z0, E⟩ := gdE E; refine ⟨vinE z0, ?_⟩
      obtain ⟨z0, E⟩ := gdE E; refine ⟨vinE z0, ?_⟩
      obtain ⟨z0, E⟩ := gdE E; refine ⟨vinE z0, ?_⟩
      obtain ⟨h5, g6, e0, E⟩ := obvE E
      refine Sv.mono (sX8_asking (f := f) hF e0) (fun h8 g8 hq => ?_)
      obtain ⟨rfl, rfl⟩ := hq
      cases E; exact ⟨rfl, rfl⟩
def pX8_onArgument_25 (N : Nat) : Nat → Int32 → Int32 → Int32 → Int32 → Int32 → HI → HL → Option (HI × HL)
  | 0, _, _, _, _, _, _, _ => none
  | n + 1, x1, x2, x3, x4, x5, h, g =>
    gd (vin x1 2002) <|
    if (h 126 (ix x1)) ≤ x5 then
      pX8_onArgument_57 N x1 x2 x3 x4 x5 h g
    else
      gd (vin ((4 * x4) + x5) 1248) <|
      if (h 143 (ix ((4 * x4) + x5))) = 0 then
        bnd (x5 + 1) fun (y1 : Int32) =>
        (pX8_onArgument_25 N n) x1 x2 x3 x4 y1 h g
      else
        pX8_onArgument_57 N x1 x2 x3 x4 x5 h g
theorem lX8_onArgument_25 {D : DE} {f : Nat} {F : Frm} (hF : k_Fix F) {N : Nat} {h9 : HI} {g9 : HL}  : ∀ (n : Nat) (x1 : Int32) (x2 : Int32) (x3 : Int32) (x4 : Int32) (x5 : Int32) (h : HI) (g : HL), pX8_onArgument_25 N n x1 x2 x3 x4 x5 h g = some (h9, g9) → V D mX8_onArgument (f + 3) (qv F (eqv h9 g9)) 25 [(0, .ref (ad D 115)), (1, .int x1), (2, .int x2), (3, .int x3), (4, .int x4), (5, .int x5)] [] (F, h, g) := by
  intro n
  induction n with
  | zero => intro x1 x2 x3 x4 x5 h g E; cases E
  | succ n hK25 =>
    intro x1 x2 x3 x4 x5 h g E
    rw [pX8_onArgument_25] at E
    refine bX8_onArgument_25 (f := (f + 2)) hF x1 x2 x3 x4 x5 ?_
    obtain ⟨z0, E⟩ := gdE E; refine ⟨vinE z0, ?_⟩
    refine ⟨fun c0 => ?_, fun c0 => ?_⟩
    · replace E := iteT c0 E
      exact jX8_onArgument_57 hF  _ _ _ _ _ _ _ E
    · replace E := iteF c0 E
      obtain ⟨z0, E⟩ := gdE E; refine ⟨vinE z0, ?_⟩
      refine ⟨fun c0 => ?_, fun c0 => ?_⟩
      · replace E := iteF c0 E
        exact jX8_onArgument_57 hF  _ _ _ _ _ _ _ E
      · replace E := iteT c0 E
        intro y1 e0; replace E := bndE e0 E
        exact hK25 _ _ _ _ _ _ _ E
def pX8_onArgument_0 (N : Nat) (x1 : Int32) (x2 : Int32) (x3 : Int32) (h : HI) (g : HL) : Option (HI × HL) :=
  gd (vin x1 2002) <|
  bnd (26 * ((h 127 (ix x1)) - (h 127 (ix x1)) / 12 * 12)) fun (y1 : Int32) =>
  bnd (y1 + (x2 / 8)) fun (y2 : Int32) =>
  bnd (x2 - x2 / 8 * 8) fun (y3 : Int32) =>
  pX8_onArgument_25 N N x1 x2 x3 y2 y3 h g
theorem jX8_onArgument_0 {D : DE} {f : Nat} {F : Frm} (hF : k_Fix F) {N : Nat} {h9 : HI} {g9 : HL}  : ∀ (x1 : Int32) (x2 : Int32) (x3 : Int32) (h : HI) (g : HL), pX8_onArgument_0 N x1 x2 x3 h g = some (h9, g9) → JX8_onArgument_0 D (f + 2) (eqv h9 g9) F h g x1 x2 x3 := by
  intro x1 x2 x3 h g E
  unfold pX8_onArgument_0 at E
  obtain ⟨z0, E⟩ := gdE E; refine ⟨vinE z0, ?_⟩
  intro y1 e0; replace E := bndE e0 E
  intro y2 e0; replace E := bndE e0 E
  intro y3 e0; replace E := bndE e0 E
  exact lX8_onArgument_25 hF  N _ _ _ _ _ _ _ E
abbrev pX8_onArgument (N : Nat) (x1 : Int32) (x2 : Int32) (x3 : Int32) (h : HI) (g : HL) : Option (HI × HL) := pX8_onArgument_0 N x1 x2 x3 h g
theorem sX8_onArgument {D : DE} {f : Nat} {F : Frm} (hF : k_Fix F) {N : Nat} {h9 : HI} {g9 : HL} {x1 : Int32} {x2 : Int32} {x3 : Int32} {h : HI} {g : HL} (E : pX8_onArgument N x1 x2 x3 h g = some (h9, g9)) : Sv D (f + 3) mX8_onArgument [.ref (ad D 115), .int x1, .int x2, .int x3] F h g (eqv h9 g9) := wX8_onArgument (f := (f + 2)) hF _ _ _ (jX8_onArgument_0 hF _ _ _ _ _ E)
def pX8_asks_256 (N : Nat) (K13 : HI → HL → Option (Int32 × HI × HL)) (h : HI) (g : HL) : Option (Int32 × HI × HL) :=
  K13 h g
theorem jX8_asks_256 {D : DE} {f : Nat} {F : Frm} (hF : k_Fix F) {N : Nat} {K13 : HI → HL → Option (Int32 × HI × HL)} {y9 : Int32} {h9 : HI} {g9 : HL} (hK13 : ∀ (h : HI) (g : HL), K13 h g = some (y9, h9, g9) → V D mX8_asks (f + 4) (qi F (eqi y9 h9 g9)) 13 [(0, .ref (ad D 115))] [] (F, h, g)) : ∀ (h : HI) (g : HL), pX8_asks_256 N K13 h g = some (y9, h9, g9) → JX8_asks_256 D (f + 3) (eqi y9 h9 g9) F h g  := by
  intro h g E
  unfold pX8_asks_256 at E
  exact hK13 _ _ E
def pX8_asks_220 (N : Nat) (K13 : HI → HL → Option (Int32 × HI × HL)) (x4 : Int32) (x6 : Int32) (s0 : Int32) (h : HI) (g : HL) : Option (Int32 × HI × HL) :=
  if s0 ≤ 0 then
    pX8_asks_256 N K13 h g
  else
    obv (pX8_asking N 2 x4 0 x6 h g) fun (h1 : HI) (g2 : HL) =>
    gd (vin x4 2002) <|
    obv (pX8_asking N 1 (h1 125 (ix x4)) s0 (x6 + 16) h1 g2) fun (h3 : HI) (g4 : HL) =>
    pX8_asks_256 N K13 h3 g4
theorem jX8_asks_220 {D : DE} {f : Nat} {F : Frm} (hF : k_Fix F) {N : Nat} {K13 : HI → HL → Option (Int32 × HI × HL)} {y9 : Int32} {h9 : HI} {g9 : HL} (hK13 : ∀ (h : HI) (g : HL), K13 h g = some (y9, h9, g9) → V D mX8_asks (f + 4) (qi F (eqi y9 h9 g9)) 13 [(0, .ref (ad D 115))] [] (F, h, g)) : ∀ (x4 : Int32) (x6 : Int32) (s0 : Int32) (h : HI) (g : HL), pX8_asks_220 N K13 x4 x6 s0 h g = some (y9, h9, g9) → JX8_asks_220 D (f + 3) (eqi y9 h9 g9) F h g x4 x6 s0 := by
  intro x4 x6 s0 h g E
  unfold pX8_asks_220 at E
  refine ⟨fun c0 => ?_, fun c0 => ?_⟩
  · replace E := iteT c0 E
    exact jX8_asks_256 hF hK13 _ _ E
  · replace E := iteF c0 E
    obtain ⟨h1, g2, e0, E⟩ := obvE E
    refine Sv.mono (sX8_asking (f := f + 1) hF e0) (fun h8 g8 hq => ?_)
    obtain ⟨rfl, rfl⟩ := hq
    obtain ⟨z0, E⟩ := gdE E; refine ⟨vinE z0, ?_⟩
    obtain ⟨h3, g4, e0, E⟩ := obvE E
    refine Sv.mono (sX8_asking (f := f + 1) hF e0) (fun h8 g8 hq => ?_)
    obtain ⟨rfl, rfl⟩ := hq
    exact jX8_asks_256 hF hK13 _ _ E
def pX8_asks_114 (N : Nat) (K13 : HI → HL → Option (Int32 × HI × HL)) (s1 : Int32) (s2 : Int32) (h : HI) (g : HL) : Option (Int32 × HI × HL) :=
  obv (pX8_join N s1 s2 h g) fun (h1 : HI) (g2 : HL) =>
  pX8_asks_256 N K13 h1 g2
theorem jX8_asks_114 {D : DE} {f : Nat} {F : Frm} (hF : k_Fix F) {N : Nat} {K13 : HI → HL → Option (Int32 × HI × HL)} {y9 : Int32} {h9 : HI} {g9 : HL} (hK13 : ∀ (h : HI) (g : HL), K13 h g = some (y9, h9, g9) → V D mX8_asks (f + 4) (qi F (eqi y9 h9 g9)) 13 [(0, .ref (ad D 115))] [] (F, h, g)) : ∀ (s1 : Int32) (s2 : Int32) (h : HI) (g : HL), pX8_asks_114 N K13 s1 s2 h g = some (y9, h9, g9) → JX8_asks_114 D (f + 3) (eqi y9 h9 g9) F h g s1 s2 := by
  intro s1 s2 h g E
  unfold pX8_asks_114 at E
  obtain ⟨h1, g2, e0, E⟩ := obvE E
  refine Sv.mono (sX8_join (f := f) hF e0) (fun h8 g8 hq => ?_)
  obtain ⟨rfl, rfl⟩ := hq
  exact jX8_asks_256 hF hK13 _ _ E
def pX8_asks_101 (N : Nat) (K13 : HI → HL → Option (Int32 × HI × HL)) (x3 : Int32) (x6 : Int32) (h : HI) (g : HL) : Option (Int32 × HI × HL) :=
  if x3 = 2 then
    pX8_asks_114 N K13 x6 1 h g
  else
    pX8_asks_114 N K13 x6 0 h g
theorem jX8_asks_101 {D : DE} {f : Nat} {F : Frm} (hF : k_Fix F) {N : Nat} {K13 : HI → HL → Option (Int32 × HI × HL)} {y9 : Int32} {h9 : HI} {g9 : HL} (hK13 : ∀ (h : HI) (g : HL), K13 h g = some (y9, h9, g9) → V D mX8_asks (f + 4) (qi F (eqi y9 h9 g9)) 13 [(0, .ref (ad D 115))] [] (F, h, g)) : ∀ (x3 : Int32) (x6 : Int32) (h : HI) (g : HL), pX8_asks_101 N K13 x3 x6 h g = some (y9, h9, g9) → JX8_asks_101 D (f + 3) (eqi y9 h9 g9) F h g x3 x6 := by
  intro x3 x6 h g E
  unfold pX8_asks_101 at E
  refine ⟨fun c0 => ?_, fun c0 => ?_⟩
  · replace E := iteF c0 E
    exact jX8_asks_114 hF hK13 _ _ _ _ E
  · replace E := iteT c0 E
    exact jX8_asks_114 hF hK13 _ _ _ _ E
def pX8_asks_13 (N : Nat) : Nat → HI → HL → Option (Int32 × HI × HL)
  | 0, _, _ => none
  | n + 1, h, g =>
    if (h 115 36) ≤ 0 then
      gd (isBb (h 142 (ix 0))) <|
      some ((h 142 (ix 0)), h, g)
    else
      bnd (up2 h 115 36 ((h 115 36) - 1)) fun (h1 : HI) =>
      gd (vin (h1 115 36) 3000) <|
      bnd (h1 134 (ix (h1 115 36))) fun (y2 : Int32) =>
      gd (vin (h1 115 36) 3000) <|
      bnd (h1 135 (ix (h1 115 36))) fun (y3 : Int32) =>
      gd (vin (h1 115 36) 3000) <|
      bnd (h1 140 (ix (h1 115 36))) fun (y4 : Int32) =>
      gd (vin (h1 115 36) 3000) <|
      bnd (h1 138 (ix (h1 115 36))) fun (y5 : Int32) =>
      if y2 = 1 then
        obv (pX8_onAsk N y3 y4 y5 h1 g) fun (h16 : HI) (g17 : HL) =>
        pX8_asks_256 N (pX8_asks_13 N n) h16 g17
      else
        if y2 = 2 then
          pX8_asks_101 N (pX8_asks_13 N n) y2 y5 h1 g
        else
          if y2 = 3 then
            pX8_asks_101 N (pX8_asks_13 N n) y2 y5 h1 g
          else
            if y2 = 6 then
              obv (pX8_onArgument N y3 y4 y5 h1 g) fun (h14 : HI) (g15 : HL) =>
              pX8_asks_256 N (pX8_asks_13 N n) h14 g15
            else
              gd (vin (y5 / 16) 500) <|
              if (h1 142 (ix (y5 / 16))) = 0 then
                gd (vin y3 2002) <|
                gd (vin (y5 + (h1 127 (ix y3))) 8000) <|
                bnd (h1 141 (ix (y5 + (h1 127 (ix y3))))) fun (y6 : Int32) =>
                if y2 = 4 then
                  pX8_asks_220 N (pX8_asks_13 N n) y3 y5 y6 h1 g
                else
                  gd (vin y3 2002) <|
                  gd (vin (h1 125 (ix y3)) 2002) <|
                  obi (pX8_secondOf N (h1 129 (ix (h1 125 (ix y3)))) h1 g) fun (y9 : Int32) (h7 : HI) (g8 : HL) =>
                  obi (pX8_demands N y9 h7 g8) fun (y12 : Int32) (h10 : HI) (g11 : HL) =>
                  gd (vin y3 2002) <|
                  gd (vin ((y5 + (h10 127 (ix y3))) + 1) 8000) <|
                  bnd ((1 + (y6 * y12)) + (h10 141 (ix ((y5 + (h10 127 (ix y3))) + 1)))) fun (y13 : Int32) =>
                  pX8_asks_220 N (pX8_asks_13 N n) y3 y5 y13 h10 g11
              else
                pX8_asks_256 N (pX8_asks_13 N n) h1 g
theorem lX8_asks_13 {D : DE} {f : Nat} {F : Frm} (hF : k_Fix F) {N : Nat} {y9 : Int32} {h9 : HI} {g9 : HL}  : ∀ (n : Nat) (h : HI) (g : HL), pX8_asks_13 N n h g = some (y9, h9, g9) → V D mX8_asks (f + 4) (qi F (eqi y9 h9 g9)) 13 [(0, .ref (ad D 115))] [] (F, h, g) := by
  intro n
  induction n with
  | zero => intro h g E; cases E
  | succ n hK13 =>
    intro h g E
    rw [pX8_asks_13] at E
    refine bX8_asks_13 (f := (f + 3)) hF  ?_
    refine ⟨fun c0 => ?_, fun c0 => ?_⟩
    · replace E := iteT c0 E
      obtain ⟨z0, E⟩ := gdE E; refine ⟨isBbE z0, ?_⟩
      cases E; exact ⟨rfl, rfl, rfl⟩
    · replace E := iteF c0 E
      intro h1 e0; replace E := bndE e0 E
      obtain ⟨z0, E⟩ := gdE E; refine ⟨vinE z0, ?_⟩
      intro y2 e0; replace E := bndE e0 E
      obtain ⟨z0, E⟩ := gdE E; refine ⟨vinE z0, ?_⟩
      intro y3 e0; replace E := bndE e0 E
      obtain ⟨z0, E⟩ := gdE E; refine ⟨vinE z0, ?_⟩
      intro y4 e0; replace E := bndE e0 E
      obtain ⟨z0, E⟩ := gdE E; refine ⟨vinE z0, ?_⟩
      intro y5 e0; replace E := bndE e0 E
      refine ⟨fun c0 => ?_, fun c0 => ?_⟩
      · replace E := iteF c0 E
        refine ⟨fun c0 => ?_, fun c0 => ?_⟩
        · replace E := iteT c0 E
          exact jX8_asks_101 hF hK13 _ _ _ _ E
        · replace E := iteF c0 E
          refine ⟨fun c0 => ?_, fun c0 => ?_⟩
          · replace E := iteF c0 E
            refine ⟨fun c0 => ?_, fun c0 => ?_⟩
            · replace E := iteF c0 E
              obtain ⟨z0, E⟩ := gdE E; refine ⟨vinE z0, ?_⟩
              refine ⟨fun c0 => ?_, fun c0 => ?_⟩
              · replace E := iteF c0 E
                exact jX8_asks_256 hF hK13 _ _ E
              · replace E := iteT c0 E
                obtain ⟨z0, E⟩ := gdE E; refine ⟨vinE z0, ?_⟩
                obtain ⟨z0, E⟩ := gdE E; refine ⟨vinE z0, ?_⟩
                intro y6 e0; replace E := bndE e0 E
                refine ⟨fun c0 => ?_, fun c0 => ?_⟩
                · replace E := iteF c0 E
                  obtain ⟨z0, E⟩ := gdE E; refine ⟨vinE z0, ?_⟩
                  obtain ⟨z0, E⟩ := gdE E; refine ⟨vinE z0, ?_⟩
                  obtain ⟨y9, h7, g8, e0, E⟩ := obiE E
                  refine Si.mono (sX8_secondOf (f := f + 3) hF e0) (fun y8 h8 g8 hq => ?_)
                  obtain ⟨rfl, rfl, rfl⟩ := hq
                  obtain ⟨y12, h10, g11, e0, E⟩ := obiE E
                  refine Si.mono (sX8_demands (f := f + 3) hF e0) (fun y8 h8 g8 hq => ?_)
                  obtain ⟨rfl, rfl, rfl⟩ := hq
                  obtain ⟨z0, E⟩ := gdE E; refine ⟨vinE z0, ?_⟩
                  obtain ⟨z0, E⟩ := gdE E; refine ⟨vinE z0, ?_⟩
                  intro y13 e0; replace E := bndE e0 E
                  exact jX8_asks_220 hF hK13 _ _ _ _ _ E
                · replace E := iteT c0 E
                  exact jX8_asks_220 hF hK13 _ _ _ _ _ E
            · replace E := iteT c0 E
              obtain ⟨h14, g15, e0, E⟩ := obvE E
              refine Sv.mono (sX8_onArgument (f := f) hF e0) (fun h8 g8 hq => ?_)
              obtain ⟨rfl, rfl⟩ := hq
              exact jX8_asks_256 hF hK13 _ _ E
          · replace E := iteT c0 E
            exact jX8_asks_101 hF hK13 _ _ _ _ E
      · replace E := iteT c0 E
        obtain ⟨h16, g17, e0, E⟩ := obvE E
        refine Sv.mono (sX8_onAsk (f := f) hF e0) (fun h8 g8 hq => ?_)
        obtain ⟨rfl, rfl⟩ := hq
        exact jX8_asks_256 hF hK13 _ _ E
def pX8_asks_0 (N : Nat) (x1 : Int32) (x2 : Int32) (h : HI) (g : HL) : Option (Int32 × HI × HL) :=
  bnd (up2 h 115 36 0) fun (h1 : HI) =>
  obv (pX8_asking N 1 x1 x2 0 h1 g) fun (h2 : HI) (g3 : HL) =>
  pX8_asks_13 N N h2 g3
theorem jX8_asks_0 {D : DE} {f : Nat} {F : Frm} (hF : k_Fix F) {N : Nat} {y9 : Int32} {h9 : HI} {g9 : HL}  : ∀ (x1 : Int32) (x2 : Int32) (h : HI) (g : HL), pX8_asks_0 N x1 x2 h g = some (y9, h9, g9) → JX8_asks_0 D (f + 3) (eqi y9 h9 g9) F h g x1 x2 := by
  intro x1 x2 h g E
  unfold pX8_asks_0 at E
  intro h1 e0; replace E := bndE e0 E
  obtain ⟨h2, g3, e0, E⟩ := obvE E
  refine Sv.mono (sX8_asking (f := f + 1) hF e0) (fun h8 g8 hq => ?_)
  obtain ⟨rfl, rfl⟩ := hq
  exact lX8_asks_13 hF  N _ _ E
abbrev pX8_asks (N : Nat) (x1 : Int32) (x2 : Int32) (h : HI) (g : HL) : Option (Int32 × HI × HL) := pX8_asks_0 N x1 x2 h g
theorem sX8_asks {D : DE} {f : Nat} {F : Frm} (hF : k_Fix F) {N : Nat} {y9 : Int32} {h9 : HI} {g9 : HL} {x1 : Int32} {x2 : Int32} {h : HI} {g : HL} (E : pX8_asks N x1 x2 h g = some (y9, h9, g9)) : Si D (f + 4) mX8_asks [.ref (ad D 115), .int x1, .int x2] F h g (eqi y9 h9 g9) := wX8_asks (f := (f + 3)) hF _ _ (jX8_asks_0 hF _ _ _ _ E)
def pX8_all_0 (N : Nat) (x1 : Int32) (x2 : Int32) (h : HI) (g : HL) : Option (Int32 × HI × HL) :=
  gd (vin ((16 * ((12 * (h 115 47)) + x1)) + x2) 384) <|
  bnd (h 123 (ix ((16 * ((12 * (h 115 47)) + x1)) + x2))) fun (y1 : Int32) =>
  obi (pX8_demands N y1 h g) fun (y4 : Int32) (h2 : HI) (g3 : HL) =>
  some ((y4 - 1), h2, g3)
theorem jX8_all_0 {D : DE} {f : Nat} {F : Frm} (hF : k_Fix F) {N : Nat} {y9 : Int32} {h9 : HI} {g9 : HL}  : ∀ (x1 : Int32) (x2 : Int32) (h : HI) (g : HL), pX8_all_0 N x1 x2 h g = some (y9, h9, g9) → JX8_all_0 D f (eqi y9 h9 g9) F h g x1 x2 := by
  intro x1 x2 h g E
  unfold pX8_all_0 at E
  obtain ⟨z0, E⟩ := gdE E; refine ⟨vinE z0, ?_⟩
  intro y1 e0; replace E := bndE e0 E
  obtain ⟨y4, h2, g3, e0, E⟩ := obiE E
  refine Si.mono (sX8_demands (f := f) hF e0) (fun y8 h8 g8 hq => ?_)
  obtain ⟨rfl, rfl, rfl⟩ := hq
  cases E; exact ⟨rfl, rfl, rfl⟩
abbrev pX8_all (N : Nat) (x1 : Int32) (x2 : Int32) (h : HI) (g : HL) : Option (Int32 × HI × HL) := pX8_all_0 N x1 x2 h g
theorem sX8_all {D : DE} {f : Nat} {F : Frm} (hF : k_Fix F) {N : Nat} {y9 : Int32} {h9 : HI} {g9 : HL} {x1 : Int32} {x2 : Int32} {h : HI} {g : HL} (E : pX8_all N x1 x2 h g = some (y9, h9, g9)) : Si D (f + 1) mX8_all [.ref (ad D 115), .int x1, .int x2] F h g (eqi y9 h9 g9) := wX8_all (f := f) hF _ _ (jX8_all_0 hF _ _ _ _ E)
def pX8_renewed_128 (N : Nat) (K65 : Int32 → Int32 → Int32 → Int32 → HI → HL → Option (Int32 × HI × HL)) (x3 : Int32) (x4 : Int32) (x6 : Int32) (x7 : Int32) (s0 : Int32) (h : HI) (g : HL) : Option (Int32 × HI × HL) :=
  gd (vin ((4 * x3) + x6) 1248) <|
  bnd (up2 h 143 (ix ((4 * x3) + x6)) x7) fun (h1 : HI) =>
  bnd (x6 + 1) fun (y2 : Int32) =>
  K65 x3 x4 s0 y2 h1 g
theorem jX8_renewed_128 {D : DE} {f : Nat} {F : Frm} (hF : k_Fix F) {N : Nat} {K65 : Int32 → Int32 → Int32 → Int32 → HI → HL → Option (Int32 × HI × HL)} {y9 : Int32} {h9 : HI} {g9 : HL} (hK65 : ∀ (x3 : Int32) (x4 : Int32) (x5 : Int32) (x6 : Int32) (h : HI) (g : HL), K65 x3 x4 x5 x6 h g = some (y9, h9, g9) → V D mX8_renewed (f + 5) (qi F (eqi y9 h9 g9)) 65 [(0, .ref (ad D 115)), (3, .int x3), (4, .int x4), (5, .int x5), (6, .int x6)] [] (F, h, g)) : ∀ (x3 : Int32) (x4 : Int32) (x6 : Int32) (x7 : Int32) (s0 : Int32) (h : HI) (g : HL), pX8_renewed_128 N K65 x3 x4 x6 x7 s0 h g = some (y9, h9, g9) → JX8_renewed_128 D (f + 4) (eqi y9 h9 g9) F h g x3 x4 x6 x7 s0 := by
  intro x3 x4 x6 x7 s0 h g E
  unfold pX8_renewed_128 at E
  obtain ⟨z0, E⟩ := gdE E; refine ⟨vinE z0, ?_⟩
  intro h1 e0; replace E := bndE e0 E
  intro y2 e0; replace E := bndE e0 E
  exact hK65 _ _ _ _ _ _ E
def pX8_renewed_127 (N : Nat) (K65 : Int32 → Int32 → Int32 → Int32 → HI → HL → Option (Int32 × HI × HL)) (x3 : Int32) (x4 : Int32) (x6 : Int32) (x7 : Int32) (h : HI) (g : HL) : Option (Int32 × HI × HL) :=
  pX8_renewed_128 N K65 x3 x4 x6 x7 0 h g
theorem jX8_renewed_127 {D : DE} {f : Nat} {F : Frm} (hF : k_Fix F) {N : Nat} {K65 : Int32 → Int32 → Int32 → Int32 → HI → HL → Option (Int32 × HI × HL)} {y9 : Int32} {h9 : HI} {g9 : HL} (hK65 : ∀ (x3 : Int32) (x4 : Int32) (x5 : Int32) (x6 : Int32) (h : HI) (g : HL), K65 x3 x4 x5 x6 h g = some (y9, h9, g9) → V D mX8_renewed (f + 5) (qi F (eqi y9 h9 g9)) 65 [(0, .ref (ad D 115)), (3, .int x3), (4, .int x4), (5, .int x5), (6, .int x6)] [] (F, h, g)) : ∀ (x3 : Int32) (x4 : Int32) (x6 : Int32) (x7 : Int32) (h : HI) (g : HL), pX8_renewed_127 N K65 x3 x4 x6 x7 h g = some (y9, h9, g9) → JX8_renewed_127 D (f + 4) (eqi y9 h9 g9) F h g x3 x4 x6 x7 := by
  intro x3 x4 x6 x7 h g E
  unfold pX8_renewed_127 at E
  exact jX8_renewed_128 hF hK65 _ _ _ _ _ _ _ E
def pX8_renewed_123 (N : Nat) (K65 : Int32 → Int32 → Int32 → Int32 → HI → HL → Option (Int32 × HI × HL)) (x3 : Int32) (x4 : Int32) (x6 : Int32) (x7 : Int32) (h : HI) (g : HL) : Option (Int32 × HI × HL) :=
  pX8_renewed_128 N K65 x3 x4 x6 x7 1 h g
theorem jX8_renewed_123 {D : DE} {f : Nat} {F : Frm} (hF : k_Fix F) {N : Nat} {K65 : Int32 → Int32 → Int32 → Int32 → HI → HL → Option (Int32 × HI × HL)} {y9 : Int32} {h9 : HI} {g9 : HL} (hK65 : ∀ (x3 : Int32) (x4 : Int32) (x5 : Int32) (x6 : Int32) (h : HI) (g : HL), K65 x3 x4 x5 x6 h g = some (y9, h9, g9) → V D mX8_renewed (f + 5) (qi F (eqi y9 h9 g9)) 65 [(0, .ref (ad D 115)), (3, .int x3), (4, .int x4), (5, .int x5), (6, .int x6)] [] (F, h, g)) : ∀ (x3 : Int32) (x4 : Int32) (x6 : Int32) (x7 : Int32) (h : HI) (g : HL), pX8_renewed_123 N K65 x3 x4 x6 x7 h g = some (y9, h9, g9) → JX8_renewed_123 D (f + 4) (eqi y9 h9 g9) F h g x3 x4 x6 x7 := by
  intro x3 x4 x6 x7 h g E
  unfold pX8_renewed_123 at E
  exact jX8_renewed_128 hF hK65 _ _ _ _ _ _ _ E
def pX8_renewed_95 (N : Nat) (K65 : Int32 → Int32 → Int32 → Int32 → HI → HL → Option (Int32 × HI × HL)) (x3 : Int32) (x4 : Int32) (x5 : Int32) (x6 : Int32) (s0 : Int32) (h : HI) (g : HL) : Option (Int32 × HI × HL) :=
  if x5 = 0 then
    if x4 = 0 then
      gd (vin ((4 * x3) + x6) 1248) <|
      if (h 143 (ix ((4 * x3) + x6))) = s0 then
        pX8_renewed_127 N K65 x3 x4 x6 s0 h g
      else
        pX8_renewed_123 N K65 x3 x4 x6 s0 h g
    else
      pX8_renewed_127 N K65 x3 x4 x6 s0 h g
  else
    pX8_renewed_123 N K65 x3 x4 x6 s0 h g
theorem jX8_renewed_95 {D : DE} {f : Nat} {F : Frm} (hF : k_Fix F) {N : Nat} {K65 : Int32 → Int32 → Int32 → Int32 → HI → HL → Option (Int32 × HI × HL)} {y9 : Int32} {h9 : HI} {g9 : HL} (hK65 : ∀ (x3 : Int32) (x4 : Int32) (x5 : Int32) (x6 : Int32) (h : HI) (g : HL), K65 x3 x4 x5 x6 h g = some (y9, h9, g9) → V D mX8_renewed (f + 5) (qi F (eqi y9 h9 g9)) 65 [(0, .ref (ad D 115)), (3, .int x3), (4, .int x4), (5, .int x5), (6, .int x6)] [] (F, h, g)) : ∀ (x3 : Int32) (x4 : Int32) (x5 : Int32) (x6 : Int32) (s0 : Int32) (h : HI) (g : HL), pX8_renewed_95 N K65 x3 x4 x5 x6 s0 h g = some (y9, h9, g9) → JX8_renewed_95 D (f + 4) (eqi y9 h9 g9) F h g x3 x4 x5 x6 s0 := by
  intro x3 x4 x5 x6 s0 h g E
  unfold pX8_renewed_95 at E
  refine ⟨fun c0 => ?_, fun c0 => ?_⟩
  · replace E := iteF c0 E
    exact jX8_renewed_123 hF hK65 _ _ _ _ _ _ E
  · replace E := iteT c0 E
    refine ⟨fun c0 => ?_, fun c0 => ?_⟩
    · replace E := iteF c0 E
      exact jX8_renewed_127 hF hK65 _ _ _ _ _ _ E
    · replace E := iteT c0 E
      obtain ⟨z0, E⟩ := gdE E; refine ⟨vinE z0, ?_⟩
      refine ⟨fun c0 => ?_, fun c0 => ?_⟩
      · replace E := iteT c0 E
        exact jX8_renewed_127 hF hK65 _ _ _ _ _ _ E
      · replace E := iteF c0 E
        exact jX8_renewed_123 hF hK65 _ _ _ _ _ _ E
def pX8_renewed_65 (N : Nat) : Nat → Int32 → Int32 → Int32 → Int32 → HI → HL → Option (Int32 × HI × HL)
  | 0, _, _, _, _, _, _ => none
  | n + 1, x3, x4, x5, x6, h, g =>
    gd (vin (h 115 33) 24) <|
    if (h 119 (ix (h 115 33))) ≤ x6 then
      gd (isBb x5) <|
      some (x5, h, g)
    else
      if x4 = 0 then
        gd (vin x6 8000) <|
        pX8_renewed_95 N (pX8_renewed_65 N n) x3 x4 x5 x6 (h 141 (ix x6)) h g
      else
        pX8_renewed_95 N (pX8_renewed_65 N n) x3 x4 x5 x6 0 h g
theorem lX8_renewed_65 {D : DE} {f : Nat} {F : Frm} (hF : k_Fix F) {N : Nat} {y9 : Int32} {h9 : HI} {g9 : HL}  : ∀ (n : Nat) (x3 : Int32) (x4 : Int32) (x5 : Int32) (x6 : Int32) (h : HI) (g : HL), pX8_renewed_65 N n x3 x4 x5 x6 h g = some (y9, h9, g9) → V D mX8_renewed (f + 5) (qi F (eqi y9 h9 g9)) 65 [(0, .ref (ad D 115)), (3, .int x3), (4, .int x4), (5, .int x5), (6, .int x6)] [] (F, h, g) := by
  intro n
  induction n with
  | zero => intro x3 x4 x5 x6 h g E; cases E
  | succ n hK65 =>
    intro x3 x4 x5 x6 h g E
    rw [pX8_renewed_65] at E
    refine bX8_renewed_65 (f := (f + 4)) hF x3 x4 x5 x6 ?_
    obtain ⟨z0, E⟩ := gdE E; refine ⟨vinE z0, ?_⟩
    refine ⟨fun c0 => ?_, fun c0 => ?_⟩
    · replace E := iteT c0 E
      obtain ⟨z0, E⟩ := gdE E; refine ⟨isBbE z0, ?_⟩
      cases E; exact ⟨rfl, rfl, rfl⟩
    · replace E := iteF c0 E
      refine ⟨fun c0 => ?_, fun c0 => ?_⟩
      · replace E := iteT c0 E
        obtain ⟨z0, E⟩ := gdE E; refine ⟨vinE z0, ?_⟩
        exact jX8_renewed_95 hF hK65 _ _ _ _ _ _ _ E
      · replace E := iteF c0 E
        exact jX8_renewed_95 hF hK65 _ _ _ _ _ _ _ E
def pX8_renewed_52 (N : Nat) (x3 : Int32) (x4 : Int32) (s0 : Int32) (h : HI) (g : HL) : Option (Int32 × HI × HL) :=
  gd (vin x3 312) <|
  gd (isBb x4) <|
  bnd (up2 h 144 (ix x3) x4) fun (h1 : HI) =>
  pX8_renewed_65 N N x3 x4 s0 0 h1 g
theorem jX8_renewed_52 {D : DE} {f : Nat} {F : Frm} (hF : k_Fix F) {N : Nat} {y9 : Int32} {h9 : HI} {g9 : HL}  : ∀ (x3 : Int32) (x4 : Int32) (s0 : Int32) (h : HI) (g : HL), pX8_renewed_52 N x3 x4 s0 h g = some (y9, h9, g9) → JX8_renewed_52 D (f + 4) (eqi y9 h9 g9) F h g x3 x4 s0 := by
  intro x3 x4 s0 h g E
  unfold pX8_renewed_52 at E
  obtain ⟨z0, E⟩ := gdE E; refine ⟨vinE z0, ?_⟩
  obtain ⟨z0, E⟩ := gdE E; refine ⟨isBbE z0, ?_⟩
  intro h1 e0; replace E := bndE e0 E
  exact lX8_renewed_65 hF  N _ _ _ _ _ _ E
def pX8_renewed_0 (N : Nat) (x1 : Int32) (x2 : Int32) (h : HI) (g : HL) : Option (Int32 × HI × HL) :=
  bnd (up2 h 115 33 ((12 * (h 115 47)) + x1)) fun (h1 : HI) =>
  bnd ((26 * x1) + x2) fun (y2 : Int32) =>
  gd (vin (h1 115 33) 24) <|
  obi (pX8_asks N (h1 121 (ix (h1 115 33))) x2 h1 g) fun (y5 : Int32) (h3 : HI) (g4 : HL) =>
  gd (vin y2 312) <|
  if y5 = (h3 144 (ix y2)) then
    pX8_renewed_52 N y2 y5 0 h3 g4
  else
    pX8_renewed_52 N y2 y5 1 h3 g4
theorem jX8_renewed_0 {D : DE} {f : Nat} {F : Frm} (hF : k_Fix F) {N : Nat} {y9 : Int32} {h9 : HI} {g9 : HL}  : ∀ (x1 : Int32) (x2 : Int32) (h : HI) (g : HL), pX8_renewed_0 N x1 x2 h g = some (y9, h9, g9) → JX8_renewed_0 D (f + 4) (eqi y9 h9 g9) F h g x1 x2 := by
  intro x1 x2 h g E
  unfold pX8_renewed_0 at E
  intro h1 e0; replace E := bndE e0 E
  intro y2 e0; replace E := bndE e0 E
  obtain ⟨z0, E⟩ := gdE E; refine ⟨vinE z0, ?_⟩
  obtain ⟨y5, h3, g4, e0, E⟩ := obiE E
  refine Si.mono (sX8_asks (f := f) hF e0) (fun y8 h8 g8 hq => ?_)
  obtain ⟨rfl, rfl, rfl⟩ := hq
  obtain ⟨z0, E⟩ := gdE E; refine ⟨vinE z0, ?_⟩
  refine ⟨fun c0 => ?_, fun c0 => ?_⟩
  · replace E := iteT c0 E
    exact jX8_renewed_52 hF  _ _ _ _ _ E
  · replace E := iteF c0 E
    exact jX8_renewed_52 hF  _ _ _ _ _ E
abbrev pX8_renewed (N : Nat) (x1 : Int32) (x2 : Int32) (h : HI) (g : HL) : Option (Int32 × HI × HL) := pX8_renewed_0 N x1 x2 h g
theorem sX8_renewed {D : DE} {f : Nat} {F : Frm} (hF : k_Fix F) {N : Nat} {y9 : Int32} {h9 : HI} {g9 : HL} {x1 : Int32} {x2 : Int32} {h : HI} {g : HL} (E : pX8_renewed N x1 x2 h g = some (y9, h9, g9)) : Si D (f + 5) mX8_renewed [.ref (ad D 115), .int x1, .int x2] F h g (eqi y9 h9 g9) := wX8_renewed (f := (f + 4)) hF _ _ (jX8_renewed_0 hF _ _ _ _ E)
def pX8_rounds_125 (N : Nat) (K56 : Int32 → Int32 → HI → HL → Option (Int32 × HI × HL)) (K64 : Int32 → Int32 → Int32 → HI → HL → Option (Int32 × HI × HL)) (K80 : Int32 → Int32 → Int32 → Int32 → HI → HL → Option (Int32 × HI × HL)) (x1 : Int32) (x3 : Int32) (x4 : Int32) (s0 : Int32) (h : HI) (g : HL) : Option (Int32 × HI × HL) :=
  bnd (x4 + 1) fun (y1 : Int32) =>
  K80 x1 s0 x3 y1 h g
theorem jX8_rounds_125 {D : DE} {f : Nat} {F : Frm} (hF : k_Fix F) {N : Nat} {K56 : Int32 → Int32 → HI → HL → Option (Int32 × HI × HL)} {K64 : Int32 → Int32 → Int32 → HI → HL → Option (Int32 × HI × HL)} {K80 : Int32 → Int32 → Int32 → Int32 → HI → HL → Option (Int32 × HI × HL)} {y9 : Int32} {h9 : HI} {g9 : HL} (hK56 : ∀ (x1 : Int32) (x2 : Int32) (h : HI) (g : HL), K56 x1 x2 h g = some (y9, h9, g9) → V D mX8_rounds (f + 6) (qi F (eqi y9 h9 g9)) 56 [(0, .ref (ad D 115)), (1, .int x1), (2, .int x2)] [] (F, h, g)) (hK64 : ∀ (x1 : Int32) (x2 : Int32) (x3 : Int32) (h : HI) (g : HL), K64 x1 x2 x3 h g = some (y9, h9, g9) → V D mX8_rounds (f + 6) (qi F (eqi y9 h9 g9)) 64 [(0, .ref (ad D 115)), (1, .int x1), (2, .int x2), (3, .int x3)] [] (F, h, g)) (hK80 : ∀ (x1 : Int32) (x2 : Int32) (x3 : Int32) (x4 : Int32) (h : HI) (g : HL), K80 x1 x2 x3 x4 h g = some (y9, h9, g9) → V D mX8_rounds (f + 6) (qi F (eqi y9 h9 g9)) 80 [(0, .ref (ad D 115)), (1, .int x1), (2, .int x2), (3, .int x3), (4, .int x4)] [] (F, h, g)) : ∀ (x1 : Int32) (x3 : Int32) (x4 : Int32) (s0 : Int32) (h : HI) (g : HL), pX8_rounds_125 N K56 K64 K80 x1 x3 x4 s0 h g = some (y9, h9, g9) → JX8_rounds_125 D (f + 5) (eqi y9 h9 g9) F h g x1 x3 x4 s0 := by
  intro x1 x3 x4 s0 h g E
  unfold pX8_rounds_125 at E
  intro y1 e0; replace E := bndE e0 E
  exact hK80 _ _ _ _ _ _ E
def pX8_rounds_120 (N : Nat) (K56 : Int32 → Int32 → HI → HL → Option (Int32 × HI × HL)) (K64 : Int32 → Int32 → Int32 → HI → HL → Option (Int32 × HI × HL)) (K80 : Int32 → Int32 → Int32 → Int32 → HI → HL → Option (Int32 × HI × HL)) (x1 : Int32) (x3 : Int32) (x4 : Int32) (h : HI) (g : HL) : Option (Int32 × HI × HL) :=
  pX8_rounds_125 N K56 K64 K80 x1 x3 x4 1 h g
theorem jX8_rounds_120 {D : DE} {f : Nat} {F : Frm} (hF : k_Fix F) {N : Nat} {K56 : Int32 → Int32 → HI → HL → Option (Int32 × HI × HL)} {K64 : Int32 → Int32 → Int32 → HI → HL → Option (Int32 × HI × HL)} {K80 : Int32 → Int32 → Int32 → Int32 → HI → HL → Option (Int32 × HI × HL)} {y9 : Int32} {h9 : HI} {g9 : HL} (hK56 : ∀ (x1 : Int32) (x2 : Int32) (h : HI) (g : HL), K56 x1 x2 h g = some (y9, h9, g9) → V D mX8_rounds (f + 6) (qi F (eqi y9 h9 g9)) 56 [(0, .ref (ad D 115)), (1, .int x1), (2, .int x2)] [] (F, h, g)) (hK64 : ∀ (x1 : Int32) (x2 : Int32) (x3 : Int32) (h : HI) (g : HL), K64 x1 x2 x3 h g = some (y9, h9, g9) → V D mX8_rounds (f + 6) (qi F (eqi y9 h9 g9)) 64 [(0, .ref (ad D 115)), (1, .int x1), (2, .int x2), (3, .int x3)] [] (F, h, g)) (hK80 : ∀ (x1 : Int32) (x2 : Int32) (x3 : Int32) (x4 : Int32) (h : HI) (g : HL), K80 x1 x2 x3 x4 h g = some (y9, h9, g9) → V D mX8_rounds (f + 6) (qi F (eqi y9 h9 g9)) 80 [(0, .ref (ad D 115)), (1, .int x1), (2, .int x2), (3, .int x3), (4, .int x4)] [] (F, h, g)) : ∀ (x1 : Int32) (x3 : Int32) (x4 : Int32) (h : HI) (g : HL), pX8_rounds_120 N K56 K64 K80 x1 x3 x4 h g = some (y9, h9, g9) → JX8_rounds_120 D (f + 5) (eqi y9 h9 g9) F h g x1 x3 x4 := by
  intro x1 x3 x4 h g E
  unfold pX8_rounds_120 at E
  exact jX8_rounds_125 hF hK56 hK64 hK80 _ _ _ _ _ _ E
def pX8_rounds_80 (N : Nat) (K56 : Int32 → Int32 → HI → HL → Option (Int32 × HI × HL)) (K64 : Int32 → Int32 → Int32 → HI → HL → Option (Int32 × HI × HL)) : Nat → Int32 → Int32 → Int32 → Int32 → HI → HL → Option (Int32 × HI × HL)
  | 0, _, _, _, _, _, _ => none
  | n + 1, x1, x2, x3, x4, h, g =>
    gd (vin ((12 * (h 115 47)) + x3) 24) <|
    obi (pX8_demands N (h 118 (ix ((12 * (h 115 47)) + x3))) h g) fun (y3 : Int32) (h1 : HI) (g2 : HL) =>
    if y3 ≤ x4 then
      bnd (x3 + 1) fun (y4 : Int32) =>
      K64 x1 x2 y4 h1 g2
    else
      obi (pX8_renewed N x3 x4 h1 g2) fun (y7 : Int32) (h5 : HI) (g6 : HL) =>
      if x2 = 0 then
        if y7 = 0 then
          pX8_rounds_125 N K56 K64 (pX8_rounds_80 N K56 K64 n) x1 x3 x4 0 h5 g6
        else
          pX8_rounds_120 N K56 K64 (pX8_rounds_80 N K56 K64 n) x1 x3 x4 h5 g6
      else
        pX8_rounds_120 N K56 K64 (pX8_rounds_80 N K56 K64 n) x1 x3 x4 h5 g6
theorem lX8_rounds_80 {D : DE} {f : Nat} {F : Frm} (hF : k_Fix F) {N : Nat} {K56 : Int32 → Int32 → HI → HL → Option (Int32 × HI × HL)} {K64 : Int32 → Int32 → Int32 → HI → HL → Option (Int32 × HI × HL)} {y9 : Int32} {h9 : HI} {g9 : HL} (hK56 : ∀ (x1 : Int32) (x2 : Int32) (h : HI) (g : HL), K56 x1 x2 h g = some (y9, h9, g9) → V D mX8_rounds (f + 6) (qi F (eqi y9 h9 g9)) 56 [(0, .ref (ad D 115)), (1, .int x1), (2, .int x2)] [] (F, h, g)) (hK64 : ∀ (x1 : Int32) (x2 : Int32) (x3 : Int32) (h : HI) (g : HL), K64 x1 x2 x3 h g = some (y9, h9, g9) → V D mX8_rounds (f + 6) (qi F (eqi y9 h9 g9)) 64 [(0, .ref (ad D 115)), (1, .int x1), (2, .int x2), (3, .int x3)] [] (F, h, g)) : ∀ (n : Nat) (x1 : Int32) (x2 : Int32) (x3 : Int32) (x4 : Int32) (h : HI) (g : HL), pX8_rounds_80 N K56 K64 n x1 x2 x3 x4 h g = some (y9, h9, g9) → V D mX8_rounds (f + 6) (qi F (eqi y9 h9 g9)) 80 [(0, .ref (ad D 115)), (1, .int x1), (2, .int x2), (3, .int x3), (4, .int x4)] [] (F, h, g) := by
  intro n
  induction n with
  | zero => intro x1 x2 x3 x4 h g E; cases E
  | succ n hK80 =>
    intro x1 x2 x3 x4 h g E
    rw [pX8_rounds_80] at E
    refine bX8_rounds_80 (f := (f + 5)) hF x1 x2 x3 x4 ?_
    obtain ⟨z0, E⟩ := gdE E; refine ⟨vinE z0, ?_⟩
    obtain ⟨y3, h1, g2, e0, E⟩ := obiE E
    refine Si.mono (sX8_demands (f := f + 5) hF e0) (fun y8 h8 g8 hq => ?_)
    obtain ⟨rfl, rfl, rfl⟩ := hq
    refine ⟨fun c0 => ?_, fun c0 => ?_⟩
    · replace E := iteT c0 E
      intro y4 e0; replace E := bndE e0 E
      exact hK64 _ _ _ _ _ E
    · replace E := iteF c0 E
      obtain ⟨y7, h5, g6, e0, E⟩ := obiE E
      refine Si.mono (sX8_renewed (f := f) hF e0) (fun y8 h8 g8 hq => ?_)
      obtain ⟨rfl, rfl, rfl⟩ := hq
      refine ⟨fun c0 => ?_, fun c0 => ?_⟩
      · replace E := iteF c0 E
        exact jX8_rounds_120 hF hK56 hK64 hK80 _ _ _ _ _ E
      · replace E := iteT c0 E
        refine ⟨fun c0 => ?_, fun c0 => ?_⟩
        · replace E := iteT c0 E
          exact jX8_rounds_125 hF hK56 hK64 hK80 _ _ _ _ _ _ E
        · replace E := iteF c0 E
          exact jX8_rounds_120 hF hK56 hK64 hK80 _ _ _ _ _ E
def pX8_rounds_64 (N : Nat) (K56 : Int32 → Int32 → HI → HL → Option (Int32 × HI × HL)) : Nat → Int32 → Int32 → Int32 → HI → HL → Option (Int32 × HI × HL)
  | 0, _, _, _, _, _ => none
  | n + 1, x1, x2, x3, h, g =>
    gd (vin (h 115 47) 2) <|
    if (h 132 (ix (h 115 47))) ≤ x3 then
      bnd (x1 + 1) fun (y1 : Int32) =>
      K56 y1 x2 h g
    else
      pX8_rounds_80 N K56 (pX8_rounds_64 N K56 n) N x1 x2 x3 1 h g
theorem lX8_rounds_64 {D : DE} {f : Nat} {F : Frm} (hF : k_Fix F) {N : Nat} {K56 : Int32 → Int32 → HI → HL → Option (Int32 × HI × HL)} {y9 : Int32} {h9 : HI} {g9 : HL} (hK56 : ∀ (x1 : Int32) (x2 : Int32) (h : HI) (g : HL), K56 x1 x2 h g = some (y9, h9, g9) → V D mX8_rounds (f + 6) (qi F (eqi y9 h9 g9)) 56 [(0, .ref (ad D 115)), (1, .int x1), (2, .int x2)] [] (F, h, g)) : ∀ (n : Nat) (x1 : Int32) (x2 : Int32) (x3 : Int32) (h : HI) (g : HL), pX8_rounds_64 N K56 n x1 x2 x3 h g = some (y9, h9, g9) → V D mX8_rounds (f + 6) (qi F (eqi y9 h9 g9)) 64 [(0, .ref (ad D 115)), (1, .int x1), (2, .int x2), (3, .int x3)] [] (F, h, g) := by
  intro n
  induction n with
  | zero => intro x1 x2 x3 h g E; cases E
  | succ n hK64 =>
    intro x1 x2 x3 h g E
    rw [pX8_rounds_64] at E
    refine bX8_rounds_64 (f := (f + 5)) hF x1 x2 x3 ?_
    obtain ⟨z0, E⟩ := gdE E; refine ⟨vinE z0, ?_⟩
    refine ⟨fun c0 => ?_, fun c0 => ?_⟩
    · replace E := iteT c0 E
      intro y1 e0; replace E := bndE e0 E
      exact hK56 _ _ _ _ E
    · replace E := iteF c0 E
      exact lX8_rounds_80 hF hK56 hK64 N _ _ _ _ _ _ E
def pX8_rounds_56 (N : Nat) : Nat → Int32 → Int32 → HI → HL → Option (Int32 × HI × HL)
  | 0, _, _, _, _ => none
  | n + 1, x1, x2, h, g =>
    if x2 = 0 then
      some (x1, h, g)
    else
      pX8_rounds_64 N (pX8_rounds_56 N n) N x1 0 0 h g
theorem lX8_rounds_56 {D : DE} {f : Nat} {F : Frm} (hF : k_Fix F) {N : Nat} {y9 : Int32} {h9 : HI} {g9 : HL}  : ∀ (n : Nat) (x1 : Int32) (x2 : Int32) (h : HI) (g : HL), pX8_rounds_56 N n x1 x2 h g = some (y9, h9, g9) → V D mX8_rounds (f + 6) (qi F (eqi y9 h9 g9)) 56 [(0, .ref (ad D 115)), (1, .int x1), (2, .int x2)] [] (F, h, g) := by
  intro n
  induction n with
  | zero => intro x1 x2 h g E; cases E
  | succ n hK56 =>
    intro x1 x2 h g E
    rw [pX8_rounds_56] at E
    refine bX8_rounds_56 (f := (f + 5)) hF x1 x2 ?_
    refine ⟨fun c0 => ?_, fun c0 => ?_⟩
    · replace E := iteT c0 E
      cases E; exact ⟨rfl, rfl, rfl⟩
    · replace E := iteF c0 E
      exact lX8_rounds_64 hF hK56 N _ _ _ _ _ E
def pX8_rounds_32 (N : Nat) : Nat → Int32 → HI → HL → Option (Int32 × HI × HL)
  | 0, _, _, _ => none
  | n + 1, x1, h, g =>
    if 312 ≤ x1 then
      pX8_rounds_56 N N 0 1 h g
    else
      gd (vin x1 312) <|
      bnd (up2 h 144 (ix x1) 1) fun (h1 : HI) =>
      bnd (x1 + 1) fun (y2 : Int32) =>
      (pX8_rounds_32 N n) y2 h1 g
theorem lX8_rounds_32 {D : DE} {f : Nat} {F : Frm} (hF : k_Fix F) {N : Nat} {y9 : Int32} {h9 : HI} {g9 : HL}  : ∀ (n : Nat) (x1 : Int32) (h : HI) (g : HL), pX8_rounds_32 N n x1 h g = some (y9, h9, g9) → V D mX8_rounds (f + 6) (qi F (eqi y9 h9 g9)) 32 [(0, .ref (ad D 115)), (1, .int x1)] [] (F, h, g) := by
  intro n
  induction n with
  | zero => intro x1 h g E; cases E
  | succ n hK32 =>
    intro x1 h g E
    rw [pX8_rounds_32] at E
    refine bX8_rounds_32 (f := (f + 5)) hF x1 ?_
    refine ⟨fun c0 => ?_, fun c0 => ?_⟩
    · replace E := iteT c0 E
      exact lX8_rounds_56 hF  N _ _ _ _ E
    · replace E := iteF c0 E
      obtain ⟨z0, E⟩ := gdE E; refine ⟨vinE z0, ?_⟩
      intro h1 e0; replace E := bndE e0 E
      intro y2 e0; replace E := bndE e0 E
      exact hK32 _ _ _ E
def pX8_rounds_13 (N : Nat) (s1 : Int32) (h : HI) (g : HL) : Option (Int32 × HI × HL) :=
  bnd (up2 h 115 0 s1) fun (h1 : HI) =>
  if (h1 115 0) ≤ 0 then
    bnd (up2 h1 115 46 1) fun (h2 : HI) =>
    pX8_rounds_32 N N 0 h2 g
  else
    some (0, h1, g)
theorem jX8_rounds_13 {D : DE} {f : Nat} {F : Frm} (hF : k_Fix F) {N : Nat} {y9 : Int32} {h9 : HI} {g9 : HL}  : ∀ (s1 : Int32) (h : HI) (g : HL), pX8_rounds_13 N s1 h g = some (y9, h9, g9) → JX8_rounds_13 D (f + 5) (eqi y9 h9 g9) F h g s1 := by
  intro s1 h g E
  unfold pX8_rounds_13 at E
  intro h1 e0; replace E := bndE e0 E
  refine ⟨fun c0 => ?_, fun c0 => ?_⟩
  · replace E := iteT c0 E
    intro h2 e0; replace E := bndE e0 E
    exact lX8_rounds_32 hF  N _ _ _ E
  · replace E := iteF c0 E
    cases E; exact ⟨rfl, rfl, rfl⟩
def pX8_rounds_0 (N : Nat) (h : HI) (g : HL) : Option (Int32 × HI × HL) :=
  if (h 115 45) = 0 then
    pX8_rounds_13 N 1 h g
  else
    pX8_rounds_13 N 0 h g
theorem jX8_rounds_0 {D : DE} {f : Nat} {F : Frm} (hF : k_Fix F) {N : Nat} {y9 : Int32} {h9 : HI} {g9 : HL}  : ∀ (h : HI) (g : HL), pX8_rounds_0 N h g = some (y9, h9, g9) → JX8_rounds_0 D (f + 5) (eqi y9 h9 g9) F h g  := by
  intro h g E
  unfold pX8_rounds_0 at E
  refine ⟨fun c0 => ?_, fun c0 => ?_⟩
  · replace E := iteT c0 E
    exact jX8_rounds_13 hF  _ _ _ E
  · replace E := iteF c0 E
    exact jX8_rounds_13 hF  _ _ _ E
abbrev pX8_rounds (N : Nat) (h : HI) (g : HL) : Option (Int32 × HI × HL) := pX8_rounds_0 N h g
theorem sX8_rounds {D : DE} {f : Nat} {F : Frm} (hF : k_Fix F) {N : Nat} {y9 : Int32} {h9 : HI} {g9 : HL} {h : HI} {g : HL} (E : pX8_rounds N h g = some (y9, h9, g9)) : Si D (f + 6) mX8_rounds [.ref (ad D 115)] F h g (eqi y9 h9 g9) := wX8_rounds (f := (f + 5)) hF  (jX8_rounds_0 hF _ _ E)
def pX8_isRowThere_35 (N : Nat) (s0 : Int64) (s1 : Int64) (s3 : Int32) (s4 : Int32) (h : HI) (g : HL) : Option (Int32 × HI × HL) :=
  gd (vin (s3 + s4) 24) <|
  obi (pX8_demands N (h 118 (ix (s3 + s4))) h g) fun (y3 : Int32) (h1 : HI) (g2 : HL) =>
  obi (pX8_within N s0 s1 ((y3 - 1).toInt64) h1 g2) fun (y6 : Int32) (h4 : HI) (g5 : HL) =>
  if y6 = 0 then
    some (0, h4, g5)
  else
    some (1, h4, g5)
theorem jX8_isRowThere_35 {D : DE} {f : Nat} {F : Frm} (hF : k_Fix F) {N : Nat} {y9 : Int32} {h9 : HI} {g9 : HL}  : ∀ (s0 : Int64) (s1 : Int64) (s3 : Int32) (s4 : Int32) (h : HI) (g : HL), pX8_isRowThere_35 N s0 s1 s3 s4 h g = some (y9, h9, g9) → JX8_isRowThere_35 D (f + 1) (eqi y9 h9 g9) F h g s0 s1 s3 s4 := by
  intro s0 s1 s3 s4 h g E
  unfold pX8_isRowThere_35 at E
  obtain ⟨z0, E⟩ := gdE E; refine ⟨vinE z0, ?_⟩
  obtain ⟨y3, h1, g2, e0, E⟩ := obiE E
  refine Si.mono (sX8_demands (f := f + 1) hF e0) (fun y8 h8 g8 hq => ?_)
  obtain ⟨rfl, rfl, rfl⟩ := hq
  obtain ⟨y6, h4, g5, e0, E⟩ := obiE E
  refine Si.mono (sX8_within (f := f + 1) hF e0) (fun y8 h8 g8 hq => ?_)
  obtain ⟨rfl, rfl, rfl⟩ := hq
  refine ⟨fun c0 => ?_, fun c0 => ?_⟩
  · replace E := iteT c0 E
    cases E; exact ⟨rfl, rfl, rfl⟩
  · replace E := iteF c0 E
    cases E; exact ⟨rfl, rfl, rfl⟩
def pX8_isRowThere_0 (N : Nat) (x1 : Int32) (x2 : Int32) (h : HI) (g : HL) : Option (Int32 × HI × HL) :=
  obi (pX8_isFn N x1 h g) fun (y3 : Int32) (h1 : HI) (g2 : HL) =>
  if y3 = 0 then
    some (0, h1, g2)
  else
    obi (pX8_isFn N x1 h1 g2) fun (y6 : Int32) (h4 : HI) (g5 : HL) =>
    if y6 = 0 then
      pX8_isRowThere_35 N x2.toInt64 1 (12 * (h1 115 47)) 0 h4 g5
    else
      pX8_isRowThere_35 N x2.toInt64 1 (12 * (h1 115 47)) x1 h4 g5
theorem jX8_isRowThere_0 {D : DE} {f : Nat} {F : Frm} (hF : k_Fix F) {N : Nat} {y9 : Int32} {h9 : HI} {g9 : HL}  : ∀ (x1 : Int32) (x2 : Int32) (h : HI) (g : HL), pX8_isRowThere_0 N x1 x2 h g = some (y9, h9, g9) → JX8_isRowThere_0 D (f + 1) (eqi y9 h9 g9) F h g x1 x2 := by
  intro x1 x2 h g E
  unfold pX8_isRowThere_0 at E
  obtain ⟨y3, h1, g2, e0, E⟩ := obiE E
  refine Si.mono (sX8_isFn (f := f) hF e0) (fun y8 h8 g8 hq => ?_)
  obtain ⟨rfl, rfl, rfl⟩ := hq
  refine ⟨fun c0 => ?_, fun c0 => ?_⟩
  · replace E := iteT c0 E
    cases E; exact ⟨rfl, rfl, rfl⟩
  · replace E := iteF c0 E
    obtain ⟨y6, h4, g5, e0, E⟩ := obiE E
    refine Si.mono (sX8_isFn (f := f) hF e0) (fun y8 h8 g8 hq => ?_)
    obtain ⟨rfl, rfl, rfl⟩ := hq
    refine ⟨fun c0 => ?_, fun c0 => ?_⟩
    · replace E := iteT c0 E
      exact jX8_isRowThere_35 hF  _ _ _ _ _ _ E
    · replace E := iteF c0 E
      exact jX8_isRowThere_35 hF  _ _ _ _ _ _ E
abbrev pX8_isRowThere (N : Nat) (x1 : Int32) (x2 : Int32) (h : HI) (g : HL) : Option (Int32 × HI × HL) := pX8_isRowThere_0 N x1 x2 h g
theorem sX8_isRowThere {D : DE} {f : Nat} {F : Frm} (hF : k_Fix F) {N : Nat} {y9 : Int32} {h9 : HI} {g9 : HL} {x1 : Int32} {x2 : Int32} {h : HI} {g : HL} (E : pX8_isRowThere N x1 x2 h g = some (y9, h9, g9)) : Si D (f + 2) mX8_isRowThere [.ref (ad D 115), .int x1, .int x2] F h g (eqi y9 h9 g9) := wX8_isRowThere (f := (f + 1)) hF _ _ (jX8_isRowThere_0 hF _ _ _ _ E)
def pX8_has_0 (N : Nat) (x1 : Int32) (x2 : Int32) (x3 : Int32) (h : HI) (g : HL) : Option (Int32 × HI × HL) :=
  gd (vin ((26 * x1) + x2) 312) <|
  if (h 144 (ix ((26 * x1) + x2))) = 0 then
    gd (vin ((4 * ((26 * x1) + x2)) + x3) 1248) <|
    some ((h 143 (ix ((4 * ((26 * x1) + x2)) + x3))), h, g)
  else
    obi (pX8_all N x1 x3 h g) fun (y3 : Int32) (h1 : HI) (g2 : HL) =>
    some (y3, h1, g2)
theorem jX8_has_0 {D : DE} {f : Nat} {F : Frm} (hF : k_Fix F) {N : Nat} {y9 : Int32} {h9 : HI} {g9 : HL}  : ∀ (x1 : Int32) (x2 : Int32) (x3 : Int32) (h : HI) (g : HL), pX8_has_0 N x1 x2 x3 h g = some (y9, h9, g9) → JX8_has_0 D (f + 1) (eqi y9 h9 g9) F h g x1 x2 x3 := by
  intro x1 x2 x3 h g E
  unfold pX8_has_0 at E
  obtain ⟨z0, E⟩ := gdE E; refine ⟨vinE z0, ?_⟩
  refine ⟨fun c0 => ?_, fun c0 => ?_⟩
  · replace E := iteT c0 E
    obtain ⟨z0, E⟩ := gdE E; refine ⟨vinE z0, ?_⟩
    cases E; exact ⟨rfl, rfl, rfl⟩
  · replace E := iteF c0 E
    obtain ⟨y3, h1, g2, e0, E⟩ := obiE E
    refine Si.mono (sX8_all (f := f) hF e0) (fun y8 h8 g8 hq => ?_)
    obtain ⟨rfl, rfl, rfl⟩ := hq
    cases E; exact ⟨rfl, rfl, rfl⟩
abbrev pX8_has (N : Nat) (x1 : Int32) (x2 : Int32) (x3 : Int32) (h : HI) (g : HL) : Option (Int32 × HI × HL) := pX8_has_0 N x1 x2 x3 h g
theorem sX8_has {D : DE} {f : Nat} {F : Frm} (hF : k_Fix F) {N : Nat} {y9 : Int32} {h9 : HI} {g9 : HL} {x1 : Int32} {x2 : Int32} {x3 : Int32} {h : HI} {g : HL} (E : pX8_has N x1 x2 x3 h g = some (y9, h9, g9)) : Si D (f + 2) mX8_has [.ref (ad D 115), .int x1, .int x2, .int x3] F h g (eqi y9 h9 g9) := wX8_has (f := (f + 1)) hF _ _ _ (jX8_has_0 hF _ _ _ _ _ E)
def pX8_dead_26 (N : Nat) (x1 : Int32) (x2 : Int32) (s1 : Int32) (h : HI) (g : HL) : Option (Int32 × HI × HL) :=
  bnd (up2 h 115 0 s1) fun (h1 : HI) =>
  if (h1 115 0) = 0 then
    gd (vin ((26 * x1) + x2) 312) <|
    if (h1 144 (ix ((26 * x1) + x2))) = 0 then
      some (0, h1, g)
    else
      some (1, h1, g)
  else
    some (0, h1, g)
theorem jX8_dead_26 {D : DE} {f : Nat} {F : Frm} (hF : k_Fix F) {N : Nat} {y9 : Int32} {h9 : HI} {g9 : HL}  : ∀ (x1 : Int32) (x2 : Int32) (s1 : Int32) (h : HI) (g : HL), pX8_dead_26 N x1 x2 s1 h g = some (y9, h9, g9) → JX8_dead_26 D (f + 2) (eqi y9 h9 g9) F h g x1 x2 s1 := by
  intro x1 x2 s1 h g E
  unfold pX8_dead_26 at E
  intro h1 e0; replace E := bndE e0 E
  refine ⟨fun c0 => ?_, fun c0 => ?_⟩
  · replace E := iteF c0 E
    cases E; exact ⟨rfl, rfl, rfl⟩
  · replace E := iteT c0 E
    obtain ⟨z0, E⟩ := gdE E; refine ⟨vinE z0, ?_⟩
    refine ⟨fun c0 => ?_, fun c0 => ?_⟩
    · replace E := iteT c0 E
      cases E; exact ⟨rfl, rfl, rfl⟩
    · replace E := iteF c0 E
      cases E; exact ⟨rfl, rfl, rfl⟩
def pX8_dead_0 (N : Nat) (x1 : Int32) (x2 : Int32) (h : HI) (g : HL) : Option (Int32 × HI × HL) :=
  if (h 115 46) = 0 then
    pX8_dead_26 N x1 x2 1 h g
  else
    obi (pX8_isRowThere N x1 x2 h g) fun (y3 : Int32) (h1 : HI) (g2 : HL) =>
    if y3 = 0 then
      pX8_dead_26 N x1 x2 2 h1 g2
    else
      pX8_dead_26 N x1 x2 0 h1 g2
theorem jX8_dead_0 {D : DE} {f : Nat} {F : Frm} (hF : k_Fix F) {N : Nat} {y9 : Int32} {h9 : HI} {g9 : HL}  : ∀ (x1 : Int32) (x2 : Int32) (h : HI) (g : HL), pX8_dead_0 N x1 x2 h g = some (y9, h9, g9) → JX8_dead_0 D (f + 2) (eqi y9 h9 g9) F h g x1 x2 := by
  intro x1 x2 h g E
  unfold pX8_dead_0 at E
  refine ⟨fun c0 => ?_, fun c0 => ?_⟩
  · replace E := iteF c0 E
    obtain ⟨y3, h1, g2, e0, E⟩ := obiE E
    refine Si.mono (sX8_isRowThere (f := f) hF e0) (fun y8 h8 g8 hq => ?_)
    obtain ⟨rfl, rfl, rfl⟩ := hq
    refine ⟨fun c0 => ?_, fun c0 => ?_⟩
    · replace E := iteF c0 E
      exact jX8_dead_26 hF  _ _ _ _ _ E
    · replace E := iteT c0 E
      exact jX8_dead_26 hF  _ _ _ _ _ E
  · replace E := iteT c0 E
    exact jX8_dead_26 hF  _ _ _ _ _ E
abbrev pX8_dead (N : Nat) (x1 : Int32) (x2 : Int32) (h : HI) (g : HL) : Option (Int32 × HI × HL) := pX8_dead_0 N x1 x2 h g
theorem sX8_dead {D : DE} {f : Nat} {F : Frm} (hF : k_Fix F) {N : Nat} {y9 : Int32} {h9 : HI} {g9 : HL} {x1 : Int32} {x2 : Int32} {h : HI} {g : HL} (E : pX8_dead N x1 x2 h g = some (y9, h9, g9)) : Si D (f + 3) mX8_dead [.ref (ad D 115), .int x1, .int x2] F h g (eqi y9 h9 g9) := wX8_dead (f := (f + 2)) hF _ _ (jX8_dead_0 hF _ _ _ _ E)
def pX8_isParamOf_0 (N : Nat) (x1 : Int32) (x2 : Int32) (h : HI) (g : HL) : Option (Int32 × HI × HL) :=
  obi (pX8_isFn N x1 h g) fun (y3 : Int32) (h1 : HI) (g2 : HL) =>
  if y3 = 0 then
    some (0, h1, g2)
  else
    gd (vin ((12 * (h1 115 47)) + x1) 24) <|
    bnd (((h1 119 (ix ((12 * (h1 115 47)) + x1))) - 1).toInt64) fun (y4 : Int64) =>
    obi (pX8_within N x2.toInt64 0 y4 h1 g2) fun (y7 : Int32) (h5 : HI) (g6 : HL) =>
    if y7 = 0 then
      some (0, h5, g6)
    else
      some (1, h5, g6)
theorem jX8_isParamOf_0 {D : DE} {f : Nat} {F : Frm} (hF : k_Fix F) {N : Nat} {y9 : Int32} {h9 : HI} {g9 : HL}  : ∀ (x1 : Int32) (x2 : Int32) (h : HI) (g : HL), pX8_isParamOf_0 N x1 x2 h g = some (y9, h9, g9) → JX8_isParamOf_0 D (f + 1) (eqi y9 h9 g9) F h g x1 x2 := by
  intro x1 x2 h g E
  unfold pX8_isParamOf_0 at E
  obtain ⟨y3, h1, g2, e0, E⟩ := obiE E
  refine Si.mono (sX8_isFn (f := f) hF e0) (fun y8 h8 g8 hq => ?_)
  obtain ⟨rfl, rfl, rfl⟩ := hq
  refine ⟨fun c0 => ?_, fun c0 => ?_⟩
  · replace E := iteT c0 E
    cases E; exact ⟨rfl, rfl, rfl⟩
  · replace E := iteF c0 E
    obtain ⟨z0, E⟩ := gdE E; refine ⟨vinE z0, ?_⟩
    intro y4 e0; replace E := bndE e0 E
    obtain ⟨y7, h5, g6, e0, E⟩ := obiE E
    refine Si.mono (sX8_within (f := f + 1) hF e0) (fun y8 h8 g8 hq => ?_)
    obtain ⟨rfl, rfl, rfl⟩ := hq
    refine ⟨fun c0 => ?_, fun c0 => ?_⟩
    · replace E := iteT c0 E
      cases E; exact ⟨rfl, rfl, rfl⟩
    · replace E := iteF c0 E
      cases E; exact ⟨rfl, rfl, rfl⟩
abbrev pX8_isParamOf (N : Nat) (x1 : Int32) (x2 : Int32) (h : HI) (g : HL) : Option (Int32 × HI × HL) := pX8_isParamOf_0 N x1 x2 h g
theorem sX8_isParamOf {D : DE} {f : Nat} {F : Frm} (hF : k_Fix F) {N : Nat} {y9 : Int32} {h9 : HI} {g9 : HL} {x1 : Int32} {x2 : Int32} {h : HI} {g : HL} (E : pX8_isParamOf N x1 x2 h g = some (y9, h9, g9)) : Si D (f + 2) mX8_isParamOf [.ref (ad D 115), .int x1, .int x2] F h g (eqi y9 h9 g9) := wX8_isParamOf (f := (f + 1)) hF _ _ (jX8_isParamOf_0 hF _ _ _ _ E)
def pX8_asks_2_35 (N : Nat) (x1 : Int32) (x2 : Int32) (x3 : Int32) (s1 : Int32) (h : HI) (g : HL) : Option (Int32 × HI × HL) :=
  bnd (up2 h 115 0 s1) fun (h1 : HI) =>
  if (h1 115 0) ≤ 0 then
    obi (pX8_has N x1 x2 x3 h1 g) fun (y4 : Int32) (h2 : HI) (g3 : HL) =>
    some (y4, h2, g3)
  else
    some (0, h1, g)
theorem jX8_asks_2_35 {D : DE} {f : Nat} {F : Frm} (hF : k_Fix F) {N : Nat} {y9 : Int32} {h9 : HI} {g9 : HL}  : ∀ (x1 : Int32) (x2 : Int32) (x3 : Int32) (s1 : Int32) (h : HI) (g : HL), pX8_asks_2_35 N x1 x2 x3 s1 h g = some (y9, h9, g9) → JX8_asks_2_35 D (f + 2) (eqi y9 h9 g9) F h g x1 x2 x3 s1 := by
  intro x1 x2 x3 s1 h g E
  unfold pX8_asks_2_35 at E
  intro h1 e0; replace E := bndE e0 E
  refine ⟨fun c0 => ?_, fun c0 => ?_⟩
  · replace E := iteT c0 E
    obtain ⟨y4, h2, g3, e0, E⟩ := obiE E
    refine Si.mono (sX8_has (f := f) hF e0) (fun y8 h8 g8 hq => ?_)
    obtain ⟨rfl, rfl, rfl⟩ := hq
    cases E; exact ⟨rfl, rfl, rfl⟩
  · replace E := iteF c0 E
    cases E; exact ⟨rfl, rfl, rfl⟩
def pX8_asks_2_30 (N : Nat) (x1 : Int32) (x2 : Int32) (x3 : Int32) (h : HI) (g : HL) : Option (Int32 × HI × HL) :=
  pX8_asks_2_35 N x1 x2 x3 2 h g
theorem jX8_asks_2_30 {D : DE} {f : Nat} {F : Frm} (hF : k_Fix F) {N : Nat} {y9 : Int32} {h9 : HI} {g9 : HL}  : ∀ (x1 : Int32) (x2 : Int32) (x3 : Int32) (h : HI) (g : HL), pX8_asks_2_30 N x1 x2 x3 h g = some (y9, h9, g9) → JX8_asks_2_30 D (f + 2) (eqi y9 h9 g9) F h g x1 x2 x3 := by
  intro x1 x2 x3 h g E
  unfold pX8_asks_2_30 at E
  exact jX8_asks_2_35 hF  _ _ _ _ _ _ E
def pX8_asks_2_0 (N : Nat) (x1 : Int32) (x2 : Int32) (x3 : Int32) (h : HI) (g : HL) : Option (Int32 × HI × HL) :=
  if (h 115 46) = 0 then
    pX8_asks_2_35 N x1 x2 x3 1 h g
  else
    obi (pX8_isRowThere N x1 x2 h g) fun (y3 : Int32) (h1 : HI) (g2 : HL) =>
    if y3 = 0 then
      pX8_asks_2_30 N x1 x2 x3 h1 g2
    else
      obi (pX8_isParamOf N x1 x3 h1 g2) fun (y6 : Int32) (h4 : HI) (g5 : HL) =>
      if y6 = 0 then
        pX8_asks_2_30 N x1 x2 x3 h4 g5
      else
        pX8_asks_2_35 N x1 x2 x3 0 h4 g5
theorem jX8_asks_2_0 {D : DE} {f : Nat} {F : Frm} (hF : k_Fix F) {N : Nat} {y9 : Int32} {h9 : HI} {g9 : HL}  : ∀ (x1 : Int32) (x2 : Int32) (x3 : Int32) (h : HI) (g : HL), pX8_asks_2_0 N x1 x2 x3 h g = some (y9, h9, g9) → JX8_asks_2_0 D (f + 2) (eqi y9 h9 g9) F h g x1 x2 x3 := by
  intro x1 x2 x3 h g E
  unfold pX8_asks_2_0 at E
  refine ⟨fun c0 => ?_, fun c0 => ?_⟩
  · replace E := iteF c0 E
    obtain ⟨y3, h1, g2, e0, E⟩ := obiE E
    refine Si.mono (sX8_isRowThere (f := f) hF e0) (fun y8 h8 g8 hq => ?_)
    obtain ⟨rfl, rfl, rfl⟩ := hq
    refine ⟨fun c0 => ?_, fun c0 => ?_⟩
    · replace E := iteT c0 E
      exact jX8_asks_2_30 hF  _ _ _ _ _ E
    · replace E := iteF c0 E
      obtain ⟨y6, h4, g5, e0, E⟩ := obiE E
      refine Si.mono (sX8_isParamOf (f := f) hF e0) (fun y8 h8 g8 hq => ?_)
      obtain ⟨rfl, rfl, rfl⟩ := hq
      refine ⟨fun c0 => ?_, fun c0 => ?_⟩
      · replace E := iteF c0 E
        exact jX8_asks_2_35 hF  _ _ _ _ _ _ E
      · replace E := iteT c0 E
        exact jX8_asks_2_30 hF  _ _ _ _ _ E
  · replace E := iteT c0 E
    exact jX8_asks_2_35 hF  _ _ _ _ _ _ E
abbrev pX8_asks_2 (N : Nat) (x1 : Int32) (x2 : Int32) (x3 : Int32) (h : HI) (g : HL) : Option (Int32 × HI × HL) := pX8_asks_2_0 N x1 x2 x3 h g
theorem sX8_asks_2 {D : DE} {f : Nat} {F : Frm} (hF : k_Fix F) {N : Nat} {y9 : Int32} {h9 : HI} {g9 : HL} {x1 : Int32} {x2 : Int32} {x3 : Int32} {h : HI} {g : HL} (E : pX8_asks_2 N x1 x2 x3 h g = some (y9, h9, g9)) : Si D (f + 3) mX8_asks_2 [.ref (ad D 115), .int x1, .int x2, .int x3] F h g (eqi y9 h9 g9) := wX8_asks_2 (f := (f + 2)) hF _ _ _ (jX8_asks_2_0 hF _ _ _ _ _ E)
def pX8_strict_26 (N : Nat) (x1 : Int32) (x2 : Int32) (s1 : Int32) (h : HI) (g : HL) : Option (Int32 × HI × HL) :=
  bnd (up2 h 115 0 s1) fun (h1 : HI) =>
  if (h1 115 0) = 0 then
    obi (pX8_has N x1 1 x2 h1 g) fun (y4 : Int32) (h2 : HI) (g3 : HL) =>
    if y4 ≤ 0 then
      some (0, h2, g3)
    else
      some (1, h2, g3)
  else
    some (0, h1, g)
theorem jX8_strict_26 {D : DE} {f : Nat} {F : Frm} (hF : k_Fix F) {N : Nat} {y9 : Int32} {h9 : HI} {g9 : HL}  : ∀ (x1 : Int32) (x2 : Int32) (s1 : Int32) (h : HI) (g : HL), pX8_strict_26 N x1 x2 s1 h g = some (y9, h9, g9) → JX8_strict_26 D (f + 2) (eqi y9 h9 g9) F h g x1 x2 s1 := by
  intro x1 x2 s1 h g E
  unfold pX8_strict_26 at E
  intro h1 e0; replace E := bndE e0 E
  refine ⟨fun c0 => ?_, fun c0 => ?_⟩
  · replace E := iteF c0 E
    cases E; exact ⟨rfl, rfl, rfl⟩
  · replace E := iteT c0 E
    obtain ⟨y4, h2, g3, e0, E⟩ := obiE E
    refine Si.mono (sX8_has (f := f) hF e0) (fun y8 h8 g8 hq => ?_)
    obtain ⟨rfl, rfl, rfl⟩ := hq
    refine ⟨fun c0 => ?_, fun c0 => ?_⟩
    · replace E := iteT c0 E
      cases E; exact ⟨rfl, rfl, rfl⟩
    · replace E := iteF c0 E
      cases E; exact ⟨rfl, rfl, rfl⟩
def pX8_strict_0 (N : Nat) (x1 : Int32) (x2 : Int32) (h : HI) (g : HL) : Option (Int32 × HI × HL) :=
  if (h 115 46) = 0 then
    pX8_strict_26 N x1 x2 1 h g
  else
    obi (pX8_isParamOf N x1 x2 h g) fun (y3 : Int32) (h1 : HI) (g2 : HL) =>
    if y3 = 0 then
      pX8_strict_26 N x1 x2 2 h1 g2
    else
      pX8_strict_26 N x1 x2 0 h1 g2
theorem jX8_strict_0 {D : DE} {f : Nat} {F : Frm} (hF : k_Fix F) {N : Nat} {y9 : Int32} {h9 : HI} {g9 : HL}  : ∀ (x1 : Int32) (x2 : Int32) (h : HI) (g : HL), pX8_strict_0 N x1 x2 h g = some (y9, h9, g9) → JX8_strict_0 D (f + 2) (eqi y9 h9 g9) F h g x1 x2 := by
  intro x1 x2 h g E
  unfold pX8_strict_0 at E
  refine ⟨fun c0 => ?_, fun c0 => ?_⟩
  · replace E := iteF c0 E
    obtain ⟨y3, h1, g2, e0, E⟩ := obiE E
    refine Si.mono (sX8_isParamOf (f := f) hF e0) (fun y8 h8 g8 hq => ?_)
    obtain ⟨rfl, rfl, rfl⟩ := hq
    refine ⟨fun c0 => ?_, fun c0 => ?_⟩
    · replace E := iteF c0 E
      exact jX8_strict_26 hF  _ _ _ _ _ E
    · replace E := iteT c0 E
      exact jX8_strict_26 hF  _ _ _ _ _ E
  · replace E := iteT c0 E
    exact jX8_strict_26 hF  _ _ _ _ _ E
abbrev pX8_strict (N : Nat) (x1 : Int32) (x2 : Int32) (h : HI) (g : HL) : Option (Int32 × HI × HL) := pX8_strict_0 N x1 x2 h g
theorem sX8_strict {D : DE} {f : Nat} {F : Frm} (hF : k_Fix F) {N : Nat} {y9 : Int32} {h9 : HI} {g9 : HL} {x1 : Int32} {x2 : Int32} {h : HI} {g : HL} (E : pX8_strict N x1 x2 h g = some (y9, h9, g9)) : Si D (f + 3) mX8_strict [.ref (ad D 115), .int x1, .int x2] F h g (eqi y9 h9 g9) := wX8_strict (f := (f + 2)) hF _ _ (jX8_strict_0 hF _ _ _ _ E)
def pX8_plant_88 (N : Nat) : Nat → Int32 → Int32 → Int32 → Int32 → Int32 → Int32 → Int32 → HI → HL → Option (Int32 × HI × HL)
  | 0, _, _, _, _, _, _, _, _, _ => none
  | n + 1, x1, x2, x3, x4, x5, x6, x7, h, g =>
    gd (vin ((12 * (h 115 47)) + x1) 24) <|
    if (h 119 (ix ((12 * (h 115 47)) + x1))) ≤ x7 then
      gd (vin x5 312) <|
      bnd (up2 h 144 (ix x5) 0) fun (h1 : HI) =>
      gd (vin ((4 * x5) + x3) 1248) <|
      bnd (up2 h1 143 (ix ((4 * x5) + x3)) x4) fun (h2 : HI) =>
      some (x6, h2, g)
    else
      obi (pX8_has N x1 x2 x7 h g) fun (y5 : Int32) (h3 : HI) (g4 : HL) =>
      gd (vin ((4 * x5) + x7) 1248) <|
      bnd (up2 h3 143 (ix ((4 * x5) + x7)) y5) fun (h6 : HI) =>
      bnd (x7 + 1) fun (y7 : Int32) =>
      (pX8_plant_88 N n) x1 x2 x3 x4 x5 x6 y7 h6 g4
theorem lX8_plant_88 {D : DE} {f : Nat} {F : Frm} (hF : k_Fix F) {N : Nat} {y9 : Int32} {h9 : HI} {g9 : HL}  : ∀ (n : Nat) (x1 : Int32) (x2 : Int32) (x3 : Int32) (x4 : Int32) (x5 : Int32) (x6 : Int32) (x7 : Int32) (h : HI) (g : HL), pX8_plant_88 N n x1 x2 x3 x4 x5 x6 x7 h g = some (y9, h9, g9) → V D mX8_plant (f + 3) (qi F (eqi y9 h9 g9)) 88 [(0, .ref (ad D 115)), (1, .int x1), (2, .int x2), (3, .int x3), (4, .int x4), (5, .int x5), (6, .int x6), (7, .int x7)] [] (F, h, g) := by
  intro n
  induction n with
  | zero => intro x1 x2 x3 x4 x5 x6 x7 h g E; cases E
  | succ n hK88 =>
    intro x1 x2 x3 x4 x5 x6 x7 h g E
    rw [pX8_plant_88] at E
    refine bX8_plant_88 (f := (f + 2)) hF x1 x2 x3 x4 x5 x6 x7 ?_
    obtain ⟨z0, E⟩ := gdE E; refine ⟨vinE z0, ?_⟩
    refine ⟨fun c0 => ?_, fun c0 => ?_⟩
    · replace E := iteT c0 E
      obtain ⟨z0, E⟩ := gdE E; refine ⟨vinE z0, ?_⟩
      intro h1 e0; replace E := bndE e0 E
      obtain ⟨z0, E⟩ := gdE E; refine ⟨vinE z0, ?_⟩
      intro h2 e0; replace E := bndE e0 E
      cases E; exact ⟨rfl, rfl, rfl⟩
    · replace E := iteF c0 E
      obtain ⟨y5, h3, g4, e0, E⟩ := obiE E
      refine Si.mono (sX8_has (f := f) hF e0) (fun y8 h8 g8 hq => ?_)
      obtain ⟨rfl, rfl, rfl⟩ := hq
      obtain ⟨z0, E⟩ := gdE E; refine ⟨vinE z0, ?_⟩
      intro h6 e0; replace E := bndE e0 E
      intro y7 e0; replace E := bndE e0 E
      exact hK88 _ _ _ _ _ _ _ _ _ E
def pX8_plant_56 (N : Nat) (x1 : Int32) (x2 : Int32) (x3 : Int32) (x4 : Int32) (s1 : Int32) (h : HI) (g : HL) : Option (Int32 × HI × HL) :=
  bnd (up2 h 115 0 s1) fun (h1 : HI) =>
  if (h1 115 0) ≤ 0 then
    bnd ((26 * x1) + x2) fun (y2 : Int32) =>
    obi (pX8_has N x1 x2 x3 h1 g) fun (y5 : Int32) (h3 : HI) (g4 : HL) =>
    pX8_plant_88 N N x1 x2 x3 x4 y2 y5 0 h3 g4
  else
    some (0, h1, g)
theorem jX8_plant_56 {D : DE} {f : Nat} {F : Frm} (hF : k_Fix F) {N : Nat} {y9 : Int32} {h9 : HI} {g9 : HL}  : ∀ (x1 : Int32) (x2 : Int32) (x3 : Int32) (x4 : Int32) (s1 : Int32) (h : HI) (g : HL), pX8_plant_56 N x1 x2 x3 x4 s1 h g = some (y9, h9, g9) → JX8_plant_56 D (f + 2) (eqi y9 h9 g9) F h g x1 x2 x3 x4 s1 := by
  intro x1 x2 x3 x4 s1 h g E
  unfold pX8_plant_56 at E
  intro h1 e0; replace E := bndE e0 E
  refine ⟨fun c0 => ?_, fun c0 => ?_⟩
  · replace E := iteT c0 E
    intro y2 e0; replace E := bndE e0 E
    obtain ⟨y5, h3, g4, e0, E⟩ := obiE E
    refine Si.mono (sX8_has (f := f) hF e0) (fun y8 h8 g8 hq => ?_)
    obtain ⟨rfl, rfl, rfl⟩ := hq
    exact lX8_plant_88 hF  N _ _ _ _ _ _ _ _ _ E
  · replace E := iteF c0 E
    cases E; exact ⟨rfl, rfl, rfl⟩
def pX8_plant_30 (N : Nat) (x1 : Int32) (x2 : Int32) (x3 : Int32) (x4 : Int32) (h : HI) (g : HL) : Option (Int32 × HI × HL) :=
  pX8_plant_56 N x1 x2 x3 x4 2 h g
theorem jX8_plant_30 {D : DE} {f : Nat} {F : Frm} (hF : k_Fix F) {N : Nat} {y9 : Int32} {h9 : HI} {g9 : HL}  : ∀ (x1 : Int32) (x2 : Int32) (x3 : Int32) (x4 : Int32) (h : HI) (g : HL), pX8_plant_30 N x1 x2 x3 x4 h g = some (y9, h9, g9) → JX8_plant_30 D (f + 2) (eqi y9 h9 g9) F h g x1 x2 x3 x4 := by
  intro x1 x2 x3 x4 h g E
  unfold pX8_plant_30 at E
  exact jX8_plant_56 hF  _ _ _ _ _ _ _ E
def pX8_plant_0 (N : Nat) (x1 : Int32) (x2 : Int32) (x3 : Int32) (x4 : Int32) (h : HI) (g : HL) : Option (Int32 × HI × HL) :=
  if (h 115 46) = 0 then
    pX8_plant_56 N x1 x2 x3 x4 1 h g
  else
    obi (pX8_isRowThere N x1 x2 h g) fun (y3 : Int32) (h1 : HI) (g2 : HL) =>
    if y3 = 0 then
      pX8_plant_30 N x1 x2 x3 x4 h1 g2
    else
      obi (pX8_isParamOf N x1 x3 h1 g2) fun (y6 : Int32) (h4 : HI) (g5 : HL) =>
      if y6 = 0 then
        pX8_plant_30 N x1 x2 x3 x4 h4 g5
      else
        obi (pX8_all N x1 x3 h4 g5) fun (y9 : Int32) (h7 : HI) (g8 : HL) =>
        obi (pX8_within N x4.toInt64 0 y9.toInt64 h7 g8) fun (y12 : Int32) (h10 : HI) (g11 : HL) =>
        if y12 = 0 then
          pX8_plant_56 N x1 x2 x3 x4 3 h10 g11
        else
          pX8_plant_56 N x1 x2 x3 x4 0 h10 g11
theorem jX8_plant_0 {D : DE} {f : Nat} {F : Frm} (hF : k_Fix F) {N : Nat} {y9 : Int32} {h9 : HI} {g9 : HL}  : ∀ (x1 : Int32) (x2 : Int32) (x3 : Int32) (x4 : Int32) (h : HI) (g : HL), pX8_plant_0 N x1 x2 x3 x4 h g = some (y9, h9, g9) → JX8_plant_0 D (f + 2) (eqi y9 h9 g9) F h g x1 x2 x3 x4 := by
  intro x1 x2 x3 x4 h g E
  unfold pX8_plant_0 at E
  refine ⟨fun c0 => ?_, fun c0 => ?_⟩
  · replace E := iteF c0 E
    obtain ⟨y3, h1, g2, e0, E⟩ := obiE E
    refine Si.mono (sX8_isRowThere (f := f) hF e0) (fun y8 h8 g8 hq => ?_)
    obtain ⟨rfl, rfl, rfl⟩ := hq
    refine ⟨fun c0 => ?_, fun c0 => ?_⟩
    · replace E := iteT c0 E
      exact jX8_plant_30 hF  _ _ _ _ _ _ E
    · replace E := iteF c0 E
      obtain ⟨y6, h4, g5, e0, E⟩ := obiE E
      refine Si.mono (sX8_isParamOf (f := f) hF e0) (fun y8 h8 g8 hq => ?_)
      obtain ⟨rfl, rfl, rfl⟩ := hq
      refine ⟨fun c0 => ?_, fun c0 => ?_⟩
      · replace E := iteF c0 E
        obtain ⟨y9, h7, g8, e0, E⟩ := obiE E
        refine Si.mono (sX8_all (f := f + 1) hF e0) (fun y8 h8 g8 hq => ?_)
        obtain ⟨rfl, rfl, rfl⟩ := hq
        obtain ⟨y12, h10, g11, e0, E⟩ := obiE E
        refine Si.mono (sX8_within (f := f + 2) hF e0) (fun y8 h8 g8 hq => ?_)
        obtain ⟨rfl, rfl, rfl⟩ := hq
        refine ⟨fun c0 => ?_, fun c0 => ?_⟩
        · replace E := iteF c0 E
          exact jX8_plant_56 hF  _ _ _ _ _ _ _ E
        · replace E := iteT c0 E
          exact jX8_plant_56 hF  _ _ _ _ _ _ _ E
      · replace E := iteT c0 E
        exact jX8_plant_30 hF  _ _ _ _ _ _ E
  · replace E := iteT c0 E
    exact jX8_plant_56 hF  _ _ _ _ _ _ _ E
abbrev pX8_plant (N : Nat) (x1 : Int32) (x2 : Int32) (x3 : Int32) (x4 : Int32) (h : HI) (g : HL) : Option (Int32 × HI × HL) := pX8_plant_0 N x1 x2 x3 x4 h g
theorem sX8_plant {D : DE} {f : Nat} {F : Frm} (hF : k_Fix F) {N : Nat} {y9 : Int32} {h9 : HI} {g9 : HL} {x1 : Int32} {x2 : Int32} {x3 : Int32} {x4 : Int32} {h : HI} {g : HL} (E : pX8_plant N x1 x2 x3 x4 h g = some (y9, h9, g9)) : Si D (f + 3) mX8_plant [.ref (ad D 115), .int x1, .int x2, .int x3, .int x4] F h g (eqi y9 h9 g9) := wX8_plant (f := (f + 2)) hF _ _ _ _ (jX8_plant_0 hF _ _ _ _ _ _ E)
def pX8_tellsTooMuch_139 (N : Nat) (K58 : Int32 → Int32 → Int32 → Int32 → Int32 → HI → HL → Option (Int32 × HI × HL)) (x1 : Int32) (x2 : Int32) (x3 : Int32) (x5 : Int32) (s0 : Int32) (h : HI) (g : HL) : Option (Int32 × HI × HL) :=
  bnd (x5 + 1) fun (y1 : Int32) =>
  K58 x1 x2 x3 s0 y1 h g
theorem jX8_tellsTooMuch_139 {D : DE} {f : Nat} {F : Frm} (hF : k_Fix F) {N : Nat} {K58 : Int32 → Int32 → Int32 → Int32 → Int32 → HI → HL → Option (Int32 × HI × HL)} {y9 : Int32} {h9 : HI} {g9 : HL} (hK58 : ∀ (x1 : Int32) (x2 : Int32) (x3 : Int32) (x4 : Int32) (x5 : Int32) (h : HI) (g : HL), K58 x1 x2 x3 x4 x5 h g = some (y9, h9, g9) → V D mX8_tellsTooMuch (f + 5) (qi F (eqi y9 h9 g9)) 58 [(0, .ref (ad D 115)), (1, .int x1), (2, .int x2), (3, .int x3), (4, .int x4), (5, .int x5)] [] (F, h, g)) : ∀ (x1 : Int32) (x2 : Int32) (x3 : Int32) (x5 : Int32) (s0 : Int32) (h : HI) (g : HL), pX8_tellsTooMuch_139 N K58 x1 x2 x3 x5 s0 h g = some (y9, h9, g9) → JX8_tellsTooMuch_139 D (f + 4) (eqi y9 h9 g9) F h g x1 x2 x3 x5 s0 := by
  intro x1 x2 x3 x5 s0 h g E
  unfold pX8_tellsTooMuch_139 at E
  intro y1 e0; replace E := bndE e0 E
  exact hK58 _ _ _ _ _ _ _ E
def pX8_tellsTooMuch_134 (N : Nat) (K58 : Int32 → Int32 → Int32 → Int32 → Int32 → HI → HL → Option (Int32 × HI × HL)) (x1 : Int32) (x2 : Int32) (x3 : Int32) (x5 : Int32) (h : HI) (g : HL) : Option (Int32 × HI × HL) :=
  pX8_tellsTooMuch_139 N K58 x1 x2 x3 x5 1 h g
theorem jX8_tellsTooMuch_134 {D : DE} {f : Nat} {F : Frm} (hF : k_Fix F) {N : Nat} {K58 : Int32 → Int32 → Int32 → Int32 → Int32 → HI → HL → Option (Int32 × HI × HL)} {y9 : Int32} {h9 : HI} {g9 : HL} (hK58 : ∀ (x1 : Int32) (x2 : Int32) (x3 : Int32) (x4 : Int32) (x5 : Int32) (h : HI) (g : HL), K58 x1 x2 x3 x4 x5 h g = some (y9, h9, g9) → V D mX8_tellsTooMuch (f + 5) (qi F (eqi y9 h9 g9)) 58 [(0, .ref (ad D 115)), (1, .int x1), (2, .int x2), (3, .int x3), (4, .int x4), (5, .int x5)] [] (F, h, g)) : ∀ (x1 : Int32) (x2 : Int32) (x3 : Int32) (x5 : Int32) (h : HI) (g : HL), pX8_tellsTooMuch_134 N K58 x1 x2 x3 x5 h g = some (y9, h9, g9) → JX8_tellsTooMuch_134 D (f + 4) (eqi y9 h9 g9) F h g x1 x2 x3 x5 := by
  intro x1 x2 x3 x5 h g E
  unfold pX8_tellsTooMuch_134 at E
  exact jX8_tellsTooMuch_139 hF hK58 _ _ _ _ _ _ _ E
def pX8_tellsTooMuch_125 (N : Nat) (K58 : Int32 → Int32 → Int32 → Int32 → Int32 → HI → HL → Option (Int32 × HI × HL)) (x1 : Int32) (x2 : Int32) (x3 : Int32) (x5 : Int32) (x6 : Int32) (s0 : Int32) (s1 : Int32) (s2 : Int32) (h : HI) (g : HL) : Option (Int32 × HI × HL) :=
  obi (pX8_joined N s0 s1 s2 0 h g) fun (y3 : Int32) (h1 : HI) (g2 : HL) =>
  if y3 = x6 then
    pX8_tellsTooMuch_139 N K58 x1 x2 x3 x5 0 h1 g2
  else
    pX8_tellsTooMuch_134 N K58 x1 x2 x3 x5 h1 g2
theorem jX8_tellsTooMuch_125 {D : DE} {f : Nat} {F : Frm} (hF : k_Fix F) {N : Nat} {K58 : Int32 → Int32 → Int32 → Int32 → Int32 → HI → HL → Option (Int32 × HI × HL)} {y9 : Int32} {h9 : HI} {g9 : HL} (hK58 : ∀ (x1 : Int32) (x2 : Int32) (x3 : Int32) (x4 : Int32) (x5 : Int32) (h : HI) (g : HL), K58 x1 x2 x3 x4 x5 h g = some (y9, h9, g9) → V D mX8_tellsTooMuch (f + 5) (qi F (eqi y9 h9 g9)) 58 [(0, .ref (ad D 115)), (1, .int x1), (2, .int x2), (3, .int x3), (4, .int x4), (5, .int x5)] [] (F, h, g)) : ∀ (x1 : Int32) (x2 : Int32) (x3 : Int32) (x5 : Int32) (x6 : Int32) (s0 : Int32) (s1 : Int32) (s2 : Int32) (h : HI) (g : HL), pX8_tellsTooMuch_125 N K58 x1 x2 x3 x5 x6 s0 s1 s2 h g = some (y9, h9, g9) → JX8_tellsTooMuch_125 D (f + 4) (eqi y9 h9 g9) F h g x1 x2 x3 x5 x6 s0 s1 s2 := by
  intro x1 x2 x3 x5 x6 s0 s1 s2 h g E
  unfold pX8_tellsTooMuch_125 at E
  obtain ⟨y3, h1, g2, e0, E⟩ := obiE E
  refine Si.mono (sX8_joined (f := f + 2) hF e0) (fun y8 h8 g8 hq => ?_)
  obtain ⟨rfl, rfl, rfl⟩ := hq
  refine ⟨fun c0 => ?_, fun c0 => ?_⟩
  · replace E := iteT c0 E
    exact jX8_tellsTooMuch_139 hF hK58 _ _ _ _ _ _ _ E
  · replace E := iteF c0 E
    exact jX8_tellsTooMuch_134 hF hK58 _ _ _ _ _ _ E
def pX8_tellsTooMuch_58 (N : Nat) : Nat → Int32 → Int32 → Int32 → Int32 → Int32 → HI → HL → Option (Int32 × HI × HL)
  | 0, _, _, _, _, _, _, _ => none
  | n + 1, x1, x2, x3, x4, x5, h, g =>
    gd (vin (h 115 33) 24) <|
    if (h 119 (ix (h 115 33))) ≤ x5 then
      gd (isBb x4) <|
      some (x4, h, g)
    else
      obi (pX8_has N x1 x2 x5 h g) fun (y3 : Int32) (h1 : HI) (g2 : HL) =>
      if x4 = 0 then
        gd (vin ((16 * (h1 115 33)) + x5) 384) <|
        if x3 = 0 then
          gd (vin x5 8000) <|
          pX8_tellsTooMuch_125 N (pX8_tellsTooMuch_58 N n) x1 x2 x3 x5 y3 (h1 123 (ix ((16 * (h1 115 33)) + x5))) y3 (h1 141 (ix x5)) h1 g2
        else
          obi (pX8_all N x1 x5 h1 g2) fun (y6 : Int32) (h4 : HI) (g5 : HL) =>
          pX8_tellsTooMuch_125 N (pX8_tellsTooMuch_58 N n) x1 x2 x3 x5 y3 (h1 123 (ix ((16 * (h1 115 33)) + x5))) y3 y6 h4 g5
      else
        pX8_tellsTooMuch_134 N (pX8_tellsTooMuch_58 N n) x1 x2 x3 x5 h1 g2
theorem lX8_tellsTooMuch_58 {D : DE} {f : Nat} {F : Frm} (hF : k_Fix F) {N : Nat} {y9 : Int32} {h9 : HI} {g9 : HL}  : ∀ (n : Nat) (x1 : Int32) (x2 : Int32) (x3 : Int32) (x4 : Int32) (x5 : Int32) (h : HI) (g : HL), pX8_tellsTooMuch_58 N n x1 x2 x3 x4 x5 h g = some (y9, h9, g9) → V D mX8_tellsTooMuch (f + 5) (qi F (eqi y9 h9 g9)) 58 [(0, .ref (ad D 115)), (1, .int x1), (2, .int x2), (3, .int x3), (4, .int x4), (5, .int x5)] [] (F, h, g) := by
  intro n
  induction n with
  | zero => intro x1 x2 x3 x4 x5 h g E; cases E
  | succ n hK58 =>
    intro x1 x2 x3 x4 x5 h g E
    rw [pX8_tellsTooMuch_58] at E
    refine bX8_tellsTooMuch_58 (f := (f + 4)) hF x1 x2 x3 x4 x5 ?_
    obtain ⟨z0, E⟩ := gdE E; refine ⟨vinE z0, ?_⟩
    refine ⟨fun c0 => ?_, fun c0 => ?_⟩
    · replace E := iteT c0 E
      obtain ⟨z0, E⟩ := gdE E; refine ⟨isBbE z0, ?_⟩
      cases E; exact ⟨rfl, rfl, rfl⟩
    · replace E := iteF c0 E
      obtain ⟨y3, h1, g2, e0, E⟩ := obiE E
      refine Si.mono (sX8_has (f := f + 2) hF e0) (fun y8 h8 g8 hq => ?_)
      obtain ⟨rfl, rfl, rfl⟩ := hq
      refine ⟨fun c0 => ?_, fun c0 => ?_⟩
      · replace E := iteF c0 E
        exact jX8_tellsTooMuch_134 hF hK58 _ _ _ _ _ _ E
      · replace E := iteT c0 E
        obtain ⟨z0, E⟩ := gdE E; refine ⟨vinE z0, ?_⟩
        refine ⟨fun c0 => ?_, fun c0 => ?_⟩
        · replace E := iteT c0 E
          obtain ⟨z0, E⟩ := gdE E; refine ⟨vinE z0, ?_⟩
          exact jX8_tellsTooMuch_125 hF hK58 _ _ _ _ _ _ _ _ _ _ E
        · replace E := iteF c0 E
          obtain ⟨y6, h4, g5, e0, E⟩ := obiE E
          refine Si.mono (sX8_all (f := f + 3) hF e0) (fun y8 h8 g8 hq => ?_)
          obtain ⟨rfl, rfl, rfl⟩ := hq
          exact jX8_tellsTooMuch_125 hF hK58 _ _ _ _ _ _ _ _ _ _ E
def pX8_tellsTooMuch_0 (N : Nat) (x1 : Int32) (x2 : Int32) (h : HI) (g : HL) : Option (Int32 × HI × HL) :=
  bnd (up2 h 115 33 ((12 * (h 115 47)) + x1)) fun (h1 : HI) =>
  gd (vin (h1 115 33) 24) <|
  obi (pX8_asks N (h1 121 (ix (h1 115 33))) x2 h1 g) fun (y4 : Int32) (h2 : HI) (g3 : HL) =>
  gd (vin ((26 * x1) + x2) 312) <|
  if (h2 144 (ix ((26 * x1) + x2))) = 0 then
    pX8_tellsTooMuch_58 N N x1 x2 y4 0 0 h2 g3
  else
    if y4 = 0 then
      some (1, h2, g3)
    else
      some (0, h2, g3)
theorem jX8_tellsTooMuch_0 {D : DE} {f : Nat} {F : Frm} (hF : k_Fix F) {N : Nat} {y9 : Int32} {h9 : HI} {g9 : HL}  : ∀ (x1 : Int32) (x2 : Int32) (h : HI) (g : HL), pX8_tellsTooMuch_0 N x1 x2 h g = some (y9, h9, g9) → JX8_tellsTooMuch_0 D (f + 4) (eqi y9 h9 g9) F h g x1 x2 := by
  intro x1 x2 h g E
  unfold pX8_tellsTooMuch_0 at E
  intro h1 e0; replace E := bndE e0 E
  obtain ⟨z0, E⟩ := gdE E; refine ⟨vinE z0, ?_⟩
  obtain ⟨y4, h2, g3, e0, E⟩ := obiE E
  refine Si.mono (sX8_asks (f := f) hF e0) (fun y8 h8 g8 hq => ?_)
  obtain ⟨rfl, rfl, rfl⟩ := hq
  obtain ⟨z0, E⟩ := gdE E; refine ⟨vinE z0, ?_⟩
  refine ⟨fun c0 => ?_, fun c0 => ?_⟩
  · replace E := iteT c0 E
    exact lX8_tellsTooMuch_58 hF  N _ _ _ _ _ _ _ E
  · replace E := iteF c0 E
    refine ⟨fun c0 => ?_, fun c0 => ?_⟩
    · replace E := iteF c0 E
      cases E; exact ⟨rfl, rfl, rfl⟩
    · replace E := iteT c0 E
      cases E; exact ⟨rfl, rfl, rfl⟩
abbrev pX8_tellsTooMuch (N : Nat) (x1 : Int32) (x2 : Int32) (h : HI) (g : HL) : Option (Int32 × HI × HL) := pX8_tellsTooMuch_0 N x1 x2 h g
theorem sX8_tellsTooMuch {D : DE} {f : Nat} {F : Frm} (hF : k_Fix F) {N : Nat} {y9 : Int32} {h9 : HI} {g9 : HL} {x1 : Int32} {x2 : Int32} {h : HI} {g : HL} (E : pX8_tellsTooMuch N x1 x2 h g = some (y9, h9, g9)) : Si D (f + 5) mX8_tellsTooMuch [.ref (ad D 115), .int x1, .int x2] F h g (eqi y9 h9 g9) := wX8_tellsTooMuch (f := (f + 4)) hF _ _ (jX8_tellsTooMuch_0 hF _ _ _ _ E)
def pX8_check_42 (N : Nat) (K27 : Int32 → HI → HL → Option (Int32 × HI × HL)) : Nat → Int32 → Int32 → HI → HL → Option (Int32 × HI × HL)
  | 0, _, _, _, _ => none
  | n + 1, x1, x2, h, g =>
    gd (vin ((12 * (h 115 47)) + x1) 24) <|
    obi (pX8_demands N (h 118 (ix ((12 * (h 115 47)) + x1))) h g) fun (y3 : Int32) (h1 : HI) (g2 : HL) =>
    if y3 ≤ x2 then
      bnd (x1 + 1) fun (y4 : Int32) =>
      K27 y4 h1 g2
    else
      obi (pX8_tellsTooMuch N x1 x2 h1 g2) fun (y7 : Int32) (h5 : HI) (g6 : HL) =>
      if y7 = 0 then
        bnd (x2 + 1) fun (y8 : Int32) =>
        (pX8_check_42 N K27 n) x1 y8 h5 g6
      else
        some (((32 * x1) + x2), h5, g6)
theorem lX8_check_42 {D : DE} {f : Nat} {F : Frm} (hF : k_Fix F) {N : Nat} {K27 : Int32 → HI → HL → Option (Int32 × HI × HL)} {y9 : Int32} {h9 : HI} {g9 : HL} (hK27 : ∀ (x1 : Int32) (h : HI) (g : HL), K27 x1 h g = some (y9, h9, g9) → V D mX8_check (f + 6) (qi F (eqi y9 h9 g9)) 27 [(0, .ref (ad D 115)), (1, .int x1)] [] (F, h, g)) : ∀ (n : Nat) (x1 : Int32) (x2 : Int32) (h : HI) (g : HL), pX8_check_42 N K27 n x1 x2 h g = some (y9, h9, g9) → V D mX8_check (f + 6) (qi F (eqi y9 h9 g9)) 42 [(0, .ref (ad D 115)), (1, .int x1), (2, .int x2)] [] (F, h, g) := by
  intro n
  induction n with
  | zero => intro x1 x2 h g E; cases E
  | succ n hK42 =>
    intro x1 x2 h g E
    rw [pX8_check_42] at E
    refine bX8_check_42 (f := (f + 5)) hF x1 x2 ?_
    obtain ⟨z0, E⟩ := gdE E; refine ⟨vinE z0, ?_⟩
    obtain ⟨y3, h1, g2, e0, E⟩ := obiE E
    refine Si.mono (sX8_demands (f := f + 5) hF e0) (fun y8 h8 g8 hq => ?_)
    obtain ⟨rfl, rfl, rfl⟩ := hq
    refine ⟨fun c0 => ?_, fun c0 => ?_⟩
    · replace E := iteT c0 E
      intro y4 e0; replace E := bndE e0 E
      exact hK27 _ _ _ E
    · replace E := iteF c0 E
      obtain ⟨y7, h5, g6, e0, E⟩ := obiE E
      refine Si.mono (sX8_tellsTooMuch (f := f) hF e0) (fun y8 h8 g8 hq => ?_)
      obtain ⟨rfl, rfl, rfl⟩ := hq
      refine ⟨fun c0 => ?_, fun c0 => ?_⟩
      · replace E := iteT c0 E
        intro y8 e0; replace E := bndE e0 E
        exact hK42 _ _ _ _ E
      · replace E := iteF c0 E
        cases E; exact ⟨rfl, rfl, rfl⟩
def pX8_check_27 (N : Nat) : Nat → Int32 → HI → HL → Option (Int32 × HI × HL)
  | 0, _, _, _ => none
  | n + 1, x1, h, g =>
    gd (vin (h 115 47) 2) <|
    if (h 132 (ix (h 115 47))) ≤ x1 then
      some ((-1), h, g)
    else
      pX8_check_42 N (pX8_check_27 N n) N x1 1 h g
theorem lX8_check_27 {D : DE} {f : Nat} {F : Frm} (hF : k_Fix F) {N : Nat} {y9 : Int32} {h9 : HI} {g9 : HL}  : ∀ (n : Nat) (x1 : Int32) (h : HI) (g : HL), pX8_check_27 N n x1 h g = some (y9, h9, g9) → V D mX8_check (f + 6) (qi F (eqi y9 h9 g9)) 27 [(0, .ref (ad D 115)), (1, .int x1)] [] (F, h, g) := by
  intro n
  induction n with
  | zero => intro x1 h g E; cases E
  | succ n hK27 =>
    intro x1 h g E
    rw [pX8_check_27] at E
    refine bX8_check_27 (f := (f + 5)) hF x1 ?_
    obtain ⟨z0, E⟩ := gdE E; refine ⟨vinE z0, ?_⟩
    refine ⟨fun c0 => ?_, fun c0 => ?_⟩
    · replace E := iteT c0 E
      cases E; exact ⟨rfl, rfl, rfl⟩
    · replace E := iteF c0 E
      exact lX8_check_42 hF hK27 N _ _ _ _ E
def pX8_check_13 (N : Nat) (s1 : Int32) (h : HI) (g : HL) : Option (Int32 × HI × HL) :=
  bnd (up2 h 115 0 s1) fun (h1 : HI) =>
  if (h1 115 0) ≤ 0 then
    pX8_check_27 N N 0 h1 g
  else
    some (0, h1, g)
theorem jX8_check_13 {D : DE} {f : Nat} {F : Frm} (hF : k_Fix F) {N : Nat} {y9 : Int32} {h9 : HI} {g9 : HL}  : ∀ (s1 : Int32) (h : HI) (g : HL), pX8_check_13 N s1 h g = some (y9, h9, g9) → JX8_check_13 D (f + 5) (eqi y9 h9 g9) F h g s1 := by
  intro s1 h g E
  unfold pX8_check_13 at E
  intro h1 e0; replace E := bndE e0 E
  refine ⟨fun c0 => ?_, fun c0 => ?_⟩
  · replace E := iteT c0 E
    exact lX8_check_27 hF  N _ _ _ E
  · replace E := iteF c0 E
    cases E; exact ⟨rfl, rfl, rfl⟩
def pX8_check_0 (N : Nat) (h : HI) (g : HL) : Option (Int32 × HI × HL) :=
  if (h 115 46) = 0 then
    pX8_check_13 N 1 h g
  else
    pX8_check_13 N 0 h g
theorem jX8_check_0 {D : DE} {f : Nat} {F : Frm} (hF : k_Fix F) {N : Nat} {y9 : Int32} {h9 : HI} {g9 : HL}  : ∀ (h : HI) (g : HL), pX8_check_0 N h g = some (y9, h9, g9) → JX8_check_0 D (f + 5) (eqi y9 h9 g9) F h g  := by
  intro h g E
  unfold pX8_check_0 at E
  refine ⟨fun c0 => ?_, fun c0 => ?_⟩
  · replace E := iteT c0 E
    exact jX8_check_13 hF  _ _ _ E
  · replace E := iteF c0 E
    exact jX8_check_13 hF  _ _ _ E
abbrev pX8_check (N : Nat) (h : HI) (g : HL) : Option (Int32 × HI × HL) := pX8_check_0 N h g
theorem sX8_check {D : DE} {f : Nat} {F : Frm} (hF : k_Fix F) {N : Nat} {y9 : Int32} {h9 : HI} {g9 : HL} {h : HI} {g : HL} (E : pX8_check N h g = some (y9, h9, g9)) : Si D (f + 6) mX8_check [.ref (ad D 115)] F h g (eqi y9 h9 g9) := wX8_check (f := (f + 5)) hF  (jX8_check_0 hF _ _ E)
def pX8_input_31 (N : Nat) (x1 : Int32) (x2 : Int32) (s1 : Int32) (h : HI) (g : HL) : Option (Int32 × HI × HL) :=
  bnd (up2 h 115 0 s1) fun (h1 : HI) =>
  if (h1 115 0) ≤ 0 then
    gd (vin (h1 115 55) 40) <|
    bnd (up2 h1 145 (ix (h1 115 55)) x1) fun (h2 : HI) =>
    gd (vin (h2 115 55) 40) <|
    bnd (up2 h2 146 (ix (h2 115 55)) x2) fun (h3 : HI) =>
    bnd (up2 h3 115 55 ((h3 115 55) + 1)) fun (h4 : HI) =>
    some ((h4 115 55), h4, g)
  else
    some (0, h1, g)
theorem jX8_input_31 {D : DE} {f : Nat} {F : Frm} (hF : k_Fix F) {N : Nat} {y9 : Int32} {h9 : HI} {g9 : HL}  : ∀ (x1 : Int32) (x2 : Int32) (s1 : Int32) (h : HI) (g : HL), pX8_input_31 N x1 x2 s1 h g = some (y9, h9, g9) → JX8_input_31 D f (eqi y9 h9 g9) F h g x1 x2 s1 := by
  intro x1 x2 s1 h g E
  unfold pX8_input_31 at E
  intro h1 e0; replace E := bndE e0 E
  refine ⟨fun c0 => ?_, fun c0 => ?_⟩
  · replace E := iteT c0 E
    obtain ⟨z0, E⟩ := gdE E; refine ⟨vinE z0, ?_⟩
    intro h2 e0; replace E := bndE e0 E
    obtain ⟨z0, E⟩ := gdE E; refine ⟨vinE z0, ?_⟩
    intro h3 e0; replace E := bndE e0 E
    intro h4 e0; replace E := bndE e0 E
    cases E; exact ⟨rfl, rfl, rfl⟩
  · replace E := iteF c0 E
    cases E; exact ⟨rfl, rfl, rfl⟩
def pX8_input_0 (N : Nat) (x1 : Int32) (x2 : Int32) (h : HI) (g : HL) : Option (Int32 × HI × HL) :=
  obi (pX8_within N x1.toInt64 0 2 h g) fun (y3 : Int32) (h1 : HI) (g2 : HL) =>
  if y3 = 0 then
    pX8_input_31 N x1 x2 1 h1 g2
  else
    if (h1 115 55) = 40 then
      pX8_input_31 N x1 x2 2 h1 g2
    else
      pX8_input_31 N x1 x2 0 h1 g2
theorem jX8_input_0 {D : DE} {f : Nat} {F : Frm} (hF : k_Fix F) {N : Nat} {y9 : Int32} {h9 : HI} {g9 : HL}  : ∀ (x1 : Int32) (x2 : Int32) (h : HI) (g : HL), pX8_input_0 N x1 x2 h g = some (y9, h9, g9) → JX8_input_0 D f (eqi y9 h9 g9) F h g x1 x2 := by
  intro x1 x2 h g E
  unfold pX8_input_0 at E
  obtain ⟨y3, h1, g2, e0, E⟩ := obiE E
  refine Si.mono (sX8_within (f := f) hF e0) (fun y8 h8 g8 hq => ?_)
  obtain ⟨rfl, rfl, rfl⟩ := hq
  refine ⟨fun c0 => ?_, fun c0 => ?_⟩
  · replace E := iteF c0 E
    refine ⟨fun c0 => ?_, fun c0 => ?_⟩
    · replace E := iteF c0 E
      exact jX8_input_31 hF  _ _ _ _ _ E
    · replace E := iteT c0 E
      exact jX8_input_31 hF  _ _ _ _ _ E
  · replace E := iteT c0 E
    exact jX8_input_31 hF  _ _ _ _ _ E
abbrev pX8_input (N : Nat) (x1 : Int32) (x2 : Int32) (h : HI) (g : HL) : Option (Int32 × HI × HL) := pX8_input_0 N x1 x2 h g
theorem sX8_input {D : DE} {f : Nat} {F : Frm} (hF : k_Fix F) {N : Nat} {y9 : Int32} {h9 : HI} {g9 : HL} {x1 : Int32} {x2 : Int32} {h : HI} {g : HL} (E : pX8_input N x1 x2 h g = some (y9, h9, g9)) : Si D (f + 1) mX8_input [.ref (ad D 115), .int x1, .int x2] F h g (eqi y9 h9 g9) := wX8_input (f := f) hF _ _ (jX8_input_0 hF _ _ _ _ E)
def pX8_behind_118 (N : Nat) (K12 : Int32 → Int32 → HI → HL → Option (Int32 × HI × HL)) (x3 : Int32) (x4 : Int32) (h : HI) (g : HL) : Option (Int32 × HI × HL) :=
  K12 x3 x4 h g
theorem jX8_behind_118 {D : DE} {f : Nat} {F : Frm} (hF : k_Fix F) {N : Nat} {K12 : Int32 → Int32 → HI → HL → Option (Int32 × HI × HL)} {y9 : Int32} {h9 : HI} {g9 : HL} (hK12 : ∀ (x3 : Int32) (x4 : Int32) (h : HI) (g : HL), K12 x3 x4 h g = some (y9, h9, g9) → V D mX8_behind (f + 1) (qi F (eqi y9 h9 g9)) 12 [(0, .ref (ad D 115)), (3, .int x3), (4, .int x4)] [] (F, h, g)) : ∀ (x3 : Int32) (x4 : Int32) (h : HI) (g : HL), pX8_behind_118 N K12 x3 x4 h g = some (y9, h9, g9) → JX8_behind_118 D f (eqi y9 h9 g9) F h g x3 x4 := by
  intro x3 x4 h g E
  unfold pX8_behind_118 at E
  exact hK12 _ _ _ _ E
def pX8_behind_115 (N : Nat) (K12 : Int32 → Int32 → HI → HL → Option (Int32 × HI × HL)) (x3 : Int32) (x4 : Int32) (h : HI) (g : HL) : Option (Int32 × HI × HL) :=
  bnd (x3 + 1) fun (y1 : Int32) =>
  pX8_behind_118 N K12 y1 x4 h g
theorem jX8_behind_115 {D : DE} {f : Nat} {F : Frm} (hF : k_Fix F) {N : Nat} {K12 : Int32 → Int32 → HI → HL → Option (Int32 × HI × HL)} {y9 : Int32} {h9 : HI} {g9 : HL} (hK12 : ∀ (x3 : Int32) (x4 : Int32) (h : HI) (g : HL), K12 x3 x4 h g = some (y9, h9, g9) → V D mX8_behind (f + 1) (qi F (eqi y9 h9 g9)) 12 [(0, .ref (ad D 115)), (3, .int x3), (4, .int x4)] [] (F, h, g)) : ∀ (x3 : Int32) (x4 : Int32) (h : HI) (g : HL), pX8_behind_115 N K12 x3 x4 h g = some (y9, h9, g9) → JX8_behind_115 D f (eqi y9 h9 g9) F h g x3 x4 := by
  intro x3 x4 h g E
  unfold pX8_behind_115 at E
  intro y1 e0; replace E := bndE e0 E
  exact jX8_behind_118 hF hK12 _ _ _ _ E
def pX8_behind_76 (N : Nat) (K12 : Int32 → Int32 → HI → HL → Option (Int32 × HI × HL)) (x3 : Int32) (x4 : Int32) (x5 : Int32) (h : HI) (g : HL) : Option (Int32 × HI × HL) :=
  gd (vin x3 40) <|
  if (h 145 (ix x3)) = 2 then
    obi (pX8_secondOf N x5 h g) fun (y3 : Int32) (h1 : HI) (g2 : HL) =>
    gd (vin x4 8) <|
    bnd (up2 h1 147 (ix x4) y3) fun (h4 : HI) =>
    obi (pX8_firstOf N x5 h4 g2) fun (y7 : Int32) (h5 : HI) (g6 : HL) =>
    gd (vin (x4 + 1) 8) <|
    bnd (up2 h5 147 (ix (x4 + 1)) y7) fun (h8 : HI) =>
    bnd (x4 + 2) fun (y9 : Int32) =>
    pX8_behind_115 N K12 x3 y9 h8 g6
  else
    pX8_behind_115 N K12 x3 x4 h g
theorem jX8_behind_76 {D : DE} {f : Nat} {F : Frm} (hF : k_Fix F) {N : Nat} {K12 : Int32 → Int32 → HI → HL → Option (Int32 × HI × HL)} {y9 : Int32} {h9 : HI} {g9 : HL} (hK12 : ∀ (x3 : Int32) (x4 : Int32) (h : HI) (g : HL), K12 x3 x4 h g = some (y9, h9, g9) → V D mX8_behind (f + 1) (qi F (eqi y9 h9 g9)) 12 [(0, .ref (ad D 115)), (3, .int x3), (4, .int x4)] [] (F, h, g)) : ∀ (x3 : Int32) (x4 : Int32) (x5 : Int32) (h : HI) (g : HL), pX8_behind_76 N K12 x3 x4 x5 h g = some (y9, h9, g9) → JX8_behind_76 D f (eqi y9 h9 g9) F h g x3 x4 x5 := by
  intro x3 x4 x5 h g E
  unfold pX8_behind_76 at E
  obtain ⟨z0, E⟩ := gdE E; refine ⟨vinE z0, ?_⟩
  refine ⟨fun c0 => ?_, fun c0 => ?_⟩
  · replace E := iteF c0 E
    exact jX8_behind_115 hF hK12 _ _ _ _ E
  · replace E := iteT c0 E
    obtain ⟨y3, h1, g2, e0, E⟩ := obiE E
    refine Si.mono (sX8_secondOf (f := f) hF e0) (fun y8 h8 g8 hq => ?_)
    obtain ⟨rfl, rfl, rfl⟩ := hq
    obtain ⟨z0, E⟩ := gdE E; refine ⟨vinE z0, ?_⟩
    intro h4 e0; replace E := bndE e0 E
    obtain ⟨y7, h5, g6, e0, E⟩ := obiE E
    refine Si.mono (sX8_firstOf (f := f) hF e0) (fun y8 h8 g8 hq => ?_)
    obtain ⟨rfl, rfl, rfl⟩ := hq
    obtain ⟨z0, E⟩ := gdE E; refine ⟨vinE z0, ?_⟩
    intro h8 e0; replace E := bndE e0 E
    intro y9 e0; replace E := bndE e0 E
    exact jX8_behind_115 hF hK12 _ _ _ _ E
def pX8_behind_71 (N : Nat) (K12 : Int32 → Int32 → HI → HL → Option (Int32 × HI × HL)) (x4 : Int32) (h : HI) (g : HL) : Option (Int32 × HI × HL) :=
  pX8_behind_118 N K12 (-1) x4 h g
theorem jX8_behind_71 {D : DE} {f : Nat} {F : Frm} (hF : k_Fix F) {N : Nat} {K12 : Int32 → Int32 → HI → HL → Option (Int32 × HI × HL)} {y9 : Int32} {h9 : HI} {g9 : HL} (hK12 : ∀ (x3 : Int32) (x4 : Int32) (h : HI) (g : HL), K12 x3 x4 h g = some (y9, h9, g9) → V D mX8_behind (f + 1) (qi F (eqi y9 h9 g9)) 12 [(0, .ref (ad D 115)), (3, .int x3), (4, .int x4)] [] (F, h, g)) : ∀ (x4 : Int32) (h : HI) (g : HL), pX8_behind_71 N K12 x4 h g = some (y9, h9, g9) → JX8_behind_71 D f (eqi y9 h9 g9) F h g x4 := by
  intro x4 h g E
  unfold pX8_behind_71 at E
  exact jX8_behind_118 hF hK12 _ _ _ _ E
def pX8_behind_56 (N : Nat) (K12 : Int32 → Int32 → HI → HL → Option (Int32 × HI × HL)) (x3 : Int32) (x4 : Int32) (x5 : Int32) (h : HI) (g : HL) : Option (Int32 × HI × HL) :=
  gd (vin x3 40) <|
  if (h 145 (ix x3)) = 2 then
    if x5 = 0 then
      pX8_behind_71 N K12 x4 h g
    else
      pX8_behind_76 N K12 x3 x4 x5 h g
  else
    pX8_behind_76 N K12 x3 x4 x5 h g
theorem jX8_behind_56 {D : DE} {f : Nat} {F : Frm} (hF : k_Fix F) {N : Nat} {K12 : Int32 → Int32 → HI → HL → Option (Int32 × HI × HL)} {y9 : Int32} {h9 : HI} {g9 : HL} (hK12 : ∀ (x3 : Int32) (x4 : Int32) (h : HI) (g : HL), K12 x3 x4 h g = some (y9, h9, g9) → V D mX8_behind (f + 1) (qi F (eqi y9 h9 g9)) 12 [(0, .ref (ad D 115)), (3, .int x3), (4, .int x4)] [] (F, h, g)) : ∀ (x3 : Int32) (x4 : Int32) (x5 : Int32) (h : HI) (g : HL), pX8_behind_56 N K12 x3 x4 x5 h g = some (y9, h9, g9) → JX8_behind_56 D f (eqi y9 h9 g9) F h g x3 x4 x5 := by
  intro x3 x4 x5 h g E
  unfold pX8_behind_56 at E
  obtain ⟨z0, E⟩ := gdE E; refine ⟨vinE z0, ?_⟩
  refine ⟨fun c0 => ?_, fun c0 => ?_⟩
  · replace E := iteF c0 E
    exact jX8_behind_76 hF hK12 _ _ _ _ _ E
  · replace E := iteT c0 E
    refine ⟨fun c0 => ?_, fun c0 => ?_⟩
    · replace E := iteF c0 E
      exact jX8_behind_76 hF hK12 _ _ _ _ _ E
    · replace E := iteT c0 E
      exact jX8_behind_71 hF hK12 _ _ _ E
def pX8_behind_12 (N : Nat) : Nat → Int32 → Int32 → HI → HL → Option (Int32 × HI × HL)
  | 0, _, _, _, _ => none
  | n + 1, x3, x4, h, g =>
    if x4 ≤ 0 then
      some (x3, h, g)
    else
      if x3 = (-1) then
        some (x3, h, g)
      else
        bnd (x4 + (-1)) fun (y1 : Int32) =>
        gd (vin y1 8) <|
        bnd (h 147 (ix y1)) fun (y2 : Int32) =>
        if (h 115 55) ≤ x3 then
          pX8_behind_71 N (pX8_behind_12 N n) y1 h g
        else
          gd (vin x3 40) <|
          if (h 145 (ix x3)) = 0 then
            if 0 < y2 then
              pX8_behind_71 N (pX8_behind_12 N n) y1 h g
            else
              pX8_behind_56 N (pX8_behind_12 N n) x3 y1 y2 h g
          else
            pX8_behind_56 N (pX8_behind_12 N n) x3 y1 y2 h g
theorem lX8_behind_12 {D : DE} {f : Nat} {F : Frm} (hF : k_Fix F) {N : Nat} {y9 : Int32} {h9 : HI} {g9 : HL}  : ∀ (n : Nat) (x3 : Int32) (x4 : Int32) (h : HI) (g : HL), pX8_behind_12 N n x3 x4 h g = some (y9, h9, g9) → V D mX8_behind (f + 1) (qi F (eqi y9 h9 g9)) 12 [(0, .ref (ad D 115)), (3, .int x3), (4, .int x4)] [] (F, h, g) := by
  intro n
  induction n with
  | zero => intro x3 x4 h g E; cases E
  | succ n hK12 =>
    intro x3 x4 h g E
    rw [pX8_behind_12] at E
    refine bX8_behind_12 (f := f) hF x3 x4 ?_
    refine ⟨fun c0 => ?_, fun c0 => ?_⟩
    · replace E := iteT c0 E
      cases E; exact ⟨rfl, rfl, rfl⟩
    · replace E := iteF c0 E
      refine ⟨fun c0 => ?_, fun c0 => ?_⟩
      · replace E := iteT c0 E
        cases E; exact ⟨rfl, rfl, rfl⟩
      · replace E := iteF c0 E
        intro y1 e0; replace E := bndE e0 E
        obtain ⟨z0, E⟩ := gdE E; refine ⟨vinE z0, ?_⟩
        intro y2 e0; replace E := bndE e0 E
        refine ⟨fun c0 => ?_, fun c0 => ?_⟩
        · replace E := iteT c0 E
          exact jX8_behind_71 hF hK12 _ _ _ E
        · replace E := iteF c0 E
          obtain ⟨z0, E⟩ := gdE E; refine ⟨vinE z0, ?_⟩
          refine ⟨fun c0 => ?_, fun c0 => ?_⟩
          · replace E := iteF c0 E
            exact jX8_behind_56 hF hK12 _ _ _ _ _ E
          · replace E := iteT c0 E
            refine ⟨fun c0 => ?_, fun c0 => ?_⟩
            · replace E := iteT c0 E
              exact jX8_behind_71 hF hK12 _ _ _ E
            · replace E := iteF c0 E
              exact jX8_behind_56 hF hK12 _ _ _ _ _ E
def pX8_behind_0 (N : Nat) (x1 : Int32) (x2 : Int32) (h : HI) (g : HL) : Option (Int32 × HI × HL) :=
  bnd (up2 h 147 (ix 0) x2) fun (h1 : HI) =>
  pX8_behind_12 N N x1 1 h1 g
theorem jX8_behind_0 {D : DE} {f : Nat} {F : Frm} (hF : k_Fix F) {N : Nat} {y9 : Int32} {h9 : HI} {g9 : HL}  : ∀ (x1 : Int32) (x2 : Int32) (h : HI) (g : HL), pX8_behind_0 N x1 x2 h g = some (y9, h9, g9) → JX8_behind_0 D f (eqi y9 h9 g9) F h g x1 x2 := by
  intro x1 x2 h g E
  unfold pX8_behind_0 at E
  intro h1 e0; replace E := bndE e0 E
  exact lX8_behind_12 hF  N _ _ _ _ E
abbrev pX8_behind (N : Nat) (x1 : Int32) (x2 : Int32) (h : HI) (g : HL) : Option (Int32 × HI × HL) := pX8_behind_0 N x1 x2 h g
theorem sX8_behind {D : DE} {f : Nat} {F : Frm} (hF : k_Fix F) {N : Nat} {y9 : Int32} {h9 : HI} {g9 : HL} {x1 : Int32} {x2 : Int32} {h : HI} {g : HL} (E : pX8_behind N x1 x2 h g = some (y9, h9, g9)) : Si D (f + 1) mX8_behind [.ref (ad D 115), .int x1, .int x2] F h g (eqi y9 h9 g9) := wX8_behind (f := f) hF _ _ (jX8_behind_0 hF _ _ _ _ E)
def pX8_lay_182 (N : Nat) (K113 : Int32 → Int32 → Int32 → Int32 → HI → HL → Option (Int32 × HI × HL)) (x1 : Int32) (x2 : Int32) (x3 : Int32) (x4 : Int32) (h : HI) (g : HL) : Option (Int32 × HI × HL) :=
  bnd (x4 + 1) fun (y1 : Int32) =>
  K113 x1 x2 x3 y1 h g
theorem jX8_lay_182 {D : DE} {f : Nat} {F : Frm} (hF : k_Fix F) {N : Nat} {K113 : Int32 → Int32 → Int32 → Int32 → HI → HL → Option (Int32 × HI × HL)} {y9 : Int32} {h9 : HI} {g9 : HL} (hK113 : ∀ (x1 : Int32) (x2 : Int32) (x3 : Int32) (x4 : Int32) (h : HI) (g : HL), K113 x1 x2 x3 x4 h g = some (y9, h9, g9) → V D mX8_lay (f + 2) (qi F (eqi y9 h9 g9)) 113 [(0, .ref (ad D 115)), (1, .int x1), (2, .int x2), (3, .int x3), (4, .int x4)] [] (F, h, g)) : ∀ (x1 : Int32) (x2 : Int32) (x3 : Int32) (x4 : Int32) (h : HI) (g : HL), pX8_lay_182 N K113 x1 x2 x3 x4 h g = some (y9, h9, g9) → JX8_lay_182 D (f + 1) (eqi y9 h9 g9) F h g x1 x2 x3 x4 := by
  intro x1 x2 x3 x4 h g E
  unfold pX8_lay_182 at E
  intro y1 e0; replace E := bndE e0 E
  exact hK113 _ _ _ _ _ _ E
def pX8_lay_144 (N : Nat) (K113 : Int32 → Int32 → Int32 → Int32 → HI → HL → Option (Int32 × HI × HL)) (x1 : Int32) (x2 : Int32) (x3 : Int32) (x4 : Int32) (s0 : Int32) (h : HI) (g : HL) : Option (Int32 × HI × HL) :=
  gd (vin (1500 + x4) 1540) <|
  bnd (up2 h 154 (ix (1500 + x4)) (x4 + 1)) fun (h1 : HI) =>
  obi (pX8_behind N (x4 + 1) s0 h1 g) fun (y4 : Int32) (h2 : HI) (g3 : HL) =>
  gd (vin (1500 + x4) 1540) <|
  bnd (up2 h2 155 (ix (1500 + x4)) y4) fun (h5 : HI) =>
  pX8_lay_182 N K113 x1 x2 x3 x4 h5 g3
theorem jX8_lay_144 {D : DE} {f : Nat} {F : Frm} (hF : k_Fix F) {N : Nat} {K113 : Int32 → Int32 → Int32 → Int32 → HI → HL → Option (Int32 × HI × HL)} {y9 : Int32} {h9 : HI} {g9 : HL} (hK113 : ∀ (x1 : Int32) (x2 : Int32) (x3 : Int32) (x4 : Int32) (h : HI) (g : HL), K113 x1 x2 x3 x4 h g = some (y9, h9, g9) → V D mX8_lay (f + 2) (qi F (eqi y9 h9 g9)) 113 [(0, .ref (ad D 115)), (1, .int x1), (2, .int x2), (3, .int x3), (4, .int x4)] [] (F, h, g)) : ∀ (x1 : Int32) (x2 : Int32) (x3 : Int32) (x4 : Int32) (s0 : Int32) (h : HI) (g : HL), pX8_lay_144 N K113 x1 x2 x3 x4 s0 h g = some (y9, h9, g9) → JX8_lay_144 D (f + 1) (eqi y9 h9 g9) F h g x1 x2 x3 x4 s0 := by
  intro x1 x2 x3 x4 s0 h g E
  unfold pX8_lay_144 at E
  obtain ⟨z0, E⟩ := gdE E; refine ⟨vinE z0, ?_⟩
  intro h1 e0; replace E := bndE e0 E
  obtain ⟨y4, h2, g3, e0, E⟩ := obiE E
  refine Si.mono (sX8_behind (f := f) hF e0) (fun y8 h8 g8 hq => ?_)
  obtain ⟨rfl, rfl, rfl⟩ := hq
  obtain ⟨z0, E⟩ := gdE E; refine ⟨vinE z0, ?_⟩
  intro h5 e0; replace E := bndE e0 E
  exact jX8_lay_182 hF hK113 _ _ _ _ _ _ E
def pX8_lay_113 (N : Nat) : Nat → Int32 → Int32 → Int32 → Int32 → HI → HL → Option (Int32 × HI × HL)
  | 0, _, _, _, _, _, _ => none
  | n + 1, x1, x2, x3, x4, h, g =>
    if x3 ≤ x4 then
      some (x3, h, g)
    else
      gd (vin x4 40) <|
      if (h 145 (ix x4)) = 2 then
        if x4 = x1 then
          obi (pX8_firstOf N x2 h g) fun (y3 : Int32) (h1 : HI) (g2 : HL) =>
          pX8_lay_144 N (pX8_lay_113 N n) x1 x2 x3 x4 y3 h1 g2
        else
          pX8_lay_144 N (pX8_lay_113 N n) x1 x2 x3 x4 0 h g
      else
        pX8_lay_182 N (pX8_lay_113 N n) x1 x2 x3 x4 h g
theorem lX8_lay_113 {D : DE} {f : Nat} {F : Frm} (hF : k_Fix F) {N : Nat} {y9 : Int32} {h9 : HI} {g9 : HL}  : ∀ (n : Nat) (x1 : Int32) (x2 : Int32) (x3 : Int32) (x4 : Int32) (h : HI) (g : HL), pX8_lay_113 N n x1 x2 x3 x4 h g = some (y9, h9, g9) → V D mX8_lay (f + 2) (qi F (eqi y9 h9 g9)) 113 [(0, .ref (ad D 115)), (1, .int x1), (2, .int x2), (3, .int x3), (4, .int x4)] [] (F, h, g) := by
  intro n
  induction n with
  | zero => intro x1 x2 x3 x4 h g E; cases E
  | succ n hK113 =>
    intro x1 x2 x3 x4 h g E
    rw [pX8_lay_113] at E
    refine bX8_lay_113 (f := (f + 1)) hF x1 x2 x3 x4 ?_
    refine ⟨fun c0 => ?_, fun c0 => ?_⟩
    · replace E := iteT c0 E
      cases E; exact ⟨rfl, rfl, rfl⟩
    · replace E := iteF c0 E
      obtain ⟨z0, E⟩ := gdE E; refine ⟨vinE z0, ?_⟩
      refine ⟨fun c0 => ?_, fun c0 => ?_⟩
      · replace E := iteF c0 E
        exact jX8_lay_182 hF hK113 _ _ _ _ _ _ E
      · replace E := iteT c0 E
        refine ⟨fun c0 => ?_, fun c0 => ?_⟩
        · replace E := iteF c0 E
          exact jX8_lay_144 hF hK113 _ _ _ _ _ _ _ E
        · replace E := iteT c0 E
          obtain ⟨y3, h1, g2, e0, E⟩ := obiE E
          refine Si.mono (sX8_firstOf (f := f + 1) hF e0) (fun y8 h8 g8 hq => ?_)
          obtain ⟨rfl, rfl, rfl⟩ := hq
          exact jX8_lay_144 hF hK113 _ _ _ _ _ _ _ E
def pX8_lay_103 (N : Nat) (K10 : Int32 → Int32 → Int32 → Int32 → HI → HL → Option (Int32 × HI × HL)) (x1 : Int32) (x2 : Int32) (x3 : Int32) (x4 : Int32) (s1 : Int32) (s2 : Int32) (h : HI) (g : HL) : Option (Int32 × HI × HL) :=
  gd (vin s1 1540) <|
  bnd (up2 h 152 (ix s1) s2) fun (h1 : HI) =>
  bnd (x4 + 1) fun (y2 : Int32) =>
  K10 x1 x2 x3 y2 h1 g
theorem jX8_lay_103 {D : DE} {f : Nat} {F : Frm} (hF : k_Fix F) {N : Nat} {K10 : Int32 → Int32 → Int32 → Int32 → HI → HL → Option (Int32 × HI × HL)} {y9 : Int32} {h9 : HI} {g9 : HL} (hK10 : ∀ (x1 : Int32) (x2 : Int32) (x3 : Int32) (x4 : Int32) (h : HI) (g : HL), K10 x1 x2 x3 x4 h g = some (y9, h9, g9) → V D mX8_lay (f + 2) (qi F (eqi y9 h9 g9)) 10 [(0, .ref (ad D 115)), (1, .int x1), (2, .int x2), (3, .int x3), (4, .int x4)] [] (F, h, g)) : ∀ (x1 : Int32) (x2 : Int32) (x3 : Int32) (x4 : Int32) (s1 : Int32) (s2 : Int32) (h : HI) (g : HL), pX8_lay_103 N K10 x1 x2 x3 x4 s1 s2 h g = some (y9, h9, g9) → JX8_lay_103 D (f + 1) (eqi y9 h9 g9) F h g x1 x2 x3 x4 s1 s2 := by
  intro x1 x2 x3 x4 s1 s2 h g E
  unfold pX8_lay_103 at E
  obtain ⟨z0, E⟩ := gdE E; refine ⟨vinE z0, ?_⟩
  intro h1 e0; replace E := bndE e0 E
  intro y2 e0; replace E := bndE e0 E
  exact hK10 _ _ _ _ _ _ E
def pX8_lay_69 (N : Nat) (K10 : Int32 → Int32 → Int32 → Int32 → HI → HL → Option (Int32 × HI × HL)) (x1 : Int32) (x2 : Int32) (x3 : Int32) (x4 : Int32) (s1 : Int32) (s2 : Int32) (h : HI) (g : HL) : Option (Int32 × HI × HL) :=
  gd (vin s1 1540) <|
  bnd (up2 h 151 (ix s1) s2) fun (h1 : HI) =>
  gd (vin x4 40) <|
  if (h1 145 (ix x4)) = 2 then
    pX8_lay_103 N K10 x1 x2 x3 x4 x4 (1500 + x4) h1 g
  else
    gd (vin x4 40) <|
    pX8_lay_103 N K10 x1 x2 x3 x4 x4 (h1 146 (ix x4)) h1 g
theorem jX8_lay_69 {D : DE} {f : Nat} {F : Frm} (hF : k_Fix F) {N : Nat} {K10 : Int32 → Int32 → Int32 → Int32 → HI → HL → Option (Int32 × HI × HL)} {y9 : Int32} {h9 : HI} {g9 : HL} (hK10 : ∀ (x1 : Int32) (x2 : Int32) (x3 : Int32) (x4 : Int32) (h : HI) (g : HL), K10 x1 x2 x3 x4 h g = some (y9, h9, g9) → V D mX8_lay (f + 2) (qi F (eqi y9 h9 g9)) 10 [(0, .ref (ad D 115)), (1, .int x1), (2, .int x2), (3, .int x3), (4, .int x4)] [] (F, h, g)) : ∀ (x1 : Int32) (x2 : Int32) (x3 : Int32) (x4 : Int32) (s1 : Int32) (s2 : Int32) (h : HI) (g : HL), pX8_lay_69 N K10 x1 x2 x3 x4 s1 s2 h g = some (y9, h9, g9) → JX8_lay_69 D (f + 1) (eqi y9 h9 g9) F h g x1 x2 x3 x4 s1 s2 := by
  intro x1 x2 x3 x4 s1 s2 h g E
  unfold pX8_lay_69 at E
  obtain ⟨z0, E⟩ := gdE E; refine ⟨vinE z0, ?_⟩
  intro h1 e0; replace E := bndE e0 E
  obtain ⟨z0, E⟩ := gdE E; refine ⟨vinE z0, ?_⟩
  refine ⟨fun c0 => ?_, fun c0 => ?_⟩
  · replace E := iteF c0 E
    obtain ⟨z0, E⟩ := gdE E; refine ⟨vinE z0, ?_⟩
    exact jX8_lay_103 hF hK10 _ _ _ _ _ _ _ _ E
  · replace E := iteT c0 E
    exact jX8_lay_103 hF hK10 _ _ _ _ _ _ _ _ E
def pX8_lay_46 (N : Nat) (K10 : Int32 → Int32 → Int32 → Int32 → HI → HL → Option (Int32 × HI × HL)) (x1 : Int32) (x2 : Int32) (x3 : Int32) (x4 : Int32) (s1 : Int32) (s2 : Int32) (h : HI) (g : HL) : Option (Int32 × HI × HL) :=
  gd (vin s1 1540) <|
  bnd (up2 h 150 (ix s1) s2) fun (h1 : HI) =>
  gd (vin x4 40) <|
  if (h1 145 (ix x4)) = 2 then
    pX8_lay_69 N K10 x1 x2 x3 x4 x4 1 h1 g
  else
    pX8_lay_69 N K10 x1 x2 x3 x4 x4 0 h1 g
theorem jX8_lay_46 {D : DE} {f : Nat} {F : Frm} (hF : k_Fix F) {N : Nat} {K10 : Int32 → Int32 → Int32 → Int32 → HI → HL → Option (Int32 × HI × HL)} {y9 : Int32} {h9 : HI} {g9 : HL} (hK10 : ∀ (x1 : Int32) (x2 : Int32) (x3 : Int32) (x4 : Int32) (h : HI) (g : HL), K10 x1 x2 x3 x4 h g = some (y9, h9, g9) → V D mX8_lay (f + 2) (qi F (eqi y9 h9 g9)) 10 [(0, .ref (ad D 115)), (1, .int x1), (2, .int x2), (3, .int x3), (4, .int x4)] [] (F, h, g)) : ∀ (x1 : Int32) (x2 : Int32) (x3 : Int32) (x4 : Int32) (s1 : Int32) (s2 : Int32) (h : HI) (g : HL), pX8_lay_46 N K10 x1 x2 x3 x4 s1 s2 h g = some (y9, h9, g9) → JX8_lay_46 D (f + 1) (eqi y9 h9 g9) F h g x1 x2 x3 x4 s1 s2 := by
  intro x1 x2 x3 x4 s1 s2 h g E
  unfold pX8_lay_46 at E
  obtain ⟨z0, E⟩ := gdE E; refine ⟨vinE z0, ?_⟩
  intro h1 e0; replace E := bndE e0 E
  obtain ⟨z0, E⟩ := gdE E; refine ⟨vinE z0, ?_⟩
  refine ⟨fun c0 => ?_, fun c0 => ?_⟩
  · replace E := iteF c0 E
    exact jX8_lay_69 hF hK10 _ _ _ _ _ _ _ _ E
  · replace E := iteT c0 E
    exact jX8_lay_69 hF hK10 _ _ _ _ _ _ _ _ E
def pX8_lay_10 (N : Nat) : Nat → Int32 → Int32 → Int32 → Int32 → HI → HL → Option (Int32 × HI × HL)
  | 0, _, _, _, _, _, _ => none
  | n + 1, x1, x2, x3, x4, h, g =>
    if x3 ≤ x4 then
      pX8_lay_113 N N x1 x2 x3 x1 h g
    else
      gd (vin x4 1540) <|
      bnd (up2 h 153 (ix x4) 0) fun (h1 : HI) =>
      gd (vin x4 40) <|
      if (h1 145 (ix x4)) = 1 then
        pX8_lay_46 N (pX8_lay_10 N n) x1 x2 x3 x4 x4 3 h1 g
      else
        pX8_lay_46 N (pX8_lay_10 N n) x1 x2 x3 x4 x4 2 h1 g
theorem lX8_lay_10 {D : DE} {f : Nat} {F : Frm} (hF : k_Fix F) {N : Nat} {y9 : Int32} {h9 : HI} {g9 : HL}  : ∀ (n : Nat) (x1 : Int32) (x2 : Int32) (x3 : Int32) (x4 : Int32) (h : HI) (g : HL), pX8_lay_10 N n x1 x2 x3 x4 h g = some (y9, h9, g9) → V D mX8_lay (f + 2) (qi F (eqi y9 h9 g9)) 10 [(0, .ref (ad D 115)), (1, .int x1), (2, .int x2), (3, .int x3), (4, .int x4)] [] (F, h, g) := by
  intro n
  induction n with
  | zero => intro x1 x2 x3 x4 h g E; cases E
  | succ n hK10 =>
    intro x1 x2 x3 x4 h g E
    rw [pX8_lay_10] at E
    refine bX8_lay_10 (f := (f + 1)) hF x1 x2 x3 x4 ?_
    refine ⟨fun c0 => ?_, fun c0 => ?_⟩
    · replace E := iteT c0 E
      exact lX8_lay_113 hF  N _ _ _ _ _ _ E
    · replace E := iteF c0 E
      obtain ⟨z0, E⟩ := gdE E; refine ⟨vinE z0, ?_⟩
      intro h1 e0; replace E := bndE e0 E
      obtain ⟨z0, E⟩ := gdE E; refine ⟨vinE z0, ?_⟩
      refine ⟨fun c0 => ?_, fun c0 => ?_⟩
      · replace E := iteF c0 E
        exact jX8_lay_46 hF hK10 _ _ _ _ _ _ _ _ E
      · replace E := iteT c0 E
        exact jX8_lay_46 hF hK10 _ _ _ _ _ _ _ _ E
def pX8_lay_0 (N : Nat) (x1 : Int32) (x2 : Int32) (h : HI) (g : HL) : Option (Int32 × HI × HL) :=
  obi (pX8_behind N x1 x2 h g) fun (y3 : Int32) (h1 : HI) (g2 : HL) =>
  pX8_lay_10 N N x1 x2 y3 x1 h1 g2
theorem jX8_lay_0 {D : DE} {f : Nat} {F : Frm} (hF : k_Fix F) {N : Nat} {y9 : Int32} {h9 : HI} {g9 : HL}  : ∀ (x1 : Int32) (x2 : Int32) (h : HI) (g : HL), pX8_lay_0 N x1 x2 h g = some (y9, h9, g9) → JX8_lay_0 D (f + 1) (eqi y9 h9 g9) F h g x1 x2 := by
  intro x1 x2 h g E
  unfold pX8_lay_0 at E
  obtain ⟨y3, h1, g2, e0, E⟩ := obiE E
  refine Si.mono (sX8_behind (f := f) hF e0) (fun y8 h8 g8 hq => ?_)
  obtain ⟨rfl, rfl, rfl⟩ := hq
  exact lX8_lay_10 hF  N _ _ _ _ _ _ E
abbrev pX8_lay (N : Nat) (x1 : Int32) (x2 : Int32) (h : HI) (g : HL) : Option (Int32 × HI × HL) := pX8_lay_0 N x1 x2 h g
theorem sX8_lay {D : DE} {f : Nat} {F : Frm} (hF : k_Fix F) {N : Nat} {y9 : Int32} {h9 : HI} {g9 : HL} {x1 : Int32} {x2 : Int32} {h : HI} {g : HL} (E : pX8_lay N x1 x2 h g = some (y9, h9, g9)) : Si D (f + 2) mX8_lay [.ref (ad D 115), .int x1, .int x2] F h g (eqi y9 h9 g9) := wX8_lay (f := (f + 1)) hF _ _ (jX8_lay_0 hF _ _ _ _ E)
def pX8_thing_0 (N : Nat) (x1 : Int32) (x2 : Int32) (h : HI) (g : HL) : Option (Int32 × HI × HL) :=
  if (h 115 74) = 0 then
    gd (vin x1 2002) <|
    if (h 124 (ix x1)) = 7 then
      gd (vin x1 2002) <|
      gd (vin ((16 * x2) + (h 125 (ix x1))) 24032) <|
      some ((h 156 (ix ((16 * x2) + (h 125 (ix x1))))), h, g)
    else
      if (h 115 67) = 1500 then
        bnd (up2 h 115 74 5) fun (h7 : HI) =>
        some (0, h7, g)
      else
        bnd (40 + (h 115 67)) fun (y1 : Int32) =>
        bnd (up2 h 115 67 ((h 115 67) + 1)) fun (h2 : HI) =>
        gd (vin y1 1540) <|
        bnd (up2 h2 148 (ix y1) x1) fun (h3 : HI) =>
        gd (vin y1 1540) <|
        bnd (up2 h3 149 (ix y1) x2) fun (h4 : HI) =>
        gd (vin y1 1540) <|
        bnd (up2 h4 150 (ix y1) 0) fun (h5 : HI) =>
        gd (vin y1 1540) <|
        bnd (up2 h5 153 (ix y1) 0) fun (h6 : HI) =>
        some (y1, h6, g)
  else
    some (0, h, g)
theorem jX8_thing_0 {D : DE} {f : Nat} {F : Frm} (hF : k_Fix F) {N : Nat} {y9 : Int32} {h9 : HI} {g9 : HL}  : ∀ (x1 : Int32) (x2 : Int32) (h : HI) (g : HL), pX8_thing_0 N x1 x2 h g = some (y9, h9, g9) → JX8_thing_0 D f (eqi y9 h9 g9) F h g x1 x2 := by
  intro x1 x2 h g E
  unfold pX8_thing_0 at E
  refine ⟨fun c0 => ?_, fun c0 => ?_⟩
  · replace E := iteT c0 E
    obtain ⟨z0, E⟩ := gdE E; refine ⟨vinE z0, ?_⟩
    refine ⟨fun c0 => ?_, fun c0 => ?_⟩
    · replace E := iteF c0 E
      refine ⟨fun c0 => ?_, fun c0 => ?_⟩
      · replace E := iteF c0 E
        intro y1 e0; replace E := bndE e0 E
        intro h2 e0; replace E := bndE e0 E
        obtain ⟨z0, E⟩ := gdE E; refine ⟨vinE z0, ?_⟩
        intro h3 e0; replace E := bndE e0 E
        obtain ⟨z0, E⟩ := gdE E; refine ⟨vinE z0, ?_⟩
        intro h4 e0; replace E := bndE e0 E
        obtain ⟨z0, E⟩ := gdE E; refine ⟨vinE z0, ?_⟩
        intro h5 e0; replace E := bndE e0 E
        obtain ⟨z0, E⟩ := gdE E; refine ⟨vinE z0, ?_⟩
        intro h6 e0; replace E := bndE e0 E
        cases E; exact ⟨rfl, rfl, rfl⟩
      · replace E := iteT c0 E
        intro h7 e0; replace E := bndE e0 E
        cases E; exact ⟨rfl, rfl, rfl⟩
    · replace E := iteT c0 E
      obtain ⟨z0, E⟩ := gdE E; refine ⟨vinE z0, ?_⟩
      obtain ⟨z0, E⟩ := gdE E; refine ⟨vinE z0, ?_⟩
      cases E; exact ⟨rfl, rfl, rfl⟩
  · replace E := iteF c0 E
    cases E; exact ⟨rfl, rfl, rfl⟩
abbrev pX8_thing (N : Nat) (x1 : Int32) (x2 : Int32) (h : HI) (g : HL) : Option (Int32 × HI × HL) := pX8_thing_0 N x1 x2 h g
theorem sX8_thing {D : DE} {f : Nat} {F : Frm} (hF : k_Fix F) {N : Nat} {y9 : Int32} {h9 : HI} {g9 : HL} {x1 : Int32} {x2 : Int32} {h : HI} {g : HL} (E : pX8_thing N x1 x2 h g = some (y9, h9, g9)) : Si D f mX8_thing [.ref (ad D 115), .int x1, .int x2] F h g (eqi y9 h9 g9) := wX8_thing (f := f) hF _ _ (jX8_thing_0 hF _ _ _ _ E)
def pX8_gives_0 (N : Nat) (x1 : Int32) (x2 : Int32) (h : HI) (g : HL) : Option (HI × HL) :=
  bnd (up2 h 115 77 x1) fun (h1 : HI) =>
  bnd (up2 h1 115 78 x2) fun (h2 : HI) =>
  some (h2, g)
theorem jX8_gives_0 {D : DE} {f : Nat} {F : Frm} (hF : k_Fix F) {N : Nat} {h9 : HI} {g9 : HL}  : ∀ (x1 : Int32) (x2 : Int32) (h : HI) (g : HL), pX8_gives_0 N x1 x2 h g = some (h9, g9) → JX8_gives_0 D f (eqv h9 g9) F h g x1 x2 := by
  intro x1 x2 h g E
  unfold pX8_gives_0 at E
  intro h1 e0; replace E := bndE e0 E
  intro h2 e0; replace E := bndE e0 E
  cases E; exact ⟨rfl, rfl⟩
abbrev pX8_gives (N : Nat) (x1 : Int32) (x2 : Int32) (h : HI) (g : HL) : Option (HI × HL) := pX8_gives_0 N x1 x2 h g
theorem sX8_gives {D : DE} {f : Nat} {F : Frm} (hF : k_Fix F) {N : Nat} {h9 : HI} {g9 : HL} {x1 : Int32} {x2 : Int32} {h : HI} {g : HL} (E : pX8_gives N x1 x2 h g = some (h9, g9)) : Sv D f mX8_gives [.ref (ad D 115), .int x1, .int x2] F h g (eqv h9 g9) := wX8_gives (f := f) hF _ _ (jX8_gives_0 hF _ _ _ _ E)
def pX8_need_0 (N : Nat) (x1 : Int32) (h : HI) (g : HL) : Option (HI × HL) :=
  gd (vin x1 1540) <|
  bnd (up2 h 153 (ix x1) 1) fun (h1 : HI) =>
  gd (vin x1 1540) <|
  if (h1 150 (ix x1)) = 0 then
    gd (vin x1 1540) <|
    bnd (up2 h1 150 (ix x1) 1) fun (h5 : HI) =>
    obv (pX8_task N 3 x1 0 h5 g) fun (h6 : HI) (g7 : HL) =>
    gd (vin x1 1540) <|
    gd (vin x1 1540) <|
    obv (pX8_task N 1 (h6 148 (ix x1)) (h6 149 (ix x1)) h6 g7) fun (h8 : HI) (g9 : HL) =>
    some (h8, g9)
  else
    gd (vin x1 1540) <|
    if (h1 150 (ix x1)) = 2 then
      gd (vin x1 1540) <|
      gd (vin x1 1540) <|
      obv (pX8_gives N (h1 151 (ix x1)) (h1 152 (ix x1)) h1 g) fun (h3 : HI) (g4 : HL) =>
      some (h3, g4)
    else
      bnd (up2 h1 115 74 2) fun (h2 : HI) =>
      some (h2, g)
theorem jX8_need_0 {D : DE} {f : Nat} {F : Frm} (hF : k_Fix F) {N : Nat} {h9 : HI} {g9 : HL}  : ∀ (x1 : Int32) (h : HI) (g : HL), pX8_need_0 N x1 h g = some (h9, g9) → JX8_need_0 D (f + 1) (eqv h9 g9) F h g x1 := by
  intro x1 h g E
  unfold pX8_need_0 at E
  obtain ⟨z0, E⟩ := gdE E; refine ⟨vinE z0, ?_⟩
  intro h1 e0; replace E := bndE e0 E
  obtain ⟨z0, E⟩ := gdE E; refine ⟨vinE z0, ?_⟩
  refine ⟨fun c0 => ?_, fun c0 => ?_⟩
  · replace E := iteF c0 E
    obtain ⟨z0, E⟩ := gdE E; refine ⟨vinE z0, ?_⟩
    refine ⟨fun c0 => ?_, fun c0 => ?_⟩
    · replace E := iteF c0 E
      intro h2 e0; replace E := bndE e0 E
      cases E; exact ⟨rfl, rfl⟩
    · replace E := iteT c0 E
      obtain ⟨z0, E⟩ := gdE E; refine ⟨vinE z0, ?_⟩
      obtain ⟨z0, E⟩ := gdE E; refine ⟨vinE z0, ?_⟩
      obtain ⟨h3, g4, e0, E⟩ := obvE E
      refine Sv.mono (sX8_gives (f := f + 1) hF e0) (fun h8 g8 hq => ?_)
      obtain ⟨rfl, rfl⟩ := hq
      cases E; exact ⟨rfl, rfl⟩
  · replace E := iteT c0 E
    obtain ⟨z0, E⟩ := gdE E; refine ⟨vinE z0, ?_⟩
    intro h5 e0; replace E := bndE e0 E
    obtain ⟨h6, g7, e0, E⟩ := obvE E
    refine Sv.mono (sX8_task (f := f) hF e0) (fun h8 g8 hq => ?_)
    obtain ⟨rfl, rfl⟩ := hq
    obtain ⟨z0, E⟩ := gdE E; refine ⟨vinE z0, ?_⟩
    obtain ⟨z0, E⟩ := gdE E; refine ⟨vinE z0, ?_⟩
    obtain ⟨h8, g9, e0, E⟩ := obvE E
    refine Sv.mono (sX8_task (f := f) hF e0) (fun h8 g8 hq => ?_)
    obtain ⟨rfl, rfl⟩ := hq
    cases E; exact ⟨rfl, rfl⟩
abbrev pX8_need (N : Nat) (x1 : Int32) (h : HI) (g : HL) : Option (HI × HL) := pX8_need_0 N x1 h g
theorem sX8_need {D : DE} {f : Nat} {F : Frm} (hF : k_Fix F) {N : Nat} {h9 : HI} {g9 : HL} {x1 : Int32} {h : HI} {g : HL} (E : pX8_need N x1 h g = some (h9, g9)) : Sv D (f + 2) mX8_need [.ref (ad D 115), .int x1] F h g (eqv h9 g9) := wX8_need (f := (f + 1)) hF _ (jX8_need_0 hF _ _ _ E)
def pX8_called_34 (N : Nat) : Nat → Int32 → Int32 → Int32 → Int32 → HI → HL → Option (HI × HL)
  | 0, _, _, _, _, _, _ => none
  | n + 1, x1, x2, x3, x4, h, g =>
    gd (vin x1 2002) <|
    if (h 126 (ix x1)) ≤ x4 then
      gd (vin x1 2002) <|
      gd (vin (h 127 (ix x1)) 24) <|
      obv (pX8_task N 1 (h 121 (ix (h 127 (ix x1)))) x3 h g) fun (h1 : HI) (g2 : HL) =>
      some (h1, g2)
    else
      gd (vin x1 2002) <|
      gd (vin ((h 125 (ix x1)) + x4) 2002) <|
      obi (pX8_thing N (h 131 (ix ((h 125 (ix x1)) + x4))) x2 h g) fun (y5 : Int32) (h3 : HI) (g4 : HL) =>
      gd (vin ((16 * x3) + x4) 24032) <|
      bnd (up2 h3 156 (ix ((16 * x3) + x4)) y5) fun (h6 : HI) =>
      bnd (x4 + 1) fun (y7 : Int32) =>
      (pX8_called_34 N n) x1 x2 x3 y7 h6 g4
theorem lX8_called_34 {D : DE} {f : Nat} {F : Frm} (hF : k_Fix F) {N : Nat} {h9 : HI} {g9 : HL}  : ∀ (n : Nat) (x1 : Int32) (x2 : Int32) (x3 : Int32) (x4 : Int32) (h : HI) (g : HL), pX8_called_34 N n x1 x2 x3 x4 h g = some (h9, g9) → V D mX8_called (f + 2) (qv F (eqv h9 g9)) 34 [(0, .ref (ad D 115)), (1, .int x1), (2, .int x2), (3, .int x3), (4, .int x4)] [] (F, h, g) := by
  intro n
  induction n with
  | zero => intro x1 x2 x3 x4 h g E; cases E
  | succ n hK34 =>
    intro x1 x2 x3 x4 h g E
    rw [pX8_called_34] at E
    refine bX8_called_34 (f := (f + 1)) hF x1 x2 x3 x4 ?_
    obtain ⟨z0, E⟩ := gdE E; refine ⟨vinE z0, ?_⟩
    refine ⟨fun c0 => ?_, fun c0 => ?_⟩
    · replace E := iteT c0 E
      obtain ⟨z0, E⟩ := gdE E; refine ⟨vinE z0, ?_⟩
      obtain ⟨z0, E⟩ := gdE E; refine ⟨vinE z0, ?_⟩
      obtain ⟨h1, g2, e0, E⟩ := obvE E
      refine Sv.mono (sX8_task (f := f) hF e0) (fun h8 g8 hq => ?_)
      obtain ⟨rfl, rfl⟩ := hq
      cases E; exact ⟨rfl, rfl⟩
    · replace E := iteF c0 E
      obtain ⟨z0, E⟩ := gdE E; refine ⟨vinE z0, ?_⟩
      obtain ⟨z0, E⟩ := gdE E; refine ⟨vinE z0, ?_⟩
      obtain ⟨y5, h3, g4, e0, E⟩ := obiE E
      refine Si.mono (sX8_thing (f := f + 1) hF e0) (fun y8 h8 g8 hq => ?_)
      obtain ⟨rfl, rfl, rfl⟩ := hq
      obtain ⟨z0, E⟩ := gdE E; refine ⟨vinE z0, ?_⟩
      intro h6 e0; replace E := bndE e0 E
      intro y7 e0; replace E := bndE e0 E
      exact hK34 _ _ _ _ _ _ E
def pX8_called_0 (N : Nat) (x1 : Int32) (x2 : Int32) (h : HI) (g : HL) : Option (HI × HL) :=
  if (h 115 69) = 1500 then
    bnd (up2 h 115 74 5) fun (h3 : HI) =>
    some (h3, g)
  else
    bnd (up2 h 115 69 ((h 115 69) + 1)) fun (h1 : HI) =>
    bnd (h1 115 69) fun (y2 : Int32) =>
    pX8_called_34 N N x1 x2 y2 0 h1 g
theorem jX8_called_0 {D : DE} {f : Nat} {F : Frm} (hF : k_Fix F) {N : Nat} {h9 : HI} {g9 : HL}  : ∀ (x1 : Int32) (x2 : Int32) (h : HI) (g : HL), pX8_called_0 N x1 x2 h g = some (h9, g9) → JX8_called_0 D (f + 1) (eqv h9 g9) F h g x1 x2 := by
  intro x1 x2 h g E
  unfold pX8_called_0 at E
  refine ⟨fun c0 => ?_, fun c0 => ?_⟩
  · replace E := iteF c0 E
    intro h1 e0; replace E := bndE e0 E
    intro y2 e0; replace E := bndE e0 E
    exact lX8_called_34 hF  N _ _ _ _ _ _ E
  · replace E := iteT c0 E
    intro h3 e0; replace E := bndE e0 E
    cases E; exact ⟨rfl, rfl⟩
abbrev pX8_called (N : Nat) (x1 : Int32) (x2 : Int32) (h : HI) (g : HL) : Option (HI × HL) := pX8_called_0 N x1 x2 h g
theorem sX8_called {D : DE} {f : Nat} {F : Frm} (hF : k_Fix F) {N : Nat} {h9 : HI} {g9 : HL} {x1 : Int32} {x2 : Int32} {h : HI} {g : HL} (E : pX8_called N x1 x2 h g = some (h9, g9)) : Sv D (f + 2) mX8_called [.ref (ad D 115), .int x1, .int x2] F h g (eqv h9 g9) := wX8_called (f := (f + 1)) hF _ _ (jX8_called_0 hF _ _ _ _ E)
def pX8_paired_0 (N : Nat) (x1 : Int32) (x2 : Int32) (h : HI) (g : HL) : Option (HI × HL) :=
  if (h 115 68) = 1500 then
    bnd (up2 h 115 74 5) fun (h13 : HI) =>
    some (h13, g)
  else
    bnd (h 115 68) fun (y1 : Int32) =>
    bnd (up2 h 115 68 ((h 115 68) + 1)) fun (h2 : HI) =>
    gd (vin x1 2002) <|
    obi (pX8_thing N (h2 125 (ix x1)) x2 h2 g) fun (y5 : Int32) (h3 : HI) (g4 : HL) =>
    gd (vin y1 1540) <|
    bnd (up2 h3 154 (ix y1) y5) fun (h6 : HI) =>
    gd (vin x1 2002) <|
    obi (pX8_thing N (h6 126 (ix x1)) x2 h6 g4) fun (y9 : Int32) (h7 : HI) (g8 : HL) =>
    gd (vin y1 1540) <|
    bnd (up2 h7 155 (ix y1) y9) fun (h10 : HI) =>
    obv (pX8_gives N 1 y1 h10 g8) fun (h11 : HI) (g12 : HL) =>
    some (h11, g12)
theorem jX8_paired_0 {D : DE} {f : Nat} {F : Frm} (hF : k_Fix F) {N : Nat} {h9 : HI} {g9 : HL}  : ∀ (x1 : Int32) (x2 : Int32) (h : HI) (g : HL), pX8_paired_0 N x1 x2 h g = some (h9, g9) → JX8_paired_0 D f (eqv h9 g9) F h g x1 x2 := by
  intro x1 x2 h g E
  unfold pX8_paired_0 at E
  refine ⟨fun c0 => ?_, fun c0 => ?_⟩
  · replace E := iteF c0 E
    intro y1 e0; replace E := bndE e0 E
    intro h2 e0; replace E := bndE e0 E
    obtain ⟨z0, E⟩ := gdE E; refine ⟨vinE z0, ?_⟩
    obtain ⟨y5, h3, g4, e0, E⟩ := obiE E
    refine Si.mono (sX8_thing (f := f) hF e0) (fun y8 h8 g8 hq => ?_)
    obtain ⟨rfl, rfl, rfl⟩ := hq
    obtain ⟨z0, E⟩ := gdE E; refine ⟨vinE z0, ?_⟩
    intro h6 e0; replace E := bndE e0 E
    obtain ⟨z0, E⟩ := gdE E; refine ⟨vinE z0, ?_⟩
    obtain ⟨y9, h7, g8, e0, E⟩ := obiE E
    refine Si.mono (sX8_thing (f := f) hF e0) (fun y8 h8 g8 hq => ?_)
    obtain ⟨rfl, rfl, rfl⟩ := hq
    obtain ⟨z0, E⟩ := gdE E; refine ⟨vinE z0, ?_⟩
    intro h10 e0; replace E := bndE e0 E
    obtain ⟨h11, g12, e0, E⟩ := obvE E
    refine Sv.mono (sX8_gives (f := f) hF e0) (fun h8 g8 hq => ?_)
    obtain ⟨rfl, rfl⟩ := hq
    cases E; exact ⟨rfl, rfl⟩
  · replace E := iteT c0 E
    intro h13 e0; replace E := bndE e0 E
    cases E; exact ⟨rfl, rfl⟩
abbrev pX8_paired (N : Nat) (x1 : Int32) (x2 : Int32) (h : HI) (g : HL) : Option (HI × HL) := pX8_paired_0 N x1 x2 h g
theorem sX8_paired {D : DE} {f : Nat} {F : Frm} (hF : k_Fix F) {N : Nat} {h9 : HI} {g9 : HL} {x1 : Int32} {x2 : Int32} {h : HI} {g : HL} (E : pX8_paired N x1 x2 h g = some (h9, g9)) : Sv D (f + 1) mX8_paired [.ref (ad D 115), .int x1, .int x2] F h g (eqv h9 g9) := wX8_paired (f := f) hF _ _ (jX8_paired_0 hF _ _ _ _ E)
def pX8_work_85 (N : Nat) (x1 : Int32) (x2 : Int32) (s1 : Int32) (h : HI) (g : HL) : Option (HI × HL) :=
  bnd (up2 h 115 73 s1) fun (h1 : HI) =>
  obv (pX8_task N 2 0 0 h1 g) fun (h2 : HI) (g3 : HL) =>
  gd (vin x1 2002) <|
  bnd (h2 124 (ix x1)) fun (y4 : Int32) =>
  if y4.toInt < 1 ∨ 8 < y4.toInt then
    obv (pX8_paired N x1 x2 h2 g3) fun (h5 : HI) (g6 : HL) =>
    some (h5, g6)
  else if y4 = 1 then
    gd (vin x1 2002) <|
    obv (pX8_task N 5 (h2 127 (ix x1)) 0 h2 g3) fun (h7 : HI) (g8 : HL) =>
    gd (vin x1 2002) <|
    obv (pX8_task N 1 (h7 126 (ix x1)) x2 h7 g8) fun (h9 : HI) (g10 : HL) =>
    obv (pX8_task N 4 0 0 h9 g10) fun (h11 : HI) (g12 : HL) =>
    gd (vin x1 2002) <|
    obv (pX8_task N 1 (h11 125 (ix x1)) x2 h11 g12) fun (h13 : HI) (g14 : HL) =>
    some (h13, g14)
  else if y4 = 2 then
    obv (pX8_task N 6 x1 x2 h2 g3) fun (h15 : HI) (g16 : HL) =>
    gd (vin x1 2002) <|
    obv (pX8_task N 1 (h15 125 (ix x1)) x2 h15 g16) fun (h17 : HI) (g18 : HL) =>
    some (h17, g18)
  else if y4 = 3 then
    gd (vin x1 2002) <|
    gd (vin x1 2002) <|
    obi (pX8_thing N (h2 125 (ix x1)) x2 h2 g3) fun (y21 : Int32) (h19 : HI) (g20 : HL) =>
    gd (vin ((16 * x2) + (h2 127 (ix x1))) 24032) <|
    bnd (up2 h19 156 (ix ((16 * x2) + (h2 127 (ix x1)))) y21) fun (h22 : HI) =>
    gd (vin x1 2002) <|
    obv (pX8_task N 1 (h22 126 (ix x1)) x2 h22 g20) fun (h23 : HI) (g24 : HL) =>
    some (h23, g24)
  else if y4 = 4 then
    obv (pX8_task N 7 x1 x2 h2 g3) fun (h25 : HI) (g26 : HL) =>
    gd (vin x1 2002) <|
    obv (pX8_task N 1 (h25 125 (ix x1)) x2 h25 g26) fun (h27 : HI) (g28 : HL) =>
    some (h27, g28)
  else if y4 = 5 then
    gd (vin x1 2002) <|
    obv (pX8_gives N 0 (h2 125 (ix x1)) h2 g3) fun (h29 : HI) (g30 : HL) =>
    some (h29, g30)
  else if y4 = 6 then
    bnd (up2 h2 115 74 2) fun (h31 : HI) =>
    some (h31, g3)
  else if y4 = 7 then
    gd (vin x1 2002) <|
    gd (vin ((16 * x2) + (h2 125 (ix x1))) 24032) <|
    obv (pX8_need N (h2 156 (ix ((16 * x2) + (h2 125 (ix x1))))) h2 g3) fun (h32 : HI) (g33 : HL) =>
    some (h32, g33)
  else
    obv (pX8_called N x1 x2 h2 g3) fun (h34 : HI) (g35 : HL) =>
    some (h34, g35)
theorem jX8_work_85 {D : DE} {f : Nat} {F : Frm} (hF : k_Fix F) {N : Nat} {h9 : HI} {g9 : HL}  : ∀ (x1 : Int32) (x2 : Int32) (s1 : Int32) (h : HI) (g : HL), pX8_work_85 N x1 x2 s1 h g = some (h9, g9) → JX8_work_85 D (f + 2) (eqv h9 g9) F h g x1 x2 s1 := by
  intro x1 x2 s1 h g E
  unfold pX8_work_85 at E
  intro h1 e0; replace E := bndE e0 E
  obtain ⟨h2, g3, e0, E⟩ := obvE E
  refine Sv.mono (sX8_task (f := f + 1) hF e0) (fun h8 g8 hq => ?_)
  obtain ⟨rfl, rfl⟩ := hq
  obtain ⟨z0, E⟩ := gdE E; refine ⟨vinE z0, ?_⟩
  intro y4 e0; replace E := bndE e0 E
  refine ⟨fun c0 => ?_, fun c0 => ?_, fun c0 => ?_, fun c0 => ?_, fun c0 => ?_, fun c0 => ?_, fun c0 => ?_, fun c0 => ?_, fun c0 => ?_⟩
  · replace E := iteT c0 E
    obtain ⟨h5, g6, e0, E⟩ := obvE E
    refine Sv.mono (sX8_paired (f := f + 1) hF e0) (fun h8 g8 hq => ?_)
    obtain ⟨rfl, rfl⟩ := hq
    cases E; exact ⟨rfl, rfl⟩
  · replace E := iteF (by rw [c0]; decide) E
    replace E := iteT c0 E
    obtain ⟨z0, E⟩ := gdE E; refine ⟨vinE z0, ?_⟩
    obtain ⟨h7, g8, e0, E⟩ := obvE E
    refine Sv.mono (sX8_task (f := f + 1) hF e0) (fun h8 g8 hq => ?_)
    obtain ⟨rfl, rfl⟩ := hq
    obtain ⟨z0, E⟩ := gdE E; refine ⟨vinE z0, ?_⟩
    obtain ⟨h9, g10, e0, E⟩ := obvE E
    refine Sv.mono (sX8_task (f := f + 1) hF e0) (fun h8 g8 hq => ?_)
    obtain ⟨rfl, rfl⟩ := hq
    obtain ⟨h11, g12, e0, E⟩ := obvE E
    refine Sv.mono (sX8_task (f := f + 1) hF e0) (fun h8 g8 hq => ?_)
    obtain ⟨rfl, rfl⟩ := hq
    obtain ⟨z0, E⟩ := gdE E; refine ⟨vinE z0, ?_⟩
    obtain ⟨h13, g14, e0, E⟩ := obvE E
    refine Sv.mono (sX8_task (f := f + 1) hF e0) (fun h8 g8 hq => ?_)
    obtain ⟨rfl, rfl⟩ := hq
    cases E; exact ⟨rfl, rfl⟩
  · replace E := iteF (by rw [c0]; decide) E
    replace E := iteF (by rw [c0]; decide) E
    replace E := iteT c0 E
    obtain ⟨h15, g16, e0, E⟩ := obvE E
    refine Sv.mono (sX8_task (f := f + 1) hF e0) (fun h8 g8 hq => ?_)
    obtain ⟨rfl, rfl⟩ := hq
    obtain ⟨z0, E⟩ := gdE E; refine ⟨vinE z0, ?_⟩
    obtain ⟨h17, g18, e0, E⟩ := obvE E
    refine Sv.mono (sX8_task (f := f + 1) hF e0) (fun h8 g8 hq => ?_)
    obtain ⟨rfl, rfl⟩ := hq
    cases E; exact ⟨rfl, rfl⟩
  · replace E := iteF (by rw [c0]; decide) E
    replace E := iteF (by rw [c0]; decide) E
    replace E := iteF (by rw [c0]; decide) E
    replace E := iteT c0 E
    obtain ⟨z0, E⟩ := gdE E; refine ⟨vinE z0, ?_⟩
    obtain ⟨z0, E⟩ := gdE E; refine ⟨vinE z0, ?_⟩
    obtain ⟨y21, h19, g20, e0, E⟩ := obiE E
    refine Si.mono (sX8_thing (f := f + 2) hF e0) (fun y8 h8 g8 hq => ?_)
    obtain ⟨rfl, rfl, rfl⟩ := hq
    obtain ⟨z0, E⟩ := gdE E; refine ⟨vinE z0, ?_⟩
    intro h22 e0; replace E := bndE e0 E
    obtain ⟨z0, E⟩ := gdE E; refine ⟨vinE z0, ?_⟩
    obtain ⟨h23, g24, e0, E⟩ := obvE E
    refine Sv.mono (sX8_task (f := f + 1) hF e0) (fun h8 g8 hq => ?_)
    obtain ⟨rfl, rfl⟩ := hq
    cases E; exact ⟨rfl, rfl⟩
  · replace E := iteF (by rw [c0]; decide) E
    replace E := iteF (by rw [c0]; decide) E
    replace E := iteF (by rw [c0]; decide) E
    replace E := iteF (by rw [c0]; decide) E
    replace E := iteT c0 E
    obtain ⟨h25, g26, e0, E⟩ := obvE E
    refine Sv.mono (sX8_task (f := f + 1) hF e0) (fun h8 g8 hq => ?_)
    obtain ⟨rfl, rfl⟩ := hq
    obtain ⟨z0, E⟩ := gdE E; refine ⟨vinE z0, ?_⟩
    obtain ⟨h27, g28, e0, E⟩ := obvE E
    refine Sv.mono (sX8_task (f := f + 1) hF e0) (fun h8 g8 hq => ?_)
    obtain ⟨rfl, rfl⟩ := hq
    cases E; exact ⟨rfl, rfl⟩
  · replace E := iteF (by rw [c0]; decide) E
    replace E := iteF (by rw [c0]; decide) E
    replace E := iteF (by rw [c0]; decide) E
    replace E := iteF (by rw [c0]; decide) E
    replace E := iteF (by rw [c0]; decide) E
    replace E := iteT c0 E
    obtain ⟨z0, E⟩ := gdE E; refine ⟨vinE z0, ?_⟩
    obtain ⟨h29, g30, e0, E⟩ := obvE E
    refine Sv.mono (sX8_gives (f := f + 2) hF e0) (fun h8 g8 hq => ?_)
    obtain ⟨rfl, rfl⟩ := hq
    cases E; exact ⟨rfl, rfl⟩
  · replace E := iteF (by rw [c0]; decide) E
    replace E := iteF (by rw [c0]; decide) E
    replace E := iteF (by rw [c0]; decide) E
    replace E := iteF (by rw [c0]; decide) E
    replace E := iteF (by rw [c0]; decide) E
    replace E := iteF (by rw [c0]; decide) E
    replace E := iteT c0 E
    intro h31 e0; replace E := bndE e0 E
    cases E; exact ⟨rfl, rfl⟩
  · replace E := iteF (by rw [c0]; decide) E
    replace E := iteF (by rw [c0]; decide) E
    replace E := iteF (by rw [c0]; decide) E
    replace E := iteF (by rw [c0]; decide) E
    replace E := iteF (by rw [c0]; decide) E
    replace E := iteF (by rw [c0]; decide) E
    replace E := iteF (by rw [c0]; decide) E
    replace E := iteT c0 E
    obtain ⟨z0, E⟩ := gdE E; refine ⟨vinE z0, ?_⟩
    obtain ⟨z0, E⟩ := gdE E; refine ⟨vinE z0, ?_⟩
    obtain ⟨h32, g33, e0, E⟩ := obvE E
    refine Sv.mono (sX8_need (f := f) hF e0) (fun h8 g8 hq => ?_)
    obtain ⟨rfl, rfl⟩ := hq
    cases E; exact ⟨rfl, rfl⟩
  · replace E := iteF (by rw [c0]; decide) E
    replace E := iteF (by rw [c0]; decide) E
    replace E := iteF (by rw [c0]; decide) E
    replace E := iteF (by rw [c0]; decide) E
    replace E := iteF (by rw [c0]; decide) E
    replace E := iteF (by rw [c0]; decide) E
    replace E := iteF (by rw [c0]; decide) E
    replace E := iteF (by rw [c0]; decide) E
    obtain ⟨h34, g35, e0, E⟩ := obvE E
    refine Sv.mono (sX8_called (f := f) hF e0) (fun h8 g8 hq => ?_)
    obtain ⟨rfl, rfl⟩ := hq
    cases E; exact ⟨rfl, rfl⟩
def pX8_work_31 (N : Nat) (x1 : Int32) (x2 : Int32) (s1 : Int32) (h : HI) (g : HL) : Option (HI × HL) :=
  bnd (up2 h 115 74 s1) fun (h1 : HI) =>
  if (h1 115 74) = 0 then
    bnd (up2 h1 115 70 ((h1 115 70) + 1)) fun (h2 : HI) =>
    bnd (up2 h2 115 72 ((h2 115 72) + 1)) fun (h3 : HI) =>
    if (h3 115 72) ≤ (h3 115 73) then
      pX8_work_85 N x1 x2 (h3 115 73) h3 g
    else
      pX8_work_85 N x1 x2 (h3 115 72) h3 g
  else
    some (h1, g)
theorem jX8_work_31 {D : DE} {f : Nat} {F : Frm} (hF : k_Fix F) {N : Nat} {h9 : HI} {g9 : HL}  : ∀ (x1 : Int32) (x2 : Int32) (s1 : Int32) (h : HI) (g : HL), pX8_work_31 N x1 x2 s1 h g = some (h9, g9) → JX8_work_31 D (f + 2) (eqv h9 g9) F h g x1 x2 s1 := by
  intro x1 x2 s1 h g E
  unfold pX8_work_31 at E
  intro h1 e0; replace E := bndE e0 E
  refine ⟨fun c0 => ?_, fun c0 => ?_⟩
  · replace E := iteT c0 E
    intro h2 e0; replace E := bndE e0 E
    intro h3 e0; replace E := bndE e0 E
    refine ⟨fun c0 => ?_, fun c0 => ?_⟩
    · replace E := iteT c0 E
      exact jX8_work_85 hF  _ _ _ _ _ E
    · replace E := iteF c0 E
      exact jX8_work_85 hF  _ _ _ _ _ E
  · replace E := iteF c0 E
    cases E; exact ⟨rfl, rfl⟩
def pX8_work_0 (N : Nat) (x1 : Int32) (x2 : Int32) (h : HI) (g : HL) : Option (HI × HL) :=
  if (h 115 70) = (h 115 71) then
    pX8_work_31 N x1 x2 3 h g
  else
    if (h 115 72) = 150 then
      pX8_work_31 N x1 x2 4 h g
    else
      pX8_work_31 N x1 x2 0 h g
theorem jX8_work_0 {D : DE} {f : Nat} {F : Frm} (hF : k_Fix F) {N : Nat} {h9 : HI} {g9 : HL}  : ∀ (x1 : Int32) (x2 : Int32) (h : HI) (g : HL), pX8_work_0 N x1 x2 h g = some (h9, g9) → JX8_work_0 D (f + 2) (eqv h9 g9) F h g x1 x2 := by
  intro x1 x2 h g E
  unfold pX8_work_0 at E
  refine ⟨fun c0 => ?_, fun c0 => ?_⟩
  · replace E := iteF c0 E
    refine ⟨fun c0 => ?_, fun c0 => ?_⟩
    · replace E := iteF c0 E
      exact jX8_work_31 hF  _ _ _ _ _ E
    · replace E := iteT c0 E
      exact jX8_work_31 hF  _ _ _ _ _ E
  · replace E := iteT c0 E
    exact jX8_work_31 hF  _ _ _ _ _ E
abbrev pX8_work (N : Nat) (x1 : Int32) (x2 : Int32) (h : HI) (g : HL) : Option (HI × HL) := pX8_work_0 N x1 x2 h g
theorem sX8_work {D : DE} {f : Nat} {F : Frm} (hF : k_Fix F) {N : Nat} {h9 : HI} {g9 : HL} {x1 : Int32} {x2 : Int32} {h : HI} {g : HL} (E : pX8_work N x1 x2 h g = some (h9, g9)) : Sv D (f + 3) mX8_work [.ref (ad D 115), .int x1, .int x2] F h g (eqv h9 g9) := wX8_work (f := (f + 2)) hF _ _ (jX8_work_0 hF _ _ _ _ E)
def pX8_demand_61 (N : Nat) (x1 : Int32) (x2 : Int32) (x3 : Int32) (x4 : Int32) (h : HI) (g : HL) : Option (HI × HL) :=
  gd ((!(x4 == 0))) <|
  if ((x2 - 1) / x4) ≤ 0 then
    some (h, g)
  else
    obi (pX8_firstOf N x1 h g) fun (y3 : Int32) (h1 : HI) (g2 : HL) =>
    gd ((!(x4 == 0))) <|
    obv (pX8_task N 9 y3 ((x2 - 1) / x4) h1 g2) fun (h4 : HI) (g5 : HL) =>
    gd (vin x3 1540) <|
    obv (pX8_task N 8 (h4 154 (ix x3)) 0 h4 g5) fun (h6 : HI) (g7 : HL) =>
    some (h6, g7)
theorem jX8_demand_61 {D : DE} {f : Nat} {F : Frm} (hF : k_Fix F) {N : Nat} {h9 : HI} {g9 : HL}  : ∀ (x1 : Int32) (x2 : Int32) (x3 : Int32) (x4 : Int32) (h : HI) (g : HL), pX8_demand_61 N x1 x2 x3 x4 h g = some (h9, g9) → JX8_demand_61 D (f + 1) (eqv h9 g9) F h g x1 x2 x3 x4 := by
  intro x1 x2 x3 x4 h g E
  unfold pX8_demand_61 at E
  obtain ⟨z0, E⟩ := gdE E; refine ⟨nzE z0, ?_⟩
  refine ⟨fun c0 => ?_, fun c0 => ?_⟩
  · replace E := iteT c0 E
    cases E; exact ⟨rfl, rfl⟩
  · replace E := iteF c0 E
    obtain ⟨y3, h1, g2, e0, E⟩ := obiE E
    refine Si.mono (sX8_firstOf (f := f + 1) hF e0) (fun y8 h8 g8 hq => ?_)
    obtain ⟨rfl, rfl, rfl⟩ := hq
    obtain ⟨z0, E⟩ := gdE E; refine ⟨nzE z0, ?_⟩
    obtain ⟨h4, g5, e0, E⟩ := obvE E
    refine Sv.mono (sX8_task (f := f) hF e0) (fun h8 g8 hq => ?_)
    obtain ⟨rfl, rfl⟩ := hq
    obtain ⟨z0, E⟩ := gdE E; refine ⟨vinE z0, ?_⟩
    obtain ⟨h6, g7, e0, E⟩ := obvE E
    refine Sv.mono (sX8_task (f := f) hF e0) (fun h8 g8 hq => ?_)
    obtain ⟨rfl, rfl⟩ := hq
    cases E; exact ⟨rfl, rfl⟩
def pX8_demand_0 (N : Nat) (x1 : Int32) (x2 : Int32) (h : HI) (g : HL) : Option (HI × HL) :=
  if x1 = 0 then
    some (h, g)
  else
    if x2 = 0 then
      some (h, g)
    else
      bnd (h 115 78) fun (y1 : Int32) =>
      obi (pX8_secondOf N x1 h g) fun (y4 : Int32) (h2 : HI) (g3 : HL) =>
      obi (pX8_demands N y4 h2 g3) fun (y7 : Int32) (h5 : HI) (g6 : HL) =>
      gd ((!(y7 == 0))) <|
      if ((x2 - 1) - (x2 - 1) / y7 * y7) ≤ 0 then
        pX8_demand_61 N x1 x2 y1 y7 h5 g6
      else
        obi (pX8_secondOf N x1 h5 g6) fun (y10 : Int32) (h8 : HI) (g9 : HL) =>
        gd ((!(y7 == 0))) <|
        obv (pX8_task N 9 y10 ((x2 - 1) - (x2 - 1) / y7 * y7) h8 g9) fun (h11 : HI) (g12 : HL) =>
        gd (vin y1 1540) <|
        obv (pX8_task N 8 (h11 155 (ix y1)) 0 h11 g12) fun (h13 : HI) (g14 : HL) =>
        pX8_demand_61 N x1 x2 y1 y7 h13 g14
theorem jX8_demand_0 {D : DE} {f : Nat} {F : Frm} (hF : k_Fix F) {N : Nat} {h9 : HI} {g9 : HL}  : ∀ (x1 : Int32) (x2 : Int32) (h : HI) (g : HL), pX8_demand_0 N x1 x2 h g = some (h9, g9) → JX8_demand_0 D (f + 1) (eqv h9 g9) F h g x1 x2 := by
  intro x1 x2 h g E
  unfold pX8_demand_0 at E
  refine ⟨fun c0 => ?_, fun c0 => ?_⟩
  · replace E := iteT c0 E
    cases E; exact ⟨rfl, rfl⟩
  · replace E := iteF c0 E
    refine ⟨fun c0 => ?_, fun c0 => ?_⟩
    · replace E := iteF c0 E
      intro y1 e0; replace E := bndE e0 E
      obtain ⟨y4, h2, g3, e0, E⟩ := obiE E
      refine Si.mono (sX8_secondOf (f := f + 1) hF e0) (fun y8 h8 g8 hq => ?_)
      obtain ⟨rfl, rfl, rfl⟩ := hq
      obtain ⟨y7, h5, g6, e0, E⟩ := obiE E
      refine Si.mono (sX8_demands (f := f + 1) hF e0) (fun y8 h8 g8 hq => ?_)
      obtain ⟨rfl, rfl, rfl⟩ := hq
      obtain ⟨z0, E⟩ := gdE E; refine ⟨nzE z0, ?_⟩
      refine ⟨fun c0 => ?_, fun c0 => ?_⟩
      · replace E := iteT c0 E
        exact jX8_demand_61 hF  _ _ _ _ _ _ E
      · replace E := iteF c0 E
        obtain ⟨y10, h8, g9, e0, E⟩ := obiE E
        refine Si.mono (sX8_secondOf (f := f + 1) hF e0) (fun y8 h8 g8 hq => ?_)
        obtain ⟨rfl, rfl, rfl⟩ := hq
        obtain ⟨z0, E⟩ := gdE E; refine ⟨nzE z0, ?_⟩
        obtain ⟨h11, g12, e0, E⟩ := obvE E
        refine Sv.mono (sX8_task (f := f) hF e0) (fun h8 g8 hq => ?_)
        obtain ⟨rfl, rfl⟩ := hq
        obtain ⟨z0, E⟩ := gdE E; refine ⟨vinE z0, ?_⟩
        obtain ⟨h13, g14, e0, E⟩ := obvE E
        refine Sv.mono (sX8_task (f := f) hF e0) (fun h8 g8 hq => ?_)
        obtain ⟨rfl, rfl⟩ := hq
        exact jX8_demand_61 hF  _ _ _ _ _ _ E
    · replace E := iteT c0 E
      cases E; exact ⟨rfl, rfl⟩
abbrev pX8_demand (N : Nat) (x1 : Int32) (x2 : Int32) (h : HI) (g : HL) : Option (HI × HL) := pX8_demand_0 N x1 x2 h g
theorem sX8_demand {D : DE} {f : Nat} {F : Frm} (hF : k_Fix F) {N : Nat} {h9 : HI} {g9 : HL} {x1 : Int32} {x2 : Int32} {h : HI} {g : HL} (E : pX8_demand N x1 x2 h g = some (h9, g9)) : Sv D (f + 2) mX8_demand [.ref (ad D 115), .int x1, .int x2] F h g (eqv h9 g9) := wX8_demand (f := (f + 1)) hF _ _ (jX8_demand_0 hF _ _ _ _ E)
def pX8_goes_394 (N : Nat) (K0 : HI → HL → Option (HI × HL)) (h : HI) (g : HL) : Option (HI × HL) :=
  K0 h g
theorem jX8_goes_394 {D : DE} {f : Nat} {F : Frm} (hF : k_Fix F) {N : Nat} {K0 : HI → HL → Option (HI × HL)} {h9 : HI} {g9 : HL} (hK0 : ∀ (h : HI) (g : HL), K0 h g = some (h9, g9) → V D mX8_goes (f + 4) (qv F (eqv h9 g9)) 0 [(0, .ref (ad D 115))] [] (F, h, g)) : ∀ (h : HI) (g : HL), pX8_goes_394 N K0 h g = some (h9, g9) → JX8_goes_394 D (f + 3) (eqv h9 g9) F h g  := by
  intro h g E
  unfold pX8_goes_394 at E
  exact hK0 _ _ E
def pX8_goes_306 (N : Nat) (K0 : HI → HL → Option (HI × HL)) (x2 : Int32) (s1 : Int32) (s2 : Int32) (h : HI) (g : HL) : Option (HI × HL) :=
  obv (pX8_task N s1 s2 x2 h g) fun (h1 : HI) (g2 : HL) =>
  pX8_goes_394 N K0 h1 g2
theorem jX8_goes_306 {D : DE} {f : Nat} {F : Frm} (hF : k_Fix F) {N : Nat} {K0 : HI → HL → Option (HI × HL)} {h9 : HI} {g9 : HL} (hK0 : ∀ (h : HI) (g : HL), K0 h g = some (h9, g9) → V D mX8_goes (f + 4) (qv F (eqv h9 g9)) 0 [(0, .ref (ad D 115))] [] (F, h, g)) : ∀ (x2 : Int32) (s1 : Int32) (s2 : Int32) (h : HI) (g : HL), pX8_goes_306 N K0 x2 s1 s2 h g = some (h9, g9) → JX8_goes_306 D (f + 3) (eqv h9 g9) F h g x2 s1 s2 := by
  intro x2 s1 s2 h g E
  unfold pX8_goes_306 at E
  obtain ⟨h1, g2, e0, E⟩ := obvE E
  refine Sv.mono (sX8_task (f := f + 2) hF e0) (fun h8 g8 hq => ?_)
  obtain ⟨rfl, rfl⟩ := hq
  exact jX8_goes_394 hF hK0 _ _ E
def pX8_goes_276 (N : Nat) (K0 : HI → HL → Option (HI × HL)) (s1 : Int32) (s2 : Int32) (h : HI) (g : HL) : Option (HI × HL) :=
  obv (pX8_gives N s1 s2 h g) fun (h1 : HI) (g2 : HL) =>
  pX8_goes_394 N K0 h1 g2
theorem jX8_goes_276 {D : DE} {f : Nat} {F : Frm} (hF : k_Fix F) {N : Nat} {K0 : HI → HL → Option (HI × HL)} {h9 : HI} {g9 : HL} (hK0 : ∀ (h : HI) (g : HL), K0 h g = some (h9, g9) → V D mX8_goes (f + 4) (qv F (eqv h9 g9)) 0 [(0, .ref (ad D 115))] [] (F, h, g)) : ∀ (s1 : Int32) (s2 : Int32) (h : HI) (g : HL), pX8_goes_276 N K0 s1 s2 h g = some (h9, g9) → JX8_goes_276 D (f + 3) (eqv h9 g9) F h g s1 s2 := by
  intro s1 s2 h g E
  unfold pX8_goes_276 at E
  obtain ⟨h1, g2, e0, E⟩ := obvE E
  refine Sv.mono (sX8_gives (f := f + 3) hF e0) (fun h8 g8 hq => ?_)
  obtain ⟨rfl, rfl⟩ := hq
  exact jX8_goes_394 hF hK0 _ _ E
def pX8_goes_0 (N : Nat) : Nat → HI → HL → Option (HI × HL)
  | 0, _, _ => none
  | n + 1, h, g =>
    if (h 115 36) ≤ 0 then
      some (h, g)
    else
      if (h 115 74) = 0 then
        bnd (up2 h 115 36 ((h 115 36) - 1)) fun (h1 : HI) =>
        gd (vin (h1 115 36) 3000) <|
        bnd (h1 135 (ix (h1 115 36))) fun (y2 : Int32) =>
        gd (vin (h1 115 36) 3000) <|
        bnd (h1 138 (ix (h1 115 36))) fun (y3 : Int32) =>
        gd (vin (h1 115 36) 3000) <|
        bnd (h1 134 (ix (h1 115 36))) fun (y4 : Int32) =>
        if y4.toInt < 1 ∨ 8 < y4.toInt then
          obv (pX8_demand N y2 y3 h1 g) fun (h5 : HI) (g6 : HL) =>
          pX8_goes_394 N (pX8_goes_0 N n) h5 g6
        else if y4 = 1 then
          obv (pX8_work N y2 y3 h1 g) fun (h7 : HI) (g8 : HL) =>
          pX8_goes_394 N (pX8_goes_0 N n) h7 g8
        else if y4 = 2 then
          bnd (up2 h1 115 72 ((h1 115 72) - 1)) fun (h9 : HI) =>
          pX8_goes_394 N (pX8_goes_0 N n) h9 g
        else if y4 = 3 then
          gd (vin y2 1540) <|
          bnd (up2 h1 150 (ix y2) 2) fun (h10 : HI) =>
          gd (vin y2 1540) <|
          bnd (up2 h10 151 (ix y2) (h10 115 77)) fun (h11 : HI) =>
          gd (vin y2 1540) <|
          bnd (up2 h11 152 (ix y2) (h11 115 78)) fun (h12 : HI) =>
          pX8_goes_394 N (pX8_goes_0 N n) h12 g
        else if y4 = 4 then
          gd (vin (h1 115 82) 3000) <|
          bnd (up2 h1 158 (ix (h1 115 82)) (h1 115 78)) fun (h13 : HI) =>
          bnd (up2 h13 115 82 ((h13 115 82) + 1)) fun (h14 : HI) =>
          pX8_goes_394 N (pX8_goes_0 N n) h14 g
        else if y4 = 5 then
          bnd (up2 h1 115 82 ((h1 115 82) - 1)) fun (h15 : HI) =>
          gd (vin (h15 115 82) 3000) <|
          bnd (h15 158 (ix (h15 115 82))) fun (y16 : Int32) =>
          bnd (h15 115 78) fun (y17 : Int32) =>
          if y2 = 19 then
            pX8_goes_276 N (pX8_goes_0 N n) 0 (y16 + y17) h15 g
          else
            if y2 = 20 then
              pX8_goes_276 N (pX8_goes_0 N n) 0 (y16 - y17) h15 g
            else
              if y2 = 21 then
                pX8_goes_276 N (pX8_goes_0 N n) 0 (y16 * y17) h15 g
              else
                if y2 = 22 then
                  if y17 ≤ y16 then
                    pX8_goes_276 N (pX8_goes_0 N n) 0 0 h15 g
                  else
                    pX8_goes_276 N (pX8_goes_0 N n) 0 1 h15 g
                else
                  if y16 = y17 then
                    pX8_goes_276 N (pX8_goes_0 N n) 0 1 h15 g
                  else
                    pX8_goes_276 N (pX8_goes_0 N n) 0 0 h15 g
        else if y4 = 6 then
          if (h1 115 78) = 0 then
            gd (vin y2 2002) <|
            pX8_goes_306 N (pX8_goes_0 N n) y3 1 (h1 127 (ix y2)) h1 g
          else
            gd (vin y2 2002) <|
            pX8_goes_306 N (pX8_goes_0 N n) y3 1 (h1 126 (ix y2)) h1 g
        else if y4 = 7 then
          gd (vin y2 2002) <|
          gd (vin (h1 115 78) 1540) <|
          gd (vin ((16 * y3) + (h1 127 (ix y2))) 24032) <|
          bnd (up2 h1 156 (ix ((16 * y3) + (h1 127 (ix y2)))) (h1 154 (ix (h1 115 78)))) fun (h18 : HI) =>
          gd (vin y2 2002) <|
          gd (vin (h18 115 78) 1540) <|
          gd (vin (((16 * y3) + (h18 127 (ix y2))) + 1) 24032) <|
          bnd (up2 h18 156 (ix (((16 * y3) + (h18 127 (ix y2))) + 1)) (h18 155 (ix (h18 115 78)))) fun (h19 : HI) =>
          gd (vin y2 2002) <|
          obv (pX8_task N 1 (h19 126 (ix y2)) y3 h19 g) fun (h20 : HI) (g21 : HL) =>
          pX8_goes_394 N (pX8_goes_0 N n) h20 g21
        else
          obv (pX8_need N y2 h1 g) fun (h22 : HI) (g23 : HL) =>
          pX8_goes_394 N (pX8_goes_0 N n) h22 g23
      else
        some (h, g)
theorem lX8_goes_0 {D : DE} {f : Nat} {F : Frm} (hF : k_Fix F) {N : Nat} {h9 : HI} {g9 : HL}  : ∀ (n : Nat) (h : HI) (g : HL), pX8_goes_0 N n h g = some (h9, g9) → V D mX8_goes (f + 4) (qv F (eqv h9 g9)) 0 [(0, .ref (ad D 115))] [] (F, h, g) := by
  intro n
  induction n with
  | zero => intro h g E; cases E
  | succ n hK0 =>
    intro h g E
    rw [pX8_goes_0] at E
    refine bX8_goes_0 (f := (f + 3)) hF  ?_
    refine ⟨fun c0 => ?_, fun c0 => ?_⟩
    · replace E := iteT c0 E
      cases E; exact ⟨rfl, rfl⟩
    · replace E := iteF c0 E
      refine ⟨fun c0 => ?_, fun c0 => ?_⟩
      · replace E := iteF c0 E
        cases E; exact ⟨rfl, rfl⟩
      · replace E := iteT c0 E
        intro h1 e0; replace E := bndE e0 E
        obtain ⟨z0, E⟩ := gdE E; refine ⟨vinE z0, ?_⟩
        intro y2 e0; replace E := bndE e0 E
        obtain ⟨z0, E⟩ := gdE E; refine ⟨vinE z0, ?_⟩
        intro y3 e0; replace E := bndE e0 E
        obtain ⟨z0, E⟩ := gdE E; refine ⟨vinE z0, ?_⟩
        intro y4 e0; replace E := bndE e0 E
        refine ⟨fun c0 => ?_, fun c0 => ?_, fun c0 => ?_, fun c0 => ?_, fun c0 => ?_, fun c0 => ?_, fun c0 => ?_, fun c0 => ?_, fun c0 => ?_⟩
        · replace E := iteT c0 E
          obtain ⟨h5, g6, e0, E⟩ := obvE E
          refine Sv.mono (sX8_demand (f := f + 1) hF e0) (fun h8 g8 hq => ?_)
          obtain ⟨rfl, rfl⟩ := hq
          exact jX8_goes_394 hF hK0 _ _ E
        · replace E := iteF (by rw [c0]; decide) E
          replace E := iteT c0 E
          obtain ⟨h7, g8, e0, E⟩ := obvE E
          refine Sv.mono (sX8_work (f := f) hF e0) (fun h8 g8 hq => ?_)
          obtain ⟨rfl, rfl⟩ := hq
          exact jX8_goes_394 hF hK0 _ _ E
        · replace E := iteF (by rw [c0]; decide) E
          replace E := iteF (by rw [c0]; decide) E
          replace E := iteT c0 E
          intro h9 e0; replace E := bndE e0 E
          exact jX8_goes_394 hF hK0 _ _ E
        · replace E := iteF (by rw [c0]; decide) E
          replace E := iteF (by rw [c0]; decide) E
          replace E := iteF (by rw [c0]; decide) E
          replace E := iteT c0 E
          obtain ⟨z0, E⟩ := gdE E; refine ⟨vinE z0, ?_⟩
          intro h10 e0; replace E := bndE e0 E
          obtain ⟨z0, E⟩ := gdE E; refine ⟨vinE z0, ?_⟩
          intro h11 e0; replace E := bndE e0 E
          obtain ⟨z0, E⟩ := gdE E; refine ⟨vinE z0, ?_⟩
          intro h12 e0; replace E := bndE e0 E
          exact jX8_goes_394 hF hK0 _ _ E
        · replace E := iteF (by rw [c0]; decide) E
          replace E := iteF (by rw [c0]; decide) E
          replace E := iteF (by rw [c0]; decide) E
          replace E := iteF (by rw [c0]; decide) E
          replace E := iteT c0 E
          obtain ⟨z0, E⟩ := gdE E; refine ⟨vinE z0, ?_⟩
          intro h13 e0; replace E := bndE e0 E
          intro h14 e0; replace E := bndE e0 E
          exact jX8_goes_394 hF hK0 _ _ E
        · replace E := iteF (by rw [c0]; decide) E
          replace E := iteF (by rw [c0]; decide) E
          replace E := iteF (by rw [c0]; decide) E
          replace E := iteF (by rw [c0]; decide) E
          replace E := iteF (by rw [c0]; decide) E
          replace E := iteT c0 E
          intro h15 e0; replace E := bndE e0 E
          obtain ⟨z0, E⟩ := gdE E; refine ⟨vinE z0, ?_⟩
          intro y16 e0; replace E := bndE e0 E
          intro y17 e0; replace E := bndE e0 E
          refine ⟨fun c0 => ?_, fun c0 => ?_⟩
          · replace E := iteF c0 E
            refine ⟨fun c0 => ?_, fun c0 => ?_⟩
            · replace E := iteF c0 E
              refine ⟨fun c0 => ?_, fun c0 => ?_⟩
              · replace E := iteF c0 E
                refine ⟨fun c0 => ?_, fun c0 => ?_⟩
                · replace E := iteF c0 E
                  refine ⟨fun c0 => ?_, fun c0 => ?_⟩
                  · replace E := iteF c0 E
                    exact jX8_goes_276 hF hK0 _ _ _ _ E
                  · replace E := iteT c0 E
                    exact jX8_goes_276 hF hK0 _ _ _ _ E
                · replace E := iteT c0 E
                  refine ⟨fun c0 => ?_, fun c0 => ?_⟩
                  · replace E := iteT c0 E
                    exact jX8_goes_276 hF hK0 _ _ _ _ E
                  · replace E := iteF c0 E
                    exact jX8_goes_276 hF hK0 _ _ _ _ E
              · replace E := iteT c0 E
                exact jX8_goes_276 hF hK0 _ _ _ _ E
            · replace E := iteT c0 E
              exact jX8_goes_276 hF hK0 _ _ _ _ E
          · replace E := iteT c0 E
            exact jX8_goes_276 hF hK0 _ _ _ _ E
        · replace E := iteF (by rw [c0]; decide) E
          replace E := iteF (by rw [c0]; decide) E
          replace E := iteF (by rw [c0]; decide) E
          replace E := iteF (by rw [c0]; decide) E
          replace E := iteF (by rw [c0]; decide) E
          replace E := iteF (by rw [c0]; decide) E
          replace E := iteT c0 E
          refine ⟨fun c0 => ?_, fun c0 => ?_⟩
          · replace E := iteF c0 E
            obtain ⟨z0, E⟩ := gdE E; refine ⟨vinE z0, ?_⟩
            exact jX8_goes_306 hF hK0 _ _ _ _ _ E
          · replace E := iteT c0 E
            obtain ⟨z0, E⟩ := gdE E; refine ⟨vinE z0, ?_⟩
            exact jX8_goes_306 hF hK0 _ _ _ _ _ E
        · replace E := iteF (by rw [c0]; decide) E
          replace E := iteF (by rw [c0]; decide) E
          replace E := iteF (by rw [c0]; decide) E
          replace E := iteF (by rw [c0]; decide) E
          replace E := iteF (by rw [c0]; decide) E
          replace E := iteF (by rw [c0]; decide) E
          replace E := iteF (by rw [c0]; decide) E
          replace E := iteT c0 E
          obtain ⟨z0, E⟩ := gdE E; refine ⟨vinE z0, ?_⟩
          obtain ⟨z0, E⟩ := gdE E; refine ⟨vinE z0, ?_⟩
          obtain ⟨z0, E⟩ := gdE E; refine ⟨vinE z0, ?_⟩
          intro h18 e0; replace E := bndE e0 E
          obtain ⟨z0, E⟩ := gdE E; refine ⟨vinE z0, ?_⟩
          obtain ⟨z0, E⟩ := gdE E; refine ⟨vinE z0, ?_⟩
          obtain ⟨z0, E⟩ := gdE E; refine ⟨vinE z0, ?_⟩
          intro h19 e0; replace E := bndE e0 E
          obtain ⟨z0, E⟩ := gdE E; refine ⟨vinE z0, ?_⟩
          obtain ⟨h20, g21, e0, E⟩ := obvE E
          refine Sv.mono (sX8_task (f := f + 2) hF e0) (fun h8 g8 hq => ?_)
          obtain ⟨rfl, rfl⟩ := hq
          exact jX8_goes_394 hF hK0 _ _ E
        · replace E := iteF (by rw [c0]; decide) E
          replace E := iteF (by rw [c0]; decide) E
          replace E := iteF (by rw [c0]; decide) E
          replace E := iteF (by rw [c0]; decide) E
          replace E := iteF (by rw [c0]; decide) E
          replace E := iteF (by rw [c0]; decide) E
          replace E := iteF (by rw [c0]; decide) E
          replace E := iteF (by rw [c0]; decide) E
          obtain ⟨h22, g23, e0, E⟩ := obvE E
          refine Sv.mono (sX8_need (f := f + 1) hF e0) (fun h8 g8 hq => ?_)
          obtain ⟨rfl, rfl⟩ := hq
          exact jX8_goes_394 hF hK0 _ _ E
abbrev pX8_goes (N : Nat) (h : HI) (g : HL) : Option (HI × HL) := pX8_goes_0 N N h g
theorem sX8_goes {D : DE} {f : Nat} {F : Frm} (hF : k_Fix F) {N : Nat} {h9 : HI} {g9 : HL} {h : HI} {g : HL} (E : pX8_goes N h g = some (h9, g9)) : Sv D (f + 4) mX8_goes [.ref (ad D 115)] F h g (eqv h9 g9) := Cl.ofV (by decide) (Nat.le_of_ble_eq_true rfl) rfl (lX8_goes_0 hF N _ _ E)
def pX8_run_317 (N : Nat) (h : HI) (g : HL) : Option (Int32 × HI × HL) :=
  if (h 115 74) = 0 then
    bnd (up2 h 115 76 1) fun (h2 : HI) =>
    some ((h2 115 76), h2, g)
  else
    bnd (up2 h 115 76 (h 115 74)) fun (h1 : HI) =>
    some ((h1 115 76), h1, g)
theorem jX8_run_317 {D : DE} {f : Nat} {F : Frm} (hF : k_Fix F) {N : Nat} {y9 : Int32} {h9 : HI} {g9 : HL}  : ∀ (h : HI) (g : HL), pX8_run_317 N h g = some (y9, h9, g9) → JX8_run_317 D (f + 4) (eqi y9 h9 g9) F h g  := by
  intro h g E
  unfold pX8_run_317 at E
  refine ⟨fun c0 => ?_, fun c0 => ?_⟩
  · replace E := iteF c0 E
    intro h1 e0; replace E := bndE e0 E
    cases E; exact ⟨rfl, rfl, rfl⟩
  · replace E := iteT c0 E
    intro h2 e0; replace E := bndE e0 E
    cases E; exact ⟨rfl, rfl, rfl⟩
def pX8_run_144 (N : Nat) : Nat → Int32 → Int32 → Int32 → Int32 → Int32 → Int32 → HI → HL → Option (Int32 × HI × HL)
  | 0, _, _, _, _, _, _, _, _ => none
  | n + 1, x1, x2, x3, x4, x5, x6, h, g =>
    gd (vin x4 24) <|
    if (h 119 (ix x4)) ≤ x6 then
      bnd (up2 h 115 55 0) fun (h1 : HI) =>
      bnd (up2 h1 115 67 0) fun (h2 : HI) =>
      bnd (up2 h2 115 68 0) fun (h3 : HI) =>
      bnd (up2 h3 115 69 0) fun (h4 : HI) =>
      bnd (up2 h4 115 70 0) fun (h5 : HI) =>
      bnd (up2 h5 115 71 x3) fun (h6 : HI) =>
      bnd (up2 h6 115 72 0) fun (h7 : HI) =>
      bnd (up2 h7 115 73 0) fun (h8 : HI) =>
      bnd (up2 h8 115 74 0) fun (h9 : HI) =>
      bnd (up2 h9 115 75 x1) fun (h10 : HI) =>
      bnd (up2 h10 115 82 0) fun (h11 : HI) =>
      bnd (up2 h11 115 36 0) fun (h12 : HI) =>
      gd (vin x4 24) <|
      obv (pX8_task N 1 (h12 121 (ix x4)) 0 h12 g) fun (h13 : HI) (g14 : HL) =>
      obv (pX8_goes N h13 g14) fun (h15 : HI) (g16 : HL) =>
      bnd (up2 h15 115 79 (h15 115 77)) fun (h17 : HI) =>
      bnd (up2 h17 115 80 (h17 115 78)) fun (h18 : HI) =>
      if (h18 115 74) = 0 then
        gd (vin x4 24) <|
        obv (pX8_demand N (h18 118 (ix x4)) x2 h18 g16) fun (h19 : HI) (g20 : HL) =>
        obv (pX8_goes N h19 g20) fun (h21 : HI) (g22 : HL) =>
        pX8_run_317 N h21 g22
      else
        pX8_run_317 N h18 g16
    else
      gd (vin x6 4) <|
      bnd (up2 h 157 (ix x6) x5) fun (h23 : HI) =>
      gd (vin x6 24032) <|
      bnd (up2 h23 156 (ix x6) x5) fun (h24 : HI) =>
      gd (vin ((16 * x4) + x6) 384) <|
      obi (pX8_lay N x5 (h24 123 (ix ((16 * x4) + x6))) h24 g) fun (y27 : Int32) (h25 : HI) (g26 : HL) =>
      bnd (x6 + 1) fun (y28 : Int32) =>
      (pX8_run_144 N n) x1 x2 x3 x4 y27 y28 h25 g26
theorem lX8_run_144 {D : DE} {f : Nat} {F : Frm} (hF : k_Fix F) {N : Nat} {y9 : Int32} {h9 : HI} {g9 : HL}  : ∀ (n : Nat) (x1 : Int32) (x2 : Int32) (x3 : Int32) (x4 : Int32) (x5 : Int32) (x6 : Int32) (h : HI) (g : HL), pX8_run_144 N n x1 x2 x3 x4 x5 x6 h g = some (y9, h9, g9) → V D mX8_run (f + 5) (qi F (eqi y9 h9 g9)) 144 [(0, .ref (ad D 115)), (1, .int x1), (2, .int x2), (3, .int x3), (4, .int x4), (5, .int x5), (6, .int x6)] [] (F, h, g) := by
  intro n
  induction n with
  | zero => intro x1 x2 x3 x4 x5 x6 h g E; cases E
  | succ n hK144 =>
    intro x1 x2 x3 x4 x5 x6 h g E
    rw [pX8_run_144] at E
    refine bX8_run_144 (f := (f + 4)) hF x1 x2 x3 x4 x5 x6 ?_
    obtain ⟨z0, E⟩ := gdE E; refine ⟨vinE z0, ?_⟩
    refine ⟨fun c0 => ?_, fun c0 => ?_⟩
    · replace E := iteT c0 E
      intro h1 e0; replace E := bndE e0 E
      intro h2 e0; replace E := bndE e0 E
      intro h3 e0; replace E := bndE e0 E
      intro h4 e0; replace E := bndE e0 E
      intro h5 e0; replace E := bndE e0 E
      intro h6 e0; replace E := bndE e0 E
      intro h7 e0; replace E := bndE e0 E
      intro h8 e0; replace E := bndE e0 E
      intro h9 e0; replace E := bndE e0 E
      intro h10 e0; replace E := bndE e0 E
      intro h11 e0; replace E := bndE e0 E
      intro h12 e0; replace E := bndE e0 E
      obtain ⟨z0, E⟩ := gdE E; refine ⟨vinE z0, ?_⟩
      obtain ⟨h13, g14, e0, E⟩ := obvE E
      refine Sv.mono (sX8_task (f := f + 3) hF e0) (fun h8 g8 hq => ?_)
      obtain ⟨rfl, rfl⟩ := hq
      obtain ⟨h15, g16, e0, E⟩ := obvE E
      refine Sv.mono (sX8_goes (f := f) hF e0) (fun h8 g8 hq => ?_)
      obtain ⟨rfl, rfl⟩ := hq
      intro h17 e0; replace E := bndE e0 E
      intro h18 e0; replace E := bndE e0 E
      refine ⟨fun c0 => ?_, fun c0 => ?_⟩
      · replace E := iteF c0 E
        exact jX8_run_317 hF  _ _ E
      · replace E := iteT c0 E
        obtain ⟨z0, E⟩ := gdE E; refine ⟨vinE z0, ?_⟩
        obtain ⟨h19, g20, e0, E⟩ := obvE E
        refine Sv.mono (sX8_demand (f := f + 2) hF e0) (fun h8 g8 hq => ?_)
        obtain ⟨rfl, rfl⟩ := hq
        obtain ⟨h21, g22, e0, E⟩ := obvE E
        refine Sv.mono (sX8_goes (f := f) hF e0) (fun h8 g8 hq => ?_)
        obtain ⟨rfl, rfl⟩ := hq
        exact jX8_run_317 hF  _ _ E
    · replace E := iteF c0 E
      obtain ⟨z0, E⟩ := gdE E; refine ⟨vinE z0, ?_⟩
      intro h23 e0; replace E := bndE e0 E
      obtain ⟨z0, E⟩ := gdE E; refine ⟨vinE z0, ?_⟩
      intro h24 e0; replace E := bndE e0 E
      obtain ⟨z0, E⟩ := gdE E; refine ⟨vinE z0, ?_⟩
      obtain ⟨y27, h25, g26, e0, E⟩ := obiE E
      refine Si.mono (sX8_lay (f := f + 2) hF e0) (fun y8 h8 g8 hq => ?_)
      obtain ⟨rfl, rfl, rfl⟩ := hq
      intro y28 e0; replace E := bndE e0 E
      exact hK144 _ _ _ _ _ _ _ _ E
def pX8_run_126 (N : Nat) (x1 : Int32) (x2 : Int32) (x3 : Int32) (x4 : Int32) (s1 : Int32) (h : HI) (g : HL) : Option (Int32 × HI × HL) :=
  bnd (up2 h 115 0 s1) fun (h1 : HI) =>
  if (h1 115 0) ≤ 0 then
    pX8_run_144 N N x1 x2 x3 x4 0 0 h1 g
  else
    some (0, h1, g)
theorem jX8_run_126 {D : DE} {f : Nat} {F : Frm} (hF : k_Fix F) {N : Nat} {y9 : Int32} {h9 : HI} {g9 : HL}  : ∀ (x1 : Int32) (x2 : Int32) (x3 : Int32) (x4 : Int32) (s1 : Int32) (h : HI) (g : HL), pX8_run_126 N x1 x2 x3 x4 s1 h g = some (y9, h9, g9) → JX8_run_126 D (f + 4) (eqi y9 h9 g9) F h g x1 x2 x3 x4 s1 := by
  intro x1 x2 x3 x4 s1 h g E
  unfold pX8_run_126 at E
  intro h1 e0; replace E := bndE e0 E
  refine ⟨fun c0 => ?_, fun c0 => ?_⟩
  · replace E := iteT c0 E
    exact lX8_run_144 hF  N _ _ _ _ _ _ _ _ E
  · replace E := iteF c0 E
    cases E; exact ⟨rfl, rfl, rfl⟩
def pX8_run_121 (N : Nat) (x1 : Int32) (x2 : Int32) (x3 : Int32) (x4 : Int32) (h : HI) (g : HL) : Option (Int32 × HI × HL) :=
  pX8_run_126 N x1 x2 x3 x4 3 h g
theorem jX8_run_121 {D : DE} {f : Nat} {F : Frm} (hF : k_Fix F) {N : Nat} {y9 : Int32} {h9 : HI} {g9 : HL}  : ∀ (x1 : Int32) (x2 : Int32) (x3 : Int32) (x4 : Int32) (h : HI) (g : HL), pX8_run_121 N x1 x2 x3 x4 h g = some (y9, h9, g9) → JX8_run_121 D (f + 4) (eqi y9 h9 g9) F h g x1 x2 x3 x4 := by
  intro x1 x2 x3 x4 h g E
  unfold pX8_run_121 at E
  exact jX8_run_126 hF  _ _ _ _ _ _ _ E
def pX8_run_75 (N : Nat) (x1 : Int32) (x2 : Int32) (x3 : Int32) (x4 : Int32) (x5 : Int32) (h : HI) (g : HL) : Option (Int32 × HI × HL) :=
  if (h 115 45) = 0 then
    pX8_run_126 N x1 x2 x3 x4 1 h g
  else
    obi (pX8_isRowThere N x1 x2 h g) fun (y3 : Int32) (h1 : HI) (g2 : HL) =>
    if y3 = 0 then
      pX8_run_126 N x1 x2 x3 x4 2 h1 g2
    else
      obi (pX8_within N x3.toInt64 0 20000 h1 g2) fun (y6 : Int32) (h4 : HI) (g5 : HL) =>
      if y6 = 0 then
        pX8_run_121 N x1 x2 x3 x4 h4 g5
      else
        if x5 = (h4 115 55) then
          pX8_run_126 N x1 x2 x3 x4 0 h4 g5
        else
          pX8_run_121 N x1 x2 x3 x4 h4 g5
theorem jX8_run_75 {D : DE} {f : Nat} {F : Frm} (hF : k_Fix F) {N : Nat} {y9 : Int32} {h9 : HI} {g9 : HL}  : ∀ (x1 : Int32) (x2 : Int32) (x3 : Int32) (x4 : Int32) (x5 : Int32) (h : HI) (g : HL), pX8_run_75 N x1 x2 x3 x4 x5 h g = some (y9, h9, g9) → JX8_run_75 D (f + 4) (eqi y9 h9 g9) F h g x1 x2 x3 x4 x5 := by
  intro x1 x2 x3 x4 x5 h g E
  unfold pX8_run_75 at E
  refine ⟨fun c0 => ?_, fun c0 => ?_⟩
  · replace E := iteF c0 E
    obtain ⟨y3, h1, g2, e0, E⟩ := obiE E
    refine Si.mono (sX8_isRowThere (f := f + 2) hF e0) (fun y8 h8 g8 hq => ?_)
    obtain ⟨rfl, rfl, rfl⟩ := hq
    refine ⟨fun c0 => ?_, fun c0 => ?_⟩
    · replace E := iteF c0 E
      obtain ⟨y6, h4, g5, e0, E⟩ := obiE E
      refine Si.mono (sX8_within (f := f + 4) hF e0) (fun y8 h8 g8 hq => ?_)
      obtain ⟨rfl, rfl, rfl⟩ := hq
      refine ⟨fun c0 => ?_, fun c0 => ?_⟩
      · replace E := iteT c0 E
        exact jX8_run_121 hF  _ _ _ _ _ _ E
      · replace E := iteF c0 E
        refine ⟨fun c0 => ?_, fun c0 => ?_⟩
        · replace E := iteT c0 E
          exact jX8_run_126 hF  _ _ _ _ _ _ _ E
        · replace E := iteF c0 E
          exact jX8_run_121 hF  _ _ _ _ _ _ E
    · replace E := iteT c0 E
      exact jX8_run_126 hF  _ _ _ _ _ _ _ E
  · replace E := iteT c0 E
    exact jX8_run_126 hF  _ _ _ _ _ _ _ E
def pX8_run_29 (N : Nat) : Nat → Int32 → Int32 → Int32 → Int32 → Int32 → Int32 → HI → HL → Option (Int32 × HI × HL)
  | 0, _, _, _, _, _, _, _, _ => none
  | n + 1, x1, x2, x3, x4, x5, x6, h, g =>
    if (h 115 45) = 0 then
      pX8_run_75 N x1 x2 x3 x4 x5 h g
    else
      gd (vin x4 24) <|
      if (h 119 (ix x4)) ≤ x6 then
        pX8_run_75 N x1 x2 x3 x4 x5 h g
      else
        gd (vin ((16 * x4) + x6) 384) <|
        obi (pX8_behind N x5 (h 123 (ix ((16 * x4) + x6))) h g) fun (y3 : Int32) (h1 : HI) (g2 : HL) =>
        bnd (x6 + 1) fun (y4 : Int32) =>
        (pX8_run_29 N n) x1 x2 x3 x4 y3 y4 h1 g2
theorem lX8_run_29 {D : DE} {f : Nat} {F : Frm} (hF : k_Fix F) {N : Nat} {y9 : Int32} {h9 : HI} {g9 : HL}  : ∀ (n : Nat) (x1 : Int32) (x2 : Int32) (x3 : Int32) (x4 : Int32) (x5 : Int32) (x6 : Int32) (h : HI) (g : HL), pX8_run_29 N n x1 x2 x3 x4 x5 x6 h g = some (y9, h9, g9) → V D mX8_run (f + 5) (qi F (eqi y9 h9 g9)) 29 [(0, .ref (ad D 115)), (1, .int x1), (2, .int x2), (3, .int x3), (4, .int x4), (5, .int x5), (6, .int x6)] [] (F, h, g) := by
  intro n
  induction n with
  | zero => intro x1 x2 x3 x4 x5 x6 h g E; cases E
  | succ n hK29 =>
    intro x1 x2 x3 x4 x5 x6 h g E
    rw [pX8_run_29] at E
    refine bX8_run_29 (f := (f + 4)) hF x1 x2 x3 x4 x5 x6 ?_
    refine ⟨fun c0 => ?_, fun c0 => ?_⟩
    · replace E := iteT c0 E
      exact jX8_run_75 hF  _ _ _ _ _ _ _ E
    · replace E := iteF c0 E
      obtain ⟨z0, E⟩ := gdE E; refine ⟨vinE z0, ?_⟩
      refine ⟨fun c0 => ?_, fun c0 => ?_⟩
      · replace E := iteT c0 E
        exact jX8_run_75 hF  _ _ _ _ _ _ _ E
      · replace E := iteF c0 E
        obtain ⟨z0, E⟩ := gdE E; refine ⟨vinE z0, ?_⟩
        obtain ⟨y3, h1, g2, e0, E⟩ := obiE E
        refine Si.mono (sX8_behind (f := f + 3) hF e0) (fun y8 h8 g8 hq => ?_)
        obtain ⟨rfl, rfl, rfl⟩ := hq
        intro y4 e0; replace E := bndE e0 E
        exact hK29 _ _ _ _ _ _ _ _ E
def pX8_run_20 (N : Nat) (x1 : Int32) (x2 : Int32) (x3 : Int32) (s0 : Int32) (s1 : Int32) (h : HI) (g : HL) : Option (Int32 × HI × HL) :=
  bnd (s0 + s1) fun (y1 : Int32) =>
  pX8_run_29 N N x1 x2 x3 y1 0 0 h g
theorem jX8_run_20 {D : DE} {f : Nat} {F : Frm} (hF : k_Fix F) {N : Nat} {y9 : Int32} {h9 : HI} {g9 : HL}  : ∀ (x1 : Int32) (x2 : Int32) (x3 : Int32) (s0 : Int32) (s1 : Int32) (h : HI) (g : HL), pX8_run_20 N x1 x2 x3 s0 s1 h g = some (y9, h9, g9) → JX8_run_20 D (f + 4) (eqi y9 h9 g9) F h g x1 x2 x3 s0 s1 := by
  intro x1 x2 x3 s0 s1 h g E
  unfold pX8_run_20 at E
  intro y1 e0; replace E := bndE e0 E
  exact lX8_run_29 hF  N _ _ _ _ _ _ _ _ E
def pX8_run_0 (N : Nat) (x1 : Int32) (x2 : Int32) (x3 : Int32) (h : HI) (g : HL) : Option (Int32 × HI × HL) :=
  obi (pX8_isFn N x1 h g) fun (y3 : Int32) (h1 : HI) (g2 : HL) =>
  if y3 = 0 then
    pX8_run_20 N x1 x2 x3 (12 * (h 115 47)) 0 h1 g2
  else
    pX8_run_20 N x1 x2 x3 (12 * (h 115 47)) x1 h1 g2
theorem jX8_run_0 {D : DE} {f : Nat} {F : Frm} (hF : k_Fix F) {N : Nat} {y9 : Int32} {h9 : HI} {g9 : HL}  : ∀ (x1 : Int32) (x2 : Int32) (x3 : Int32) (h : HI) (g : HL), pX8_run_0 N x1 x2 x3 h g = some (y9, h9, g9) → JX8_run_0 D (f + 4) (eqi y9 h9 g9) F h g x1 x2 x3 := by
  intro x1 x2 x3 h g E
  unfold pX8_run_0 at E
  obtain ⟨y3, h1, g2, e0, E⟩ := obiE E
  refine Si.mono (sX8_isFn (f := f + 3) hF e0) (fun y8 h8 g8 hq => ?_)
  obtain ⟨rfl, rfl, rfl⟩ := hq
  refine ⟨fun c0 => ?_, fun c0 => ?_⟩
  · replace E := iteT c0 E
    exact jX8_run_20 hF  _ _ _ _ _ _ _ E
  · replace E := iteF c0 E
    exact jX8_run_20 hF  _ _ _ _ _ _ _ E
abbrev pX8_run (N : Nat) (x1 : Int32) (x2 : Int32) (x3 : Int32) (h : HI) (g : HL) : Option (Int32 × HI × HL) := pX8_run_0 N x1 x2 x3 h g
theorem sX8_run {D : DE} {f : Nat} {F : Frm} (hF : k_Fix F) {N : Nat} {y9 : Int32} {h9 : HI} {g9 : HL} {x1 : Int32} {x2 : Int32} {x3 : Int32} {h : HI} {g : HL} (E : pX8_run N x1 x2 x3 h g = some (y9, h9, g9)) : Si D (f + 5) mX8_run [.ref (ad D 115), .int x1, .int x2, .int x3] F h g (eqi y9 h9 g9) := wX8_run (f := (f + 4)) hF _ _ _ (jX8_run_0 hF _ _ _ _ _ E)
def pX8_told_91 (N : Nat) (x1 : Int32) (x2 : Int32) (h : HI) (g : HL) : Option (Int32 × HI × HL) :=
  if x1 = 0 then
    some ((h 115 70), h, g)
  else
    if x1 = 1 then
      some ((h 115 67), h, g)
    else
      if x1 = 2 then
        some ((h 115 68), h, g)
      else
        if x1 = 3 then
          some ((h 115 69), h, g)
        else
          if x1 = 4 then
            some ((h 115 73), h, g)
          else
            if x1 = 5 then
              some (x2, h, g)
            else
              some ((h 115 55), h, g)
theorem jX8_told_91 {D : DE} {f : Nat} {F : Frm} (hF : k_Fix F) {N : Nat} {y9 : Int32} {h9 : HI} {g9 : HL}  : ∀ (x1 : Int32) (x2 : Int32) (h : HI) (g : HL), pX8_told_91 N x1 x2 h g = some (y9, h9, g9) → JX8_told_91 D f (eqi y9 h9 g9) F h g x1 x2 := by
  intro x1 x2 h g E
  unfold pX8_told_91 at E
  refine ⟨fun c0 => ?_, fun c0 => ?_⟩
  · replace E := iteF c0 E
    refine ⟨fun c0 => ?_, fun c0 => ?_⟩
    · replace E := iteF c0 E
      refine ⟨fun c0 => ?_, fun c0 => ?_⟩
      · replace E := iteF c0 E
        refine ⟨fun c0 => ?_, fun c0 => ?_⟩
        · replace E := iteF c0 E
          refine ⟨fun c0 => ?_, fun c0 => ?_⟩
          · replace E := iteF c0 E
            refine ⟨fun c0 => ?_, fun c0 => ?_⟩
            · replace E := iteF c0 E
              cases E; exact ⟨rfl, rfl, rfl⟩
            · replace E := iteT c0 E
              cases E; exact ⟨rfl, rfl, rfl⟩
          · replace E := iteT c0 E
            cases E; exact ⟨rfl, rfl, rfl⟩
        · replace E := iteT c0 E
          cases E; exact ⟨rfl, rfl, rfl⟩
      · replace E := iteT c0 E
        cases E; exact ⟨rfl, rfl, rfl⟩
    · replace E := iteT c0 E
      cases E; exact ⟨rfl, rfl, rfl⟩
  · replace E := iteT c0 E
    cases E; exact ⟨rfl, rfl, rfl⟩
def pX8_told_83 (N : Nat) (K49 : Int32 → Int32 → Int32 → HI → HL → Option (Int32 × HI × HL)) (x1 : Int32) (x3 : Int32) (s0 : Int32) (s1 : Int32) (h : HI) (g : HL) : Option (Int32 × HI × HL) :=
  bnd (s0 + s1) fun (y1 : Int32) =>
  bnd (x3 + 1) fun (y2 : Int32) =>
  K49 x1 y1 y2 h g
theorem jX8_told_83 {D : DE} {f : Nat} {F : Frm} (hF : k_Fix F) {N : Nat} {K49 : Int32 → Int32 → Int32 → HI → HL → Option (Int32 × HI × HL)} {y9 : Int32} {h9 : HI} {g9 : HL} (hK49 : ∀ (x1 : Int32) (x2 : Int32) (x3 : Int32) (h : HI) (g : HL), K49 x1 x2 x3 h g = some (y9, h9, g9) → V D mX8_told (f + 1) (qi F (eqi y9 h9 g9)) 49 [(0, .ref (ad D 115)), (1, .int x1), (2, .int x2), (3, .int x3)] [] (F, h, g)) : ∀ (x1 : Int32) (x3 : Int32) (s0 : Int32) (s1 : Int32) (h : HI) (g : HL), pX8_told_83 N K49 x1 x3 s0 s1 h g = some (y9, h9, g9) → JX8_told_83 D f (eqi y9 h9 g9) F h g x1 x3 s0 s1 := by
  intro x1 x3 s0 s1 h g E
  unfold pX8_told_83 at E
  intro y1 e0; replace E := bndE e0 E
  intro y2 e0; replace E := bndE e0 E
  exact hK49 _ _ _ _ _ E
def pX8_told_49 (N : Nat) : Nat → Int32 → Int32 → Int32 → HI → HL → Option (Int32 × HI × HL)
  | 0, _, _, _, _, _ => none
  | n + 1, x1, x2, x3, h, g =>
    if (40 + (h 115 67)) ≤ x3 then
      pX8_told_91 N x1 x2 h g
    else
      if (h 115 75) = (-1) then
        pX8_told_91 N x1 x2 h g
      else
        gd (vin x3 1540) <|
        if (h 153 (ix x3)) = 0 then
          pX8_told_83 N (pX8_told_49 N n) x1 x3 x2 1 h g
        else
          pX8_told_83 N (pX8_told_49 N n) x1 x3 x2 0 h g
theorem lX8_told_49 {D : DE} {f : Nat} {F : Frm} (hF : k_Fix F) {N : Nat} {y9 : Int32} {h9 : HI} {g9 : HL}  : ∀ (n : Nat) (x1 : Int32) (x2 : Int32) (x3 : Int32) (h : HI) (g : HL), pX8_told_49 N n x1 x2 x3 h g = some (y9, h9, g9) → V D mX8_told (f + 1) (qi F (eqi y9 h9 g9)) 49 [(0, .ref (ad D 115)), (1, .int x1), (2, .int x2), (3, .int x3)] [] (F, h, g) := by
  intro n
  induction n with
  | zero => intro x1 x2 x3 h g E; cases E
  | succ n hK49 =>
    intro x1 x2 x3 h g E
    rw [pX8_told_49] at E
    refine bX8_told_49 (f := f) hF x1 x2 x3 ?_
    refine ⟨fun c0 => ?_, fun c0 => ?_⟩
    · replace E := iteT c0 E
      exact jX8_told_91 hF  _ _ _ _ E
    · replace E := iteF c0 E
      refine ⟨fun c0 => ?_, fun c0 => ?_⟩
      · replace E := iteT c0 E
        exact jX8_told_91 hF  _ _ _ _ E
      · replace E := iteF c0 E
        obtain ⟨z0, E⟩ := gdE E; refine ⟨vinE z0, ?_⟩
        refine ⟨fun c0 => ?_, fun c0 => ?_⟩
        · replace E := iteT c0 E
          exact jX8_told_83 hF hK49 _ _ _ _ _ _ E
        · replace E := iteF c0 E
          exact jX8_told_83 hF hK49 _ _ _ _ _ _ E
def pX8_told_44 (N : Nat) (x1 : Int32) (h : HI) (g : HL) : Option (Int32 × HI × HL) :=
  pX8_told_49 N N x1 0 40 h g
theorem jX8_told_44 {D : DE} {f : Nat} {F : Frm} (hF : k_Fix F) {N : Nat} {y9 : Int32} {h9 : HI} {g9 : HL}  : ∀ (x1 : Int32) (h : HI) (g : HL), pX8_told_44 N x1 h g = some (y9, h9, g9) → JX8_told_44 D f (eqi y9 h9 g9) F h g x1 := by
  intro x1 h g E
  unfold pX8_told_44 at E
  exact lX8_told_49 hF  N _ _ _ _ _ E
def pX8_told_18 (N : Nat) (x1 : Int32) (s1 : Int32) (h : HI) (g : HL) : Option (Int32 × HI × HL) :=
  bnd (up2 h 115 0 s1) fun (h1 : HI) =>
  if 0 < (h1 115 0) then
    some (0, h1, g)
  else
    if 6 ≤ x1 then
      pX8_told_44 N x1 h1 g
    else
      if (h1 115 75) = (-1) then
        some (0, h1, g)
      else
        pX8_told_44 N x1 h1 g
theorem jX8_told_18 {D : DE} {f : Nat} {F : Frm} (hF : k_Fix F) {N : Nat} {y9 : Int32} {h9 : HI} {g9 : HL}  : ∀ (x1 : Int32) (s1 : Int32) (h : HI) (g : HL), pX8_told_18 N x1 s1 h g = some (y9, h9, g9) → JX8_told_18 D f (eqi y9 h9 g9) F h g x1 s1 := by
  intro x1 s1 h g E
  unfold pX8_told_18 at E
  intro h1 e0; replace E := bndE e0 E
  refine ⟨fun c0 => ?_, fun c0 => ?_⟩
  · replace E := iteT c0 E
    cases E; exact ⟨rfl, rfl, rfl⟩
  · replace E := iteF c0 E
    refine ⟨fun c0 => ?_, fun c0 => ?_⟩
    · replace E := iteT c0 E
      exact jX8_told_44 hF  _ _ _ E
    · replace E := iteF c0 E
      refine ⟨fun c0 => ?_, fun c0 => ?_⟩
      · replace E := iteF c0 E
        exact jX8_told_44 hF  _ _ _ E
      · replace E := iteT c0 E
        cases E; exact ⟨rfl, rfl, rfl⟩
def pX8_told_0 (N : Nat) (x1 : Int32) (h : HI) (g : HL) : Option (Int32 × HI × HL) :=
  obi (pX8_within N x1.toInt64 0 6 h g) fun (y3 : Int32) (h1 : HI) (g2 : HL) =>
  if y3 = 0 then
    pX8_told_18 N x1 1 h1 g2
  else
    pX8_told_18 N x1 0 h1 g2
theorem jX8_told_0 {D : DE} {f : Nat} {F : Frm} (hF : k_Fix F) {N : Nat} {y9 : Int32} {h9 : HI} {g9 : HL}  : ∀ (x1 : Int32) (h : HI) (g : HL), pX8_told_0 N x1 h g = some (y9, h9, g9) → JX8_told_0 D f (eqi y9 h9 g9) F h g x1 := by
  intro x1 h g E
  unfold pX8_told_0 at E
  obtain ⟨y3, h1, g2, e0, E⟩ := obiE E
  refine Si.mono (sX8_within (f := f) hF e0) (fun y8 h8 g8 hq => ?_)
  obtain ⟨rfl, rfl, rfl⟩ := hq
  refine ⟨fun c0 => ?_, fun c0 => ?_⟩
  · replace E := iteT c0 E
    exact jX8_told_18 hF  _ _ _ _ E
  · replace E := iteF c0 E
    exact jX8_told_18 hF  _ _ _ _ E
abbrev pX8_told (N : Nat) (x1 : Int32) (h : HI) (g : HL) : Option (Int32 × HI × HL) := pX8_told_0 N x1 h g
theorem sX8_told {D : DE} {f : Nat} {F : Frm} (hF : k_Fix F) {N : Nat} {y9 : Int32} {h9 : HI} {g9 : HL} {x1 : Int32} {h : HI} {g : HL} (E : pX8_told N x1 h g = some (y9, h9, g9)) : Si D (f + 1) mX8_told [.ref (ad D 115), .int x1] F h g (eqi y9 h9 g9) := wX8_told (f := f) hF _ (jX8_told_0 hF _ _ _ E)
def pX8_parted_39 (N : Nat) (s0 : Int32) (h : HI) (g : HL) : Option (Int32 × HI × HL) :=
  gd (vin s0 1540) <|
  if (h 150 (ix s0)) = 2 then
    gd (vin s0 1540) <|
    bnd (up2 h 115 77 (h 151 (ix s0))) fun (h1 : HI) =>
    gd (vin s0 1540) <|
    bnd (up2 h1 115 78 (h1 152 (ix s0))) fun (h2 : HI) =>
    some (1, h2, g)
  else
    some (0, h, g)
theorem jX8_parted_39 {D : DE} {f : Nat} {F : Frm} (hF : k_Fix F) {N : Nat} {y9 : Int32} {h9 : HI} {g9 : HL}  : ∀ (s0 : Int32) (h : HI) (g : HL), pX8_parted_39 N s0 h g = some (y9, h9, g9) → JX8_parted_39 D f (eqi y9 h9 g9) F h g s0 := by
  intro s0 h g E
  unfold pX8_parted_39 at E
  obtain ⟨z0, E⟩ := gdE E; refine ⟨vinE z0, ?_⟩
  refine ⟨fun c0 => ?_, fun c0 => ?_⟩
  · replace E := iteT c0 E
    obtain ⟨z0, E⟩ := gdE E; refine ⟨vinE z0, ?_⟩
    intro h1 e0; replace E := bndE e0 E
    obtain ⟨z0, E⟩ := gdE E; refine ⟨vinE z0, ?_⟩
    intro h2 e0; replace E := bndE e0 E
    cases E; exact ⟨rfl, rfl, rfl⟩
  · replace E := iteF c0 E
    cases E; exact ⟨rfl, rfl, rfl⟩
def pX8_parted_0 (N : Nat) (x1 : Int32) (x2 : Int32) (h : HI) (g : HL) : Option (Int32 × HI × HL) :=
  if x1 = 0 then
    some (0, h, g)
  else
    if (h 115 77) = 1 then
      if x2 = 0 then
        gd (vin (h 115 78) 1540) <|
        pX8_parted_39 N (h 154 (ix (h 115 78))) h g
      else
        gd (vin (h 115 78) 1540) <|
        pX8_parted_39 N (h 155 (ix (h 115 78))) h g
    else
      some (0, h, g)
theorem jX8_parted_0 {D : DE} {f : Nat} {F : Frm} (hF : k_Fix F) {N : Nat} {y9 : Int32} {h9 : HI} {g9 : HL}  : ∀ (x1 : Int32) (x2 : Int32) (h : HI) (g : HL), pX8_parted_0 N x1 x2 h g = some (y9, h9, g9) → JX8_parted_0 D f (eqi y9 h9 g9) F h g x1 x2 := by
  intro x1 x2 h g E
  unfold pX8_parted_0 at E
  refine ⟨fun c0 => ?_, fun c0 => ?_⟩
  · replace E := iteT c0 E
    cases E; exact ⟨rfl, rfl, rfl⟩
  · replace E := iteF c0 E
    refine ⟨fun c0 => ?_, fun c0 => ?_⟩
    · replace E := iteT c0 E
      refine ⟨fun c0 => ?_, fun c0 => ?_⟩
      · replace E := iteT c0 E
        obtain ⟨z0, E⟩ := gdE E; refine ⟨vinE z0, ?_⟩
        exact jX8_parted_39 hF  _ _ _ E
      · replace E := iteF c0 E
        obtain ⟨z0, E⟩ := gdE E; refine ⟨vinE z0, ?_⟩
        exact jX8_parted_39 hF  _ _ _ E
    · replace E := iteF c0 E
      cases E; exact ⟨rfl, rfl, rfl⟩
abbrev pX8_parted (N : Nat) (x1 : Int32) (x2 : Int32) (h : HI) (g : HL) : Option (Int32 × HI × HL) := pX8_parted_0 N x1 x2 h g
theorem sX8_parted {D : DE} {f : Nat} {F : Frm} (hF : k_Fix F) {N : Nat} {y9 : Int32} {h9 : HI} {g9 : HL} {x1 : Int32} {x2 : Int32} {h : HI} {g : HL} (E : pX8_parted N x1 x2 h g = some (y9, h9, g9)) : Si D f mX8_parted [.ref (ad D 115), .int x1, .int x2] F h g (eqi y9 h9 g9) := wX8_parted (f := f) hF _ _ (jX8_parted_0 hF _ _ _ _ E)
def pX8_result_114 (N : Nat) (s1 : Int32) (h : HI) (g : HL) : Option (Int32 × HI × HL) :=
  bnd (up2 h 115 0 s1) fun (h1 : HI) =>
  if (h1 115 0) ≤ 0 then
    some ((h1 115 78), h1, g)
  else
    some (0, h1, g)
theorem jX8_result_114 {D : DE} {f : Nat} {F : Frm} (hF : k_Fix F) {N : Nat} {y9 : Int32} {h9 : HI} {g9 : HL}  : ∀ (s1 : Int32) (h : HI) (g : HL), pX8_result_114 N s1 h g = some (y9, h9, g9) → JX8_result_114 D f (eqi y9 h9 g9) F h g s1 := by
  intro s1 h g E
  unfold pX8_result_114 at E
  intro h1 e0; replace E := bndE e0 E
  refine ⟨fun c0 => ?_, fun c0 => ?_⟩
  · replace E := iteT c0 E
    cases E; exact ⟨rfl, rfl, rfl⟩
  · replace E := iteF c0 E
    cases E; exact ⟨rfl, rfl, rfl⟩
def pX8_result_113 (N : Nat) (h : HI) (g : HL) : Option (Int32 × HI × HL) :=
  pX8_result_114 N 1 h g
theorem jX8_result_113 {D : DE} {f : Nat} {F : Frm} (hF : k_Fix F) {N : Nat} {y9 : Int32} {h9 : HI} {g9 : HL}  : ∀ (h : HI) (g : HL), pX8_result_113 N h g = some (y9, h9, g9) → JX8_result_113 D f (eqi y9 h9 g9) F h g  := by
  intro h g E
  unfold pX8_result_113 at E
  exact jX8_result_114 hF  _ _ _ E
def pX8_result_97 (N : Nat) (x2 : Int32) (h : HI) (g : HL) : Option (Int32 × HI × HL) :=
  if x2 = 0 then
    pX8_result_113 N h g
  else
    if (h 115 77) = 0 then
      pX8_result_114 N 0 h g
    else
      pX8_result_113 N h g
theorem jX8_result_97 {D : DE} {f : Nat} {F : Frm} (hF : k_Fix F) {N : Nat} {y9 : Int32} {h9 : HI} {g9 : HL}  : ∀ (x2 : Int32) (h : HI) (g : HL), pX8_result_97 N x2 h g = some (y9, h9, g9) → JX8_result_97 D f (eqi y9 h9 g9) F h g x2 := by
  intro x2 h g E
  unfold pX8_result_97 at E
  refine ⟨fun c0 => ?_, fun c0 => ?_⟩
  · replace E := iteT c0 E
    exact jX8_result_113 hF  _ _ E
  · replace E := iteF c0 E
    refine ⟨fun c0 => ?_, fun c0 => ?_⟩
    · replace E := iteF c0 E
      exact jX8_result_113 hF  _ _ E
    · replace E := iteT c0 E
      exact jX8_result_114 hF  _ _ _ E
def pX8_result_93 (N : Nat) (s1 : Int32) (s2 : Int32) (h : HI) (g : HL) : Option (Int32 × HI × HL) :=
  obi (pX8_parted N s1 s2 h g) fun (y3 : Int32) (h1 : HI) (g2 : HL) =>
  pX8_result_97 N y3 h1 g2
theorem jX8_result_93 {D : DE} {f : Nat} {F : Frm} (hF : k_Fix F) {N : Nat} {y9 : Int32} {h9 : HI} {g9 : HL}  : ∀ (s1 : Int32) (s2 : Int32) (h : HI) (g : HL), pX8_result_93 N s1 s2 h g = some (y9, h9, g9) → JX8_result_93 D f (eqi y9 h9 g9) F h g s1 s2 := by
  intro s1 s2 h g E
  unfold pX8_result_93 at E
  obtain ⟨y3, h1, g2, e0, E⟩ := obiE E
  refine Si.mono (sX8_parted (f := f) hF e0) (fun y8 h8 g8 hq => ?_)
  obtain ⟨rfl, rfl, rfl⟩ := hq
  exact jX8_result_97 hF  _ _ _ E
def pX8_result_75 (N : Nat) (x1 : Int32) (x2 : Int32) (h : HI) (g : HL) : Option (Int32 × HI × HL) :=
  if x1 ≤ 2 then
    pX8_result_97 N x2 h g
  else
    if (x1 - x1 / 2 * 2) = 0 then
      pX8_result_93 N x2 1 h g
    else
      pX8_result_93 N x2 0 h g
theorem jX8_result_75 {D : DE} {f : Nat} {F : Frm} (hF : k_Fix F) {N : Nat} {y9 : Int32} {h9 : HI} {g9 : HL}  : ∀ (x1 : Int32) (x2 : Int32) (h : HI) (g : HL), pX8_result_75 N x1 x2 h g = some (y9, h9, g9) → JX8_result_75 D f (eqi y9 h9 g9) F h g x1 x2 := by
  intro x1 x2 h g E
  unfold pX8_result_75 at E
  refine ⟨fun c0 => ?_, fun c0 => ?_⟩
  · replace E := iteT c0 E
    exact jX8_result_97 hF  _ _ _ E
  · replace E := iteF c0 E
    refine ⟨fun c0 => ?_, fun c0 => ?_⟩
    · replace E := iteF c0 E
      exact jX8_result_93 hF  _ _ _ _ E
    · replace E := iteT c0 E
      exact jX8_result_93 hF  _ _ _ _ E
def pX8_result_71 (N : Nat) (x1 : Int32) (s1 : Int32) (s2 : Int32) (h : HI) (g : HL) : Option (Int32 × HI × HL) :=
  obi (pX8_parted N s1 s2 h g) fun (y3 : Int32) (h1 : HI) (g2 : HL) =>
  pX8_result_75 N x1 y3 h1 g2
theorem jX8_result_71 {D : DE} {f : Nat} {F : Frm} (hF : k_Fix F) {N : Nat} {y9 : Int32} {h9 : HI} {g9 : HL}  : ∀ (x1 : Int32) (s1 : Int32) (s2 : Int32) (h : HI) (g : HL), pX8_result_71 N x1 s1 s2 h g = some (y9, h9, g9) → JX8_result_71 D f (eqi y9 h9 g9) F h g x1 s1 s2 := by
  intro x1 s1 s2 h g E
  unfold pX8_result_71 at E
  obtain ⟨y3, h1, g2, e0, E⟩ := obiE E
  refine Si.mono (sX8_parted (f := f) hF e0) (fun y8 h8 g8 hq => ?_)
  obtain ⟨rfl, rfl, rfl⟩ := hq
  exact jX8_result_75 hF  _ _ _ _ E
def pX8_result_66 (N : Nat) (x1 : Int32) (s1 : Int32) (h : HI) (g : HL) : Option (Int32 × HI × HL) :=
  pX8_result_71 N x1 s1 1 h g
theorem jX8_result_66 {D : DE} {f : Nat} {F : Frm} (hF : k_Fix F) {N : Nat} {y9 : Int32} {h9 : HI} {g9 : HL}  : ∀ (x1 : Int32) (s1 : Int32) (h : HI) (g : HL), pX8_result_66 N x1 s1 h g = some (y9, h9, g9) → JX8_result_66 D f (eqi y9 h9 g9) F h g x1 s1 := by
  intro x1 s1 h g E
  unfold pX8_result_66 at E
  exact jX8_result_71 hF  _ _ _ _ _ E
def pX8_result_33 (N : Nat) (x1 : Int32) (s0 : Int32) (h : HI) (g : HL) : Option (Int32 × HI × HL) :=
  bnd (up2 h 115 77 (h 115 79)) fun (h1 : HI) =>
  bnd (up2 h1 115 78 (h1 115 80)) fun (h2 : HI) =>
  if x1 ≤ 0 then
    pX8_result_75 N x1 s0 h2 g
  else
    if x1 = 2 then
      pX8_result_66 N x1 s0 h2 g
    else
      if x1 < 5 then
        pX8_result_71 N x1 s0 0 h2 g
      else
        pX8_result_66 N x1 s0 h2 g
theorem jX8_result_33 {D : DE} {f : Nat} {F : Frm} (hF : k_Fix F) {N : Nat} {y9 : Int32} {h9 : HI} {g9 : HL}  : ∀ (x1 : Int32) (s0 : Int32) (h : HI) (g : HL), pX8_result_33 N x1 s0 h g = some (y9, h9, g9) → JX8_result_33 D f (eqi y9 h9 g9) F h g x1 s0 := by
  intro x1 s0 h g E
  unfold pX8_result_33 at E
  intro h1 e0; replace E := bndE e0 E
  intro h2 e0; replace E := bndE e0 E
  refine ⟨fun c0 => ?_, fun c0 => ?_⟩
  · replace E := iteT c0 E
    exact jX8_result_75 hF  _ _ _ _ E
  · replace E := iteF c0 E
    refine ⟨fun c0 => ?_, fun c0 => ?_⟩
    · replace E := iteT c0 E
      exact jX8_result_66 hF  _ _ _ _ E
    · replace E := iteF c0 E
      refine ⟨fun c0 => ?_, fun c0 => ?_⟩
      · replace E := iteT c0 E
        exact jX8_result_71 hF  _ _ _ _ _ E
      · replace E := iteF c0 E
        exact jX8_result_66 hF  _ _ _ _ E
def pX8_result_32 (N : Nat) (x1 : Int32) (h : HI) (g : HL) : Option (Int32 × HI × HL) :=
  pX8_result_33 N x1 0 h g
theorem jX8_result_32 {D : DE} {f : Nat} {F : Frm} (hF : k_Fix F) {N : Nat} {y9 : Int32} {h9 : HI} {g9 : HL}  : ∀ (x1 : Int32) (h : HI) (g : HL), pX8_result_32 N x1 h g = some (y9, h9, g9) → JX8_result_32 D f (eqi y9 h9 g9) F h g x1 := by
  intro x1 h g E
  unfold pX8_result_32 at E
  exact jX8_result_33 hF  _ _ _ _ E
def pX8_result_0 (N : Nat) (x1 : Int32) (h : HI) (g : HL) : Option (Int32 × HI × HL) :=
  if (h 115 75) = (-1) then
    pX8_result_32 N x1 h g
  else
    if (h 115 76) = 1 then
      obi (pX8_within N x1.toInt64 0 6 h g) fun (y3 : Int32) (h1 : HI) (g2 : HL) =>
      if y3 = 0 then
        pX8_result_32 N x1 h1 g2
      else
        pX8_result_33 N x1 1 h1 g2
    else
      pX8_result_32 N x1 h g
theorem jX8_result_0 {D : DE} {f : Nat} {F : Frm} (hF : k_Fix F) {N : Nat} {y9 : Int32} {h9 : HI} {g9 : HL}  : ∀ (x1 : Int32) (h : HI) (g : HL), pX8_result_0 N x1 h g = some (y9, h9, g9) → JX8_result_0 D f (eqi y9 h9 g9) F h g x1 := by
  intro x1 h g E
  unfold pX8_result_0 at E
  refine ⟨fun c0 => ?_, fun c0 => ?_⟩
  · replace E := iteT c0 E
    exact jX8_result_32 hF  _ _ _ E
  · replace E := iteF c0 E
    refine ⟨fun c0 => ?_, fun c0 => ?_⟩
    · replace E := iteF c0 E
      exact jX8_result_32 hF  _ _ _ E
    · replace E := iteT c0 E
      obtain ⟨y3, h1, g2, e0, E⟩ := obiE E
      refine Si.mono (sX8_within (f := f) hF e0) (fun y8 h8 g8 hq => ?_)
      obtain ⟨rfl, rfl, rfl⟩ := hq
      refine ⟨fun c0 => ?_, fun c0 => ?_⟩
      · replace E := iteT c0 E
        exact jX8_result_32 hF  _ _ _ E
      · replace E := iteF c0 E
        exact jX8_result_33 hF  _ _ _ _ E
abbrev pX8_result (N : Nat) (x1 : Int32) (h : HI) (g : HL) : Option (Int32 × HI × HL) := pX8_result_0 N x1 h g
theorem sX8_result {D : DE} {f : Nat} {F : Frm} (hF : k_Fix F) {N : Nat} {y9 : Int32} {h9 : HI} {g9 : HL} {x1 : Int32} {h : HI} {g : HL} (E : pX8_result N x1 h g = some (y9, h9, g9)) : Si D (f + 1) mX8_result [.ref (ad D 115), .int x1] F h g (eqi y9 h9 g9) := wX8_result (f := f) hF _ (jX8_result_0 hF _ _ _ E)
def pX8_needed_26 (N : Nat) (x1 : Int32) (s1 : Int32) (h : HI) (g : HL) : Option (Int32 × HI × HL) :=
  bnd (up2 h 115 0 s1) fun (h1 : HI) =>
  if (h1 115 0) = 0 then
    gd (vin x1 4) <|
    gd (vin (h1 157 (ix x1)) 1540) <|
    if (h1 153 (ix (h1 157 (ix x1)))) = 0 then
      some (0, h1, g)
    else
      some (1, h1, g)
  else
    some (0, h1, g)
theorem jX8_needed_26 {D : DE} {f : Nat} {F : Frm} (hF : k_Fix F) {N : Nat} {y9 : Int32} {h9 : HI} {g9 : HL}  : ∀ (x1 : Int32) (s1 : Int32) (h : HI) (g : HL), pX8_needed_26 N x1 s1 h g = some (y9, h9, g9) → JX8_needed_26 D (f + 2) (eqi y9 h9 g9) F h g x1 s1 := by
  intro x1 s1 h g E
  unfold pX8_needed_26 at E
  intro h1 e0; replace E := bndE e0 E
  refine ⟨fun c0 => ?_, fun c0 => ?_⟩
  · replace E := iteF c0 E
    cases E; exact ⟨rfl, rfl, rfl⟩
  · replace E := iteT c0 E
    obtain ⟨z0, E⟩ := gdE E; refine ⟨vinE z0, ?_⟩
    obtain ⟨z0, E⟩ := gdE E; refine ⟨vinE z0, ?_⟩
    refine ⟨fun c0 => ?_, fun c0 => ?_⟩
    · replace E := iteT c0 E
      cases E; exact ⟨rfl, rfl, rfl⟩
    · replace E := iteF c0 E
      cases E; exact ⟨rfl, rfl, rfl⟩
def pX8_needed_25 (N : Nat) (x1 : Int32) (h : HI) (g : HL) : Option (Int32 × HI × HL) :=
  pX8_needed_26 N x1 1 h g
theorem jX8_needed_25 {D : DE} {f : Nat} {F : Frm} (hF : k_Fix F) {N : Nat} {y9 : Int32} {h9 : HI} {g9 : HL}  : ∀ (x1 : Int32) (h : HI) (g : HL), pX8_needed_25 N x1 h g = some (y9, h9, g9) → JX8_needed_25 D (f + 2) (eqi y9 h9 g9) F h g x1 := by
  intro x1 h g E
  unfold pX8_needed_25 at E
  exact jX8_needed_26 hF  _ _ _ _ E
def pX8_needed_0 (N : Nat) (x1 : Int32) (h : HI) (g : HL) : Option (Int32 × HI × HL) :=
  if (h 115 75) = (-1) then
    pX8_needed_25 N x1 h g
  else
    obi (pX8_isParamOf N (h 115 75) x1 h g) fun (y3 : Int32) (h1 : HI) (g2 : HL) =>
    if y3 = 0 then
      pX8_needed_25 N x1 h1 g2
    else
      pX8_needed_26 N x1 0 h1 g2
theorem jX8_needed_0 {D : DE} {f : Nat} {F : Frm} (hF : k_Fix F) {N : Nat} {y9 : Int32} {h9 : HI} {g9 : HL}  : ∀ (x1 : Int32) (h : HI) (g : HL), pX8_needed_0 N x1 h g = some (y9, h9, g9) → JX8_needed_0 D (f + 2) (eqi y9 h9 g9) F h g x1 := by
  intro x1 h g E
  unfold pX8_needed_0 at E
  refine ⟨fun c0 => ?_, fun c0 => ?_⟩
  · replace E := iteT c0 E
    exact jX8_needed_25 hF  _ _ _ E
  · replace E := iteF c0 E
    obtain ⟨y3, h1, g2, e0, E⟩ := obiE E
    refine Si.mono (sX8_isParamOf (f := f) hF e0) (fun y8 h8 g8 hq => ?_)
    obtain ⟨rfl, rfl, rfl⟩ := hq
    refine ⟨fun c0 => ?_, fun c0 => ?_⟩
    · replace E := iteT c0 E
      exact jX8_needed_25 hF  _ _ _ E
    · replace E := iteF c0 E
      exact jX8_needed_26 hF  _ _ _ _ E
abbrev pX8_needed (N : Nat) (x1 : Int32) (h : HI) (g : HL) : Option (Int32 × HI × HL) := pX8_needed_0 N x1 h g
theorem sX8_needed {D : DE} {f : Nat} {F : Frm} (hF : k_Fix F) {N : Nat} {y9 : Int32} {h9 : HI} {g9 : HL} {x1 : Int32} {h : HI} {g : HL} (E : pX8_needed N x1 h g = some (y9, h9, g9)) : Si D (f + 3) mX8_needed [.ref (ad D 115), .int x1] F h g (eqi y9 h9 g9) := wX8_needed (f := (f + 2)) hF _ (jX8_needed_0 hF _ _ _ E)
