/-! UTILITIES OF THE PURE PART: numbers, memory, the combinators as simp rows -/
theorem q_toInt {n : Nat} (h : n < 2147483648) : (nI n).toInt = (n : Int) := by
  unfold nI
  rw [Int32.toInt_ofNat', Int.bmod_def]
  have : ((n : Int) % (2 ^ 32 : Nat)) = n := Int.emod_eq_of_lt (by omega) (by omega)
  rw [this, if_pos (by show (n : Int) < (4294967296 + 1) / 2; omega)]
theorem q_ix {n : Nat} (h : n < 2147483648) : (nI n).toNatClampNeg = n := by
  rw [← Int32.toNat_toInt, q_toInt h]; rfl
theorem q_lit (n : Nat) : (OfNat.ofNat n : Int32) = nI n := by unfold nI; exact Eq.trans rfl rfl
theorem q_lit0 : (0 : Int32) = nI 0 := rfl
theorem q_lit1 : (1 : Int32) = nI 1 := rfl
theorem q_inj {a b : Nat} (ha : a < 2147483648) (hb : b < 2147483648) : (nI a = nI b) = (a = b) := by
  apply propext
  refine ⟨fun h => ?_, fun h => by rw [h]⟩
  have := congrArg Int32.toInt h
  rw [q_toInt ha, q_toInt hb] at this
  omega
theorem q_le {a b : Nat} (ha : a < 2147483648) (hb : b < 2147483648) : (nI a ≤ nI b) = (a ≤ b) := by
  apply propext
  rw [Int32.le_iff_toInt_le, q_toInt ha, q_toInt hb]; omega
theorem q_lt {a b : Nat} (ha : a < 2147483648) (hb : b < 2147483648) : (nI a < nI b) = (a < b) := by
  apply propext
  rw [Int32.lt_iff_toInt_lt, q_toInt ha, q_toInt hb]; omega
theorem q_add (a b : Nat) : nI a + nI b = nI (a + b) := by
  unfold nI; rw [Int32.ofNat_add]
theorem q_mul (a b : Nat) : nI a * nI b = nI (a * b) := by
  unfold nI; rw [Int32.ofNat_mul]
theorem q_sub {a b : Nat} (h : b ≤ a) : nI a - nI b = nI (a - b) := by
  have : a = (a - b) + b := by omega
  conv => lhs; rw [this]
  rw [← q_add]
  simp
theorem q_div {a b : Nat} (ha : a < 2147483648) (hb : b < 2147483648) : nI a / nI b = nI (a / b) := by
  apply Int32.toInt_inj.mp
  have h1 : a / b < 2147483648 := Nat.lt_of_le_of_lt (Nat.div_le_self a b) ha
  rw [q_toInt h1, Int32.toInt_div, q_toInt ha, q_toInt hb]
  have : (a : Int).tdiv (b : Int) = ((a / b : Nat) : Int) := by
    rw [Int.tdiv_eq_ediv_of_nonneg (Int.natCast_nonneg _)]; rfl
  rw [this, Int.bmod_def]
  have h2 : (0 : Int) ≤ ((a / b : Nat) : Int) := Int.natCast_nonneg _
  have h3 : ((a / b : Nat) : Int) < 2147483648 := Int.ofNat_lt.mpr h1
  have : (((a / b : Nat) : Int) % (2 ^ 32 : Nat)) = ((a / b : Nat) : Int) := Int.emod_eq_of_lt h2 (by omega)
  rw [this, if_pos (by omega)]
theorem q_vin {a n : Nat} (ha : a < 2147483648) : vin (nI a) n = decide (a < n) := by
  unfold vin ix
  rw [q_ix ha]
  have : (0 : Int32) ≤ nI a := by
    show nI 0 ≤ nI a
    rw [q_le (by omega) ha]; omega
  simp [this]
theorem gd_t {α : Type} {b : Bool} {x : Option α} (h : b = true) : gd b x = x := by subst h; rfl
theorem gd_true {α : Type} (x : Option α) : gd true x = x := rfl
theorem bnd_eq {α β : Type} (x : α) (k : α → β) : bnd x k = k x := rfl
theorem ob1_some {β : Type} (b : Nat) (k : Nat → Option β) : ob1 (some b) k = k b := rfl
theorem obv_some {β : Type} (h : HI) (g : HL) (k : HI → HL → Option β) : obv (some (h, g)) k = k h g := rfl
theorem obi_some {β : Type} (y : Int32) (h : HI) (g : HL) (k : Int32 → HI → HL → Option β) : obi (some (y, h, g)) k = k y h g := rfl
theorem obl_some {β : Type} (y : Int64) (h : HI) (g : HL) (k : Int64 → HI → HL → Option β) : obl (some (y, h, g)) k = k y h g := rfl
theorem obr_some {β : Type} (y : Nat) (h : HI) (g : HL) (k : Nat → HI → HL → Option β) : obr (some (y, h, g)) k = k y h g := rfl
theorem ogv_l {β : Type} (u : Unit) (F : Frm) (h : HI) (g : HL) (k : Frm → HI → HL → GO β) : ogv (some (.inl (u, F, h, g))) k = k F h g := rfl
theorem ogi_l {β : Type} (y : Int32) (F : Frm) (h : HI) (g : HL) (k : Int32 → Frm → HI → HL → GO β) : ogi (some (.inl (y, F, h, g))) k = k y F h g := rfl
theorem ogr_l {β : Type} (y : Nat) (F : Frm) (h : HI) (g : HL) (k : Nat → Frm → HI → HL → GO β) : ogr (some (.inl (y, F, h, g))) k = k y F h g := rfl
theorem ogv_r {β : Type} (e : Nat) (F : Frm) (h : HI) (g : HL) (k : Frm → HI → HL → GO β) : ogv (some (.inr (e, F, h, g))) k = some (.inr (e, F, h, g)) := rfl
theorem ogi_r {β : Type} (e : Nat) (F : Frm) (h : HI) (g : HL) (k : Int32 → Frm → HI → HL → GO β) : ogi (some (.inr (e, F, h, g))) k = some (.inr (e, F, h, g)) := rfl
theorem ogr_r {β : Type} (e : Nat) (F : Frm) (h : HI) (g : HL) (k : Nat → Frm → HI → HL → GO β) : ogr (some (.inr (e, F, h, g))) k = some (.inr (e, F, h, g)) := rfl
theorem up2_at {α : Type} (f : Nat → Nat → α) (a i : Nat) (x : α) (b j : Nat) : up2 f a i x b j = if b = a then (if j = i then x else f b j) else f b j := by unfold up2; exact Eq.trans rfl rfl
theorem up2_ne {α : Type} {f : Nat → Nat → α} {a i : Nat} {x : α} {b j : Nat} (h : ¬ b = a) : up2 f a i x b j = f b j := by unfold up2; rw [if_neg h]
theorem up2_nj {α : Type} {f : Nat → Nat → α} {a i : Nat} {x : α} {b j : Nat} (h : ¬ j = i) : up2 f a i x b j = f b j := by unfold up2; split <;> simp [h]
theorem up2_eq {α : Type} {f : Nat → Nat → α} {a i : Nat} {x : α} : up2 f a i x a i = x := by unfold up2; simp
theorem isEb_t {F : Frm} {a t : Nat} (h : F.2.1 a = (t, 0)) (h1 : 19 ≤ t) (h2 : t ≤ 27) : isEb F a = true := by
  unfold isEb; rw [h]; simp [h1, h2]
theorem up2_row {α : Type} {f : Nat → Nat → α} {a i : Nat} {x : α} {b : Nat} (h : ¬ b = a) : up2 f a i x b = f b := by funext j; exact up2_ne h
