/-! THE COMPONENT AS PURE FUNCTIONS (printed by gen/walkcp.py): p<X> N R F args h g; N: fuel of loops, R: fuel of recursions -/
set_option maxRecDepth 100000
abbrev GQ (α : Type) : Type := (α × Frm × HI × HL) ⊕ (Nat × Frm × HI × HL)
abbrev GO (α : Type) : Type := Option (GQ α)
def obr {β : Type} (x : Option (Nat × HI × HL)) (k : Nat → HI → HL → Option β) : Option β := match x with
  | some (y, h, g) => k y h g
  | none => none
def eqr (y9 : Nat) (h9 : HI) (g9 : HL) : Nat → HI → HL → Prop := fun y h g => y = y9 ∧ h = h9 ∧ g = g9
theorem obrE {β : Type} {x : Option (Nat × HI × HL)} {k : Nat → HI → HL → Option β} {r : β} (h : obr x k = some r) : ∃ y h1 g1, x = some (y, h1, g1) ∧ k y h1 g1 = some r := by
  cases x with
  | none => cases h
  | some q => exact ⟨q.1, q.2.1, q.2.2, rfl, h⟩
def ob1 {β : Type} (x : Option Nat) (k : Nat → Option β) : Option β := match x with
  | some b => k b
  | none => none
theorem ob1E {β : Type} {x : Option Nat} {k : Nat → Option β} {r : β} (h : ob1 x k = some r) : ∃ b, x = some b ∧ k b = some r := by
  cases x with
  | none => cases h
  | some b => exact ⟨b, rfl, h⟩
def isEb (F : Frm) (a : Nat) : Bool := decide ((F.2.1 a).2 = 0) && (decide (19 ≤ (F.2.1 a).1) && decide ((F.2.1 a).1 ≤ 27))
theorem isEbE {F : Frm} {a : Nat} (h : isEb F a = true) : isE F a ((F.2.1 a).1 - 10) := by
  unfold isEb at h
  simp only [Bool.and_eq_true, decide_eq_true_eq] at h
  obtain ⟨h0, h1, h2⟩ := h
  refine ⟨Prod.ext ?_ h0, by omega, by omega⟩
  show (F.2.1 a).1 = 10 + ((F.2.1 a).1 - 10)
  omega
theorem shE {p : Nat × Nat} {t : Nat} (h : p.1 = t) : p = (t, p.2) := by subst h; rfl
def cpb (n : Int32) (a b : Nat) (s : Nat → Int32) : Bool := decide (¬ n < 0) && (decide (ix n ≤ a) && (decide (ix n ≤ b) && (List.range (ix n)).all (fun i => fits .byte (.int (s i)))))
theorem cpbE {n : Int32} {a b : Nat} {s : Nat → Int32} (h : cpb n a b s = true) : ¬ n < 0 ∧ ix n ≤ a ∧ ix n ≤ b ∧ ∀ i, i < ix n → fits .byte (.int (s i)) = true := by
  unfold cpb at h
  simp only [Bool.and_eq_true, decide_eq_true_eq, List.all_eq_true, List.mem_range] at h
  exact ⟨h.1, h.2.1, h.2.2.1, h.2.2.2⟩
def gt {α : Type} (o : GQ α) : Nat → Frm → HI → HL → Prop := fun e F h g => o = .inr (e, F, h, g)
def gqv (o : GQ Unit) : Frm → HI → HL → Prop := fun F h g => o = .inl ((), F, h, g)
def gqi (o : GQ Int32) : Int32 → Frm → HI → HL → Prop := fun y F h g => o = .inl (y, F, h, g)
def gqr (o : GQ Nat) : Nat → Frm → HI → HL → Prop := fun y F h g => o = .inl (y, F, h, g)
def ogv {β : Type} (x : GO Unit) (k : Frm → HI → HL → GO β) : GO β := match x with
  | some (.inl (_, F, h, g)) => k F h g
  | some (.inr q) => some (.inr q)
  | none => none
def ogi {β : Type} (x : GO Int32) (k : Int32 → Frm → HI → HL → GO β) : GO β := match x with
  | some (.inl (y, F, h, g)) => k y F h g
  | some (.inr q) => some (.inr q)
  | none => none
def ogr {β : Type} (x : GO Nat) (k : Nat → Frm → HI → HL → GO β) : GO β := match x with
  | some (.inl (y, F, h, g)) => k y F h g
  | some (.inr q) => some (.inr q)
  | none => none
def ohv {β : Type} (x : GO Unit) (t : Nat → Frm → HI → HL → GO β) (k : Frm → HI → HL → GO β) : GO β := match x with
  | some (.inl (_, F, h, g)) => k F h g
  | some (.inr (e, F, h, g)) => t e F h g
  | none => none
def ohi {β : Type} (x : GO Int32) (t : Nat → Frm → HI → HL → GO β) (k : Int32 → Frm → HI → HL → GO β) : GO β := match x with
  | some (.inl (y, F, h, g)) => k y F h g
  | some (.inr (e, F, h, g)) => t e F h g
  | none => none
section GOB
variable {β : Type} {D : DE} {f : Nat} {M : MI} {av : List Value} {F : Frm} {h : HI} {g : HL} {o : GQ β} {T1 : Nat → Frm → HI → HL → Prop}
theorem Gv.fix {Q : Frm → HI → HL → Prop} {T : Nat → Frm → HI → HL → Prop} (k : Gv D f M av F h g Q T) : Gv D f M av F h g (fun F1 h1 g1 => k_Fix F1 ∧ Q F1 h1 g1) (fun e F1 h1 g1 => k_Fix F1 ∧ T e F1 h1 g1) :=
  Cl.mono k fun o μ' q => q.imp (fun ⟨F1, h1, g1, e1, e2, e3, e4⟩ => ⟨F1, h1, g1, e1, e2, e3, e3, e4⟩) (fun ⟨a, e, F1, h1, g1, e1, e2, e3, e4, e5⟩ => ⟨a, e, F1, h1, g1, e1, e2, e3, e4, e3, e5⟩)
theorem Gi.fix {Q : Int32 → Frm → HI → HL → Prop} {T : Nat → Frm → HI → HL → Prop} (k : Gi D f M av F h g Q T) : Gi D f M av F h g (fun y F1 h1 g1 => k_Fix F1 ∧ Q y F1 h1 g1) (fun e F1 h1 g1 => k_Fix F1 ∧ T e F1 h1 g1) :=
  Cl.mono k fun o μ' q => q.imp (fun ⟨y, F1, h1, g1, e1, e2, e3, e4⟩ => ⟨y, F1, h1, g1, e1, e2, e3, e3, e4⟩) (fun ⟨a, e, F1, h1, g1, e1, e2, e3, e4, e5⟩ => ⟨a, e, F1, h1, g1, e1, e2, e3, e4, e3, e5⟩)
theorem Gr.fix {Q : Nat → Frm → HI → HL → Prop} {T : Nat → Frm → HI → HL → Prop} (k : Gr D f M av F h g Q T) : Gr D f M av F h g (fun y F1 h1 g1 => k_Fix F1 ∧ Q y F1 h1 g1) (fun e F1 h1 g1 => k_Fix F1 ∧ T e F1 h1 g1) :=
  Cl.mono k fun o μ' q => q.imp (fun ⟨y, F1, h1, g1, e1, e2, e3, e4⟩ => ⟨y, F1, h1, g1, e1, e2, e3, e3, e4⟩) (fun ⟨a, e, F1, h1, g1, e1, e2, e3, e4, e5⟩ => ⟨a, e, F1, h1, g1, e1, e2, e3, e4, e3, e5⟩)
theorem Gv.oh {x : GO Unit} {t : Nat → Frm → HI → HL → GO β} {k : Frm → HI → HL → GO β} {Q1 : Frm → HI → HL → Prop} (hc : ∀ o1, x = some o1 → Gv D f M av F h g (gqv o1) (gt o1)) (E : ohv x t k = some o) (kr : ∀ F1 h1 g1, k_Fix F1 → k F1 h1 g1 = some o → Q1 F1 h1 g1) (kt : ∀ e F1 h1 g1, k_Fix F1 → t e F1 h1 g1 = some o → T1 e F1 h1 g1) : Gv D f M av F h g Q1 T1 := by
  cases x with
  | none => cases E
  | some o1 =>
    refine Gv.mono (Gv.fix (hc o1 rfl)) (fun F1 h1 g1 q => ?_) (fun e F1 h1 g1 q => ?_)
    · obtain ⟨q1, q2⟩ := q; unfold gqv at q2; subst q2; exact kr F1 h1 g1 q1 E
    · obtain ⟨q1, q2⟩ := q; unfold gt at q2; subst q2; exact kt e F1 h1 g1 q1 E
theorem Gi.oh {x : GO Int32} {t : Nat → Frm → HI → HL → GO β} {k : Int32 → Frm → HI → HL → GO β} {Q1 : Int32 → Frm → HI → HL → Prop} (hc : ∀ o1, x = some o1 → Gi D f M av F h g (gqi o1) (gt o1)) (E : ohi x t k = some o) (kr : ∀ y F1 h1 g1, k_Fix F1 → k y F1 h1 g1 = some o → Q1 y F1 h1 g1) (kt : ∀ e F1 h1 g1, k_Fix F1 → t e F1 h1 g1 = some o → T1 e F1 h1 g1) : Gi D f M av F h g Q1 T1 := by
  cases x with
  | none => cases E
  | some o1 =>
    refine Gi.mono (Gi.fix (hc o1 rfl)) (fun y F1 h1 g1 q => ?_) (fun e F1 h1 g1 q => ?_)
    · obtain ⟨q1, q2⟩ := q; unfold gqi at q2; subst q2; exact kr y F1 h1 g1 q1 E
    · obtain ⟨q1, q2⟩ := q; unfold gt at q2; subst q2; exact kt e F1 h1 g1 q1 E
theorem Gv.ob {x : GO Unit} {k : Frm → HI → HL → GO β} {Q1 : Frm → HI → HL → Prop} (hc : ∀ o1, x = some o1 → Gv D f M av F h g (gqv o1) (gt o1)) (E : ogv x k = some o) (kr : ∀ F1 h1 g1, k_Fix F1 → k F1 h1 g1 = some o → Q1 F1 h1 g1) (kt : ∀ e F1 h1 g1, o = .inr (e, F1, h1, g1) → T1 e F1 h1 g1) : Gv D f M av F h g Q1 T1 := by
  cases x with
  | none => cases E
  | some o1 =>
    refine Gv.mono (Gv.fix (hc o1 rfl)) (fun F1 h1 g1 q => ?_) (fun e F1 h1 g1 q => ?_)
    · obtain ⟨q1, q2⟩ := q; unfold gqv at q2; subst q2; exact kr F1 h1 g1 q1 E
    · obtain ⟨q1, q2⟩ := q; unfold gt at q2; subst q2; exact kt e F1 h1 g1 (Option.some.inj E).symm
theorem Gi.ob {x : GO Int32} {k : Int32 → Frm → HI → HL → GO β} {Q1 : Int32 → Frm → HI → HL → Prop} (hc : ∀ o1, x = some o1 → Gi D f M av F h g (gqi o1) (gt o1)) (E : ogi x k = some o) (kr : ∀ y F1 h1 g1, k_Fix F1 → k y F1 h1 g1 = some o → Q1 y F1 h1 g1) (kt : ∀ e F1 h1 g1, o = .inr (e, F1, h1, g1) → T1 e F1 h1 g1) : Gi D f M av F h g Q1 T1 := by
  cases x with
  | none => cases E
  | some o1 =>
    refine Gi.mono (Gi.fix (hc o1 rfl)) (fun y F1 h1 g1 q => ?_) (fun e F1 h1 g1 q => ?_)
    · obtain ⟨q1, q2⟩ := q; unfold gqi at q2; subst q2; exact kr y F1 h1 g1 q1 E
    · obtain ⟨q1, q2⟩ := q; unfold gt at q2; subst q2; exact kt e F1 h1 g1 (Option.some.inj E).symm
theorem Gr.ob {x : GO Nat} {k : Nat → Frm → HI → HL → GO β} {Q1 : Nat → Frm → HI → HL → Prop} (hc : ∀ o1, x = some o1 → Gr D f M av F h g (gqr o1) (gt o1)) (E : ogr x k = some o) (kr : ∀ y F1 h1 g1, k_Fix F1 → k y F1 h1 g1 = some o → Q1 y F1 h1 g1) (kt : ∀ e F1 h1 g1, o = .inr (e, F1, h1, g1) → T1 e F1 h1 g1) : Gr D f M av F h g Q1 T1 := by
  cases x with
  | none => cases E
  | some o1 =>
    refine Gr.mono (Gr.fix (hc o1 rfl)) (fun y F1 h1 g1 q => ?_) (fun e F1 h1 g1 q => ?_)
    · obtain ⟨q1, q2⟩ := q; unfold gqr at q2; subst q2; exact kr y F1 h1 g1 q1 E
    · obtain ⟨q1, q2⟩ := q; unfold gt at q2; subst q2; exact kt e F1 h1 g1 (Option.some.inj E).symm
end GOB
def ppJ5_length (N R : Nat) (F : Frm) (h : HI) (g : HL) : Option (Int32 × HI × HL) := some (37, h, g)
def ppJ5_charAt (N R : Nat) (F : Frm) (x1 : Int32) (h : HI) (g : HL) : Option (Int32 × HI × HL) := gd (vin x1 37) (some (k_ch (ix x1), h, g))
def ppJ5_indexOf (N R : Nat) (F : Frm) (x1 : Int32) (h : HI) (g : HL) : Option (Int32 × HI × HL) := some (k_ix x1, h, g)
def ppX1_sizeOf (N R : Nat) (F : Frm) (x0 : Int32) (h : HI) (g : HL) : Option (Int32 × HI × HL) := gd (vin x0 5) (some (k_sizes (ix x0), h, g))
theorem sJ5_length {D : DE} {f N R : Nat} {F : Frm} (hF : k_Fix F) (hf : 4 ≤ f) {y9 : Int32} {h9 : HI} {g9 : HL} {h : HI} {g : HL} (E : ppJ5_length N R F h g = some (y9, h9, g9)) : Si D f mJ5_length [.ref (dO D 1)] F h g (eqi y9 h9 g9) := by
  obtain ⟨f, rfl⟩ : ∃ f0, f = f0 + 1 := ⟨f - 1, by omega⟩
  cases E
  exact wJ5_length (i := 0) (by decide) ⟨rfl, rfl, rfl⟩
theorem sJ5_charAt {D : DE} {f N R : Nat} {F : Frm} (hF : k_Fix F) (hf : 4 ≤ f) {y9 : Int32} {h9 : HI} {g9 : HL} {x1 : Int32} {h : HI} {g : HL} (E : ppJ5_charAt N R F x1 h g = some (y9, h9, g9)) : Si D f mJ5_charAt [.ref (dO D 1), .int x1] F h g (eqi y9 h9 g9) := by
  obtain ⟨f, rfl⟩ : ∃ f0, f = f0 + 3 := ⟨f - 3, by omega⟩
  obtain ⟨z0, E⟩ := gdE E
  cases E
  exact wJ5_charAt x1 (vinE z0) ⟨rfl, rfl, rfl⟩
theorem sJ5_indexOf {D : DE} {f N R : Nat} {F : Frm} (hF : k_Fix F) (hf : 5 ≤ f) {y9 : Int32} {h9 : HI} {g9 : HL} {x1 : Int32} {h : HI} {g : HL} (E : ppJ5_indexOf N R F x1 h g = some (y9, h9, g9)) : Si D f mJ5_indexOf [.ref (dO D 2), .int x1] F h g (eqi y9 h9 g9) := by
  obtain ⟨f, rfl⟩ : ∃ f0, f = f0 + 4 := ⟨f - 4, by omega⟩
  cases E
  exact wJ5_indexOf x1 ⟨rfl, rfl, rfl⟩
theorem sX1_sizeOf {D : DE} {f N R : Nat} {F : Frm} (hF : k_Fix F) (hf : 0 ≤ f) {y9 : Int32} {h9 : HI} {g9 : HL} {x0 : Int32} {h : HI} {g : HL} (E : ppX1_sizeOf N R F x0 h g = some (y9, h9, g9)) : Si D f mX1_sizeOf [.int x0] F h g (eqi y9 h9 g9) := by
  obtain ⟨z0, E⟩ := gdE E
  cases E
  exact wX1_sizeOf x0 (vinE z0) ⟨rfl, rfl, rfl⟩
def pX1_lies_0 (N R : Nat) (F : Frm) (x0 : Int32) (h : HI) (g : HL) : GO Unit :=
  if x0 = 0 then
    gd (decide (160 ≤ F.1.1)) <|
    some (.inr (2, fnx F 2, h, g))
  else
    some (.inl ((), F, h, g))
theorem jX1_lies_0 {D : DE} {f N R : Nat} (hf : 5 ≤ f) {o9 : GQ Unit} : ∀ (F : Frm) (_ : k_Fix F) (x0 : Int32) (h : HI) (g : HL), pX1_lies_0 N R F x0 h g = some o9 → JX1_lies_0 D f (gqv o9) (gt o9) F h g x0 := by
  intro F hF x0 h g E
  unfold pX1_lies_0 at E
  refine ⟨fun c0 => ?_, fun c0 => ?_⟩
  · replace E := iteF c0 E
    exact (Option.some.inj E).symm
  · replace E := iteT c0 E
    obtain ⟨z0, E⟩ := gdE E; exact ⟨of_decide_eq_true z0, (Option.some.inj E).symm⟩
abbrev ppX1_lies (N R : Nat) (F : Frm) (x0 : Int32) (h : HI) (g : HL) : GO Unit := pX1_lies_0 N R F x0 h g
theorem sX1_lies {D : DE} {f N R : Nat} {F : Frm} (hF : k_Fix F) (hf : 6 ≤ f) {o9 : GQ Unit} {x0 : Int32} {h : HI} {g : HL} (E : ppX1_lies N R F x0 h g = some o9) : Gv D f mX1_lies [.int x0] F h g (gqv o9) (gt o9) := by
  obtain ⟨f, rfl⟩ : ∃ f0, f = f0 + 1 := ⟨f - 1, by omega⟩
  have hf : 5 ≤ f := by omega
  exact wX1_lies (f := f) hF _ (by omega) (jX1_lies_0 hf _ hF _ _ _ E)
def pX1_functionAt_17 (N R : Nat) (F : Frm) (x1 : Int32) (s0 : Int32) (h : HI) (g : HL) : GO Nat :=
  ogv (ppX1_lies N R F s0 h g) fun (F3 : Frm) (h1 : HI) (g2 : HL) =>
  gd (vin x1 12) <|
  ob1 (F3.2.2 112 (ix x1)) fun (b4 : Nat) =>
  some (.inl (b4, F3, h1, g2))
theorem jX1_functionAt_17 {D : DE} {f N R : Nat} (hf : 6 ≤ f) {o9 : GQ Nat} : ∀ (F : Frm) (_ : k_Fix F) (x1 : Int32) (s0 : Int32) (h : HI) (g : HL), pX1_functionAt_17 N R F x1 s0 h g = some o9 → JX1_functionAt_17 D f (gqr o9) (gt o9) F h g x1 s0 := by
  intro F hF x1 s0 h g E
  unfold pX1_functionAt_17 at E
  refine Gv.ob (fun o1 e0 => (sX1_lies (N := N) (R := R) hF (by omega) e0)) E (fun F3 h1 g2 hF E => ?_) (fun _ _ _ _ e => e)
  obtain ⟨z0, E⟩ := gdE E; refine ⟨vinE z0, ?_⟩
  obtain ⟨b4, z0, E⟩ := ob1E E; refine ⟨b4, z0, ?_⟩
  exact (Option.some.inj E).symm
def pX1_functionAt_16 (N R : Nat) (F : Frm) (x1 : Int32) (h : HI) (g : HL) : GO Nat :=
  pX1_functionAt_17 N R F x1 0 h g
theorem jX1_functionAt_16 {D : DE} {f N R : Nat} (hf : 6 ≤ f) {o9 : GQ Nat} : ∀ (F : Frm) (_ : k_Fix F) (x1 : Int32) (h : HI) (g : HL), pX1_functionAt_16 N R F x1 h g = some o9 → JX1_functionAt_16 D f (gqr o9) (gt o9) F h g x1 := by
  intro F hF x1 h g E
  unfold pX1_functionAt_16 at E
  exact jX1_functionAt_17 hf  _ hF _ _ _ _ E
def pX1_functionAt_0 (N R : Nat) (F : Frm) (x1 : Int32) (h : HI) (g : HL) : GO Nat :=
  if x1 < 0 then
    pX1_functionAt_16 N R F x1 h g
  else
    if (h 0 9) ≤ x1 then
      pX1_functionAt_16 N R F x1 h g
    else
      pX1_functionAt_17 N R F x1 1 h g
theorem jX1_functionAt_0 {D : DE} {f N R : Nat} (hf : 6 ≤ f) {o9 : GQ Nat} : ∀ (F : Frm) (_ : k_Fix F) (x1 : Int32) (h : HI) (g : HL), pX1_functionAt_0 N R F x1 h g = some o9 → JX1_functionAt_0 D f (gqr o9) (gt o9) F h g x1 := by
  intro F hF x1 h g E
  unfold pX1_functionAt_0 at E
  refine ⟨fun c0 => ?_, fun c0 => ?_⟩
  · replace E := iteT c0 E
    exact jX1_functionAt_16 hf  _ hF _ _ _ E
  · replace E := iteF c0 E
    refine ⟨fun c0 => ?_, fun c0 => ?_⟩
    · replace E := iteT c0 E
      exact jX1_functionAt_16 hf  _ hF _ _ _ E
    · replace E := iteF c0 E
      exact jX1_functionAt_17 hf  _ hF _ _ _ _ E
abbrev ppX1_functionAt (N R : Nat) (F : Frm) (x1 : Int32) (h : HI) (g : HL) : GO Nat := pX1_functionAt_0 N R F x1 h g
theorem sX1_functionAt {D : DE} {f N R : Nat} {F : Frm} (hF : k_Fix F) (hf : 7 ≤ f) {o9 : GQ Nat} {x1 : Int32} {h : HI} {g : HL} (E : ppX1_functionAt N R F x1 h g = some o9) : Gr D f mX1_functionAt [.ref (ad D 0), .int x1] F h g (gqr o9) (gt o9) := by
  obtain ⟨f, rfl⟩ : ∃ f0, f = f0 + 1 := ⟨f - 1, by omega⟩
  have hf : 6 ≤ f := by omega
  exact wX1_functionAt (f := f) hF _ (jX1_functionAt_0 hf _ hF _ _ _ E)
def pX1_may_0 (N R : Nat) (F : Frm) (x0 : Int32) (h : HI) (g : HL) : GO Unit :=
  if x0 = 0 then
    gd (decide (160 ≤ F.1.1)) <|
    some (.inr (0, fnx F 0, h, g))
  else
    some (.inl ((), F, h, g))
theorem jX1_may_0 {D : DE} {f N R : Nat} (hf : 5 ≤ f) {o9 : GQ Unit} : ∀ (F : Frm) (_ : k_Fix F) (x0 : Int32) (h : HI) (g : HL), pX1_may_0 N R F x0 h g = some o9 → JX1_may_0 D f (gqv o9) (gt o9) F h g x0 := by
  intro F hF x0 h g E
  unfold pX1_may_0 at E
  refine ⟨fun c0 => ?_, fun c0 => ?_⟩
  · replace E := iteF c0 E
    exact (Option.some.inj E).symm
  · replace E := iteT c0 E
    obtain ⟨z0, E⟩ := gdE E; exact ⟨of_decide_eq_true z0, (Option.some.inj E).symm⟩
abbrev ppX1_may (N R : Nat) (F : Frm) (x0 : Int32) (h : HI) (g : HL) : GO Unit := pX1_may_0 N R F x0 h g
theorem sX1_may {D : DE} {f N R : Nat} {F : Frm} (hF : k_Fix F) (hf : 6 ≤ f) {o9 : GQ Unit} {x0 : Int32} {h : HI} {g : HL} (E : ppX1_may N R F x0 h g = some o9) : Gv D f mX1_may [.int x0] F h g (gqv o9) (gt o9) := by
  obtain ⟨f, rfl⟩ : ∃ f0, f = f0 + 1 := ⟨f - 1, by omega⟩
  have hf : 5 ≤ f := by omega
  exact wX1_may (f := f) hF _ (by omega) (jX1_may_0 hf _ hF _ _ _ E)
def pX1_rowAt_0 (N R : Nat) (F : Frm) (x1 : Int32) (x2 : Int32) (h : HI) (g : HL) : GO Nat :=
  ogv (ppX1_may N R F (h 0 10) h g) fun (F3 : Frm) (h1 : HI) (g2 : HL) =>
  ogr (ppX1_functionAt N R F3 x1 h1 g2) fun (b4 : Nat) (F7 : Frm) (h5 : HI) (g6 : HL) =>
  if x2 < 1 then
    ogv (ppX1_lies N R F7 0 h5 g6) fun (F10 : Frm) (h8 : HI) (g9 : HL) =>
    some (.inl (b4, F10, h8, g9))
  else
    gd (decide (F7.2.1 b4 = (18, 0))) <|
    obi (ppX1_sizeOf N R F7 (h5 b4 3) h5 g6) fun (y11 : Int32) (h12 : HI) (g13 : HL) =>
    if y11 ≤ x2 then
      ogv (ppX1_lies N R F7 0 h12 g13) fun (F16 : Frm) (h14 : HI) (g15 : HL) =>
      some (.inl (b4, F16, h14, g15))
    else
      ogv (ppX1_lies N R F7 1 h12 g13) fun (F19 : Frm) (h17 : HI) (g18 : HL) =>
      some (.inl (b4, F19, h17, g18))
theorem jX1_rowAt_0 {D : DE} {f N R : Nat} (hf : 7 ≤ f) {o9 : GQ Nat} : ∀ (F : Frm) (_ : k_Fix F) (x1 : Int32) (x2 : Int32) (h : HI) (g : HL), pX1_rowAt_0 N R F x1 x2 h g = some o9 → JX1_rowAt_0 D f (gqr o9) (gt o9) F h g x1 x2 := by
  intro F hF x1 x2 h g E
  unfold pX1_rowAt_0 at E
  refine Gv.ob (fun o1 e0 => (sX1_may (N := N) (R := R) hF (by omega) e0)) E (fun F3 h1 g2 hF E => ?_) (fun _ _ _ _ e => e)
  refine Gr.ob (fun o1 e0 => (sX1_functionAt (N := N) (R := R) hF (by omega) e0)) E (fun b4 F7 h5 g6 hF E => ?_) (fun _ _ _ _ e => e)
  refine ⟨fun c0 => ?_, fun c0 => ?_⟩
  · replace E := iteT c0 E
    refine Gv.ob (fun o1 e0 => (sX1_lies (N := N) (R := R) hF (by omega) e0)) E (fun F10 h8 g9 hF E => ?_) (fun _ _ _ _ e => e)
    exact (Option.some.inj E).symm
  · replace E := iteF c0 E
    obtain ⟨z0, E⟩ := gdE E; refine ⟨of_decide_eq_true z0, ?_⟩
    obtain ⟨y11, h12, g13, e0, E⟩ := obiE E
    refine Si.mono (sX1_sizeOf (N := N) (R := R) hF (by omega) e0) (fun y8 h8 g8 hq => ?_)
    obtain ⟨rfl, rfl, rfl⟩ := hq
    refine ⟨fun c0 => ?_, fun c0 => ?_⟩
    · replace E := iteT c0 E
      refine Gv.ob (fun o1 e0 => (sX1_lies (N := N) (R := R) hF (by omega) e0)) E (fun F16 h14 g15 hF E => ?_) (fun _ _ _ _ e => e)
      exact (Option.some.inj E).symm
    · replace E := iteF c0 E
      refine Gv.ob (fun o1 e0 => (sX1_lies (N := N) (R := R) hF (by omega) e0)) E (fun F19 h17 g18 hF E => ?_) (fun _ _ _ _ e => e)
      exact (Option.some.inj E).symm
abbrev ppX1_rowAt (N R : Nat) (F : Frm) (x1 : Int32) (x2 : Int32) (h : HI) (g : HL) : GO Nat := pX1_rowAt_0 N R F x1 x2 h g
theorem sX1_rowAt {D : DE} {f N R : Nat} {F : Frm} (hF : k_Fix F) (hf : 8 ≤ f) {o9 : GQ Nat} {x1 : Int32} {x2 : Int32} {h : HI} {g : HL} (E : ppX1_rowAt N R F x1 x2 h g = some o9) : Gr D f mX1_rowAt [.ref (ad D 0), .int x1, .int x2] F h g (gqr o9) (gt o9) := by
  obtain ⟨f, rfl⟩ : ∃ f0, f = f0 + 1 := ⟨f - 1, by omega⟩
  have hf : 7 ≤ f := by omega
  exact wX1_rowAt (f := f) hF _ _ (jX1_rowAt_0 hf _ hF _ _ _ _ E)
def pX1_all_0 (N R : Nat) (F : Frm) (x0 : Int32) (h : HI) (g : HL) : Option (Int32 × HI × HL) :=
  obi (ppX1_sizeOf N R F x0 h g) fun (y1 : Int32) (h2 : HI) (g3 : HL) =>
  some ((y1 - 1), h2, g3)
theorem jX1_all_0 {D : DE} {f N R : Nat} (hf : 0 ≤ f) {y9 : Int32} {h9 : HI} {g9 : HL} : ∀ (F : Frm) (_ : k_Fix F) (x0 : Int32) (h : HI) (g : HL), pX1_all_0 N R F x0 h g = some (y9, h9, g9) → JX1_all_0 D f (eqi y9 h9 g9) F h g x0 := by
  intro F hF x0 h g E
  unfold pX1_all_0 at E
  obtain ⟨y1, h2, g3, e0, E⟩ := obiE E
  refine Si.mono (sX1_sizeOf (N := N) (R := R) hF (by omega) e0) (fun y8 h8 g8 hq => ?_)
  obtain ⟨rfl, rfl, rfl⟩ := hq
  cases E; exact ⟨rfl, rfl, rfl⟩
abbrev ppX1_all (N R : Nat) (F : Frm) (x0 : Int32) (h : HI) (g : HL) : Option (Int32 × HI × HL) := pX1_all_0 N R F x0 h g
theorem sX1_all {D : DE} {f N R : Nat} {F : Frm} (hF : k_Fix F) (hf : 1 ≤ f) {y9 : Int32} {h9 : HI} {g9 : HL} {x0 : Int32} {h : HI} {g : HL} (E : ppX1_all N R F x0 h g = some (y9, h9, g9)) : Si D f mX1_all [.int x0] F h g (eqi y9 h9 g9) := by
  obtain ⟨f, rfl⟩ : ∃ f0, f = f0 + 1 := ⟨f - 1, by omega⟩
  have hf : 0 ≤ f := by omega
  exact wX1_all (f := f) hF _ (jX1_all_0 hf _ hF _ _ _ E)
def pX1_rowOf_0 (N R : Nat) (F : Frm) (x0 : Nat) (x1 : Int32) (x2 : Int32) (h : HI) (g : HL) : Option (Int32 × HI × HL) :=
  gd (decide (F.2.1 x0 = (18, 0))) <|
  ob1 (F.2.2 x0 7) fun (b1 : Nat) =>
  gd (decide ((F.2.1 b1).1 = 2)) <|
  bnd ((F.2.1 b1).2) fun (m2 : Nat) =>
  gd (vin x1 m2) <|
  if (h b1 (ix x1)) = 0 then
    ob1 (F.2.2 x0 8) fun (b3 : Nat) =>
    gd (decide ((F.2.1 b3).1 = 0)) <|
    bnd ((F.2.1 b3).2) fun (m4 : Nat) =>
    gd (vin ((4 * x1) + x2) m4) <|
    some ((h b3 (ix ((4 * x1) + x2))), h, g)
  else
    ob1 (F.2.2 x0 5) fun (b5 : Nat) =>
    gd (decide ((F.2.1 b5).1 = 0)) <|
    bnd ((F.2.1 b5).2) fun (m6 : Nat) =>
    gd (vin x2 m6) <|
    obi (ppX1_all N R F (h b5 (ix x2)) h g) fun (y7 : Int32) (h8 : HI) (g9 : HL) =>
    some (y7, h8, g9)
theorem jX1_rowOf_0 {D : DE} {f N R : Nat} (hf : 1 ≤ f) {y9 : Int32} {h9 : HI} {g9 : HL} : ∀ (F : Frm) (_ : k_Fix F) (x0 : Nat) (x1 : Int32) (x2 : Int32) (h : HI) (g : HL), pX1_rowOf_0 N R F x0 x1 x2 h g = some (y9, h9, g9) → JX1_rowOf_0 D f (eqi y9 h9 g9) F h g x0 x1 x2 := by
  intro F hF x0 x1 x2 h g E
  unfold pX1_rowOf_0 at E
  obtain ⟨z0, E⟩ := gdE E; refine ⟨of_decide_eq_true z0, ?_⟩
  obtain ⟨b1, z0, E⟩ := ob1E E; refine ⟨b1, z0, ?_⟩
  obtain ⟨z0, E⟩ := gdE E; replace E := bndE rfl E; refine ⟨_, shE (of_decide_eq_true z0), ?_⟩
  obtain ⟨z0, E⟩ := gdE E; refine ⟨vinE z0, ?_⟩
  refine ⟨fun c0 => ?_, fun c0 => ?_⟩
  · replace E := iteT c0 E
    obtain ⟨b3, z0, E⟩ := ob1E E; refine ⟨b3, z0, ?_⟩
    obtain ⟨z0, E⟩ := gdE E; replace E := bndE rfl E; refine ⟨_, shE (of_decide_eq_true z0), ?_⟩
    obtain ⟨z0, E⟩ := gdE E; refine ⟨vinE z0, ?_⟩
    cases E; exact ⟨rfl, rfl, rfl⟩
  · replace E := iteF c0 E
    obtain ⟨b5, z0, E⟩ := ob1E E; refine ⟨b5, z0, ?_⟩
    obtain ⟨z0, E⟩ := gdE E; replace E := bndE rfl E; refine ⟨_, shE (of_decide_eq_true z0), ?_⟩
    obtain ⟨z0, E⟩ := gdE E; refine ⟨vinE z0, ?_⟩
    obtain ⟨y7, h8, g9, e0, E⟩ := obiE E
    refine Si.mono (sX1_all (N := N) (R := R) hF (by omega) e0) (fun y8 h8 g8 hq => ?_)
    obtain ⟨rfl, rfl, rfl⟩ := hq
    cases E; exact ⟨rfl, rfl, rfl⟩
abbrev ppX1_rowOf (N R : Nat) (F : Frm) (x0 : Nat) (x1 : Int32) (x2 : Int32) (h : HI) (g : HL) : Option (Int32 × HI × HL) := pX1_rowOf_0 N R F x0 x1 x2 h g
theorem sX1_rowOf {D : DE} {f N R : Nat} {F : Frm} (hF : k_Fix F) (hf : 2 ≤ f) {y9 : Int32} {h9 : HI} {g9 : HL} {x0 : Nat} {x1 : Int32} {x2 : Int32} {h : HI} {g : HL} (E : ppX1_rowOf N R F x0 x1 x2 h g = some (y9, h9, g9)) : Si D f mX1_rowOf [.ref (ad D x0), .int x1, .int x2] F h g (eqi y9 h9 g9) := by
  obtain ⟨f, rfl⟩ : ∃ f0, f = f0 + 1 := ⟨f - 1, by omega⟩
  have hf : 1 ≤ f := by omega
  exact wX1_rowOf (f := f) hF _ _ _ (jX1_rowOf_0 hf _ hF _ _ _ _ _ E)
def pX1_asks_26 (N R : Nat) (F : Frm) (x2 : Int32) (x3 : Int32) (x4 : Nat) (s0 : Int32) (h : HI) (g : HL) : GO Int32 :=
  ogv (ppX1_lies N R F s0 h g) fun (F3 : Frm) (h1 : HI) (g2 : HL) =>
  obi (ppX1_rowOf N R F3 x4 x2 x3 h1 g2) fun (y4 : Int32) (h5 : HI) (g6 : HL) =>
  some (.inl (y4, F3, h5, g6))
theorem jX1_asks_26 {D : DE} {f N R : Nat} (hf : 8 ≤ f) {o9 : GQ Int32} : ∀ (F : Frm) (_ : k_Fix F) (x2 : Int32) (x3 : Int32) (x4 : Nat) (s0 : Int32) (h : HI) (g : HL), pX1_asks_26 N R F x2 x3 x4 s0 h g = some o9 → JX1_asks_26 D f (gqi o9) (gt o9) F h g x2 x3 x4 s0 := by
  intro F hF x2 x3 x4 s0 h g E
  unfold pX1_asks_26 at E
  refine Gv.ob (fun o1 e0 => (sX1_lies (N := N) (R := R) hF (by omega) e0)) E (fun F3 h1 g2 hF E => ?_) (fun _ _ _ _ e => e)
  obtain ⟨y4, h5, g6, e0, E⟩ := obiE E
  refine Si.mono (sX1_rowOf (N := N) (R := R) hF (by omega) e0) (fun y8 h8 g8 hq => ?_)
  obtain ⟨rfl, rfl, rfl⟩ := hq
  exact (Option.some.inj E).symm
def pX1_asks_25 (N R : Nat) (F : Frm) (x2 : Int32) (x3 : Int32) (x4 : Nat) (h : HI) (g : HL) : GO Int32 :=
  pX1_asks_26 N R F x2 x3 x4 0 h g
theorem jX1_asks_25 {D : DE} {f N R : Nat} (hf : 8 ≤ f) {o9 : GQ Int32} : ∀ (F : Frm) (_ : k_Fix F) (x2 : Int32) (x3 : Int32) (x4 : Nat) (h : HI) (g : HL), pX1_asks_25 N R F x2 x3 x4 h g = some o9 → JX1_asks_25 D f (gqi o9) (gt o9) F h g x2 x3 x4 := by
  intro F hF x2 x3 x4 h g E
  unfold pX1_asks_25 at E
  exact jX1_asks_26 hf  _ hF _ _ _ _ _ _ E
def pX1_asks_0 (N R : Nat) (F : Frm) (x1 : Int32) (x2 : Int32) (x3 : Int32) (h : HI) (g : HL) : GO Int32 :=
  ogr (ppX1_rowAt N R F x1 x2 h g) fun (b1 : Nat) (F4 : Frm) (h2 : HI) (g3 : HL) =>
  if x3 < 0 then
    pX1_asks_25 N R F4 x2 x3 b1 h2 g3
  else
    gd (decide (F4.2.1 b1 = (18, 0))) <|
    if (h2 b1 1) ≤ x3 then
      pX1_asks_25 N R F4 x2 x3 b1 h2 g3
    else
      pX1_asks_26 N R F4 x2 x3 b1 1 h2 g3
theorem jX1_asks_0 {D : DE} {f N R : Nat} (hf : 8 ≤ f) {o9 : GQ Int32} : ∀ (F : Frm) (_ : k_Fix F) (x1 : Int32) (x2 : Int32) (x3 : Int32) (h : HI) (g : HL), pX1_asks_0 N R F x1 x2 x3 h g = some o9 → JX1_asks_0 D f (gqi o9) (gt o9) F h g x1 x2 x3 := by
  intro F hF x1 x2 x3 h g E
  unfold pX1_asks_0 at E
  refine Gr.ob (fun o1 e0 => (sX1_rowAt (N := N) (R := R) hF (by omega) e0)) E (fun b1 F4 h2 g3 hF E => ?_) (fun _ _ _ _ e => e)
  refine ⟨fun c0 => ?_, fun c0 => ?_⟩
  · replace E := iteT c0 E
    exact jX1_asks_25 hf  _ hF _ _ _ _ _ E
  · replace E := iteF c0 E
    obtain ⟨z0, E⟩ := gdE E; refine ⟨of_decide_eq_true z0, ?_⟩
    refine ⟨fun c0 => ?_, fun c0 => ?_⟩
    · replace E := iteT c0 E
      exact jX1_asks_25 hf  _ hF _ _ _ _ _ E
    · replace E := iteF c0 E
      exact jX1_asks_26 hf  _ hF _ _ _ _ _ _ E
abbrev ppX1_asks (N R : Nat) (F : Frm) (x1 : Int32) (x2 : Int32) (x3 : Int32) (h : HI) (g : HL) : GO Int32 := pX1_asks_0 N R F x1 x2 x3 h g
theorem sX1_asks {D : DE} {f N R : Nat} {F : Frm} (hF : k_Fix F) (hf : 9 ≤ f) {o9 : GQ Int32} {x1 : Int32} {x2 : Int32} {x3 : Int32} {h : HI} {g : HL} (E : ppX1_asks N R F x1 x2 x3 h g = some o9) : Gi D f mX1_asks [.ref (ad D 0), .int x1, .int x2, .int x3] F h g (gqi o9) (gt o9) := by
  obtain ⟨f, rfl⟩ : ∃ f0, f = f0 + 1 := ⟨f - 1, by omega⟩
  have hf : 8 ≤ f := by omega
  exact wX1_asks (f := f) hF _ _ _ (jX1_asks_0 hf _ hF _ _ _ _ _ E)
def pX0_asks_0 (N R : Nat) (F : Frm) (x1 : Int32) (x2 : Int32) (x3 : Int32) (h : HI) (g : HL) : GO Int32 :=
  ohi (ppX1_asks N R F x1 x2 x3 h g) (fun e F1 h1 g1 =>
    if e = 0 then
      some (.inl (1, F1, h1, g1))
    else if e = 2 then
      some (.inl (2, F1, h1, g1))
    else none) fun (y1 : Int32) (F4 : Frm) (h2 : HI) (g3 : HL) =>
  bnd (up2 g3 159 (ix 0) y1.toInt64) fun (g5 : HL) =>
  some (.inl (0, F4, h2, g5))
theorem jX0_asks_0 {D : DE} {f N R : Nat} (hf : 9 ≤ f) {o9 : GQ Int32} : ∀ (F : Frm) (_ : k_Fix F) (x1 : Int32) (x2 : Int32) (x3 : Int32) (h : HI) (g : HL), pX0_asks_0 N R F x1 x2 x3 h g = some o9 → JX0_asks_0 D f (gqi o9) (gt o9) F h g x1 x2 x3 := by
  intro F hF x1 x2 x3 h g E
  unfold pX0_asks_0 at E
  refine Gi.oh (fun o1 e0 => (sX1_asks (N := N) (R := R) hF (by omega) e0)) E (fun y1 F4 h2 g3 hF E => ?_) (fun e F1 h1 g1 hF E => ?_)
  · skip
    intro g5 e0; replace E := bndE e0 E
    exact (Option.some.inj E).symm
  · skip
    by_cases c0 : e = 0
    · replace E := iteT c0 E
      refine Or.inl ⟨c0, ?_⟩
      exact (Option.some.inj E).symm
    replace E := iteF c0 E
    by_cases c1 : e = 2
    · replace E := iteT c1 E
      refine Or.inr (⟨c1, ?_⟩)
      exact (Option.some.inj E).symm
    replace E := iteF c1 E
    cases E
abbrev ppX0_asks (N R : Nat) (F : Frm) (x1 : Int32) (x2 : Int32) (x3 : Int32) (h : HI) (g : HL) : GO Int32 := pX0_asks_0 N R F x1 x2 x3 h g
theorem sX0_asks {D : DE} {f N R : Nat} {F : Frm} (hF : k_Fix F) (hf : 10 ≤ f) {o9 : GQ Int32} {x1 : Int32} {x2 : Int32} {x3 : Int32} {h : HI} {g : HL} (E : ppX0_asks N R F x1 x2 x3 h g = some o9) : Gi D f mX0_asks [.ref (ad D 0), .int x1, .int x2, .int x3, .ref (ad D 159)] F h g (gqi o9) (gt o9) := by
  obtain ⟨f, rfl⟩ : ∃ f0, f = f0 + 1 := ⟨f - 1, by omega⟩
  have hf : 9 ≤ f := by omega
  exact wX0_asks (f := f) hF _ _ _ (jX0_asks_0 hf _ hF _ _ _ _ _ E)
def pX1_right_0 (N R : Nat) (F : Frm) (x0 : Int32) (h : HI) (g : HL) : Option (Int32 × HI × HL) :=
  some (((x0 - 1) &&& 1), h, g)
theorem jX1_right_0 {D : DE} {f N R : Nat} (hf : 0 ≤ f) {y9 : Int32} {h9 : HI} {g9 : HL} : ∀ (F : Frm) (_ : k_Fix F) (x0 : Int32) (h : HI) (g : HL), pX1_right_0 N R F x0 h g = some (y9, h9, g9) → JX1_right_0 D f (eqi y9 h9 g9) F h g x0 := by
  intro F hF x0 h g E
  unfold pX1_right_0 at E
  cases E; exact ⟨rfl, rfl, rfl⟩
abbrev ppX1_right (N R : Nat) (F : Frm) (x0 : Int32) (h : HI) (g : HL) : Option (Int32 × HI × HL) := pX1_right_0 N R F x0 h g
theorem sX1_right {D : DE} {f N R : Nat} {F : Frm} (hF : k_Fix F) (hf : 0 ≤ f) {y9 : Int32} {h9 : HI} {g9 : HL} {x0 : Int32} {h : HI} {g : HL} (E : ppX1_right N R F x0 h g = some (y9, h9, g9)) : Si D f mX1_right [.int x0] F h g (eqi y9 h9 g9) := by
  exact wX1_right (f := f) hF _ (jX1_right_0 hf _ hF _ _ _ E)
def pX1_both_0 (N R : Nat) (F : Frm) (x0 : Int32) (x1 : Int32) (x2 : Int32) (h : HI) (g : HL) : Option (Int32 × HI × HL) :=
  obi (ppX1_right N R F x0 h g) fun (y1 : Int32) (h2 : HI) (g3 : HL) =>
  obi (ppX1_sizeOf N R F y1 h2 g3) fun (y4 : Int32) (h5 : HI) (g6 : HL) =>
  some (((1 + (x1 * y4)) + x2), h5, g6)
theorem jX1_both_0 {D : DE} {f N R : Nat} (hf : 0 ≤ f) {y9 : Int32} {h9 : HI} {g9 : HL} : ∀ (F : Frm) (_ : k_Fix F) (x0 : Int32) (x1 : Int32) (x2 : Int32) (h : HI) (g : HL), pX1_both_0 N R F x0 x1 x2 h g = some (y9, h9, g9) → JX1_both_0 D f (eqi y9 h9 g9) F h g x0 x1 x2 := by
  intro F hF x0 x1 x2 h g E
  unfold pX1_both_0 at E
  obtain ⟨y1, h2, g3, e0, E⟩ := obiE E
  refine Si.mono (sX1_right (N := N) (R := R) hF (by omega) e0) (fun y8 h8 g8 hq => ?_)
  obtain ⟨rfl, rfl, rfl⟩ := hq
  obtain ⟨y4, h5, g6, e0, E⟩ := obiE E
  refine Si.mono (sX1_sizeOf (N := N) (R := R) hF (by omega) e0) (fun y8 h8 g8 hq => ?_)
  obtain ⟨rfl, rfl, rfl⟩ := hq
  cases E; exact ⟨rfl, rfl, rfl⟩
abbrev ppX1_both (N R : Nat) (F : Frm) (x0 : Int32) (x1 : Int32) (x2 : Int32) (h : HI) (g : HL) : Option (Int32 × HI × HL) := pX1_both_0 N R F x0 x1 x2 h g
theorem sX1_both {D : DE} {f N R : Nat} {F : Frm} (hF : k_Fix F) (hf : 1 ≤ f) {y9 : Int32} {h9 : HI} {g9 : HL} {x0 : Int32} {x1 : Int32} {x2 : Int32} {h : HI} {g : HL} (E : ppX1_both N R F x0 x1 x2 h g = some (y9, h9, g9)) : Si D f mX1_both [.int x0, .int x1, .int x2] F h g (eqi y9 h9 g9) := by
  obtain ⟨f, rfl⟩ : ∃ f0, f = f0 + 1 := ⟨f - 1, by omega⟩
  have hf : 0 ≤ f := by omega
  exact wX1_both (f := f) hF _ _ _ (jX1_both_0 hf _ hF _ _ _ _ _ E)
def pX1_first_0 (N R : Nat) (F : Frm) (x0 : Int32) (x1 : Int32) (h : HI) (g : HL) : Option (Int32 × HI × HL) :=
  obi (ppX1_right N R F x0 h g) fun (y1 : Int32) (h2 : HI) (g3 : HL) =>
  obi (ppX1_sizeOf N R F y1 h2 g3) fun (y4 : Int32) (h5 : HI) (g6 : HL) =>
  gd (!(y4 == 0)) <|
  some (((x1 - 1) / y4), h5, g6)
theorem jX1_first_0 {D : DE} {f N R : Nat} (hf : 0 ≤ f) {y9 : Int32} {h9 : HI} {g9 : HL} : ∀ (F : Frm) (_ : k_Fix F) (x0 : Int32) (x1 : Int32) (h : HI) (g : HL), pX1_first_0 N R F x0 x1 h g = some (y9, h9, g9) → JX1_first_0 D f (eqi y9 h9 g9) F h g x0 x1 := by
  intro F hF x0 x1 h g E
  unfold pX1_first_0 at E
  obtain ⟨y1, h2, g3, e0, E⟩ := obiE E
  refine Si.mono (sX1_right (N := N) (R := R) hF (by omega) e0) (fun y8 h8 g8 hq => ?_)
  obtain ⟨rfl, rfl, rfl⟩ := hq
  obtain ⟨y4, h5, g6, e0, E⟩ := obiE E
  refine Si.mono (sX1_sizeOf (N := N) (R := R) hF (by omega) e0) (fun y8 h8 g8 hq => ?_)
  obtain ⟨rfl, rfl, rfl⟩ := hq
  obtain ⟨z0, E⟩ := gdE E; refine ⟨nzE z0, ?_⟩
  cases E; exact ⟨rfl, rfl, rfl⟩
abbrev ppX1_first (N R : Nat) (F : Frm) (x0 : Int32) (x1 : Int32) (h : HI) (g : HL) : Option (Int32 × HI × HL) := pX1_first_0 N R F x0 x1 h g
theorem sX1_first {D : DE} {f N R : Nat} {F : Frm} (hF : k_Fix F) (hf : 1 ≤ f) {y9 : Int32} {h9 : HI} {g9 : HL} {x0 : Int32} {x1 : Int32} {h : HI} {g : HL} (E : ppX1_first N R F x0 x1 h g = some (y9, h9, g9)) : Si D f mX1_first [.int x0, .int x1] F h g (eqi y9 h9 g9) := by
  obtain ⟨f, rfl⟩ : ∃ f0, f = f0 + 1 := ⟨f - 1, by omega⟩
  have hf : 0 ≤ f := by omega
  exact wX1_first (f := f) hF _ _ (jX1_first_0 hf _ hF _ _ _ _ E)
def pX1_left_0 (N R : Nat) (F : Frm) (x0 : Int32) (h : HI) (g : HL) : Option (Int32 × HI × HL) :=
  some (((x0 - 1) >>> (1 &&& 31)), h, g)
theorem jX1_left_0 {D : DE} {f N R : Nat} (hf : 0 ≤ f) {y9 : Int32} {h9 : HI} {g9 : HL} : ∀ (F : Frm) (_ : k_Fix F) (x0 : Int32) (h : HI) (g : HL), pX1_left_0 N R F x0 h g = some (y9, h9, g9) → JX1_left_0 D f (eqi y9 h9 g9) F h g x0 := by
  intro F hF x0 h g E
  unfold pX1_left_0 at E
  cases E; exact ⟨rfl, rfl, rfl⟩
abbrev ppX1_left (N R : Nat) (F : Frm) (x0 : Int32) (h : HI) (g : HL) : Option (Int32 × HI × HL) := pX1_left_0 N R F x0 h g
theorem sX1_left {D : DE} {f N R : Nat} {F : Frm} (hF : k_Fix F) (hf : 0 ≤ f) {y9 : Int32} {h9 : HI} {g9 : HL} {x0 : Int32} {h : HI} {g : HL} (E : ppX1_left N R F x0 h g = some (y9, h9, g9)) : Si D f mX1_left [.int x0] F h g (eqi y9 h9 g9) := by
  exact wX1_left (f := f) hF _ (jX1_left_0 hf _ hF _ _ _ E)
def pX1_second_0 (N R : Nat) (F : Frm) (x0 : Int32) (x1 : Int32) (h : HI) (g : HL) : Option (Int32 × HI × HL) :=
  obi (ppX1_right N R F x0 h g) fun (y1 : Int32) (h2 : HI) (g3 : HL) =>
  obi (ppX1_sizeOf N R F y1 h2 g3) fun (y4 : Int32) (h5 : HI) (g6 : HL) =>
  gd (!(y4 == 0)) <|
  some (((x1 - 1) - (x1 - 1) / y4 * y4), h5, g6)
theorem jX1_second_0 {D : DE} {f N R : Nat} (hf : 0 ≤ f) {y9 : Int32} {h9 : HI} {g9 : HL} : ∀ (F : Frm) (_ : k_Fix F) (x0 : Int32) (x1 : Int32) (h : HI) (g : HL), pX1_second_0 N R F x0 x1 h g = some (y9, h9, g9) → JX1_second_0 D f (eqi y9 h9 g9) F h g x0 x1 := by
  intro F hF x0 x1 h g E
  unfold pX1_second_0 at E
  obtain ⟨y1, h2, g3, e0, E⟩ := obiE E
  refine Si.mono (sX1_right (N := N) (R := R) hF (by omega) e0) (fun y8 h8 g8 hq => ?_)
  obtain ⟨rfl, rfl, rfl⟩ := hq
  obtain ⟨y4, h5, g6, e0, E⟩ := obiE E
  refine Si.mono (sX1_sizeOf (N := N) (R := R) hF (by omega) e0) (fun y8 h8 g8 hq => ?_)
  obtain ⟨rfl, rfl, rfl⟩ := hq
  obtain ⟨z0, E⟩ := gdE E; refine ⟨nzE z0, ?_⟩
  cases E; exact ⟨rfl, rfl, rfl⟩
abbrev ppX1_second (N R : Nat) (F : Frm) (x0 : Int32) (x1 : Int32) (h : HI) (g : HL) : Option (Int32 × HI × HL) := pX1_second_0 N R F x0 x1 h g
theorem sX1_second {D : DE} {f N R : Nat} {F : Frm} (hF : k_Fix F) (hf : 1 ≤ f) {y9 : Int32} {h9 : HI} {g9 : HL} {x0 : Int32} {x1 : Int32} {h : HI} {g : HL} (E : ppX1_second N R F x0 x1 h g = some (y9, h9, g9)) : Si D f mX1_second [.int x0, .int x1] F h g (eqi y9 h9 g9) := by
  obtain ⟨f, rfl⟩ : ∃ f0, f = f0 + 1 := ⟨f - 1, by omega⟩
  have hf : 0 ≤ f := by omega
  exact wX1_second (f := f) hF _ _ (jX1_second_0 hf _ hF _ _ _ _ E)
abbrev ty1 : Type := (Frm → Int32 → Int32 → Int32 → HI → HL → Option (Int32 × HI × HL))
def ok1 (D : DE) (R f : Nat) (C : ty1) : Prop := (∀ (F : Frm) (_ : k_Fix F) (x0 : Int32) (x1 : Int32) (x2 : Int32) (h : HI) (g : HL) (y9 : Int32) (h9 : HI) (g9 : HL), C F x0 x1 x2 h g = some (y9, h9, g9) → Si D f mX1_either [.int x0, .int x1, .int x2] F h g (eqi y9 h9 g9))
def pX1_either_0 (N R : Nat) (C : ty1) (F : Frm) (x0 : Int32) (x1 : Int32) (x2 : Int32) (h : HI) (g : HL) : Option (Int32 × HI × HL) :=
  if x1 = 0 then
    bnd (if x2 < x1 then x2 else x1) fun (y1 : Int32) =>
    some (y1, h, g)
  else
    if x2 = 0 then
      bnd (if x2 < x1 then x2 else x1) fun (y2 : Int32) =>
      some (y2, h, g)
    else
      if x0 = 0 then
        bnd (if x2 < x1 then x2 else x1) fun (y30 : Int32) =>
        some (y30, h, g)
      else
        obi (ppX1_left N R F x0 h g) fun (y3 : Int32) (h4 : HI) (g5 : HL) =>
        obi (ppX1_first N R F x0 x1 h4 g5) fun (y6 : Int32) (h7 : HI) (g8 : HL) =>
        obi (ppX1_first N R F x0 x2 h7 g8) fun (y9 : Int32) (h10 : HI) (g11 : HL) =>
        obi (C F y3 y6 y9 h10 g11) fun (y12 : Int32) (h13 : HI) (g14 : HL) =>
        obi (ppX1_right N R F x0 h13 g14) fun (y15 : Int32) (h16 : HI) (g17 : HL) =>
        obi (ppX1_second N R F x0 x1 h16 g17) fun (y18 : Int32) (h19 : HI) (g20 : HL) =>
        obi (ppX1_second N R F x0 x2 h19 g20) fun (y21 : Int32) (h22 : HI) (g23 : HL) =>
        obi (C F y15 y18 y21 h22 g23) fun (y24 : Int32) (h25 : HI) (g26 : HL) =>
        obi (ppX1_both N R F x0 y12 y24 h25 g26) fun (y27 : Int32) (h28 : HI) (g29 : HL) =>
        some (y27, h28, g29)
theorem jX1_either_0 {D : DE} {f N R : Nat} (hf : 1 ≤ f) {C : ty1} (hC : ok1 D R f C) {y9 : Int32} {h9 : HI} {g9 : HL} : ∀ (F : Frm) (_ : k_Fix F) (x0 : Int32) (x1 : Int32) (x2 : Int32) (h : HI) (g : HL), pX1_either_0 N R C F x0 x1 x2 h g = some (y9, h9, g9) → JX1_either_0 D f (eqi y9 h9 g9) F h g x0 x1 x2 := by
  intro F hF x0 x1 x2 h g E
  unfold pX1_either_0 at E
  refine ⟨fun c0 => ?_, fun c0 => ?_⟩
  · replace E := iteT c0 E
    intro y1 e0; replace E := bndE e0 E
    cases E; exact ⟨rfl, rfl, rfl⟩
  · replace E := iteF c0 E
    refine ⟨fun c0 => ?_, fun c0 => ?_⟩
    · replace E := iteT c0 E
      intro y2 e0; replace E := bndE e0 E
      cases E; exact ⟨rfl, rfl, rfl⟩
    · replace E := iteF c0 E
      refine ⟨fun c0 => ?_, fun c0 => ?_⟩
      · replace E := iteF c0 E
        obtain ⟨y3, h4, g5, e0, E⟩ := obiE E
        refine Si.mono (sX1_left (N := N) (R := R) hF (by omega) e0) (fun y8 h8 g8 hq => ?_)
        obtain ⟨rfl, rfl, rfl⟩ := hq
        obtain ⟨y6, h7, g8, e0, E⟩ := obiE E
        refine Si.mono (sX1_first (N := N) (R := R) hF (by omega) e0) (fun y8 h8 g8 hq => ?_)
        obtain ⟨rfl, rfl, rfl⟩ := hq
        obtain ⟨y9, h10, g11, e0, E⟩ := obiE E
        refine Si.mono (sX1_first (N := N) (R := R) hF (by omega) e0) (fun y8 h8 g8 hq => ?_)
        obtain ⟨rfl, rfl, rfl⟩ := hq
        obtain ⟨y12, h13, g14, e0, E⟩ := obiE E
        refine Si.mono (hC _ hF _ _ _ _ _ _ _ _ e0) (fun y8 h8 g8 hq => ?_)
        obtain ⟨rfl, rfl, rfl⟩ := hq
        obtain ⟨y15, h16, g17, e0, E⟩ := obiE E
        refine Si.mono (sX1_right (N := N) (R := R) hF (by omega) e0) (fun y8 h8 g8 hq => ?_)
        obtain ⟨rfl, rfl, rfl⟩ := hq
        obtain ⟨y18, h19, g20, e0, E⟩ := obiE E
        refine Si.mono (sX1_second (N := N) (R := R) hF (by omega) e0) (fun y8 h8 g8 hq => ?_)
        obtain ⟨rfl, rfl, rfl⟩ := hq
        obtain ⟨y21, h22, g23, e0, E⟩ := obiE E
        refine Si.mono (sX1_second (N := N) (R := R) hF (by omega) e0) (fun y8 h8 g8 hq => ?_)
        obtain ⟨rfl, rfl, rfl⟩ := hq
        obtain ⟨y24, h25, g26, e0, E⟩ := obiE E
        refine Si.mono (hC _ hF _ _ _ _ _ _ _ _ e0) (fun y8 h8 g8 hq => ?_)
        obtain ⟨rfl, rfl, rfl⟩ := hq
        obtain ⟨y27, h28, g29, e0, E⟩ := obiE E
        refine Si.mono (sX1_both (N := N) (R := R) hF (by omega) e0) (fun y8 h8 g8 hq => ?_)
        obtain ⟨rfl, rfl, rfl⟩ := hq
        cases E; exact ⟨rfl, rfl, rfl⟩
      · replace E := iteT c0 E
        intro y30 e0; replace E := bndE e0 E
        cases E; exact ⟨rfl, rfl, rfl⟩
theorem sX1_either_C {D : DE} {f N R : Nat} {C : ty1} {F : Frm} (hF : k_Fix F) (hf : 1 ≤ f) (hC : ok1 D R f C) {y9 : Int32} {h9 : HI} {g9 : HL} {x0 : Int32} {x1 : Int32} {x2 : Int32} {h : HI} {g : HL} (E : pX1_either_0 N R C F x0 x1 x2 h g = some (y9, h9, g9)) : Si D (f + 1) mX1_either [.int x0, .int x1, .int x2] F h g (eqi y9 h9 g9) := by
  exact wX1_either (f := f) hF _ _ _ (jX1_either_0 hf hC _ hF _ _ _ _ _ E)
def tie1 (N R : Nat) : Nat → ty1
  | 0 => ((fun _ _ _ _ _ _ => none))
  | n + 1 => ((fun F x0 x1 x2 h g => pX1_either_0 N R (tie1 N R n) F x0 x1 x2 h g))
theorem tie1_ok {D : DE} {N R : Nat} : ∀ (n f : Nat), 1 + n ≤ f → ok1 D R f (tie1 N R n) := by
  intro n
  induction n with
  | zero =>
    intro f hf
    exact fun _ _ _ _ _ _ _ _ _ _ E => (by cases E)
  | succ n ih =>
    intro f hf
    obtain ⟨f, rfl⟩ : ∃ f0, f = f0 + 1 := ⟨f - 1, by omega⟩
    have hC := ih f (by omega)
    exact fun F hF x0 x1 x2 h g y9 h9 g9 E => sX1_either_C (N := N) (R := R) hF (by omega) hC E
abbrev ppX1_either (N R : Nat) (F : Frm) (x0 : Int32) (x1 : Int32) (x2 : Int32) (h : HI) (g : HL) : Option (Int32 × HI × HL) := (tie1 N R R) F x0 x1 x2 h g
theorem sX1_either {D : DE} {f N R : Nat} {F : Frm} (hF : k_Fix F) (hf : 1 + 1 * R ≤ f) {y9 : Int32} {h9 : HI} {g9 : HL} {x0 : Int32} {x1 : Int32} {x2 : Int32} {h : HI} {g : HL} (E : ppX1_either N R F x0 x1 x2 h g = some (y9, h9, g9)) : Si D f mX1_either [.int x0, .int x1, .int x2] F h g (eqi y9 h9 g9) := (tie1_ok (N := N) R f (by omega)) _ hF _ _ _ _ _ _ _ _ E
def pX14_ask_0 (N R : Nat) (F : Frm) (x0 : Nat) (x2 : Int32) (x3 : Nat) (x4 : Int32) (h : HI) (g : HL) : Option (HI × HL) :=
  some (h, g)
theorem jX14_ask_0 {D : DE} {f N R : Nat} (hf : 0 ≤ f) {h9 : HI} {g9 : HL} : ∀ (F : Frm) (_ : k_Fix F) (x0 : Nat) (x2 : Int32) (x3 : Nat) (x4 : Int32) (h : HI) (g : HL), pX14_ask_0 N R F x0 x2 x3 x4 h g = some (h9, g9) → JX14_ask_0 D f (eqv h9 g9) F h g x0 x2 x3 x4 := by
  intro F hF x0 x2 x3 x4 h g E
  unfold pX14_ask_0 at E
  cases E; exact ⟨rfl, rfl⟩
abbrev ppX14_ask (N R : Nat) (F : Frm) (x0 : Nat) (x2 : Int32) (x3 : Nat) (x4 : Int32) (h : HI) (g : HL) : Option (HI × HL) := pX14_ask_0 N R F x0 x2 x3 x4 h g
theorem sX14_ask {D : DE} {f N R : Nat} {F : Frm} (hF : k_Fix F) (hf : 0 ≤ f) {h9 : HI} {g9 : HL} {x0 : Nat} {x2 : Int32} {x3 : Nat} {x4 : Int32} {h : HI} {g : HL} (E : ppX14_ask N R F x0 x2 x3 x4 h g = some (h9, g9)) : Sv D f mX14_ask [.ref (ad D x0), .ref (ad D 9), .int x2, .ref (ad D x3), .int x4] F h g (eqv h9 g9) := by
  exact wX14_ask (f := f) hF _ _ _ _ (jX14_ask_0 hf _ hF _ _ _ _ _ _ E)
def pX15_ask_0 (N R : Nat) (F : Frm) (x0 : Nat) (x2 : Int32) (x3 : Nat) (x4 : Int32) (h : HI) (g : HL) : Option (HI × HL) :=
  gd (decide (F.2.1 x3 = (15, 0))) <|
  bnd (up2 h x3 1 1) fun (h1 : HI) =>
  some (h1, g)
theorem jX15_ask_0 {D : DE} {f N R : Nat} (hf : 0 ≤ f) {h9 : HI} {g9 : HL} : ∀ (F : Frm) (_ : k_Fix F) (x0 : Nat) (x2 : Int32) (x3 : Nat) (x4 : Int32) (h : HI) (g : HL), pX15_ask_0 N R F x0 x2 x3 x4 h g = some (h9, g9) → JX15_ask_0 D f (eqv h9 g9) F h g x0 x2 x3 x4 := by
  intro F hF x0 x2 x3 x4 h g E
  unfold pX15_ask_0 at E
  obtain ⟨z0, E⟩ := gdE E; refine ⟨of_decide_eq_true z0, ?_⟩
  intro h1 e0; replace E := bndE e0 E
  cases E; exact ⟨rfl, rfl⟩
abbrev ppX15_ask (N R : Nat) (F : Frm) (x0 : Nat) (x2 : Int32) (x3 : Nat) (x4 : Int32) (h : HI) (g : HL) : Option (HI × HL) := pX15_ask_0 N R F x0 x2 x3 x4 h g
theorem sX15_ask {D : DE} {f N R : Nat} {F : Frm} (hF : k_Fix F) (hf : 0 ≤ f) {h9 : HI} {g9 : HL} {x0 : Nat} {x2 : Int32} {x3 : Nat} {x4 : Int32} {h : HI} {g : HL} (E : ppX15_ask N R F x0 x2 x3 x4 h g = some (h9, g9)) : Sv D f mX15_ask [.ref (ad D x0), .ref (ad D 9), .int x2, .ref (ad D x3), .int x4] F h g (eqv h9 g9) := by
  exact wX15_ask (f := f) hF _ _ _ _ (jX15_ask_0 hf _ hF _ _ _ _ _ _ E)
abbrev ty2 : Type := (Frm → Int32 → Int32 → Int32 → HI → HL → Option (Int32 × HI × HL))
def ok2 (D : DE) (R f : Nat) (C : ty2) : Prop := (∀ (F : Frm) (_ : k_Fix F) (x0 : Int32) (x1 : Int32) (x2 : Int32) (h : HI) (g : HL) (y9 : Int32) (h9 : HI) (g9 : HL), C F x0 x1 x2 h g = some (y9, h9, g9) → Si D f mX1_together [.int x0, .int x1, .int x2] F h g (eqi y9 h9 g9))
def pX1_together_0 (N R : Nat) (C : ty2) (F : Frm) (x0 : Int32) (x1 : Int32) (x2 : Int32) (h : HI) (g : HL) : Option (Int32 × HI × HL) :=
  if x1 = 0 then
    bnd (if x1 < x2 then x2 else x1) fun (y1 : Int32) =>
    some (y1, h, g)
  else
    if x2 = 0 then
      bnd (if x1 < x2 then x2 else x1) fun (y2 : Int32) =>
      some (y2, h, g)
    else
      if x0 = 0 then
        bnd (if x1 < x2 then x2 else x1) fun (y30 : Int32) =>
        some (y30, h, g)
      else
        obi (ppX1_left N R F x0 h g) fun (y3 : Int32) (h4 : HI) (g5 : HL) =>
        obi (ppX1_first N R F x0 x1 h4 g5) fun (y6 : Int32) (h7 : HI) (g8 : HL) =>
        obi (ppX1_first N R F x0 x2 h7 g8) fun (y9 : Int32) (h10 : HI) (g11 : HL) =>
        obi (C F y3 y6 y9 h10 g11) fun (y12 : Int32) (h13 : HI) (g14 : HL) =>
        obi (ppX1_right N R F x0 h13 g14) fun (y15 : Int32) (h16 : HI) (g17 : HL) =>
        obi (ppX1_second N R F x0 x1 h16 g17) fun (y18 : Int32) (h19 : HI) (g20 : HL) =>
        obi (ppX1_second N R F x0 x2 h19 g20) fun (y21 : Int32) (h22 : HI) (g23 : HL) =>
        obi (C F y15 y18 y21 h22 g23) fun (y24 : Int32) (h25 : HI) (g26 : HL) =>
        obi (ppX1_both N R F x0 y12 y24 h25 g26) fun (y27 : Int32) (h28 : HI) (g29 : HL) =>
        some (y27, h28, g29)
theorem jX1_together_0 {D : DE} {f N R : Nat} (hf : 1 ≤ f) {C : ty2} (hC : ok2 D R f C) {y9 : Int32} {h9 : HI} {g9 : HL} : ∀ (F : Frm) (_ : k_Fix F) (x0 : Int32) (x1 : Int32) (x2 : Int32) (h : HI) (g : HL), pX1_together_0 N R C F x0 x1 x2 h g = some (y9, h9, g9) → JX1_together_0 D f (eqi y9 h9 g9) F h g x0 x1 x2 := by
  intro F hF x0 x1 x2 h g E
  unfold pX1_together_0 at E
  refine ⟨fun c0 => ?_, fun c0 => ?_⟩
  · replace E := iteT c0 E
    intro y1 e0; replace E := bndE e0 E
    cases E; exact ⟨rfl, rfl, rfl⟩
  · replace E := iteF c0 E
    refine ⟨fun c0 => ?_, fun c0 => ?_⟩
    · replace E := iteT c0 E
      intro y2 e0; replace E := bndE e0 E
      cases E; exact ⟨rfl, rfl, rfl⟩
    · replace E := iteF c0 E
      refine ⟨fun c0 => ?_, fun c0 => ?_⟩
      · replace E := iteF c0 E
        obtain ⟨y3, h4, g5, e0, E⟩ := obiE E
        refine Si.mono (sX1_left (N := N) (R := R) hF (by omega) e0) (fun y8 h8 g8 hq => ?_)
        obtain ⟨rfl, rfl, rfl⟩ := hq
        obtain ⟨y6, h7, g8, e0, E⟩ := obiE E
        refine Si.mono (sX1_first (N := N) (R := R) hF (by omega) e0) (fun y8 h8 g8 hq => ?_)
        obtain ⟨rfl, rfl, rfl⟩ := hq
        obtain ⟨y9, h10, g11, e0, E⟩ := obiE E
        refine Si.mono (sX1_first (N := N) (R := R) hF (by omega) e0) (fun y8 h8 g8 hq => ?_)
        obtain ⟨rfl, rfl, rfl⟩ := hq
        obtain ⟨y12, h13, g14, e0, E⟩ := obiE E
        refine Si.mono (hC _ hF _ _ _ _ _ _ _ _ e0) (fun y8 h8 g8 hq => ?_)
        obtain ⟨rfl, rfl, rfl⟩ := hq
        obtain ⟨y15, h16, g17, e0, E⟩ := obiE E
        refine Si.mono (sX1_right (N := N) (R := R) hF (by omega) e0) (fun y8 h8 g8 hq => ?_)
        obtain ⟨rfl, rfl, rfl⟩ := hq
        obtain ⟨y18, h19, g20, e0, E⟩ := obiE E
        refine Si.mono (sX1_second (N := N) (R := R) hF (by omega) e0) (fun y8 h8 g8 hq => ?_)
        obtain ⟨rfl, rfl, rfl⟩ := hq
        obtain ⟨y21, h22, g23, e0, E⟩ := obiE E
        refine Si.mono (sX1_second (N := N) (R := R) hF (by omega) e0) (fun y8 h8 g8 hq => ?_)
        obtain ⟨rfl, rfl, rfl⟩ := hq
        obtain ⟨y24, h25, g26, e0, E⟩ := obiE E
        refine Si.mono (hC _ hF _ _ _ _ _ _ _ _ e0) (fun y8 h8 g8 hq => ?_)
        obtain ⟨rfl, rfl, rfl⟩ := hq
        obtain ⟨y27, h28, g29, e0, E⟩ := obiE E
        refine Si.mono (sX1_both (N := N) (R := R) hF (by omega) e0) (fun y8 h8 g8 hq => ?_)
        obtain ⟨rfl, rfl, rfl⟩ := hq
        cases E; exact ⟨rfl, rfl, rfl⟩
      · replace E := iteT c0 E
        intro y30 e0; replace E := bndE e0 E
        cases E; exact ⟨rfl, rfl, rfl⟩
theorem sX1_together_C {D : DE} {f N R : Nat} {C : ty2} {F : Frm} (hF : k_Fix F) (hf : 1 ≤ f) (hC : ok2 D R f C) {y9 : Int32} {h9 : HI} {g9 : HL} {x0 : Int32} {x1 : Int32} {x2 : Int32} {h : HI} {g : HL} (E : pX1_together_0 N R C F x0 x1 x2 h g = some (y9, h9, g9)) : Si D (f + 1) mX1_together [.int x0, .int x1, .int x2] F h g (eqi y9 h9 g9) := by
  exact wX1_together (f := f) hF _ _ _ (jX1_together_0 hf hC _ hF _ _ _ _ _ E)
def tie2 (N R : Nat) : Nat → ty2
  | 0 => ((fun _ _ _ _ _ _ => none))
  | n + 1 => ((fun F x0 x1 x2 h g => pX1_together_0 N R (tie2 N R n) F x0 x1 x2 h g))
theorem tie2_ok {D : DE} {N R : Nat} : ∀ (n f : Nat), 1 + n ≤ f → ok2 D R f (tie2 N R n) := by
  intro n
  induction n with
  | zero =>
    intro f hf
    exact fun _ _ _ _ _ _ _ _ _ _ E => (by cases E)
  | succ n ih =>
    intro f hf
    obtain ⟨f, rfl⟩ : ∃ f0, f = f0 + 1 := ⟨f - 1, by omega⟩
    have hC := ih f (by omega)
    exact fun F hF x0 x1 x2 h g y9 h9 g9 E => sX1_together_C (N := N) (R := R) hF (by omega) hC E
abbrev ppX1_together (N R : Nat) (F : Frm) (x0 : Int32) (x1 : Int32) (x2 : Int32) (h : HI) (g : HL) : Option (Int32 × HI × HL) := (tie2 N R R) F x0 x1 x2 h g
theorem sX1_together {D : DE} {f N R : Nat} {F : Frm} (hF : k_Fix F) (hf : 1 + 1 * R ≤ f) {y9 : Int32} {h9 : HI} {g9 : HL} {x0 : Int32} {x1 : Int32} {x2 : Int32} {h : HI} {g : HL} (E : ppX1_together N R F x0 x1 x2 h g = some (y9, h9, g9)) : Si D f mX1_together [.int x0, .int x1, .int x2] F h g (eqi y9 h9 g9) := (tie2_ok (N := N) R f (by omega)) _ hF _ _ _ _ _ _ _ _ E
def pX6_add_0 (N R : Nat) (F : Frm) (x0 : Nat) (x1 : Nat) (x2 : Int32) (x3 : Int32) (h : HI) (g : HL) : Option (HI × HL) :=
  gd (decide (F.2.1 x0 = (15, 0))) <|
  ob1 (F.2.2 x0 0) fun (b1 : Nat) =>
  gd (decide ((F.2.1 x1).1 = 0)) <|
  bnd ((F.2.1 x1).2) fun (m2 : Nat) =>
  gd (vin x2 m2) <|
  ob1 (F.2.2 x0 0) fun (b3 : Nat) =>
  gd (decide ((F.2.1 b3).1 = 0)) <|
  bnd ((F.2.1 b3).2) fun (m4 : Nat) =>
  gd (vin x2 m4) <|
  obi (ppX1_together N R F (h x1 (ix x2)) (h b3 (ix x2)) x3 h g) fun (y5 : Int32) (h6 : HI) (g7 : HL) =>
  gd (decide ((F.2.1 b1).1 = 0)) <|
  bnd ((F.2.1 b1).2) fun (m8 : Nat) =>
  gd (vin x2 m8) <|
  bnd (up2 h6 b1 (ix x2) y5) fun (h9 : HI) =>
  some (h9, g7)
theorem jX6_add_0 {D : DE} {f N R : Nat} (hf : 1 + 1 * R ≤ f) {h9 : HI} {g9 : HL} : ∀ (F : Frm) (_ : k_Fix F) (x0 : Nat) (x1 : Nat) (x2 : Int32) (x3 : Int32) (h : HI) (g : HL), pX6_add_0 N R F x0 x1 x2 x3 h g = some (h9, g9) → JX6_add_0 D f (eqv h9 g9) F h g x0 x1 x2 x3 := by
  intro F hF x0 x1 x2 x3 h g E
  unfold pX6_add_0 at E
  obtain ⟨z0, E⟩ := gdE E; refine ⟨of_decide_eq_true z0, ?_⟩
  obtain ⟨b1, z0, E⟩ := ob1E E; refine ⟨b1, z0, ?_⟩
  obtain ⟨z0, E⟩ := gdE E; replace E := bndE rfl E; refine ⟨_, shE (of_decide_eq_true z0), ?_⟩
  obtain ⟨z0, E⟩ := gdE E; refine ⟨vinE z0, ?_⟩
  obtain ⟨b3, z0, E⟩ := ob1E E; refine ⟨b3, z0, ?_⟩
  obtain ⟨z0, E⟩ := gdE E; replace E := bndE rfl E; refine ⟨_, shE (of_decide_eq_true z0), ?_⟩
  obtain ⟨z0, E⟩ := gdE E; refine ⟨vinE z0, ?_⟩
  obtain ⟨y5, h6, g7, e0, E⟩ := obiE E
  refine Si.mono (sX1_together (N := N) (R := R) hF (by omega) e0) (fun y8 h8 g8 hq => ?_)
  obtain ⟨rfl, rfl, rfl⟩ := hq
  obtain ⟨z0, E⟩ := gdE E; replace E := bndE rfl E; refine ⟨_, shE (of_decide_eq_true z0), ?_⟩
  obtain ⟨z0, E⟩ := gdE E; refine ⟨vinE z0, ?_⟩
  intro h9 e0; replace E := bndE e0 E
  cases E; exact ⟨rfl, rfl⟩
abbrev ppX6_add (N R : Nat) (F : Frm) (x0 : Nat) (x1 : Nat) (x2 : Int32) (x3 : Int32) (h : HI) (g : HL) : Option (HI × HL) := pX6_add_0 N R F x0 x1 x2 x3 h g
theorem sX6_add {D : DE} {f N R : Nat} {F : Frm} (hF : k_Fix F) (hf : 2 + 1 * R ≤ f) {h9 : HI} {g9 : HL} {x0 : Nat} {x1 : Nat} {x2 : Int32} {x3 : Int32} {h : HI} {g : HL} (E : ppX6_add N R F x0 x1 x2 x3 h g = some (h9, g9)) : Sv D f mX6_add [.ref (ad D x0), .ref (ad D x1), .int x2, .int x3] F h g (eqv h9 g9) := by
  obtain ⟨f, rfl⟩ : ∃ f0, f = f0 + 1 := ⟨f - 1, by omega⟩
  have hf : 1 + 1 * R ≤ f := by omega
  exact wX6_add (f := f) hF _ _ _ _ (jX6_add_0 hf _ hF _ _ _ _ _ _ E)
def pX18_ask_0 (N R : Nat) (F : Frm) (x0 : Nat) (x2 : Int32) (x3 : Nat) (x4 : Int32) (h : HI) (g : HL) : Option (HI × HL) :=
  ob1 (F.2.2 9 0) fun (b1 : Nat) =>
  gd (decide (F.2.1 b1 = (18, 0))) <|
  ob1 (F.2.2 b1 5) fun (b2 : Nat) =>
  gd (decide (F.2.1 x0 = (26, 0))) <|
  gd (decide (F.2.1 x3 = (15, 0))) <|
  obv (ppX6_add N R F x3 b2 (h x0 2) x2 h g) fun (h3 : HI) (g4 : HL) =>
  some (h3, g4)
theorem jX18_ask_0 {D : DE} {f N R : Nat} (hf : 2 + 1 * R ≤ f) {h9 : HI} {g9 : HL} : ∀ (F : Frm) (_ : k_Fix F) (x0 : Nat) (x2 : Int32) (x3 : Nat) (x4 : Int32) (h : HI) (g : HL), pX18_ask_0 N R F x0 x2 x3 x4 h g = some (h9, g9) → JX18_ask_0 D f (eqv h9 g9) F h g x0 x2 x3 x4 := by
  intro F hF x0 x2 x3 x4 h g E
  unfold pX18_ask_0 at E
  obtain ⟨b1, z0, E⟩ := ob1E E; refine ⟨b1, z0, ?_⟩
  obtain ⟨z0, E⟩ := gdE E; refine ⟨of_decide_eq_true z0, ?_⟩
  obtain ⟨b2, z0, E⟩ := ob1E E; refine ⟨b2, z0, ?_⟩
  obtain ⟨z0, E⟩ := gdE E; refine ⟨of_decide_eq_true z0, ?_⟩
  obtain ⟨z0, E⟩ := gdE E; refine ⟨of_decide_eq_true z0, ?_⟩
  obtain ⟨h3, g4, e0, E⟩ := obvE E
  refine Sv.mono (sX6_add (N := N) (R := R) hF (by omega) e0) (fun h8 g8 hq => ?_)
  obtain ⟨rfl, rfl⟩ := hq
  cases E; exact ⟨rfl, rfl⟩
abbrev ppX18_ask (N R : Nat) (F : Frm) (x0 : Nat) (x2 : Int32) (x3 : Nat) (x4 : Int32) (h : HI) (g : HL) : Option (HI × HL) := pX18_ask_0 N R F x0 x2 x3 x4 h g
theorem sX18_ask {D : DE} {f N R : Nat} {F : Frm} (hF : k_Fix F) (hf : 3 + 1 * R ≤ f) {h9 : HI} {g9 : HL} {x0 : Nat} {x2 : Int32} {x3 : Nat} {x4 : Int32} {h : HI} {g : HL} (E : ppX18_ask N R F x0 x2 x3 x4 h g = some (h9, g9)) : Sv D f mX18_ask [.ref (ad D x0), .ref (ad D 9), .int x2, .ref (ad D x3), .int x4] F h g (eqv h9 g9) := by
  obtain ⟨f, rfl⟩ : ∃ f0, f = f0 + 1 := ⟨f - 1, by omega⟩
  have hf : 2 + 1 * R ≤ f := by omega
  exact wX18_ask (f := f) hF _ _ _ _ (jX18_ask_0 hf _ hF _ _ _ _ _ _ E)
def pX6_clear_7 (N R : Nat) : Nat → Frm → Nat → Int32 → HI → HL → Option (HI × HL)
  | 0, _, _, _, _, _ => none
  | n + 1, F, x0, x1, h, g =>
    if 16 ≤ x1 then
      some (h, g)
    else
      gd (decide (F.2.1 x0 = (15, 0))) <|
      ob1 (F.2.2 x0 0) fun (b1 : Nat) =>
      gd (decide ((F.2.1 b1).1 = 0)) <|
      bnd ((F.2.1 b1).2) fun (m2 : Nat) =>
      gd (vin x1 m2) <|
      bnd (up2 h b1 (ix x1) 0) fun (h3 : HI) =>
      bnd (x1 + 1) fun (y4 : Int32) =>
      (pX6_clear_7 N R n) F x0 y4 h3 g
theorem lX6_clear_7 {D : DE} {f N R : Nat} (hf : 0 ≤ f) {h9 : HI} {g9 : HL} : ∀ (n : Nat) (F : Frm) (_ : k_Fix F) (x0 : Nat) (x1 : Int32) (h : HI) (g : HL), pX6_clear_7 N R n F x0 x1 h g = some (h9, g9) → V D mX6_clear f (qv F (eqv h9 g9)) 7 [(0, .ref (ad D x0)), (1, .int x1)] [] (F, h, g) := by
  intro n
  induction n with
  | zero => intro F hF x0 x1 h g E; cases E
  | succ n hK7 =>
    intro F hF x0 x1 h g E
    rw [pX6_clear_7] at E
    refine bX6_clear_7 (f := f) hF x0 x1  ?_
    refine ⟨fun c0 => ?_, fun c0 => ?_⟩
    · replace E := iteT c0 E
      cases E; exact ⟨rfl, rfl⟩
    · replace E := iteF c0 E
      obtain ⟨z0, E⟩ := gdE E; refine ⟨of_decide_eq_true z0, ?_⟩
      obtain ⟨b1, z0, E⟩ := ob1E E; refine ⟨b1, z0, ?_⟩
      obtain ⟨z0, E⟩ := gdE E; replace E := bndE rfl E; refine ⟨_, shE (of_decide_eq_true z0), ?_⟩
      obtain ⟨z0, E⟩ := gdE E; refine ⟨vinE z0, ?_⟩
      intro h3 e0; replace E := bndE e0 E
      intro y4 e0; replace E := bndE e0 E
      exact hK7 _ hF _ _ _ _ E
def pX6_clear_0 (N R : Nat) (F : Frm) (x0 : Nat) (h : HI) (g : HL) : Option (HI × HL) :=
  gd (decide (F.2.1 x0 = (15, 0))) <|
  bnd (up2 h x0 1 0) fun (h1 : HI) =>
  pX6_clear_7 N R N F x0 0 h1 g
theorem jX6_clear_0 {D : DE} {f N R : Nat} (hf : 0 ≤ f) {h9 : HI} {g9 : HL} : ∀ (F : Frm) (_ : k_Fix F) (x0 : Nat) (h : HI) (g : HL), pX6_clear_0 N R F x0 h g = some (h9, g9) → JX6_clear_0 D f (eqv h9 g9) F h g x0 := by
  intro F hF x0 h g E
  unfold pX6_clear_0 at E
  obtain ⟨z0, E⟩ := gdE E; refine ⟨of_decide_eq_true z0, ?_⟩
  intro h1 e0; replace E := bndE e0 E
  exact lX6_clear_7 hf  N _ hF _ _ _ _ E
abbrev ppX6_clear (N R : Nat) (F : Frm) (x0 : Nat) (h : HI) (g : HL) : Option (HI × HL) := pX6_clear_0 N R F x0 h g
theorem sX6_clear {D : DE} {f N R : Nat} {F : Frm} (hF : k_Fix F) (hf : 0 ≤ f) {h9 : HI} {g9 : HL} {x0 : Nat} {h : HI} {g : HL} (E : ppX6_clear N R F x0 h g = some (h9, g9)) : Sv D f mX6_clear [.ref (ad D x0)] F h g (eqv h9 g9) := by
  exact wX6_clear (f := f) hF _ (jX6_clear_0 hf _ hF _ _ _ E)
def pX5_row_0 (N R : Nat) (F : Frm) (x1 : Int32) (h : HI) (g : HL) : Option (Nat × HI × HL) :=
  gd (vin x1 44) <|
  ob1 (F.2.2 10 (ix x1)) fun (b1 : Nat) =>
  gd (decide (F.2.1 b1 = (15, 0))) <|
  obv (ppX6_clear N R F b1 h g) fun (h2 : HI) (g3 : HL) =>
  gd (vin x1 44) <|
  ob1 (F.2.2 10 (ix x1)) fun (b4 : Nat) =>
  some (b4, h2, g3)
theorem jX5_row_0 {D : DE} {f N R : Nat} (hf : 0 ≤ f) {y9 : Nat} {h9 : HI} {g9 : HL} : ∀ (F : Frm) (_ : k_Fix F) (x1 : Int32) (h : HI) (g : HL), pX5_row_0 N R F x1 h g = some (y9, h9, g9) → JX5_row_0 D f (eqr y9 h9 g9) F h g x1 := by
  intro F hF x1 h g E
  unfold pX5_row_0 at E
  obtain ⟨z0, E⟩ := gdE E; refine ⟨vinE z0, ?_⟩
  obtain ⟨b1, z0, E⟩ := ob1E E; refine ⟨b1, z0, ?_⟩
  obtain ⟨z0, E⟩ := gdE E; refine ⟨of_decide_eq_true z0, ?_⟩
  obtain ⟨h2, g3, e0, E⟩ := obvE E
  refine Sv.mono (sX6_clear (N := N) (R := R) hF (by omega) e0) (fun h8 g8 hq => ?_)
  obtain ⟨rfl, rfl⟩ := hq
  obtain ⟨z0, E⟩ := gdE E; refine ⟨vinE z0, ?_⟩
  obtain ⟨b4, z0, E⟩ := ob1E E; refine ⟨b4, z0, ?_⟩
  cases E; exact ⟨rfl, rfl, rfl⟩
abbrev ppX5_row (N R : Nat) (F : Frm) (x1 : Int32) (h : HI) (g : HL) : Option (Nat × HI × HL) := pX5_row_0 N R F x1 h g
theorem sX5_row {D : DE} {f N R : Nat} {F : Frm} (hF : k_Fix F) (hf : 1 ≤ f) {y9 : Nat} {h9 : HI} {g9 : HL} {x1 : Int32} {h : HI} {g : HL} (E : ppX5_row N R F x1 h g = some (y9, h9, g9)) : Sr D f mX5_row [.ref (ad D 9), .int x1] F h g (eqr y9 h9 g9) := by
  obtain ⟨f, rfl⟩ : ∃ f0, f = f0 + 1 := ⟨f - 1, by omega⟩
  have hf : 0 ≤ f := by omega
  exact wX5_row (f := f) hF _ (jX5_row_0 hf _ hF _ _ _ E)
def pX6_addEither_100 (N R : Nat) (K32 : Frm → Nat → Nat → Int32 → Nat → Nat → Int32 → HI → HL → Option (HI × HL)) (F : Frm) (x0 : Nat) (x1 : Nat) (x2 : Int32) (x3 : Nat) (x4 : Nat) (x5 : Int32) (s0 : Nat) (s1 : Nat) (s2 : Int32) (s3 : Int32) (h : HI) (g : HL) : Option (HI × HL) :=
  gd (decide (F.2.1 s0 = (15, 0))) <|
  obv (ppX6_add N R F s0 s1 s2 s3 h g) fun (h1 : HI) (g2 : HL) =>
  bnd (x5 + 1) fun (y3 : Int32) =>
  K32 F x0 x1 x2 x3 x4 y3 h1 g2
theorem jX6_addEither_100 {D : DE} {f N R : Nat} (hf : 2 + 1 * R ≤ f) {K32 : Frm → Nat → Nat → Int32 → Nat → Nat → Int32 → HI → HL → Option (HI × HL)} {h9 : HI} {g9 : HL} (hK32 : ∀ (F : Frm) (_ : k_Fix F) (x0 : Nat) (x1 : Nat) (x2 : Int32) (x3 : Nat) (x4 : Nat) (x5 : Int32) (h : HI) (g : HL), K32 F x0 x1 x2 x3 x4 x5 h g = some (h9, g9) → V D mX6_addEither (f + 1) (qv F (eqv h9 g9)) 32 [(0, .ref (ad D x0)), (1, .ref (ad D x1)), (2, .int x2), (3, .ref (ad D x3)), (4, .ref (ad D x4)), (5, .int x5)] [] (F, h, g)) : ∀ (F : Frm) (_ : k_Fix F) (x0 : Nat) (x1 : Nat) (x2 : Int32) (x3 : Nat) (x4 : Nat) (x5 : Int32) (s0 : Nat) (s1 : Nat) (s2 : Int32) (s3 : Int32) (h : HI) (g : HL), pX6_addEither_100 N R K32 F x0 x1 x2 x3 x4 x5 s0 s1 s2 s3 h g = some (h9, g9) → JX6_addEither_100 D f (eqv h9 g9) F h g x0 x1 x2 x3 x4 x5 s0 s1 s2 s3 := by
  intro F hF x0 x1 x2 x3 x4 x5 s0 s1 s2 s3 h g E
  unfold pX6_addEither_100 at E
  obtain ⟨z0, E⟩ := gdE E; refine ⟨of_decide_eq_true z0, ?_⟩
  obtain ⟨h1, g2, e0, E⟩ := obvE E
  refine Sv.mono (sX6_add (N := N) (R := R) hF (by omega) e0) (fun h8 g8 hq => ?_)
  obtain ⟨rfl, rfl⟩ := hq
  intro y3 e0; replace E := bndE e0 E
  exact hK32 _ hF _ _ _ _ _ _ _ _ E
def pX6_addEither_32 (N R : Nat) : Nat → Frm → Nat → Nat → Int32 → Nat → Nat → Int32 → HI → HL → Option (HI × HL)
  | 0, _, _, _, _, _, _, _, _, _ => none
  | n + 1, F, x0, x1, x2, x3, x4, x5, h, g =>
    if x2 ≤ x5 then
      some (h, g)
    else
      gd (decide (F.2.1 x3 = (15, 0))) <|
      if (h x3 1) = 0 then
        gd (decide (F.2.1 x4 = (15, 0))) <|
        if (h x4 1) = 0 then
          gd (decide ((F.2.1 x1).1 = 0)) <|
          bnd ((F.2.1 x1).2) fun (m1 : Nat) =>
          gd (vin x5 m1) <|
          ob1 (F.2.2 x3 0) fun (b2 : Nat) =>
          gd (decide ((F.2.1 b2).1 = 0)) <|
          bnd ((F.2.1 b2).2) fun (m3 : Nat) =>
          gd (vin x5 m3) <|
          ob1 (F.2.2 x4 0) fun (b4 : Nat) =>
          gd (decide ((F.2.1 b4).1 = 0)) <|
          bnd ((F.2.1 b4).2) fun (m5 : Nat) =>
          gd (vin x5 m5) <|
          obi (ppX1_either N R F (h x1 (ix x5)) (h b2 (ix x5)) (h b4 (ix x5)) h g) fun (y6 : Int32) (h7 : HI) (g8 : HL) =>
          pX6_addEither_100 N R (pX6_addEither_32 N R n) F x0 x1 x2 x3 x4 x5 x0 x1 x5 y6 h7 g8
        else
          ob1 (F.2.2 x3 0) fun (b9 : Nat) =>
          gd (decide ((F.2.1 b9).1 = 0)) <|
          bnd ((F.2.1 b9).2) fun (m10 : Nat) =>
          gd (vin x5 m10) <|
          pX6_addEither_100 N R (pX6_addEither_32 N R n) F x0 x1 x2 x3 x4 x5 x0 x1 x5 (h b9 (ix x5)) h g
      else
        gd (decide (F.2.1 x4 = (15, 0))) <|
        ob1 (F.2.2 x4 0) fun (b11 : Nat) =>
        gd (decide ((F.2.1 b11).1 = 0)) <|
        bnd ((F.2.1 b11).2) fun (m12 : Nat) =>
        gd (vin x5 m12) <|
        pX6_addEither_100 N R (pX6_addEither_32 N R n) F x0 x1 x2 x3 x4 x5 x0 x1 x5 (h b11 (ix x5)) h g
theorem lX6_addEither_32 {D : DE} {f N R : Nat} (hf : 2 + 1 * R ≤ f) {h9 : HI} {g9 : HL} : ∀ (n : Nat) (F : Frm) (_ : k_Fix F) (x0 : Nat) (x1 : Nat) (x2 : Int32) (x3 : Nat) (x4 : Nat) (x5 : Int32) (h : HI) (g : HL), pX6_addEither_32 N R n F x0 x1 x2 x3 x4 x5 h g = some (h9, g9) → V D mX6_addEither (f + 1) (qv F (eqv h9 g9)) 32 [(0, .ref (ad D x0)), (1, .ref (ad D x1)), (2, .int x2), (3, .ref (ad D x3)), (4, .ref (ad D x4)), (5, .int x5)] [] (F, h, g) := by
  intro n
  induction n with
  | zero => intro F hF x0 x1 x2 x3 x4 x5 h g E; cases E
  | succ n hK32 =>
    intro F hF x0 x1 x2 x3 x4 x5 h g E
    rw [pX6_addEither_32] at E
    refine bX6_addEither_32 (f := f) hF x0 x1 x2 x3 x4 x5  ?_
    refine ⟨fun c0 => ?_, fun c0 => ?_⟩
    · replace E := iteT c0 E
      cases E; exact ⟨rfl, rfl⟩
    · replace E := iteF c0 E
      obtain ⟨z0, E⟩ := gdE E; refine ⟨of_decide_eq_true z0, ?_⟩
      refine ⟨fun c0 => ?_, fun c0 => ?_⟩
      · replace E := iteT c0 E
        obtain ⟨z0, E⟩ := gdE E; refine ⟨of_decide_eq_true z0, ?_⟩
        refine ⟨fun c0 => ?_, fun c0 => ?_⟩
        · replace E := iteT c0 E
          obtain ⟨z0, E⟩ := gdE E; replace E := bndE rfl E; refine ⟨_, shE (of_decide_eq_true z0), ?_⟩
          obtain ⟨z0, E⟩ := gdE E; refine ⟨vinE z0, ?_⟩
          obtain ⟨b2, z0, E⟩ := ob1E E; refine ⟨b2, z0, ?_⟩
          obtain ⟨z0, E⟩ := gdE E; replace E := bndE rfl E; refine ⟨_, shE (of_decide_eq_true z0), ?_⟩
          obtain ⟨z0, E⟩ := gdE E; refine ⟨vinE z0, ?_⟩
          obtain ⟨b4, z0, E⟩ := ob1E E; refine ⟨b4, z0, ?_⟩
          obtain ⟨z0, E⟩ := gdE E; replace E := bndE rfl E; refine ⟨_, shE (of_decide_eq_true z0), ?_⟩
          obtain ⟨z0, E⟩ := gdE E; refine ⟨vinE z0, ?_⟩
          obtain ⟨y6, h7, g8, e0, E⟩ := obiE E
          refine Si.mono (sX1_either (N := N) (R := R) hF (by omega) e0) (fun y8 h8 g8 hq => ?_)
          obtain ⟨rfl, rfl, rfl⟩ := hq
          exact jX6_addEither_100 hf hK32 _ hF _ _ _ _ _ _ _ _ _ _ _ _ E
        · replace E := iteF c0 E
          obtain ⟨b9, z0, E⟩ := ob1E E; refine ⟨b9, z0, ?_⟩
          obtain ⟨z0, E⟩ := gdE E; replace E := bndE rfl E; refine ⟨_, shE (of_decide_eq_true z0), ?_⟩
          obtain ⟨z0, E⟩ := gdE E; refine ⟨vinE z0, ?_⟩
          exact jX6_addEither_100 hf hK32 _ hF _ _ _ _ _ _ _ _ _ _ _ _ E
      · replace E := iteF c0 E
        obtain ⟨z0, E⟩ := gdE E; refine ⟨of_decide_eq_true z0, ?_⟩
        obtain ⟨b11, z0, E⟩ := ob1E E; refine ⟨b11, z0, ?_⟩
        obtain ⟨z0, E⟩ := gdE E; replace E := bndE rfl E; refine ⟨_, shE (of_decide_eq_true z0), ?_⟩
        obtain ⟨z0, E⟩ := gdE E; refine ⟨vinE z0, ?_⟩
        exact jX6_addEither_100 hf hK32 _ hF _ _ _ _ _ _ _ _ _ _ _ _ E
def pX6_addEither_25 (N R : Nat) (F : Frm) (x0 : Nat) (x1 : Nat) (x2 : Int32) (x3 : Nat) (x4 : Nat) (s0 : Nat) (s1 : Int32) (s2 : Int32) (h : HI) (g : HL) : Option (HI × HL) :=
  gd (decide (F.2.1 s0 = (15, 0))) <|
  gd (isBb (s1 ||| s2)) <|
  bnd (up2 h s0 1 (s1 ||| s2)) fun (h1 : HI) =>
  pX6_addEither_32 N R N F x0 x1 x2 x3 x4 0 h1 g
theorem jX6_addEither_25 {D : DE} {f N R : Nat} (hf : 2 + 1 * R ≤ f) {h9 : HI} {g9 : HL} : ∀ (F : Frm) (_ : k_Fix F) (x0 : Nat) (x1 : Nat) (x2 : Int32) (x3 : Nat) (x4 : Nat) (s0 : Nat) (s1 : Int32) (s2 : Int32) (h : HI) (g : HL), pX6_addEither_25 N R F x0 x1 x2 x3 x4 s0 s1 s2 h g = some (h9, g9) → JX6_addEither_25 D f (eqv h9 g9) F h g x0 x1 x2 x3 x4 s0 s1 s2 := by
  intro F hF x0 x1 x2 x3 x4 s0 s1 s2 h g E
  unfold pX6_addEither_25 at E
  obtain ⟨z0, E⟩ := gdE E; refine ⟨of_decide_eq_true z0, ?_⟩
  obtain ⟨z0, E⟩ := gdE E; refine ⟨isBbE z0, ?_⟩
  intro h1 e0; replace E := bndE e0 E
  exact lX6_addEither_32 hf  N _ hF _ _ _ _ _ _ _ _ E
def pX6_addEither_24 (N R : Nat) (F : Frm) (x0 : Nat) (x1 : Nat) (x2 : Int32) (x3 : Nat) (x4 : Nat) (s0 : Nat) (s1 : Int32) (h : HI) (g : HL) : Option (HI × HL) :=
  pX6_addEither_25 N R F x0 x1 x2 x3 x4 s0 s1 0 h g
theorem jX6_addEither_24 {D : DE} {f N R : Nat} (hf : 2 + 1 * R ≤ f) {h9 : HI} {g9 : HL} : ∀ (F : Frm) (_ : k_Fix F) (x0 : Nat) (x1 : Nat) (x2 : Int32) (x3 : Nat) (x4 : Nat) (s0 : Nat) (s1 : Int32) (h : HI) (g : HL), pX6_addEither_24 N R F x0 x1 x2 x3 x4 s0 s1 h g = some (h9, g9) → JX6_addEither_24 D f (eqv h9 g9) F h g x0 x1 x2 x3 x4 s0 s1 := by
  intro F hF x0 x1 x2 x3 x4 s0 s1 h g E
  unfold pX6_addEither_24 at E
  exact jX6_addEither_25 hf  _ hF _ _ _ _ _ _ _ _ _ _ E
def pX6_addEither_0 (N R : Nat) (F : Frm) (x0 : Nat) (x1 : Nat) (x2 : Int32) (x3 : Nat) (x4 : Nat) (h : HI) (g : HL) : Option (HI × HL) :=
  gd (decide (F.2.1 x0 = (15, 0))) <|
  gd (decide (F.2.1 x3 = (15, 0))) <|
  if (h x3 1) = 0 then
    pX6_addEither_24 N R F x0 x1 x2 x3 x4 x0 (h x0 1) h g
  else
    gd (decide (F.2.1 x4 = (15, 0))) <|
    if (h x4 1) = 0 then
      pX6_addEither_24 N R F x0 x1 x2 x3 x4 x0 (h x0 1) h g
    else
      pX6_addEither_25 N R F x0 x1 x2 x3 x4 x0 (h x0 1) 1 h g
theorem jX6_addEither_0 {D : DE} {f N R : Nat} (hf : 2 + 1 * R ≤ f) {h9 : HI} {g9 : HL} : ∀ (F : Frm) (_ : k_Fix F) (x0 : Nat) (x1 : Nat) (x2 : Int32) (x3 : Nat) (x4 : Nat) (h : HI) (g : HL), pX6_addEither_0 N R F x0 x1 x2 x3 x4 h g = some (h9, g9) → JX6_addEither_0 D f (eqv h9 g9) F h g x0 x1 x2 x3 x4 := by
  intro F hF x0 x1 x2 x3 x4 h g E
  unfold pX6_addEither_0 at E
  obtain ⟨z0, E⟩ := gdE E; refine ⟨of_decide_eq_true z0, ?_⟩
  obtain ⟨z0, E⟩ := gdE E; refine ⟨of_decide_eq_true z0, ?_⟩
  refine ⟨fun c0 => ?_, fun c0 => ?_⟩
  · replace E := iteT c0 E
    exact jX6_addEither_24 hf  _ hF _ _ _ _ _ _ _ _ _ E
  · replace E := iteF c0 E
    obtain ⟨z0, E⟩ := gdE E; refine ⟨of_decide_eq_true z0, ?_⟩
    refine ⟨fun c0 => ?_, fun c0 => ?_⟩
    · replace E := iteT c0 E
      exact jX6_addEither_24 hf  _ hF _ _ _ _ _ _ _ _ _ E
    · replace E := iteF c0 E
      exact jX6_addEither_25 hf  _ hF _ _ _ _ _ _ _ _ _ _ E
abbrev ppX6_addEither (N R : Nat) (F : Frm) (x0 : Nat) (x1 : Nat) (x2 : Int32) (x3 : Nat) (x4 : Nat) (h : HI) (g : HL) : Option (HI × HL) := pX6_addEither_0 N R F x0 x1 x2 x3 x4 h g
theorem sX6_addEither {D : DE} {f N R : Nat} {F : Frm} (hF : k_Fix F) (hf : 3 + 1 * R ≤ f) {h9 : HI} {g9 : HL} {x0 : Nat} {x1 : Nat} {x2 : Int32} {x3 : Nat} {x4 : Nat} {h : HI} {g : HL} (E : ppX6_addEither N R F x0 x1 x2 x3 x4 h g = some (h9, g9)) : Sv D f mX6_addEither [.ref (ad D x0), .ref (ad D x1), .int x2, .ref (ad D x3), .ref (ad D x4)] F h g (eqv h9 g9) := by
  obtain ⟨f, rfl⟩ : ∃ f0, f = f0 + 1 := ⟨f - 1, by omega⟩
  have hf : 2 + 1 * R ≤ f := by omega
  exact wX6_addEither (f := f) hF _ _ _ _ _ (jX6_addEither_0 hf _ hF _ _ _ _ _ _ _ E)
abbrev ty3 : Type := (Frm → Nat → Int32 → Nat → Int32 → HI → HL → Option (HI × HL)) × (Frm → Nat → Int32 → Nat → Int32 → HI → HL → Option (HI × HL)) × (Frm → Nat → Int32 → Nat → Int32 → HI → HL → Option (HI × HL)) × (Frm → Nat → Int32 → Nat → Int32 → HI → HL → Option (HI × HL)) × (Frm → Nat → Int32 → Nat → Int32 → HI → HL → Option (HI × HL)) × (Frm → Nat → Int32 → Nat → Int32 → HI → HL → Option (HI × HL))
def ok3 (D : DE) (R f : Nat) (C : ty3) : Prop := (∀ (F : Frm) (_ : k_Fix F) (x0 : Nat) (x2 : Int32) (x3 : Nat) (x4 : Int32) (h : HI) (g : HL) (h9 : HI) (g9 : HL), C.1 F x0 x2 x3 x4 h g = some (h9, g9) → Sv D f mX11_ask [.ref (ad D x0), .ref (ad D 9), .int x2, .ref (ad D x3), .int x4] F h g (eqv h9 g9)) ∧ (∀ (F : Frm) (_ : k_Fix F) (x0 : Nat) (x2 : Int32) (x3 : Nat) (x4 : Int32) (h : HI) (g : HL) (h9 : HI) (g9 : HL), C.2.1 F x0 x2 x3 x4 h g = some (h9, g9) → Sv D f mX12_ask [.ref (ad D x0), .ref (ad D 9), .int x2, .ref (ad D x3), .int x4] F h g (eqv h9 g9)) ∧ (∀ (F : Frm) (_ : k_Fix F) (x0 : Nat) (x2 : Int32) (x3 : Nat) (x4 : Int32) (h : HI) (g : HL) (h9 : HI) (g9 : HL), C.2.2.1 F x0 x2 x3 x4 h g = some (h9, g9) → Sv D f mX13_ask [.ref (ad D x0), .ref (ad D 9), .int x2, .ref (ad D x3), .int x4] F h g (eqv h9 g9)) ∧ (∀ (F : Frm) (_ : k_Fix F) (x0 : Nat) (x2 : Int32) (x3 : Nat) (x4 : Int32) (h : HI) (g : HL) (h9 : HI) (g9 : HL), C.2.2.2.1 F x0 x2 x3 x4 h g = some (h9, g9) → Sv D f mX16_ask [.ref (ad D x0), .ref (ad D 9), .int x2, .ref (ad D x3), .int x4] F h g (eqv h9 g9)) ∧ (∀ (F : Frm) (_ : k_Fix F) (x0 : Nat) (x2 : Int32) (x3 : Nat) (x4 : Int32) (h : HI) (g : HL) (h9 : HI) (g9 : HL), C.2.2.2.2.1 F x0 x2 x3 x4 h g = some (h9, g9) → Sv D f mX17_ask [.ref (ad D x0), .ref (ad D 9), .int x2, .ref (ad D x3), .int x4] F h g (eqv h9 g9)) ∧ (∀ (F : Frm) (_ : k_Fix F) (x0 : Nat) (x2 : Int32) (x3 : Nat) (x4 : Int32) (h : HI) (g : HL) (h9 : HI) (g9 : HL), C.2.2.2.2.2 F x0 x2 x3 x4 h g = some (h9, g9) → Sv D f mX19_ask [.ref (ad D x0), .ref (ad D 9), .int x2, .ref (ad D x3), .int x4] F h g (eqv h9 g9))
def pv_ask (N R : Nat) (C : ty3) (k : Nat) (F : Frm) (x0 : Nat) (x2 : Int32) (x3 : Nat) (x4 : Int32) (h : HI) (g : HL) : Option (HI × HL) := match k with
  | 9 => C.1 F x0 x2 x3 x4 h g
  | 10 => C.2.1 F x0 x2 x3 x4 h g
  | 11 => C.2.2.1 F x0 x2 x3 x4 h g
  | 12 => ppX14_ask N R F x0 x2 x3 x4 h g
  | 13 => ppX15_ask N R F x0 x2 x3 x4 h g
  | 14 => C.2.2.2.1 F x0 x2 x3 x4 h g
  | 15 => C.2.2.2.2.1 F x0 x2 x3 x4 h g
  | 16 => ppX18_ask N R F x0 x2 x3 x4 h g
  | 17 => C.2.2.2.2.2 F x0 x2 x3 x4 h g
  | _ => none
theorem sv_ask {D : DE} {f N R : Nat} {C : ty3} {F : Frm} (hF : k_Fix F) (hf : 3 + 1 * R ≤ f) (hC : ok3 D R f C) {h9 : HI} {g9 : HL} {k : Nat} {x0 : Nat} {x2 : Int32} {x3 : Nat} {x4 : Int32} {h : HI} {g : HL} (zE : isE F x0 k) (E : pv_ask N R C k F x0 x2 x3 x4 h g = some (h9, g9)) : Sv D f (v_ask k) [.ref (ad D x0), .ref (ad D 9), .int x2, .ref (ad D x3), .int x4] F h g (eqv h9 g9) := by
  obtain ⟨-, h1, h2⟩ := zE
  rcases isE.cases h1 h2 with rfl | rfl | rfl | rfl | rfl | rfl | rfl | rfl | rfl
  · exact hC.1 _ hF _ _ _ _ _ _ _ _ E
  · exact hC.2.1 _ hF _ _ _ _ _ _ _ _ E
  · exact hC.2.2.1 _ hF _ _ _ _ _ _ _ _ E
  · exact sX14_ask (N := N) (R := R) hF (by omega) E
  · exact sX15_ask (N := N) (R := R) hF (by omega) E
  · exact hC.2.2.2.1 _ hF _ _ _ _ _ _ _ _ E
  · exact hC.2.2.2.2.1 _ hF _ _ _ _ _ _ _ _ E
  · exact sX18_ask (N := N) (R := R) hF (by omega) E
  · exact hC.2.2.2.2.2 _ hF _ _ _ _ _ _ _ _ E
def pX11_ask_0 (N R : Nat) (C : ty3) (F : Frm) (x0 : Nat) (x2 : Int32) (x3 : Nat) (x4 : Int32) (h : HI) (g : HL) : Option (HI × HL) :=
  gd (decide (F.2.1 x0 = (19, 0))) <|
  ob1 (F.2.2 x0 4) fun (b1 : Nat) =>
  gd (isEb F b1) <|
  bnd ((F.2.1 b1).1 - 10) fun (k2 : Nat) =>
  obv (pv_ask N R C k2 F b1 x2 x3 x4 h g) fun (h3 : HI) (g4 : HL) =>
  gd (decide (F.2.1 x3 = (15, 0))) <|
  ob1 (F.2.2 x3 0) fun (b5 : Nat) =>
  gd (decide ((F.2.1 b5).1 = 0)) <|
  bnd ((F.2.1 b5).2) fun (m6 : Nat) =>
  gd (vin (h3 x0 2) m6) <|
  if (h3 b5 (ix (h3 x0 2))) = 0 then
    some (h3, g4)
  else
    ob1 (F.2.2 x0 3) fun (b7 : Nat) =>
    ob1 (F.2.2 x3 0) fun (b8 : Nat) =>
    gd (decide ((F.2.1 b8).1 = 0)) <|
    bnd ((F.2.1 b8).2) fun (m9 : Nat) =>
    gd (vin (h3 x0 2) m9) <|
    gd (isEb F b7) <|
    bnd ((F.2.1 b7).1 - 10) fun (k10 : Nat) =>
    obv (pv_ask N R C k10 F b7 (h3 b8 (ix (h3 x0 2))) x3 x4 h3 g4) fun (h11 : HI) (g12 : HL) =>
    some (h11, g12)
theorem jX11_ask_0 {D : DE} {f N R : Nat} (hf : 3 + 1 * R ≤ f) {C : ty3} (hC : ok3 D R f C) {h9 : HI} {g9 : HL} : ∀ (F : Frm) (_ : k_Fix F) (x0 : Nat) (x2 : Int32) (x3 : Nat) (x4 : Int32) (h : HI) (g : HL), pX11_ask_0 N R C F x0 x2 x3 x4 h g = some (h9, g9) → JX11_ask_0 D f (eqv h9 g9) F h g x0 x2 x3 x4 := by
  intro F hF x0 x2 x3 x4 h g E
  unfold pX11_ask_0 at E
  obtain ⟨z0, E⟩ := gdE E; refine ⟨of_decide_eq_true z0, ?_⟩
  obtain ⟨b1, z0, E⟩ := ob1E E; refine ⟨b1, z0, ?_⟩
  obtain ⟨z0, E⟩ := gdE E; obtain ⟨k2, e1⟩ : ∃ k, k = (F.2.1 b1).1 - 10 := ⟨_, rfl⟩; replace E := bndE e1 E; have zEk2 : isE F b1 k2 := by rw [e1]; exact isEbE z0
  refine ⟨k2, zEk2, ?_⟩
  obtain ⟨h3, g4, e0, E⟩ := obvE E
  refine Sv.mono (sv_ask (N := N) (R := R) hF (by omega) hC zEk2 e0) (fun h8 g8 hq => ?_)
  obtain ⟨rfl, rfl⟩ := hq
  obtain ⟨z0, E⟩ := gdE E; refine ⟨of_decide_eq_true z0, ?_⟩
  obtain ⟨b5, z0, E⟩ := ob1E E; refine ⟨b5, z0, ?_⟩
  obtain ⟨z0, E⟩ := gdE E; replace E := bndE rfl E; refine ⟨_, shE (of_decide_eq_true z0), ?_⟩
  obtain ⟨z0, E⟩ := gdE E; refine ⟨vinE z0, ?_⟩
  refine ⟨fun c0 => ?_, fun c0 => ?_⟩
  · replace E := iteT c0 E
    cases E; exact ⟨rfl, rfl⟩
  · replace E := iteF c0 E
    obtain ⟨b7, z0, E⟩ := ob1E E; refine ⟨b7, z0, ?_⟩
    obtain ⟨b8, z0, E⟩ := ob1E E; refine ⟨b8, z0, ?_⟩
    obtain ⟨z0, E⟩ := gdE E; replace E := bndE rfl E; refine ⟨_, shE (of_decide_eq_true z0), ?_⟩
    obtain ⟨z0, E⟩ := gdE E; refine ⟨vinE z0, ?_⟩
    obtain ⟨z0, E⟩ := gdE E; obtain ⟨k10, e1⟩ : ∃ k, k = (F.2.1 b7).1 - 10 := ⟨_, rfl⟩; replace E := bndE e1 E; have zEk10 : isE F b7 k10 := by rw [e1]; exact isEbE z0
    refine ⟨k10, zEk10, ?_⟩
    obtain ⟨h11, g12, e0, E⟩ := obvE E
    refine Sv.mono (sv_ask (N := N) (R := R) hF (by omega) hC zEk10 e0) (fun h8 g8 hq => ?_)
    obtain ⟨rfl, rfl⟩ := hq
    cases E; exact ⟨rfl, rfl⟩
theorem sX11_ask_C {D : DE} {f N R : Nat} {C : ty3} {F : Frm} (hF : k_Fix F) (hf : 3 + 1 * R ≤ f) (hC : ok3 D R f C) {h9 : HI} {g9 : HL} {x0 : Nat} {x2 : Int32} {x3 : Nat} {x4 : Int32} {h : HI} {g : HL} (E : pX11_ask_0 N R C F x0 x2 x3 x4 h g = some (h9, g9)) : Sv D (f + 1) mX11_ask [.ref (ad D x0), .ref (ad D 9), .int x2, .ref (ad D x3), .int x4] F h g (eqv h9 g9) := by
  exact wX11_ask (f := f) hF _ _ _ _ (jX11_ask_0 hf hC _ hF _ _ _ _ _ _ E)
def pX12_ask_0 (N R : Nat) (C : ty3) (F : Frm) (x0 : Nat) (x2 : Int32) (x3 : Nat) (x4 : Int32) (h : HI) (g : HL) : Option (HI × HL) :=
  gd (decide (F.2.1 x0 = (20, 0))) <|
  ob1 (F.2.2 x0 4) fun (b1 : Nat) =>
  gd (isEb F b1) <|
  bnd ((F.2.1 b1).1 - 10) fun (k2 : Nat) =>
  obv (pv_ask N R C k2 F b1 x2 x3 x4 h g) fun (h3 : HI) (g4 : HL) =>
  ob1 (F.2.2 x0 3) fun (b5 : Nat) =>
  ob1 (F.2.2 x0 3) fun (b6 : Nat) =>
  gd (isEb F b6) <|
  bnd ((F.2.1 b6).1 - 10) fun (k7 : Nat) =>
  gd (decide (F.2.1 x3 = (15, 0))) <|
  ob1 (F.2.2 x3 0) fun (b8 : Nat) =>
  gd (decide ((F.2.1 b8).1 = 0)) <|
  bnd ((F.2.1 b8).2) fun (m9 : Nat) =>
  gd (vin (h3 x0 2) m9) <|
  ob1 (F.2.2 x3 0) fun (b10 : Nat) =>
  gd (decide ((F.2.1 b10).1 = 0)) <|
  bnd ((F.2.1 b10).2) fun (m11 : Nat) =>
  gd (vin ((h3 x0 2) + 1) m11) <|
  obi (ppX1_both N R F (h3 b6 1) (h3 b8 (ix (h3 x0 2))) (h3 b10 (ix ((h3 x0 2) + 1))) h3 g4) fun (y12 : Int32) (h13 : HI) (g14 : HL) =>
  gd (isEb F b5) <|
  bnd ((F.2.1 b5).1 - 10) fun (k15 : Nat) =>
  obv (pv_ask N R C k15 F b5 y12 x3 x4 h13 g14) fun (h16 : HI) (g17 : HL) =>
  some (h16, g17)
theorem jX12_ask_0 {D : DE} {f N R : Nat} (hf : 3 + 1 * R ≤ f) {C : ty3} (hC : ok3 D R f C) {h9 : HI} {g9 : HL} : ∀ (F : Frm) (_ : k_Fix F) (x0 : Nat) (x2 : Int32) (x3 : Nat) (x4 : Int32) (h : HI) (g : HL), pX12_ask_0 N R C F x0 x2 x3 x4 h g = some (h9, g9) → JX12_ask_0 D f (eqv h9 g9) F h g x0 x2 x3 x4 := by
  intro F hF x0 x2 x3 x4 h g E
  unfold pX12_ask_0 at E
  obtain ⟨z0, E⟩ := gdE E; refine ⟨of_decide_eq_true z0, ?_⟩
  obtain ⟨b1, z0, E⟩ := ob1E E; refine ⟨b1, z0, ?_⟩
  obtain ⟨z0, E⟩ := gdE E; obtain ⟨k2, e1⟩ : ∃ k, k = (F.2.1 b1).1 - 10 := ⟨_, rfl⟩; replace E := bndE e1 E; have zEk2 : isE F b1 k2 := by rw [e1]; exact isEbE z0
  refine ⟨k2, zEk2, ?_⟩
  obtain ⟨h3, g4, e0, E⟩ := obvE E
  refine Sv.mono (sv_ask (N := N) (R := R) hF (by omega) hC zEk2 e0) (fun h8 g8 hq => ?_)
  obtain ⟨rfl, rfl⟩ := hq
  obtain ⟨b5, z0, E⟩ := ob1E E; refine ⟨b5, z0, ?_⟩
  obtain ⟨b6, z0, E⟩ := ob1E E; refine ⟨b6, z0, ?_⟩
  obtain ⟨z0, E⟩ := gdE E; obtain ⟨k7, e1⟩ : ∃ k, k = (F.2.1 b6).1 - 10 := ⟨_, rfl⟩; replace E := bndE e1 E; have zEk7 : isE F b6 k7 := by rw [e1]; exact isEbE z0
  refine ⟨k7, zEk7, ?_⟩
  obtain ⟨z0, E⟩ := gdE E; refine ⟨of_decide_eq_true z0, ?_⟩
  obtain ⟨b8, z0, E⟩ := ob1E E; refine ⟨b8, z0, ?_⟩
  obtain ⟨z0, E⟩ := gdE E; replace E := bndE rfl E; refine ⟨_, shE (of_decide_eq_true z0), ?_⟩
  obtain ⟨z0, E⟩ := gdE E; refine ⟨vinE z0, ?_⟩
  obtain ⟨b10, z0, E⟩ := ob1E E; refine ⟨b10, z0, ?_⟩
  obtain ⟨z0, E⟩ := gdE E; replace E := bndE rfl E; refine ⟨_, shE (of_decide_eq_true z0), ?_⟩
  obtain ⟨z0, E⟩ := gdE E; refine ⟨vinE z0, ?_⟩
  obtain ⟨y12, h13, g14, e0, E⟩ := obiE E
  refine Si.mono (sX1_both (N := N) (R := R) hF (by omega) e0) (fun y8 h8 g8 hq => ?_)
  obtain ⟨rfl, rfl, rfl⟩ := hq
  obtain ⟨z0, E⟩ := gdE E; obtain ⟨k15, e1⟩ : ∃ k, k = (F.2.1 b5).1 - 10 := ⟨_, rfl⟩; replace E := bndE e1 E; have zEk15 : isE F b5 k15 := by rw [e1]; exact isEbE z0
  refine ⟨k15, zEk15, ?_⟩
  obtain ⟨h16, g17, e0, E⟩ := obvE E
  refine Sv.mono (sv_ask (N := N) (R := R) hF (by omega) hC zEk15 e0) (fun h8 g8 hq => ?_)
  obtain ⟨rfl, rfl⟩ := hq
  cases E; exact ⟨rfl, rfl⟩
theorem sX12_ask_C {D : DE} {f N R : Nat} {C : ty3} {F : Frm} (hF : k_Fix F) (hf : 3 + 1 * R ≤ f) (hC : ok3 D R f C) {h9 : HI} {g9 : HL} {x0 : Nat} {x2 : Int32} {x3 : Nat} {x4 : Int32} {h : HI} {g : HL} (E : pX12_ask_0 N R C F x0 x2 x3 x4 h g = some (h9, g9)) : Sv D (f + 1) mX12_ask [.ref (ad D x0), .ref (ad D 9), .int x2, .ref (ad D x3), .int x4] F h g (eqv h9 g9) := by
  exact wX12_ask (f := f) hF _ _ _ _ (jX12_ask_0 hf hC _ hF _ _ _ _ _ _ E)
def pX13_ask_0 (N R : Nat) (C : ty3) (F : Frm) (x0 : Nat) (x2 : Int32) (x3 : Nat) (x4 : Int32) (h : HI) (g : HL) : Option (HI × HL) :=
  gd (decide (F.2.1 x0 = (21, 0))) <|
  ob1 (F.2.2 x0 2) fun (b1 : Nat) =>
  gd (isEb F b1) <|
  bnd ((F.2.1 b1).1 - 10) fun (k2 : Nat) =>
  obv (pv_ask N R C k2 F b1 1 x3 x4 h g) fun (h3 : HI) (g4 : HL) =>
  obr (ppX5_row N R F (2 * x4) h3 g4) fun (b5 : Nat) (h6 : HI) (g7 : HL) =>
  obr (ppX5_row N R F ((2 * x4) + 1) h6 g7) fun (b8 : Nat) (h9 : HI) (g10 : HL) =>
  ob1 (F.2.2 x0 3) fun (b11 : Nat) =>
  gd (isEb F b11) <|
  bnd ((F.2.1 b11).1 - 10) fun (k12 : Nat) =>
  obv (pv_ask N R C k12 F b11 x2 b5 (x4 + 1) h9 g10) fun (h13 : HI) (g14 : HL) =>
  ob1 (F.2.2 x0 4) fun (b15 : Nat) =>
  gd (isEb F b15) <|
  bnd ((F.2.1 b15).1 - 10) fun (k16 : Nat) =>
  obv (pv_ask N R C k16 F b15 x2 b8 (x4 + 1) h13 g14) fun (h17 : HI) (g18 : HL) =>
  ob1 (F.2.2 9 0) fun (b19 : Nat) =>
  gd (decide (F.2.1 b19 = (18, 0))) <|
  ob1 (F.2.2 b19 5) fun (b20 : Nat) =>
  ob1 (F.2.2 9 0) fun (b21 : Nat) =>
  gd (decide (F.2.1 b21 = (18, 0))) <|
  gd (decide (F.2.1 x3 = (15, 0))) <|
  obv (ppX6_addEither N R F x3 b20 (h17 b21 2) b5 b8 h17 g18) fun (h22 : HI) (g23 : HL) =>
  some (h22, g23)
theorem jX13_ask_0 {D : DE} {f N R : Nat} (hf : 3 + 1 * R ≤ f) {C : ty3} (hC : ok3 D R f C) {h9 : HI} {g9 : HL} : ∀ (F : Frm) (_ : k_Fix F) (x0 : Nat) (x2 : Int32) (x3 : Nat) (x4 : Int32) (h : HI) (g : HL), pX13_ask_0 N R C F x0 x2 x3 x4 h g = some (h9, g9) → JX13_ask_0 D f (eqv h9 g9) F h g x0 x2 x3 x4 := by
  intro F hF x0 x2 x3 x4 h g E
  unfold pX13_ask_0 at E
  obtain ⟨z0, E⟩ := gdE E; refine ⟨of_decide_eq_true z0, ?_⟩
  obtain ⟨b1, z0, E⟩ := ob1E E; refine ⟨b1, z0, ?_⟩
  obtain ⟨z0, E⟩ := gdE E; obtain ⟨k2, e1⟩ : ∃ k, k = (F.2.1 b1).1 - 10 := ⟨_, rfl⟩; replace E := bndE e1 E; have zEk2 : isE F b1 k2 := by rw [e1]; exact isEbE z0
  refine ⟨k2, zEk2, ?_⟩
  obtain ⟨h3, g4, e0, E⟩ := obvE E
  refine Sv.mono (sv_ask (N := N) (R := R) hF (by omega) hC zEk2 e0) (fun h8 g8 hq => ?_)
  obtain ⟨rfl, rfl⟩ := hq
  obtain ⟨b5, h6, g7, e0, E⟩ := obrE E
  refine Sr.mono (sX5_row (N := N) (R := R) hF (by omega) e0) (fun y8 h8 g8 hq => ?_)
  obtain ⟨rfl, rfl, rfl⟩ := hq
  obtain ⟨b8, h9, g10, e0, E⟩ := obrE E
  refine Sr.mono (sX5_row (N := N) (R := R) hF (by omega) e0) (fun y8 h8 g8 hq => ?_)
  obtain ⟨rfl, rfl, rfl⟩ := hq
  obtain ⟨b11, z0, E⟩ := ob1E E; refine ⟨b11, z0, ?_⟩
  obtain ⟨z0, E⟩ := gdE E; obtain ⟨k12, e1⟩ : ∃ k, k = (F.2.1 b11).1 - 10 := ⟨_, rfl⟩; replace E := bndE e1 E; have zEk12 : isE F b11 k12 := by rw [e1]; exact isEbE z0
  refine ⟨k12, zEk12, ?_⟩
  obtain ⟨h13, g14, e0, E⟩ := obvE E
  refine Sv.mono (sv_ask (N := N) (R := R) hF (by omega) hC zEk12 e0) (fun h8 g8 hq => ?_)
  obtain ⟨rfl, rfl⟩ := hq
  obtain ⟨b15, z0, E⟩ := ob1E E; refine ⟨b15, z0, ?_⟩
  obtain ⟨z0, E⟩ := gdE E; obtain ⟨k16, e1⟩ : ∃ k, k = (F.2.1 b15).1 - 10 := ⟨_, rfl⟩; replace E := bndE e1 E; have zEk16 : isE F b15 k16 := by rw [e1]; exact isEbE z0
  refine ⟨k16, zEk16, ?_⟩
  obtain ⟨h17, g18, e0, E⟩ := obvE E
  refine Sv.mono (sv_ask (N := N) (R := R) hF (by omega) hC zEk16 e0) (fun h8 g8 hq => ?_)
  obtain ⟨rfl, rfl⟩ := hq
  obtain ⟨b19, z0, E⟩ := ob1E E; refine ⟨b19, z0, ?_⟩
  obtain ⟨z0, E⟩ := gdE E; refine ⟨of_decide_eq_true z0, ?_⟩
  obtain ⟨b20, z0, E⟩ := ob1E E; refine ⟨b20, z0, ?_⟩
  obtain ⟨b21, z0, E⟩ := ob1E E; refine ⟨b21, z0, ?_⟩
  obtain ⟨z0, E⟩ := gdE E; refine ⟨of_decide_eq_true z0, ?_⟩
  obtain ⟨z0, E⟩ := gdE E; refine ⟨of_decide_eq_true z0, ?_⟩
  obtain ⟨h22, g23, e0, E⟩ := obvE E
  refine Sv.mono (sX6_addEither (N := N) (R := R) hF (by omega) e0) (fun h8 g8 hq => ?_)
  obtain ⟨rfl, rfl⟩ := hq
  cases E; exact ⟨rfl, rfl⟩
theorem sX13_ask_C {D : DE} {f N R : Nat} {C : ty3} {F : Frm} (hF : k_Fix F) (hf : 3 + 1 * R ≤ f) (hC : ok3 D R f C) {h9 : HI} {g9 : HL} {x0 : Nat} {x2 : Int32} {x3 : Nat} {x4 : Int32} {h : HI} {g : HL} (E : pX13_ask_0 N R C F x0 x2 x3 x4 h g = some (h9, g9)) : Sv D (f + 1) mX13_ask [.ref (ad D x0), .ref (ad D 9), .int x2, .ref (ad D x3), .int x4] F h g (eqv h9 g9) := by
  exact wX13_ask (f := f) hF _ _ _ _ (jX13_ask_0 hf hC _ hF _ _ _ _ _ _ E)
def pX16_ask_30 (N R : Nat) (C : ty3) (F : Frm) (x0 : Nat) (x2 : Int32) (x3 : Nat) (x4 : Int32) (h : HI) (g : HL) : Option (HI × HL) :=
  gd (decide (F.2.1 x0 = (24, 0))) <|
  obi (ppX1_second N R F (h x0 1) x2 h g) fun (y1 : Int32) (h2 : HI) (g3 : HL) =>
  if y1 = 0 then
    some (h2, g3)
  else
    ob1 (F.2.2 x0 3) fun (b4 : Nat) =>
    obi (ppX1_second N R F (h2 x0 1) x2 h2 g3) fun (y5 : Int32) (h6 : HI) (g7 : HL) =>
    gd (isEb F b4) <|
    bnd ((F.2.1 b4).1 - 10) fun (k8 : Nat) =>
    obv (pv_ask N R C k8 F b4 y5 x3 x4 h6 g7) fun (h9 : HI) (g10 : HL) =>
    some (h9, g10)
theorem jX16_ask_30 {D : DE} {f N R : Nat} (hf : 3 + 1 * R ≤ f) {C : ty3} (hC : ok3 D R f C) {h9 : HI} {g9 : HL} : ∀ (F : Frm) (_ : k_Fix F) (x0 : Nat) (x2 : Int32) (x3 : Nat) (x4 : Int32) (h : HI) (g : HL), pX16_ask_30 N R C F x0 x2 x3 x4 h g = some (h9, g9) → JX16_ask_30 D f (eqv h9 g9) F h g x0 x2 x3 x4 := by
  intro F hF x0 x2 x3 x4 h g E
  unfold pX16_ask_30 at E
  obtain ⟨z0, E⟩ := gdE E; refine ⟨of_decide_eq_true z0, ?_⟩
  obtain ⟨y1, h2, g3, e0, E⟩ := obiE E
  refine Si.mono (sX1_second (N := N) (R := R) hF (by omega) e0) (fun y8 h8 g8 hq => ?_)
  obtain ⟨rfl, rfl, rfl⟩ := hq
  refine ⟨fun c0 => ?_, fun c0 => ?_⟩
  · replace E := iteT c0 E
    cases E; exact ⟨rfl, rfl⟩
  · replace E := iteF c0 E
    obtain ⟨b4, z0, E⟩ := ob1E E; refine ⟨b4, z0, ?_⟩
    obtain ⟨y5, h6, g7, e0, E⟩ := obiE E
    refine Si.mono (sX1_second (N := N) (R := R) hF (by omega) e0) (fun y8 h8 g8 hq => ?_)
    obtain ⟨rfl, rfl, rfl⟩ := hq
    obtain ⟨z0, E⟩ := gdE E; obtain ⟨k8, e1⟩ : ∃ k, k = (F.2.1 b4).1 - 10 := ⟨_, rfl⟩; replace E := bndE e1 E; have zEk8 : isE F b4 k8 := by rw [e1]; exact isEbE z0
    refine ⟨k8, zEk8, ?_⟩
    obtain ⟨h9, g10, e0, E⟩ := obvE E
    refine Sv.mono (sv_ask (N := N) (R := R) hF (by omega) hC zEk8 e0) (fun h8 g8 hq => ?_)
    obtain ⟨rfl, rfl⟩ := hq
    cases E; exact ⟨rfl, rfl⟩
def pX16_ask_0 (N R : Nat) (C : ty3) (F : Frm) (x0 : Nat) (x2 : Int32) (x3 : Nat) (x4 : Int32) (h : HI) (g : HL) : Option (HI × HL) :=
  gd (decide (F.2.1 x0 = (24, 0))) <|
  obi (ppX1_first N R F (h x0 1) x2 h g) fun (y1 : Int32) (h2 : HI) (g3 : HL) =>
  if y1 = 0 then
    pX16_ask_30 N R C F x0 x2 x3 x4 h2 g3
  else
    ob1 (F.2.2 x0 2) fun (b4 : Nat) =>
    obi (ppX1_first N R F (h2 x0 1) x2 h2 g3) fun (y5 : Int32) (h6 : HI) (g7 : HL) =>
    gd (isEb F b4) <|
    bnd ((F.2.1 b4).1 - 10) fun (k8 : Nat) =>
    obv (pv_ask N R C k8 F b4 y5 x3 x4 h6 g7) fun (h9 : HI) (g10 : HL) =>
    pX16_ask_30 N R C F x0 x2 x3 x4 h9 g10
theorem jX16_ask_0 {D : DE} {f N R : Nat} (hf : 3 + 1 * R ≤ f) {C : ty3} (hC : ok3 D R f C) {h9 : HI} {g9 : HL} : ∀ (F : Frm) (_ : k_Fix F) (x0 : Nat) (x2 : Int32) (x3 : Nat) (x4 : Int32) (h : HI) (g : HL), pX16_ask_0 N R C F x0 x2 x3 x4 h g = some (h9, g9) → JX16_ask_0 D f (eqv h9 g9) F h g x0 x2 x3 x4 := by
  intro F hF x0 x2 x3 x4 h g E
  unfold pX16_ask_0 at E
  obtain ⟨z0, E⟩ := gdE E; refine ⟨of_decide_eq_true z0, ?_⟩
  obtain ⟨y1, h2, g3, e0, E⟩ := obiE E
  refine Si.mono (sX1_first (N := N) (R := R) hF (by omega) e0) (fun y8 h8 g8 hq => ?_)
  obtain ⟨rfl, rfl, rfl⟩ := hq
  refine ⟨fun c0 => ?_, fun c0 => ?_⟩
  · replace E := iteT c0 E
    exact jX16_ask_30 hf hC  _ hF _ _ _ _ _ _ E
  · replace E := iteF c0 E
    obtain ⟨b4, z0, E⟩ := ob1E E; refine ⟨b4, z0, ?_⟩
    obtain ⟨y5, h6, g7, e0, E⟩ := obiE E
    refine Si.mono (sX1_first (N := N) (R := R) hF (by omega) e0) (fun y8 h8 g8 hq => ?_)
    obtain ⟨rfl, rfl, rfl⟩ := hq
    obtain ⟨z0, E⟩ := gdE E; obtain ⟨k8, e1⟩ : ∃ k, k = (F.2.1 b4).1 - 10 := ⟨_, rfl⟩; replace E := bndE e1 E; have zEk8 : isE F b4 k8 := by rw [e1]; exact isEbE z0
    refine ⟨k8, zEk8, ?_⟩
    obtain ⟨h9, g10, e0, E⟩ := obvE E
    refine Sv.mono (sv_ask (N := N) (R := R) hF (by omega) hC zEk8 e0) (fun h8 g8 hq => ?_)
    obtain ⟨rfl, rfl⟩ := hq
    exact jX16_ask_30 hf hC  _ hF _ _ _ _ _ _ E
theorem sX16_ask_C {D : DE} {f N R : Nat} {C : ty3} {F : Frm} (hF : k_Fix F) (hf : 3 + 1 * R ≤ f) (hC : ok3 D R f C) {h9 : HI} {g9 : HL} {x0 : Nat} {x2 : Int32} {x3 : Nat} {x4 : Int32} {h : HI} {g : HL} (E : pX16_ask_0 N R C F x0 x2 x3 x4 h g = some (h9, g9)) : Sv D (f + 1) mX16_ask [.ref (ad D x0), .ref (ad D 9), .int x2, .ref (ad D x3), .int x4] F h g (eqv h9 g9) := by
  exact wX16_ask (f := f) hF _ _ _ _ (jX16_ask_0 hf hC _ hF _ _ _ _ _ _ E)
def pX17_ask_79 (N R : Nat) (C : ty3) (K21 : Frm → Nat → Int32 → Nat → Int32 → Int32 → HI → HL → Option (HI × HL)) (F : Frm) (x0 : Nat) (x2 : Int32) (x3 : Nat) (x4 : Int32) (x5 : Int32) (h : HI) (g : HL) : Option (HI × HL) :=
  bnd (x5 + 1) fun (y1 : Int32) =>
  K21 F x0 x2 x3 x4 y1 h g
theorem jX17_ask_79 {D : DE} {f N R : Nat} (hf : 3 + 1 * R ≤ f) {C : ty3} (hC : ok3 D R f C) {K21 : Frm → Nat → Int32 → Nat → Int32 → Int32 → HI → HL → Option (HI × HL)} {h9 : HI} {g9 : HL} (hK21 : ∀ (F : Frm) (_ : k_Fix F) (x0 : Nat) (x2 : Int32) (x3 : Nat) (x4 : Int32) (x5 : Int32) (h : HI) (g : HL), K21 F x0 x2 x3 x4 x5 h g = some (h9, g9) → V D mX17_ask (f + 1) (qv F (eqv h9 g9)) 21 [(0, .ref (ad D x0)), (1, .ref (ad D 9)), (2, .int x2), (3, .ref (ad D x3)), (4, .int x4), (5, .int x5)] [] (F, h, g)) : ∀ (F : Frm) (_ : k_Fix F) (x0 : Nat) (x2 : Int32) (x3 : Nat) (x4 : Int32) (x5 : Int32) (h : HI) (g : HL), pX17_ask_79 N R C K21 F x0 x2 x3 x4 x5 h g = some (h9, g9) → JX17_ask_79 D f (eqv h9 g9) F h g x0 x2 x3 x4 x5 := by
  intro F hF x0 x2 x3 x4 x5 h g E
  unfold pX17_ask_79 at E
  intro y1 e0; replace E := bndE e0 E
  exact hK21 _ hF _ _ _ _ _ _ _ E
def pX17_ask_21 (N R : Nat) (C : ty3) : Nat → Frm → Nat → Int32 → Nat → Int32 → Int32 → HI → HL → Option (HI × HL)
  | 0, _, _, _, _, _, _, _, _ => none
  | n + 1, F, x0, x2, x3, x4, x5, h, g =>
    gd (decide (F.2.1 x0 = (25, 0))) <|
    if (h x0 4) ≤ x5 then
      some (h, g)
    else
      ob1 (F.2.2 x0 2) fun (b1 : Nat) =>
      gd (decide (F.2.1 b1 = (18, 0))) <|
      ob1 (F.2.2 b1 7) fun (b2 : Nat) =>
      gd (decide ((F.2.1 b2).1 = 2)) <|
      bnd ((F.2.1 b2).2) fun (m3 : Nat) =>
      gd (vin x2 m3) <|
      if (h b2 (ix x2)) = 0 then
        ob1 (F.2.2 x0 2) fun (b4 : Nat) =>
        gd (decide (F.2.1 b4 = (18, 0))) <|
        ob1 (F.2.2 b4 8) fun (b5 : Nat) =>
        gd (decide ((F.2.1 b5).1 = 0)) <|
        bnd ((F.2.1 b5).2) fun (m6 : Nat) =>
        gd (vin ((4 * x2) + x5) m6) <|
        bnd (h b5 (ix ((4 * x2) + x5))) fun (y7 : Int32) =>
        if y7 = 0 then
          pX17_ask_79 N R C (pX17_ask_21 N R C n) F x0 x2 x3 x4 x5 h g
        else
          ob1 (F.2.2 x0 3) fun (b8 : Nat) =>
          gd (decide ((F.2.1 b8).1 = 5)) <|
          bnd ((F.2.1 b8).2) fun (m9 : Nat) =>
          gd (vin x5 m9) <|
          ob1 (F.2.2 b8 (ix x5)) fun (b10 : Nat) =>
          gd (isEb F b10) <|
          bnd ((F.2.1 b10).1 - 10) fun (k11 : Nat) =>
          obv (pv_ask N R C k11 F b10 y7 x3 x4 h g) fun (h12 : HI) (g13 : HL) =>
          pX17_ask_79 N R C (pX17_ask_21 N R C n) F x0 x2 x3 x4 x5 h12 g13
      else
        some (h, g)
theorem lX17_ask_21 {D : DE} {f N R : Nat} (hf : 3 + 1 * R ≤ f) {C : ty3} (hC : ok3 D R f C) {h9 : HI} {g9 : HL} : ∀ (n : Nat) (F : Frm) (_ : k_Fix F) (x0 : Nat) (x2 : Int32) (x3 : Nat) (x4 : Int32) (x5 : Int32) (h : HI) (g : HL), pX17_ask_21 N R C n F x0 x2 x3 x4 x5 h g = some (h9, g9) → V D mX17_ask (f + 1) (qv F (eqv h9 g9)) 21 [(0, .ref (ad D x0)), (1, .ref (ad D 9)), (2, .int x2), (3, .ref (ad D x3)), (4, .int x4), (5, .int x5)] [] (F, h, g) := by
  intro n
  induction n with
  | zero => intro F hF x0 x2 x3 x4 x5 h g E; cases E
  | succ n hK21 =>
    intro F hF x0 x2 x3 x4 x5 h g E
    rw [pX17_ask_21] at E
    refine bX17_ask_21 (f := f) hF x0 x2 x3 x4 x5  ?_
    obtain ⟨z0, E⟩ := gdE E; refine ⟨of_decide_eq_true z0, ?_⟩
    refine ⟨fun c0 => ?_, fun c0 => ?_⟩
    · replace E := iteT c0 E
      cases E; exact ⟨rfl, rfl⟩
    · replace E := iteF c0 E
      obtain ⟨b1, z0, E⟩ := ob1E E; refine ⟨b1, z0, ?_⟩
      obtain ⟨z0, E⟩ := gdE E; refine ⟨of_decide_eq_true z0, ?_⟩
      obtain ⟨b2, z0, E⟩ := ob1E E; refine ⟨b2, z0, ?_⟩
      obtain ⟨z0, E⟩ := gdE E; replace E := bndE rfl E; refine ⟨_, shE (of_decide_eq_true z0), ?_⟩
      obtain ⟨z0, E⟩ := gdE E; refine ⟨vinE z0, ?_⟩
      refine ⟨fun c0 => ?_, fun c0 => ?_⟩
      · replace E := iteF c0 E
        cases E; exact ⟨rfl, rfl⟩
      · replace E := iteT c0 E
        obtain ⟨b4, z0, E⟩ := ob1E E; refine ⟨b4, z0, ?_⟩
        obtain ⟨z0, E⟩ := gdE E; refine ⟨of_decide_eq_true z0, ?_⟩
        obtain ⟨b5, z0, E⟩ := ob1E E; refine ⟨b5, z0, ?_⟩
        obtain ⟨z0, E⟩ := gdE E; replace E := bndE rfl E; refine ⟨_, shE (of_decide_eq_true z0), ?_⟩
        obtain ⟨z0, E⟩ := gdE E; refine ⟨vinE z0, ?_⟩
        intro y7 e0; replace E := bndE e0 E
        refine ⟨fun c0 => ?_, fun c0 => ?_⟩
        · replace E := iteT c0 E
          exact jX17_ask_79 hf hC hK21 _ hF _ _ _ _ _ _ _ E
        · replace E := iteF c0 E
          obtain ⟨b8, z0, E⟩ := ob1E E; refine ⟨b8, z0, ?_⟩
          obtain ⟨z0, E⟩ := gdE E; replace E := bndE rfl E; refine ⟨_, shE (of_decide_eq_true z0), ?_⟩
          obtain ⟨z0, E⟩ := gdE E; refine ⟨vinE z0, ?_⟩
          obtain ⟨b10, z0, E⟩ := ob1E E; refine ⟨b10, z0, ?_⟩
          obtain ⟨z0, E⟩ := gdE E; obtain ⟨k11, e1⟩ : ∃ k, k = (F.2.1 b10).1 - 10 := ⟨_, rfl⟩; replace E := bndE e1 E; have zEk11 : isE F b10 k11 := by rw [e1]; exact isEbE z0
          refine ⟨k11, zEk11, ?_⟩
          obtain ⟨h12, g13, e0, E⟩ := obvE E
          refine Sv.mono (sv_ask (N := N) (R := R) hF (by omega) hC zEk11 e0) (fun h8 g8 hq => ?_)
          obtain ⟨rfl, rfl⟩ := hq
          exact jX17_ask_79 hf hC hK21 _ hF _ _ _ _ _ _ _ E
def pX17_ask_0 (N R : Nat) (C : ty3) (F : Frm) (x0 : Nat) (x2 : Int32) (x3 : Nat) (x4 : Int32) (h : HI) (g : HL) : Option (HI × HL) :=
  gd (decide (F.2.1 x3 = (15, 0))) <|
  gd (decide (F.2.1 x0 = (25, 0))) <|
  ob1 (F.2.2 x0 2) fun (b1 : Nat) =>
  gd (decide (F.2.1 b1 = (18, 0))) <|
  ob1 (F.2.2 b1 7) fun (b2 : Nat) =>
  gd (decide ((F.2.1 b2).1 = 2)) <|
  bnd ((F.2.1 b2).2) fun (m3 : Nat) =>
  gd (vin x2 m3) <|
  gd (isBb ((h x3 1) ||| (h b2 (ix x2)))) <|
  bnd (up2 h x3 1 ((h x3 1) ||| (h b2 (ix x2)))) fun (h4 : HI) =>
  pX17_ask_21 N R C N F x0 x2 x3 x4 0 h4 g
theorem jX17_ask_0 {D : DE} {f N R : Nat} (hf : 3 + 1 * R ≤ f) {C : ty3} (hC : ok3 D R f C) {h9 : HI} {g9 : HL} : ∀ (F : Frm) (_ : k_Fix F) (x0 : Nat) (x2 : Int32) (x3 : Nat) (x4 : Int32) (h : HI) (g : HL), pX17_ask_0 N R C F x0 x2 x3 x4 h g = some (h9, g9) → JX17_ask_0 D f (eqv h9 g9) F h g x0 x2 x3 x4 := by
  intro F hF x0 x2 x3 x4 h g E
  unfold pX17_ask_0 at E
  obtain ⟨z0, E⟩ := gdE E; refine ⟨of_decide_eq_true z0, ?_⟩
  obtain ⟨z0, E⟩ := gdE E; refine ⟨of_decide_eq_true z0, ?_⟩
  obtain ⟨b1, z0, E⟩ := ob1E E; refine ⟨b1, z0, ?_⟩
  obtain ⟨z0, E⟩ := gdE E; refine ⟨of_decide_eq_true z0, ?_⟩
  obtain ⟨b2, z0, E⟩ := ob1E E; refine ⟨b2, z0, ?_⟩
  obtain ⟨z0, E⟩ := gdE E; replace E := bndE rfl E; refine ⟨_, shE (of_decide_eq_true z0), ?_⟩
  obtain ⟨z0, E⟩ := gdE E; refine ⟨vinE z0, ?_⟩
  obtain ⟨z0, E⟩ := gdE E; refine ⟨isBbE z0, ?_⟩
  intro h4 e0; replace E := bndE e0 E
  exact lX17_ask_21 hf hC  N _ hF _ _ _ _ _ _ _ E
theorem sX17_ask_C {D : DE} {f N R : Nat} {C : ty3} {F : Frm} (hF : k_Fix F) (hf : 3 + 1 * R ≤ f) (hC : ok3 D R f C) {h9 : HI} {g9 : HL} {x0 : Nat} {x2 : Int32} {x3 : Nat} {x4 : Int32} {h : HI} {g : HL} (E : pX17_ask_0 N R C F x0 x2 x3 x4 h g = some (h9, g9)) : Sv D (f + 1) mX17_ask [.ref (ad D x0), .ref (ad D 9), .int x2, .ref (ad D x3), .int x4] F h g (eqv h9 g9) := by
  exact wX17_ask (f := f) hF _ _ _ _ (jX17_ask_0 hf hC _ hF _ _ _ _ _ _ E)
def pX19_ask_0 (N R : Nat) (C : ty3) (F : Frm) (x0 : Nat) (x2 : Int32) (x3 : Nat) (x4 : Int32) (h : HI) (g : HL) : Option (HI × HL) :=
  gd (decide (F.2.1 x0 = (27, 0))) <|
  ob1 (F.2.2 x0 3) fun (b1 : Nat) =>
  gd (isEb F b1) <|
  bnd ((F.2.1 b1).1 - 10) fun (k2 : Nat) =>
  obv (pv_ask N R C k2 F b1 1 x3 x4 h g) fun (h3 : HI) (g4 : HL) =>
  ob1 (F.2.2 x0 4) fun (b5 : Nat) =>
  gd (isEb F b5) <|
  bnd ((F.2.1 b5).1 - 10) fun (k6 : Nat) =>
  obv (pv_ask N R C k6 F b5 1 x3 x4 h3 g4) fun (h7 : HI) (g8 : HL) =>
  some (h7, g8)
theorem jX19_ask_0 {D : DE} {f N R : Nat} (hf : 3 + 1 * R ≤ f) {C : ty3} (hC : ok3 D R f C) {h9 : HI} {g9 : HL} : ∀ (F : Frm) (_ : k_Fix F) (x0 : Nat) (x2 : Int32) (x3 : Nat) (x4 : Int32) (h : HI) (g : HL), pX19_ask_0 N R C F x0 x2 x3 x4 h g = some (h9, g9) → JX19_ask_0 D f (eqv h9 g9) F h g x0 x2 x3 x4 := by
  intro F hF x0 x2 x3 x4 h g E
  unfold pX19_ask_0 at E
  obtain ⟨z0, E⟩ := gdE E; refine ⟨of_decide_eq_true z0, ?_⟩
  obtain ⟨b1, z0, E⟩ := ob1E E; refine ⟨b1, z0, ?_⟩
  obtain ⟨z0, E⟩ := gdE E; obtain ⟨k2, e1⟩ : ∃ k, k = (F.2.1 b1).1 - 10 := ⟨_, rfl⟩; replace E := bndE e1 E; have zEk2 : isE F b1 k2 := by rw [e1]; exact isEbE z0
  refine ⟨k2, zEk2, ?_⟩
  obtain ⟨h3, g4, e0, E⟩ := obvE E
  refine Sv.mono (sv_ask (N := N) (R := R) hF (by omega) hC zEk2 e0) (fun h8 g8 hq => ?_)
  obtain ⟨rfl, rfl⟩ := hq
  obtain ⟨b5, z0, E⟩ := ob1E E; refine ⟨b5, z0, ?_⟩
  obtain ⟨z0, E⟩ := gdE E; obtain ⟨k6, e1⟩ : ∃ k, k = (F.2.1 b5).1 - 10 := ⟨_, rfl⟩; replace E := bndE e1 E; have zEk6 : isE F b5 k6 := by rw [e1]; exact isEbE z0
  refine ⟨k6, zEk6, ?_⟩
  obtain ⟨h7, g8, e0, E⟩ := obvE E
  refine Sv.mono (sv_ask (N := N) (R := R) hF (by omega) hC zEk6 e0) (fun h8 g8 hq => ?_)
  obtain ⟨rfl, rfl⟩ := hq
  cases E; exact ⟨rfl, rfl⟩
theorem sX19_ask_C {D : DE} {f N R : Nat} {C : ty3} {F : Frm} (hF : k_Fix F) (hf : 3 + 1 * R ≤ f) (hC : ok3 D R f C) {h9 : HI} {g9 : HL} {x0 : Nat} {x2 : Int32} {x3 : Nat} {x4 : Int32} {h : HI} {g : HL} (E : pX19_ask_0 N R C F x0 x2 x3 x4 h g = some (h9, g9)) : Sv D (f + 1) mX19_ask [.ref (ad D x0), .ref (ad D 9), .int x2, .ref (ad D x3), .int x4] F h g (eqv h9 g9) := by
  exact wX19_ask (f := f) hF _ _ _ _ (jX19_ask_0 hf hC _ hF _ _ _ _ _ _ E)
def tie3 (N R : Nat) : Nat → ty3
  | 0 => ((fun _ _ _ _ _ _ _ => none), (fun _ _ _ _ _ _ _ => none), (fun _ _ _ _ _ _ _ => none), (fun _ _ _ _ _ _ _ => none), (fun _ _ _ _ _ _ _ => none), (fun _ _ _ _ _ _ _ => none))
  | n + 1 => ((fun F x0 x2 x3 x4 h g => pX11_ask_0 N R (tie3 N R n) F x0 x2 x3 x4 h g), (fun F x0 x2 x3 x4 h g => pX12_ask_0 N R (tie3 N R n) F x0 x2 x3 x4 h g), (fun F x0 x2 x3 x4 h g => pX13_ask_0 N R (tie3 N R n) F x0 x2 x3 x4 h g), (fun F x0 x2 x3 x4 h g => pX16_ask_0 N R (tie3 N R n) F x0 x2 x3 x4 h g), (fun F x0 x2 x3 x4 h g => pX17_ask_0 N R (tie3 N R n) F x0 x2 x3 x4 h g), (fun F x0 x2 x3 x4 h g => pX19_ask_0 N R (tie3 N R n) F x0 x2 x3 x4 h g))
theorem tie3_ok {D : DE} {N R : Nat} : ∀ (n f : Nat), 3 + 1 * R + n ≤ f → ok3 D R f (tie3 N R n) := by
  intro n
  induction n with
  | zero =>
    intro f hf
    exact ⟨fun _ _ _ _ _ _ _ _ _ _ E => (by cases E), fun _ _ _ _ _ _ _ _ _ _ E => (by cases E), fun _ _ _ _ _ _ _ _ _ _ E => (by cases E), fun _ _ _ _ _ _ _ _ _ _ E => (by cases E), fun _ _ _ _ _ _ _ _ _ _ E => (by cases E), fun _ _ _ _ _ _ _ _ _ _ E => (by cases E)⟩
  | succ n ih =>
    intro f hf
    obtain ⟨f, rfl⟩ : ∃ f0, f = f0 + 1 := ⟨f - 1, by omega⟩
    have hC := ih f (by omega)
    exact ⟨fun F hF x0 x2 x3 x4 h g h9 g9 E => sX11_ask_C (N := N) (R := R) hF (by omega) hC E, fun F hF x0 x2 x3 x4 h g h9 g9 E => sX12_ask_C (N := N) (R := R) hF (by omega) hC E, fun F hF x0 x2 x3 x4 h g h9 g9 E => sX13_ask_C (N := N) (R := R) hF (by omega) hC E, fun F hF x0 x2 x3 x4 h g h9 g9 E => sX16_ask_C (N := N) (R := R) hF (by omega) hC E, fun F hF x0 x2 x3 x4 h g h9 g9 E => sX17_ask_C (N := N) (R := R) hF (by omega) hC E, fun F hF x0 x2 x3 x4 h g h9 g9 E => sX19_ask_C (N := N) (R := R) hF (by omega) hC E⟩
abbrev ppX11_ask (N R : Nat) (F : Frm) (x0 : Nat) (x2 : Int32) (x3 : Nat) (x4 : Int32) (h : HI) (g : HL) : Option (HI × HL) := (tie3 N R R).1 F x0 x2 x3 x4 h g
theorem sX11_ask {D : DE} {f N R : Nat} {F : Frm} (hF : k_Fix F) (hf : 3 + 2 * R ≤ f) {h9 : HI} {g9 : HL} {x0 : Nat} {x2 : Int32} {x3 : Nat} {x4 : Int32} {h : HI} {g : HL} (E : ppX11_ask N R F x0 x2 x3 x4 h g = some (h9, g9)) : Sv D f mX11_ask [.ref (ad D x0), .ref (ad D 9), .int x2, .ref (ad D x3), .int x4] F h g (eqv h9 g9) := (tie3_ok (N := N) R f (by omega)).1 _ hF _ _ _ _ _ _ _ _ E
abbrev ppX12_ask (N R : Nat) (F : Frm) (x0 : Nat) (x2 : Int32) (x3 : Nat) (x4 : Int32) (h : HI) (g : HL) : Option (HI × HL) := (tie3 N R R).2.1 F x0 x2 x3 x4 h g
theorem sX12_ask {D : DE} {f N R : Nat} {F : Frm} (hF : k_Fix F) (hf : 3 + 2 * R ≤ f) {h9 : HI} {g9 : HL} {x0 : Nat} {x2 : Int32} {x3 : Nat} {x4 : Int32} {h : HI} {g : HL} (E : ppX12_ask N R F x0 x2 x3 x4 h g = some (h9, g9)) : Sv D f mX12_ask [.ref (ad D x0), .ref (ad D 9), .int x2, .ref (ad D x3), .int x4] F h g (eqv h9 g9) := (tie3_ok (N := N) R f (by omega)).2.1 _ hF _ _ _ _ _ _ _ _ E
abbrev ppX13_ask (N R : Nat) (F : Frm) (x0 : Nat) (x2 : Int32) (x3 : Nat) (x4 : Int32) (h : HI) (g : HL) : Option (HI × HL) := (tie3 N R R).2.2.1 F x0 x2 x3 x4 h g
theorem sX13_ask {D : DE} {f N R : Nat} {F : Frm} (hF : k_Fix F) (hf : 3 + 2 * R ≤ f) {h9 : HI} {g9 : HL} {x0 : Nat} {x2 : Int32} {x3 : Nat} {x4 : Int32} {h : HI} {g : HL} (E : ppX13_ask N R F x0 x2 x3 x4 h g = some (h9, g9)) : Sv D f mX13_ask [.ref (ad D x0), .ref (ad D 9), .int x2, .ref (ad D x3), .int x4] F h g (eqv h9 g9) := (tie3_ok (N := N) R f (by omega)).2.2.1 _ hF _ _ _ _ _ _ _ _ E
abbrev ppX16_ask (N R : Nat) (F : Frm) (x0 : Nat) (x2 : Int32) (x3 : Nat) (x4 : Int32) (h : HI) (g : HL) : Option (HI × HL) := (tie3 N R R).2.2.2.1 F x0 x2 x3 x4 h g
theorem sX16_ask {D : DE} {f N R : Nat} {F : Frm} (hF : k_Fix F) (hf : 3 + 2 * R ≤ f) {h9 : HI} {g9 : HL} {x0 : Nat} {x2 : Int32} {x3 : Nat} {x4 : Int32} {h : HI} {g : HL} (E : ppX16_ask N R F x0 x2 x3 x4 h g = some (h9, g9)) : Sv D f mX16_ask [.ref (ad D x0), .ref (ad D 9), .int x2, .ref (ad D x3), .int x4] F h g (eqv h9 g9) := (tie3_ok (N := N) R f (by omega)).2.2.2.1 _ hF _ _ _ _ _ _ _ _ E
abbrev ppX17_ask (N R : Nat) (F : Frm) (x0 : Nat) (x2 : Int32) (x3 : Nat) (x4 : Int32) (h : HI) (g : HL) : Option (HI × HL) := (tie3 N R R).2.2.2.2.1 F x0 x2 x3 x4 h g
theorem sX17_ask {D : DE} {f N R : Nat} {F : Frm} (hF : k_Fix F) (hf : 3 + 2 * R ≤ f) {h9 : HI} {g9 : HL} {x0 : Nat} {x2 : Int32} {x3 : Nat} {x4 : Int32} {h : HI} {g : HL} (E : ppX17_ask N R F x0 x2 x3 x4 h g = some (h9, g9)) : Sv D f mX17_ask [.ref (ad D x0), .ref (ad D 9), .int x2, .ref (ad D x3), .int x4] F h g (eqv h9 g9) := (tie3_ok (N := N) R f (by omega)).2.2.2.2.1 _ hF _ _ _ _ _ _ _ _ E
abbrev ppX19_ask (N R : Nat) (F : Frm) (x0 : Nat) (x2 : Int32) (x3 : Nat) (x4 : Int32) (h : HI) (g : HL) : Option (HI × HL) := (tie3 N R R).2.2.2.2.2 F x0 x2 x3 x4 h g
theorem sX19_ask {D : DE} {f N R : Nat} {F : Frm} (hF : k_Fix F) (hf : 3 + 2 * R ≤ f) {h9 : HI} {g9 : HL} {x0 : Nat} {x2 : Int32} {x3 : Nat} {x4 : Int32} {h : HI} {g : HL} (E : ppX19_ask N R F x0 x2 x3 x4 h g = some (h9, g9)) : Sv D f mX19_ask [.ref (ad D x0), .ref (ad D 9), .int x2, .ref (ad D x3), .int x4] F h g (eqv h9 g9) := (tie3_ok (N := N) R f (by omega)).2.2.2.2.2 _ hF _ _ _ _ _ _ _ _ E
def pX5_of_28 (N R : Nat) : Nat → Frm → Nat → Int32 → HI → HL → GO Nat
  | 0, _, _, _, _, _ => none
  | n + 1, F, x1, x3, h, g =>
    gd (decide (F.2.1 x1 = (18, 0))) <|
    if (h x1 1) ≤ x3 then
      some (.inl (11, F, h, g))
    else
      if (h 11 1) = 0 then
        some (.inl (11, F, h, g))
      else
        ob1 (F.2.2 x1 5) fun (b1 : Nat) =>
        gd (decide ((F.2.1 b1).1 = 0)) <|
        bnd ((F.2.1 b1).2) fun (m2 : Nat) =>
        gd (vin x3 m2) <|
        obi (ppX1_all N R F (h b1 (ix x3)) h g) fun (y3 : Int32) (h4 : HI) (g5 : HL) =>
        gd (vin x3 16) <|
        bnd (up2 h4 12 (ix x3) y3) fun (h6 : HI) =>
        bnd (x3 + 1) fun (y7 : Int32) =>
        (pX5_of_28 N R n) F x1 y7 h6 g5
theorem lX5_of_28 {D : DE} {f N R : Nat} (hf : 3 + 2 * R ≤ f) {o9 : GQ Nat} : ∀ (n : Nat) (F : Frm) (_ : k_Fix F) (x1 : Nat) (x3 : Int32) (h : HI) (g : HL), pX5_of_28 N R n F x1 x3 h g = some o9 → V D mX5_of (f + 1) (gr D (gqr o9) (gt o9)) 28 [(0, .ref (ad D 9)), (1, .ref (ad D x1)), (3, .int x3)] [] (F, h, g) := by
  intro n
  induction n with
  | zero => intro F hF x1 x3 h g E; cases E
  | succ n hK28 =>
    intro F hF x1 x3 h g E
    rw [pX5_of_28] at E
    refine bX5_of_28 (f := f) hF x1 x3  ?_
    obtain ⟨z0, E⟩ := gdE E; refine ⟨of_decide_eq_true z0, ?_⟩
    refine ⟨fun c0 => ?_, fun c0 => ?_⟩
    · replace E := iteT c0 E
      exact (Option.some.inj E).symm
    · replace E := iteF c0 E
      refine ⟨fun c0 => ?_, fun c0 => ?_⟩
      · replace E := iteT c0 E
        exact (Option.some.inj E).symm
      · replace E := iteF c0 E
        obtain ⟨b1, z0, E⟩ := ob1E E; refine ⟨b1, z0, ?_⟩
        obtain ⟨z0, E⟩ := gdE E; replace E := bndE rfl E; refine ⟨_, shE (of_decide_eq_true z0), ?_⟩
        obtain ⟨z0, E⟩ := gdE E; refine ⟨vinE z0, ?_⟩
        obtain ⟨y3, h4, g5, e0, E⟩ := obiE E
        refine Si.mono (sX1_all (N := N) (R := R) hF (by omega) e0) (fun y8 h8 g8 hq => ?_)
        obtain ⟨rfl, rfl, rfl⟩ := hq
        obtain ⟨z0, E⟩ := gdE E; refine ⟨vinE z0, ?_⟩
        intro h6 e0; replace E := bndE e0 E
        intro y7 e0; replace E := bndE e0 E
        exact hK28 _ hF _ _ _ _ E
def pX5_of_0 (N R : Nat) (F : Frm) (x1 : Nat) (x2 : Int32) (h : HI) (g : HL) : GO Nat :=
  bnd (fwr F 9 0 (some x1)) fun (F1 : Frm) =>
  obv (ppX6_clear N R F1 11 h g) fun (h2 : HI) (g3 : HL) =>
  gd (decide (F1.2.1 x1 = (18, 0))) <|
  ob1 (F1.2.2 x1 6) fun (b4 : Nat) =>
  gd (isEb F1 b4) <|
  bnd ((F1.2.1 b4).1 - 10) fun (k5 : Nat) =>
  obv (pv_ask N R (tie3 N R R) k5 F1 b4 x2 11 0 h2 g3) fun (h6 : HI) (g7 : HL) =>
  pX5_of_28 N R N F1 x1 0 h6 g7
theorem jX5_of_0 {D : DE} {f N R : Nat} (hf : 3 + 2 * R ≤ f) {o9 : GQ Nat} : ∀ (F : Frm) (_ : k_Fix F) (x1 : Nat) (x2 : Int32) (h : HI) (g : HL), pX5_of_0 N R F x1 x2 h g = some o9 → JX5_of_0 D f (gqr o9) (gt o9) F h g x1 x2 := by
  intro F hF x1 x2 h g E
  unfold pX5_of_0 at E
  intro F1 e0; replace E := bndE e0 E
  replace hF : k_Fix F1 := by rw [e0]; exact k_Fix.wr hF (by decide +kernel) _
  obtain ⟨h2, g3, e0, E⟩ := obvE E
  refine Sv.mono (sX6_clear (N := N) (R := R) hF (by omega) e0) (fun h8 g8 hq => ?_)
  obtain ⟨rfl, rfl⟩ := hq
  obtain ⟨z0, E⟩ := gdE E; refine ⟨of_decide_eq_true z0, ?_⟩
  obtain ⟨b4, z0, E⟩ := ob1E E; refine ⟨b4, z0, ?_⟩
  obtain ⟨z0, E⟩ := gdE E; obtain ⟨k5, e1⟩ : ∃ k, k = (F1.2.1 b4).1 - 10 := ⟨_, rfl⟩; replace E := bndE e1 E; have zEk5 : isE F1 b4 k5 := by rw [e1]; exact isEbE z0
  refine ⟨k5, zEk5, ?_⟩
  obtain ⟨h6, g7, e0, E⟩ := obvE E
  refine Sv.mono (sv_ask (N := N) (R := R) hF (by omega) (tie3_ok (N := N) R _ (by omega)) zEk5 e0) (fun h8 g8 hq => ?_)
  obtain ⟨rfl, rfl⟩ := hq
  exact lX5_of_28 hf  N _ hF _ _ _ _ E
abbrev ppX5_of (N R : Nat) (F : Frm) (x1 : Nat) (x2 : Int32) (h : HI) (g : HL) : GO Nat := pX5_of_0 N R F x1 x2 h g
theorem sX5_of {D : DE} {f N R : Nat} {F : Frm} (hF : k_Fix F) (hf : 4 + 2 * R ≤ f) {o9 : GQ Nat} {x1 : Nat} {x2 : Int32} {h : HI} {g : HL} (E : ppX5_of N R F x1 x2 h g = some o9) : Gr D f mX5_of [.ref (ad D 9), .ref (ad D x1), .int x2] F h g (gqr o9) (gt o9) := by
  obtain ⟨f, rfl⟩ : ∃ f0, f = f0 + 1 := ⟨f - 1, by omega⟩
  have hf : 3 + 2 * R ≤ f := by omega
  exact wX5_of (f := f) hF _ _ (jX5_of_0 hf _ hF _ _ _ _ E)
def pX1_check_125 (N R : Nat) (K9 : Frm → Int32 → HI → HL → GO Int32) (K26 : Frm → Int32 → Nat → Int32 → HI → HL → GO Int32) (K75 : Frm → Int32 → Nat → Int32 → Nat → Int32 → Int32 → HI → HL → GO Int32) (F : Frm) (x1 : Int32) (x2 : Nat) (x3 : Int32) (x4 : Nat) (x6 : Int32) (s0 : Int32) (s1 : Int32) (h : HI) (g : HL) : GO Int32 :=
  bnd (s0 &&& s1) fun (y1 : Int32) =>
  bnd (x6 + 1) fun (y2 : Int32) =>
  K75 F x1 x2 x3 x4 y1 y2 h g
theorem jX1_check_125 {D : DE} {f N R : Nat} (hf : 6 + 2 * R ≤ f) {K9 : Frm → Int32 → HI → HL → GO Int32} {K26 : Frm → Int32 → Nat → Int32 → HI → HL → GO Int32} {K75 : Frm → Int32 → Nat → Int32 → Nat → Int32 → Int32 → HI → HL → GO Int32} {o9 : GQ Int32} (hK9 : ∀ (F : Frm) (_ : k_Fix F) (x1 : Int32) (h : HI) (g : HL), K9 F x1 h g = some o9 → V D mX1_check (f + 1) (gi (gqi o9) (gt o9)) 9 [(0, .ref (ad D 0)), (1, .int x1)] [] (F, h, g)) (hK26 : ∀ (F : Frm) (_ : k_Fix F) (x1 : Int32) (x2 : Nat) (x3 : Int32) (h : HI) (g : HL), K26 F x1 x2 x3 h g = some o9 → V D mX1_check (f + 1) (gi (gqi o9) (gt o9)) 26 [(0, .ref (ad D 0)), (1, .int x1), (2, .ref (ad D x2)), (3, .int x3)] [] (F, h, g)) (hK75 : ∀ (F : Frm) (_ : k_Fix F) (x1 : Int32) (x2 : Nat) (x3 : Int32) (x4 : Nat) (x5 : Int32) (x6 : Int32) (h : HI) (g : HL), K75 F x1 x2 x3 x4 x5 x6 h g = some o9 → V D mX1_check (f + 1) (gi (gqi o9) (gt o9)) 75 [(0, .ref (ad D 0)), (1, .int x1), (2, .ref (ad D x2)), (3, .int x3), (4, .ref (ad D x4)), (5, .int x5), (6, .int x6)] [] (F, h, g)) : ∀ (F : Frm) (_ : k_Fix F) (x1 : Int32) (x2 : Nat) (x3 : Int32) (x4 : Nat) (x6 : Int32) (s0 : Int32) (s1 : Int32) (h : HI) (g : HL), pX1_check_125 N R K9 K26 K75 F x1 x2 x3 x4 x6 s0 s1 h g = some o9 → JX1_check_125 D f (gqi o9) (gt o9) F h g x1 x2 x3 x4 x6 s0 s1 := by
  intro F hF x1 x2 x3 x4 x6 s0 s1 h g E
  unfold pX1_check_125 at E
  intro y1 e0; replace E := bndE e0 E
  intro y2 e0; replace E := bndE e0 E
  exact hK75 _ hF _ _ _ _ _ _ _ _ E
def pX1_check_75 (N R : Nat) (K9 : Frm → Int32 → HI → HL → GO Int32) (K26 : Frm → Int32 → Nat → Int32 → HI → HL → GO Int32) : Nat → Frm → Int32 → Nat → Int32 → Nat → Int32 → Int32 → HI → HL → GO Int32
  | 0, _, _, _, _, _, _, _, _, _ => none
  | n + 1, F, x1, x2, x3, x4, x5, x6, h, g =>
    gd (decide (F.2.1 x2 = (18, 0))) <|
    if (h x2 1) ≤ x6 then
      if x5 = 0 then
        some (.inl (((32 * x1) + x3), F, h, g))
      else
        bnd (x3 + 1) fun (y1 : Int32) =>
        K26 F x1 x2 y1 h g
    else
      obi (ppX1_rowOf N R F x2 x3 x6 h g) fun (y2 : Int32) (h3 : HI) (g4 : HL) =>
      ob1 (F.2.2 x2 5) fun (b5 : Nat) =>
      gd (decide ((F.2.1 b5).1 = 0)) <|
      bnd ((F.2.1 b5).2) fun (m6 : Nat) =>
      gd (vin x6 m6) <|
      gd (decide (F.2.1 x4 = (15, 0))) <|
      ob1 (F.2.2 x4 0) fun (b7 : Nat) =>
      gd (decide ((F.2.1 b7).1 = 0)) <|
      bnd ((F.2.1 b7).2) fun (m8 : Nat) =>
      gd (vin x6 m8) <|
      obi (ppX1_either N R F (h3 b5 (ix x6)) y2 (h3 b7 (ix x6)) h3 g4) fun (y9 : Int32) (h10 : HI) (g11 : HL) =>
      if y9 = y2 then
        pX1_check_125 N R K9 K26 (pX1_check_75 N R K9 K26 n) F x1 x2 x3 x4 x6 x5 1 h10 g11
      else
        pX1_check_125 N R K9 K26 (pX1_check_75 N R K9 K26 n) F x1 x2 x3 x4 x6 x5 0 h10 g11
theorem lX1_check_75 {D : DE} {f N R : Nat} (hf : 6 + 2 * R ≤ f) {K9 : Frm → Int32 → HI → HL → GO Int32} {K26 : Frm → Int32 → Nat → Int32 → HI → HL → GO Int32} {o9 : GQ Int32} (hK9 : ∀ (F : Frm) (_ : k_Fix F) (x1 : Int32) (h : HI) (g : HL), K9 F x1 h g = some o9 → V D mX1_check (f + 1) (gi (gqi o9) (gt o9)) 9 [(0, .ref (ad D 0)), (1, .int x1)] [] (F, h, g)) (hK26 : ∀ (F : Frm) (_ : k_Fix F) (x1 : Int32) (x2 : Nat) (x3 : Int32) (h : HI) (g : HL), K26 F x1 x2 x3 h g = some o9 → V D mX1_check (f + 1) (gi (gqi o9) (gt o9)) 26 [(0, .ref (ad D 0)), (1, .int x1), (2, .ref (ad D x2)), (3, .int x3)] [] (F, h, g)) : ∀ (n : Nat) (F : Frm) (_ : k_Fix F) (x1 : Int32) (x2 : Nat) (x3 : Int32) (x4 : Nat) (x5 : Int32) (x6 : Int32) (h : HI) (g : HL), pX1_check_75 N R K9 K26 n F x1 x2 x3 x4 x5 x6 h g = some o9 → V D mX1_check (f + 1) (gi (gqi o9) (gt o9)) 75 [(0, .ref (ad D 0)), (1, .int x1), (2, .ref (ad D x2)), (3, .int x3), (4, .ref (ad D x4)), (5, .int x5), (6, .int x6)] [] (F, h, g) := by
  intro n
  induction n with
  | zero => intro F hF x1 x2 x3 x4 x5 x6 h g E; cases E
  | succ n hK75 =>
    intro F hF x1 x2 x3 x4 x5 x6 h g E
    rw [pX1_check_75] at E
    refine bX1_check_75 (f := f) hF x1 x2 x3 x4 x5 x6  ?_
    obtain ⟨z0, E⟩ := gdE E; refine ⟨of_decide_eq_true z0, ?_⟩
    refine ⟨fun c0 => ?_, fun c0 => ?_⟩
    · replace E := iteT c0 E
      refine ⟨fun c0 => ?_, fun c0 => ?_⟩
      · replace E := iteF c0 E
        intro y1 e0; replace E := bndE e0 E
        exact hK26 _ hF _ _ _ _ _ E
      · replace E := iteT c0 E
        exact (Option.some.inj E).symm
    · replace E := iteF c0 E
      obtain ⟨y2, h3, g4, e0, E⟩ := obiE E
      refine Si.mono (sX1_rowOf (N := N) (R := R) hF (by omega) e0) (fun y8 h8 g8 hq => ?_)
      obtain ⟨rfl, rfl, rfl⟩ := hq
      obtain ⟨b5, z0, E⟩ := ob1E E; refine ⟨b5, z0, ?_⟩
      obtain ⟨z0, E⟩ := gdE E; replace E := bndE rfl E; refine ⟨_, shE (of_decide_eq_true z0), ?_⟩
      obtain ⟨z0, E⟩ := gdE E; refine ⟨vinE z0, ?_⟩
      obtain ⟨z0, E⟩ := gdE E; refine ⟨of_decide_eq_true z0, ?_⟩
      obtain ⟨b7, z0, E⟩ := ob1E E; refine ⟨b7, z0, ?_⟩
      obtain ⟨z0, E⟩ := gdE E; replace E := bndE rfl E; refine ⟨_, shE (of_decide_eq_true z0), ?_⟩
      obtain ⟨z0, E⟩ := gdE E; refine ⟨vinE z0, ?_⟩
      obtain ⟨y9, h10, g11, e0, E⟩ := obiE E
      refine Si.mono (sX1_either (N := N) (R := R) hF (by omega) e0) (fun y8 h8 g8 hq => ?_)
      obtain ⟨rfl, rfl, rfl⟩ := hq
      refine ⟨fun c0 => ?_, fun c0 => ?_⟩
      · replace E := iteF c0 E
        exact jX1_check_125 hf hK9 hK26 hK75 _ hF _ _ _ _ _ _ _ _ _ E
      · replace E := iteT c0 E
        exact jX1_check_125 hf hK9 hK26 hK75 _ hF _ _ _ _ _ _ _ _ _ E
def pX1_check_70 (N R : Nat) (K9 : Frm → Int32 → HI → HL → GO Int32) (K26 : Frm → Int32 → Nat → Int32 → HI → HL → GO Int32) (F : Frm) (x1 : Int32) (x2 : Nat) (x3 : Int32) (x4 : Nat) (s0 : Int32) (h : HI) (g : HL) : GO Int32 :=
  pX1_check_75 N R K9 K26 N F x1 x2 x3 x4 s0 0 h g
theorem jX1_check_70 {D : DE} {f N R : Nat} (hf : 6 + 2 * R ≤ f) {K9 : Frm → Int32 → HI → HL → GO Int32} {K26 : Frm → Int32 → Nat → Int32 → HI → HL → GO Int32} {o9 : GQ Int32} (hK9 : ∀ (F : Frm) (_ : k_Fix F) (x1 : Int32) (h : HI) (g : HL), K9 F x1 h g = some o9 → V D mX1_check (f + 1) (gi (gqi o9) (gt o9)) 9 [(0, .ref (ad D 0)), (1, .int x1)] [] (F, h, g)) (hK26 : ∀ (F : Frm) (_ : k_Fix F) (x1 : Int32) (x2 : Nat) (x3 : Int32) (h : HI) (g : HL), K26 F x1 x2 x3 h g = some o9 → V D mX1_check (f + 1) (gi (gqi o9) (gt o9)) 26 [(0, .ref (ad D 0)), (1, .int x1), (2, .ref (ad D x2)), (3, .int x3)] [] (F, h, g)) : ∀ (F : Frm) (_ : k_Fix F) (x1 : Int32) (x2 : Nat) (x3 : Int32) (x4 : Nat) (s0 : Int32) (h : HI) (g : HL), pX1_check_70 N R K9 K26 F x1 x2 x3 x4 s0 h g = some o9 → JX1_check_70 D f (gqi o9) (gt o9) F h g x1 x2 x3 x4 s0 := by
  intro F hF x1 x2 x3 x4 s0 h g E
  unfold pX1_check_70 at E
  exact lX1_check_75 hf hK9 hK26 N _ hF _ _ _ _ _ _ _ _ E
def pX1_check_65 (N R : Nat) (K9 : Frm → Int32 → HI → HL → GO Int32) (K26 : Frm → Int32 → Nat → Int32 → HI → HL → GO Int32) (F : Frm) (x1 : Int32) (x2 : Nat) (x3 : Int32) (x4 : Nat) (h : HI) (g : HL) : GO Int32 :=
  pX1_check_70 N R K9 K26 F x1 x2 x3 x4 1 h g
theorem jX1_check_65 {D : DE} {f N R : Nat} (hf : 6 + 2 * R ≤ f) {K9 : Frm → Int32 → HI → HL → GO Int32} {K26 : Frm → Int32 → Nat → Int32 → HI → HL → GO Int32} {o9 : GQ Int32} (hK9 : ∀ (F : Frm) (_ : k_Fix F) (x1 : Int32) (h : HI) (g : HL), K9 F x1 h g = some o9 → V D mX1_check (f + 1) (gi (gqi o9) (gt o9)) 9 [(0, .ref (ad D 0)), (1, .int x1)] [] (F, h, g)) (hK26 : ∀ (F : Frm) (_ : k_Fix F) (x1 : Int32) (x2 : Nat) (x3 : Int32) (h : HI) (g : HL), K26 F x1 x2 x3 h g = some o9 → V D mX1_check (f + 1) (gi (gqi o9) (gt o9)) 26 [(0, .ref (ad D 0)), (1, .int x1), (2, .ref (ad D x2)), (3, .int x3)] [] (F, h, g)) : ∀ (F : Frm) (_ : k_Fix F) (x1 : Int32) (x2 : Nat) (x3 : Int32) (x4 : Nat) (h : HI) (g : HL), pX1_check_65 N R K9 K26 F x1 x2 x3 x4 h g = some o9 → JX1_check_65 D f (gqi o9) (gt o9) F h g x1 x2 x3 x4 := by
  intro F hF x1 x2 x3 x4 h g E
  unfold pX1_check_65 at E
  exact jX1_check_70 hf hK9 hK26 _ hF _ _ _ _ _ _ _ E
def pX1_check_26 (N R : Nat) (K9 : Frm → Int32 → HI → HL → GO Int32) : Nat → Frm → Int32 → Nat → Int32 → HI → HL → GO Int32
  | 0, _, _, _, _, _, _ => none
  | n + 1, F, x1, x2, x3, h, g =>
    gd (decide (F.2.1 x2 = (18, 0))) <|
    obi (ppX1_sizeOf N R F (h x2 3) h g) fun (y1 : Int32) (h2 : HI) (g3 : HL) =>
    if y1 ≤ x3 then
      bnd (x1 + 1) fun (y4 : Int32) =>
      K9 F y4 h2 g3
    else
      ogr (ppX5_of N R F x2 x3 h2 g3) fun (b5 : Nat) (F8 : Frm) (h6 : HI) (g7 : HL) =>
      gd (decide (F8.2.1 b5 = (15, 0))) <|
      if (h6 b5 1) = 0 then
        gd (decide (F8.2.1 x2 = (18, 0))) <|
        ob1 (F8.2.2 x2 7) fun (b9 : Nat) =>
        gd (decide ((F8.2.1 b9).1 = 2)) <|
        bnd ((F8.2.1 b9).2) fun (m10 : Nat) =>
        gd (vin x3 m10) <|
        if (h6 b9 (ix x3)) = 0 then
          pX1_check_65 N R K9 (pX1_check_26 N R K9 n) F8 x1 x2 x3 b5 h6 g7
        else
          pX1_check_70 N R K9 (pX1_check_26 N R K9 n) F8 x1 x2 x3 b5 0 h6 g7
      else
        pX1_check_65 N R K9 (pX1_check_26 N R K9 n) F8 x1 x2 x3 b5 h6 g7
theorem lX1_check_26 {D : DE} {f N R : Nat} (hf : 6 + 2 * R ≤ f) {K9 : Frm → Int32 → HI → HL → GO Int32} {o9 : GQ Int32} (hK9 : ∀ (F : Frm) (_ : k_Fix F) (x1 : Int32) (h : HI) (g : HL), K9 F x1 h g = some o9 → V D mX1_check (f + 1) (gi (gqi o9) (gt o9)) 9 [(0, .ref (ad D 0)), (1, .int x1)] [] (F, h, g)) : ∀ (n : Nat) (F : Frm) (_ : k_Fix F) (x1 : Int32) (x2 : Nat) (x3 : Int32) (h : HI) (g : HL), pX1_check_26 N R K9 n F x1 x2 x3 h g = some o9 → V D mX1_check (f + 1) (gi (gqi o9) (gt o9)) 26 [(0, .ref (ad D 0)), (1, .int x1), (2, .ref (ad D x2)), (3, .int x3)] [] (F, h, g) := by
  intro n
  induction n with
  | zero => intro F hF x1 x2 x3 h g E; cases E
  | succ n hK26 =>
    intro F hF x1 x2 x3 h g E
    rw [pX1_check_26] at E
    refine bX1_check_26 (f := f) hF x1 x2 x3  ?_
    obtain ⟨z0, E⟩ := gdE E; refine ⟨of_decide_eq_true z0, ?_⟩
    obtain ⟨y1, h2, g3, e0, E⟩ := obiE E
    refine Si.mono (sX1_sizeOf (N := N) (R := R) hF (by omega) e0) (fun y8 h8 g8 hq => ?_)
    obtain ⟨rfl, rfl, rfl⟩ := hq
    refine ⟨fun c0 => ?_, fun c0 => ?_⟩
    · replace E := iteT c0 E
      intro y4 e0; replace E := bndE e0 E
      exact hK9 _ hF _ _ _ E
    · replace E := iteF c0 E
      refine Gr.ob (fun o1 e0 => (sX5_of (N := N) (R := R) hF (by omega) e0)) E (fun b5 F8 h6 g7 hF E => ?_) (fun _ _ _ _ e => e)
      obtain ⟨z0, E⟩ := gdE E; refine ⟨of_decide_eq_true z0, ?_⟩
      refine ⟨fun c0 => ?_, fun c0 => ?_⟩
      · replace E := iteF c0 E
        exact jX1_check_65 hf hK9 hK26 _ hF _ _ _ _ _ _ E
      · replace E := iteT c0 E
        obtain ⟨z0, E⟩ := gdE E; refine ⟨of_decide_eq_true z0, ?_⟩
        obtain ⟨b9, z0, E⟩ := ob1E E; refine ⟨b9, z0, ?_⟩
        obtain ⟨z0, E⟩ := gdE E; replace E := bndE rfl E; refine ⟨_, shE (of_decide_eq_true z0), ?_⟩
        obtain ⟨z0, E⟩ := gdE E; refine ⟨vinE z0, ?_⟩
        refine ⟨fun c0 => ?_, fun c0 => ?_⟩
        · replace E := iteF c0 E
          exact jX1_check_70 hf hK9 hK26 _ hF _ _ _ _ _ _ _ E
        · replace E := iteT c0 E
          exact jX1_check_65 hf hK9 hK26 _ hF _ _ _ _ _ _ E
def pX1_check_9 (N R : Nat) : Nat → Frm → Int32 → HI → HL → GO Int32
  | 0, _, _, _, _ => none
  | n + 1, F, x1, h, g =>
    if (h 0 9) ≤ x1 then
      some (.inl ((-1), F, h, g))
    else
      gd (vin x1 12) <|
      ob1 (F.2.2 112 (ix x1)) fun (b1 : Nat) =>
      pX1_check_26 N R (pX1_check_9 N R n) N F x1 b1 1 h g
theorem lX1_check_9 {D : DE} {f N R : Nat} (hf : 6 + 2 * R ≤ f) {o9 : GQ Int32} : ∀ (n : Nat) (F : Frm) (_ : k_Fix F) (x1 : Int32) (h : HI) (g : HL), pX1_check_9 N R n F x1 h g = some o9 → V D mX1_check (f + 1) (gi (gqi o9) (gt o9)) 9 [(0, .ref (ad D 0)), (1, .int x1)] [] (F, h, g) := by
  intro n
  induction n with
  | zero => intro F hF x1 h g E; cases E
  | succ n hK9 =>
    intro F hF x1 h g E
    rw [pX1_check_9] at E
    refine bX1_check_9 (f := f) hF x1  ?_
    refine ⟨fun c0 => ?_, fun c0 => ?_⟩
    · replace E := iteT c0 E
      exact (Option.some.inj E).symm
    · replace E := iteF c0 E
      obtain ⟨z0, E⟩ := gdE E; refine ⟨vinE z0, ?_⟩
      obtain ⟨b1, z0, E⟩ := ob1E E; refine ⟨b1, z0, ?_⟩
      exact lX1_check_26 hf hK9 N _ hF _ _ _ _ _ E
def pX1_check_0 (N R : Nat) (F : Frm) (h : HI) (g : HL) : GO Int32 :=
  ogv (ppX1_may N R F (h 0 10) h g) fun (F3 : Frm) (h1 : HI) (g2 : HL) =>
  pX1_check_9 N R N F3 0 h1 g2
theorem jX1_check_0 {D : DE} {f N R : Nat} (hf : 6 + 2 * R ≤ f) {o9 : GQ Int32} : ∀ (F : Frm) (_ : k_Fix F) (h : HI) (g : HL), pX1_check_0 N R F h g = some o9 → JX1_check_0 D f (gqi o9) (gt o9) F h g := by
  intro F hF h g E
  unfold pX1_check_0 at E
  refine Gv.ob (fun o1 e0 => (sX1_may (N := N) (R := R) hF (by omega) e0)) E (fun F3 h1 g2 hF E => ?_) (fun _ _ _ _ e => e)
  exact lX1_check_9 hf  N _ hF _ _ _ E
abbrev ppX1_check (N R : Nat) (F : Frm) (h : HI) (g : HL) : GO Int32 := pX1_check_0 N R F h g
theorem sX1_check {D : DE} {f N R : Nat} {F : Frm} (hF : k_Fix F) (hf : 7 + 2 * R ≤ f) {o9 : GQ Int32} {h : HI} {g : HL} (E : ppX1_check N R F h g = some o9) : Gi D f mX1_check [.ref (ad D 0)] F h g (gqi o9) (gt o9) := by
  obtain ⟨f, rfl⟩ : ∃ f0, f = f0 + 1 := ⟨f - 1, by omega⟩
  have hf : 6 + 2 * R ≤ f := by omega
  exact wX1_check (f := f) hF (jX1_check_0 hf _ hF _ _ E)
def pX0_check_0 (N R : Nat) (F : Frm) (h : HI) (g : HL) : GO Int32 :=
  ohi (ppX1_check N R F h g) (fun e F1 h1 g1 =>
    if e = 0 then
      some (.inl (1, F1, h1, g1))
    else none) fun (y1 : Int32) (F4 : Frm) (h2 : HI) (g3 : HL) =>
  bnd (up2 g3 159 (ix 0) y1.toInt64) fun (g5 : HL) =>
  some (.inl (0, F4, h2, g5))
theorem jX0_check_0 {D : DE} {f N R : Nat} (hf : 7 + 2 * R ≤ f) {o9 : GQ Int32} : ∀ (F : Frm) (_ : k_Fix F) (h : HI) (g : HL), pX0_check_0 N R F h g = some o9 → JX0_check_0 D f (gqi o9) (gt o9) F h g := by
  intro F hF h g E
  unfold pX0_check_0 at E
  refine Gi.oh (fun o1 e0 => (sX1_check (N := N) (R := R) hF (by omega) e0)) E (fun y1 F4 h2 g3 hF E => ?_) (fun e F1 h1 g1 hF E => ?_)
  · skip
    intro g5 e0; replace E := bndE e0 E
    exact (Option.some.inj E).symm
  · skip
    by_cases c0 : e = 0
    · replace E := iteT c0 E
      refine ⟨c0, ?_⟩
      exact (Option.some.inj E).symm
    replace E := iteF c0 E
    cases E
abbrev ppX0_check (N R : Nat) (F : Frm) (h : HI) (g : HL) : GO Int32 := pX0_check_0 N R F h g
theorem sX0_check {D : DE} {f N R : Nat} {F : Frm} (hF : k_Fix F) (hf : 8 + 2 * R ≤ f) {o9 : GQ Int32} {h : HI} {g : HL} (E : ppX0_check N R F h g = some o9) : Gi D f mX0_check [.ref (ad D 0), .ref (ad D 159)] F h g (gqi o9) (gt o9) := by
  obtain ⟨f, rfl⟩ : ∃ f0, f = f0 + 1 := ⟨f - 1, by omega⟩
  have hf : 7 + 2 * R ≤ f := by omega
  exact wX0_check (f := f) hF (jX0_check_0 hf _ hF _ _ E)
def pX1_fits_0 (N R : Nat) (F : Frm) (x0 : Int32) (h : HI) (g : HL) : GO Unit :=
  if x0 = 0 then
    gd (decide (160 ≤ F.1.1)) <|
    some (.inr (1, fnx F 1, h, g))
  else
    some (.inl ((), F, h, g))
theorem jX1_fits_0 {D : DE} {f N R : Nat} (hf : 5 ≤ f) {o9 : GQ Unit} : ∀ (F : Frm) (_ : k_Fix F) (x0 : Int32) (h : HI) (g : HL), pX1_fits_0 N R F x0 h g = some o9 → JX1_fits_0 D f (gqv o9) (gt o9) F h g x0 := by
  intro F hF x0 h g E
  unfold pX1_fits_0 at E
  refine ⟨fun c0 => ?_, fun c0 => ?_⟩
  · replace E := iteF c0 E
    exact (Option.some.inj E).symm
  · replace E := iteT c0 E
    obtain ⟨z0, E⟩ := gdE E; exact ⟨of_decide_eq_true z0, (Option.some.inj E).symm⟩
abbrev ppX1_fits (N R : Nat) (F : Frm) (x0 : Int32) (h : HI) (g : HL) : GO Unit := pX1_fits_0 N R F x0 h g
theorem sX1_fits {D : DE} {f N R : Nat} {F : Frm} (hF : k_Fix F) (hf : 6 ≤ f) {o9 : GQ Unit} {x0 : Int32} {h : HI} {g : HL} (E : ppX1_fits N R F x0 h g = some o9) : Gv D f mX1_fits [.int x0] F h g (gqv o9) (gt o9) := by
  obtain ⟨f, rfl⟩ : ∃ f0, f = f0 + 1 := ⟨f - 1, by omega⟩
  have hf : 5 ≤ f := by omega
  exact wX1_fits (f := f) hF _ (by omega) (jX1_fits_0 hf _ hF _ _ _ E)
def pX1_cut_17 (N R : Nat) (F : Frm) (x1 : Int32) (s0 : Int32) (h : HI) (g : HL) : GO Int32 :=
  ogv (ppX1_fits N R F s0 h g) fun (F3 : Frm) (h1 : HI) (g2 : HL) =>
  bnd ((h1 0 6) - x1) fun (y4 : Int32) =>
  bnd (up2 h1 0 6 x1) fun (h5 : HI) =>
  some (.inl (y4, F3, h5, g2))
theorem jX1_cut_17 {D : DE} {f N R : Nat} (hf : 6 ≤ f) {o9 : GQ Int32} : ∀ (F : Frm) (_ : k_Fix F) (x1 : Int32) (s0 : Int32) (h : HI) (g : HL), pX1_cut_17 N R F x1 s0 h g = some o9 → JX1_cut_17 D f (gqi o9) (gt o9) F h g x1 s0 := by
  intro F hF x1 s0 h g E
  unfold pX1_cut_17 at E
  refine Gv.ob (fun o1 e0 => (sX1_fits (N := N) (R := R) hF (by omega) e0)) E (fun F3 h1 g2 hF E => ?_) (fun _ _ _ _ e => e)
  intro y4 e0; replace E := bndE e0 E
  intro h5 e0; replace E := bndE e0 E
  exact (Option.some.inj E).symm
def pX1_cut_16 (N R : Nat) (F : Frm) (x1 : Int32) (h : HI) (g : HL) : GO Int32 :=
  pX1_cut_17 N R F x1 0 h g
theorem jX1_cut_16 {D : DE} {f N R : Nat} (hf : 6 ≤ f) {o9 : GQ Int32} : ∀ (F : Frm) (_ : k_Fix F) (x1 : Int32) (h : HI) (g : HL), pX1_cut_16 N R F x1 h g = some o9 → JX1_cut_16 D f (gqi o9) (gt o9) F h g x1 := by
  intro F hF x1 h g E
  unfold pX1_cut_16 at E
  exact jX1_cut_17 hf  _ hF _ _ _ _ E
def pX1_cut_0 (N R : Nat) (F : Frm) (x1 : Int32) (h : HI) (g : HL) : GO Int32 :=
  if x1 < 0 then
    pX1_cut_16 N R F x1 h g
  else
    if (h 0 6) < x1 then
      pX1_cut_16 N R F x1 h g
    else
      pX1_cut_17 N R F x1 1 h g
theorem jX1_cut_0 {D : DE} {f N R : Nat} (hf : 6 ≤ f) {o9 : GQ Int32} : ∀ (F : Frm) (_ : k_Fix F) (x1 : Int32) (h : HI) (g : HL), pX1_cut_0 N R F x1 h g = some o9 → JX1_cut_0 D f (gqi o9) (gt o9) F h g x1 := by
  intro F hF x1 h g E
  unfold pX1_cut_0 at E
  refine ⟨fun c0 => ?_, fun c0 => ?_⟩
  · replace E := iteT c0 E
    exact jX1_cut_16 hf  _ hF _ _ _ E
  · replace E := iteF c0 E
    refine ⟨fun c0 => ?_, fun c0 => ?_⟩
    · replace E := iteT c0 E
      exact jX1_cut_16 hf  _ hF _ _ _ E
    · replace E := iteF c0 E
      exact jX1_cut_17 hf  _ hF _ _ _ _ E
abbrev ppX1_cut (N R : Nat) (F : Frm) (x1 : Int32) (h : HI) (g : HL) : GO Int32 := pX1_cut_0 N R F x1 h g
theorem sX1_cut {D : DE} {f N R : Nat} {F : Frm} (hF : k_Fix F) (hf : 7 ≤ f) {o9 : GQ Int32} {x1 : Int32} {h : HI} {g : HL} (E : ppX1_cut N R F x1 h g = some o9) : Gi D f mX1_cut [.ref (ad D 0), .int x1] F h g (gqi o9) (gt o9) := by
  obtain ⟨f, rfl⟩ : ∃ f0, f = f0 + 1 := ⟨f - 1, by omega⟩
  have hf : 6 ≤ f := by omega
  exact wX1_cut (f := f) hF _ (jX1_cut_0 hf _ hF _ _ _ E)
def pX0_cut_0 (N R : Nat) (F : Frm) (x1 : Int32) (h : HI) (g : HL) : GO Int32 :=
  ohi (ppX1_cut N R F x1 h g) (fun e F1 h1 g1 =>
    if e = 1 then
      some (.inl (1, F1, h1, g1))
    else none) fun (y1 : Int32) (F4 : Frm) (h2 : HI) (g3 : HL) =>
  bnd (up2 g3 159 (ix 0) y1.toInt64) fun (g5 : HL) =>
  some (.inl (0, F4, h2, g5))
theorem jX0_cut_0 {D : DE} {f N R : Nat} (hf : 7 ≤ f) {o9 : GQ Int32} : ∀ (F : Frm) (_ : k_Fix F) (x1 : Int32) (h : HI) (g : HL), pX0_cut_0 N R F x1 h g = some o9 → JX0_cut_0 D f (gqi o9) (gt o9) F h g x1 := by
  intro F hF x1 h g E
  unfold pX0_cut_0 at E
  refine Gi.oh (fun o1 e0 => (sX1_cut (N := N) (R := R) hF (by omega) e0)) E (fun y1 F4 h2 g3 hF E => ?_) (fun e F1 h1 g1 hF E => ?_)
  · skip
    intro g5 e0; replace E := bndE e0 E
    exact (Option.some.inj E).symm
  · skip
    by_cases c0 : e = 1
    · replace E := iteT c0 E
      refine ⟨c0, ?_⟩
      exact (Option.some.inj E).symm
    replace E := iteF c0 E
    cases E
abbrev ppX0_cut (N R : Nat) (F : Frm) (x1 : Int32) (h : HI) (g : HL) : GO Int32 := pX0_cut_0 N R F x1 h g
theorem sX0_cut {D : DE} {f N R : Nat} {F : Frm} (hF : k_Fix F) (hf : 8 ≤ f) {o9 : GQ Int32} {x1 : Int32} {h : HI} {g : HL} (E : ppX0_cut N R F x1 h g = some o9) : Gi D f mX0_cut [.ref (ad D 0), .int x1, .ref (ad D 159)] F h g (gqi o9) (gt o9) := by
  obtain ⟨f, rfl⟩ : ∃ f0, f = f0 + 1 := ⟨f - 1, by omega⟩
  have hf : 7 ≤ f := by omega
  exact wX0_cut (f := f) hF _ (jX0_cut_0 hf _ hF _ _ _ E)
def pX1_dead_0 (N R : Nat) (F : Frm) (x1 : Int32) (x2 : Int32) (h : HI) (g : HL) : GO Int32 :=
  ogr (ppX1_rowAt N R F x1 x2 h g) fun (b1 : Nat) (F4 : Frm) (h2 : HI) (g3 : HL) =>
  gd (decide (F4.2.1 b1 = (18, 0))) <|
  ob1 (F4.2.2 b1 7) fun (b5 : Nat) =>
  gd (decide ((F4.2.1 b5).1 = 2)) <|
  bnd ((F4.2.1 b5).2) fun (m6 : Nat) =>
  gd (vin x2 m6) <|
  gd (isBb (h2 b5 (ix x2))) <|
  some (.inl ((h2 b5 (ix x2)), F4, h2, g3))
theorem jX1_dead_0 {D : DE} {f N R : Nat} (hf : 8 ≤ f) {o9 : GQ Int32} : ∀ (F : Frm) (_ : k_Fix F) (x1 : Int32) (x2 : Int32) (h : HI) (g : HL), pX1_dead_0 N R F x1 x2 h g = some o9 → JX1_dead_0 D f (gqi o9) (gt o9) F h g x1 x2 := by
  intro F hF x1 x2 h g E
  unfold pX1_dead_0 at E
  refine Gr.ob (fun o1 e0 => (sX1_rowAt (N := N) (R := R) hF (by omega) e0)) E (fun b1 F4 h2 g3 hF E => ?_) (fun _ _ _ _ e => e)
  obtain ⟨z0, E⟩ := gdE E; refine ⟨of_decide_eq_true z0, ?_⟩
  obtain ⟨b5, z0, E⟩ := ob1E E; refine ⟨b5, z0, ?_⟩
  obtain ⟨z0, E⟩ := gdE E; replace E := bndE rfl E; refine ⟨_, shE (of_decide_eq_true z0), ?_⟩
  obtain ⟨z0, E⟩ := gdE E; refine ⟨vinE z0, ?_⟩
  obtain ⟨z0, E⟩ := gdE E; refine ⟨isBbE z0, ?_⟩
  exact (Option.some.inj E).symm
abbrev ppX1_dead (N R : Nat) (F : Frm) (x1 : Int32) (x2 : Int32) (h : HI) (g : HL) : GO Int32 := pX1_dead_0 N R F x1 x2 h g
theorem sX1_dead {D : DE} {f N R : Nat} {F : Frm} (hF : k_Fix F) (hf : 9 ≤ f) {o9 : GQ Int32} {x1 : Int32} {x2 : Int32} {h : HI} {g : HL} (E : ppX1_dead N R F x1 x2 h g = some o9) : Gi D f mX1_dead [.ref (ad D 0), .int x1, .int x2] F h g (gqi o9) (gt o9) := by
  obtain ⟨f, rfl⟩ : ∃ f0, f = f0 + 1 := ⟨f - 1, by omega⟩
  have hf : 8 ≤ f := by omega
  exact wX1_dead (f := f) hF _ _ (jX1_dead_0 hf _ hF _ _ _ _ E)
def pX0_dead_0 (N R : Nat) (F : Frm) (x1 : Int32) (x2 : Int32) (h : HI) (g : HL) : GO Int32 :=
  ohi (ppX1_dead N R F x1 x2 h g) (fun e F1 h1 g1 =>
    if e = 0 then
      some (.inl (1, F1, h1, g1))
    else if e = 2 then
      some (.inl (2, F1, h1, g1))
    else none) fun (y1 : Int32) (F4 : Frm) (h2 : HI) (g3 : HL) =>
  if y1 = 0 then
    bnd (up2 g3 159 (ix 0) 0) fun (g5 : HL) =>
    some (.inl (0, F4, h2, g5))
  else
    bnd (up2 g3 159 (ix 0) 1) fun (g6 : HL) =>
    some (.inl (0, F4, h2, g6))
theorem jX0_dead_0 {D : DE} {f N R : Nat} (hf : 9 ≤ f) {o9 : GQ Int32} : ∀ (F : Frm) (_ : k_Fix F) (x1 : Int32) (x2 : Int32) (h : HI) (g : HL), pX0_dead_0 N R F x1 x2 h g = some o9 → JX0_dead_0 D f (gqi o9) (gt o9) F h g x1 x2 := by
  intro F hF x1 x2 h g E
  unfold pX0_dead_0 at E
  refine Gi.oh (fun o1 e0 => (sX1_dead (N := N) (R := R) hF (by omega) e0)) E (fun y1 F4 h2 g3 hF E => ?_) (fun e F1 h1 g1 hF E => ?_)
  · skip
    refine ⟨fun c0 => ?_, fun c0 => ?_⟩
    · replace E := iteT c0 E
      intro g5 e0; replace E := bndE e0 E
      exact (Option.some.inj E).symm
    · replace E := iteF c0 E
      intro g6 e0; replace E := bndE e0 E
      exact (Option.some.inj E).symm
  · skip
    by_cases c0 : e = 0
    · replace E := iteT c0 E
      refine Or.inl ⟨c0, ?_⟩
      exact (Option.some.inj E).symm
    replace E := iteF c0 E
    by_cases c1 : e = 2
    · replace E := iteT c1 E
      refine Or.inr (⟨c1, ?_⟩)
      exact (Option.some.inj E).symm
    replace E := iteF c1 E
    cases E
abbrev ppX0_dead (N R : Nat) (F : Frm) (x1 : Int32) (x2 : Int32) (h : HI) (g : HL) : GO Int32 := pX0_dead_0 N R F x1 x2 h g
theorem sX0_dead {D : DE} {f N R : Nat} {F : Frm} (hF : k_Fix F) (hf : 10 ≤ f) {o9 : GQ Int32} {x1 : Int32} {x2 : Int32} {h : HI} {g : HL} (E : ppX0_dead N R F x1 x2 h g = some o9) : Gi D f mX0_dead [.ref (ad D 0), .int x1, .int x2, .ref (ad D 159)] F h g (gqi o9) (gt o9) := by
  obtain ⟨f, rfl⟩ : ∃ f0, f = f0 + 1 := ⟨f - 1, by omega⟩
  have hf : 9 ≤ f := by omega
  exact wX0_dead (f := f) hF _ _ (jX0_dead_0 hf _ hF _ _ _ _ E)
def pX1_lay_3 (N R : Nat) : Nat → Frm → Int32 → Int32 → HI → HL → Option (HI × HL)
  | 0, _, _, _, _, _ => none
  | n + 1, F, x1, x2, h, g =>
    if x2 < 0 then
      some (h, g)
    else
      gd (vin (h 0 6) 4000) <|
      bnd (up2 h 111 (ix (h 0 6)) ((x1 >>> (x2 &&& 31)).toInt8.toInt32).toInt8.toInt32) fun (h1 : HI) =>
      bnd (up2 h1 0 6 ((h1 0 6) + 1)) fun (h2 : HI) =>
      bnd (x2 + (-8)) fun (y3 : Int32) =>
      (pX1_lay_3 N R n) F x1 y3 h2 g
theorem lX1_lay_3 {D : DE} {f N R : Nat} (hf : 0 ≤ f) {h9 : HI} {g9 : HL} : ∀ (n : Nat) (F : Frm) (_ : k_Fix F) (x1 : Int32) (x2 : Int32) (h : HI) (g : HL), pX1_lay_3 N R n F x1 x2 h g = some (h9, g9) → V D mX1_lay f (qv F (eqv h9 g9)) 3 [(0, .ref (ad D 0)), (1, .int x1), (2, .int x2)] [] (F, h, g) := by
  intro n
  induction n with
  | zero => intro F hF x1 x2 h g E; cases E
  | succ n hK3 =>
    intro F hF x1 x2 h g E
    rw [pX1_lay_3] at E
    refine bX1_lay_3 (f := f) hF x1 x2  ?_
    refine ⟨fun c0 => ?_, fun c0 => ?_⟩
    · replace E := iteT c0 E
      cases E; exact ⟨rfl, rfl⟩
    · replace E := iteF c0 E
      obtain ⟨z0, E⟩ := gdE E; refine ⟨vinE z0, ?_⟩
      intro h1 e0; replace E := bndE e0 E
      intro h2 e0; replace E := bndE e0 E
      intro y3 e0; replace E := bndE e0 E
      exact hK3 _ hF _ _ _ _ E
def pX1_lay_0 (N R : Nat) (F : Frm) (x1 : Int32) (h : HI) (g : HL) : Option (HI × HL) :=
  pX1_lay_3 N R N F x1 24 h g
theorem jX1_lay_0 {D : DE} {f N R : Nat} (hf : 0 ≤ f) {h9 : HI} {g9 : HL} : ∀ (F : Frm) (_ : k_Fix F) (x1 : Int32) (h : HI) (g : HL), pX1_lay_0 N R F x1 h g = some (h9, g9) → JX1_lay_0 D f (eqv h9 g9) F h g x1 := by
  intro F hF x1 h g E
  unfold pX1_lay_0 at E
  exact lX1_lay_3 hf  N _ hF _ _ _ _ E
abbrev ppX1_lay (N R : Nat) (F : Frm) (x1 : Int32) (h : HI) (g : HL) : Option (HI × HL) := pX1_lay_0 N R F x1 h g
theorem sX1_lay {D : DE} {f N R : Nat} {F : Frm} (hF : k_Fix F) (hf : 0 ≤ f) {h9 : HI} {g9 : HL} {x1 : Int32} {h : HI} {g : HL} (E : ppX1_lay N R F x1 h g = some (h9, g9)) : Sv D f mX1_lay [.ref (ad D 0), .int x1] F h g (eqv h9 g9) := by
  exact wX1_lay (f := f) hF _ (jX1_lay_0 hf _ hF _ _ _ E)
def pX1_feed_18 (N R : Nat) (F : Frm) (x1 : Int32) (x2 : Int32) (x3 : Int32) (x4 : Int32) (x5 : Int32) (s0 : Int32) (h : HI) (g : HL) : GO Int32 :=
  ogv (ppX1_may N R F s0 h g) fun (F3 : Frm) (h1 : HI) (g2 : HL) =>
  obv (ppX1_lay N R F3 x1 h1 g2) fun (h4 : HI) (g5 : HL) =>
  obv (ppX1_lay N R F3 x2 h4 g5) fun (h6 : HI) (g7 : HL) =>
  obv (ppX1_lay N R F3 x3 h6 g7) fun (h8 : HI) (g9 : HL) =>
  obv (ppX1_lay N R F3 x4 h8 g9) fun (h10 : HI) (g11 : HL) =>
  obv (ppX1_lay N R F3 x5 h10 g11) fun (h12 : HI) (g13 : HL) =>
  some (.inl ((h12 0 6), F3, h12, g13))
theorem jX1_feed_18 {D : DE} {f N R : Nat} (hf : 6 ≤ f) {o9 : GQ Int32} : ∀ (F : Frm) (_ : k_Fix F) (x1 : Int32) (x2 : Int32) (x3 : Int32) (x4 : Int32) (x5 : Int32) (s0 : Int32) (h : HI) (g : HL), pX1_feed_18 N R F x1 x2 x3 x4 x5 s0 h g = some o9 → JX1_feed_18 D f (gqi o9) (gt o9) F h g x1 x2 x3 x4 x5 s0 := by
  intro F hF x1 x2 x3 x4 x5 s0 h g E
  unfold pX1_feed_18 at E
  refine Gv.ob (fun o1 e0 => (sX1_may (N := N) (R := R) hF (by omega) e0)) E (fun F3 h1 g2 hF E => ?_) (fun _ _ _ _ e => e)
  obtain ⟨h4, g5, e0, E⟩ := obvE E
  refine Sv.mono (sX1_lay (N := N) (R := R) hF (by omega) e0) (fun h8 g8 hq => ?_)
  obtain ⟨rfl, rfl⟩ := hq
  obtain ⟨h6, g7, e0, E⟩ := obvE E
  refine Sv.mono (sX1_lay (N := N) (R := R) hF (by omega) e0) (fun h8 g8 hq => ?_)
  obtain ⟨rfl, rfl⟩ := hq
  obtain ⟨h8, g9, e0, E⟩ := obvE E
  refine Sv.mono (sX1_lay (N := N) (R := R) hF (by omega) e0) (fun h8 g8 hq => ?_)
  obtain ⟨rfl, rfl⟩ := hq
  obtain ⟨h10, g11, e0, E⟩ := obvE E
  refine Sv.mono (sX1_lay (N := N) (R := R) hF (by omega) e0) (fun h8 g8 hq => ?_)
  obtain ⟨rfl, rfl⟩ := hq
  obtain ⟨h12, g13, e0, E⟩ := obvE E
  refine Sv.mono (sX1_lay (N := N) (R := R) hF (by omega) e0) (fun h8 g8 hq => ?_)
  obtain ⟨rfl, rfl⟩ := hq
  exact (Option.some.inj E).symm
def pX1_feed_0 (N R : Nat) (F : Frm) (x1 : Int32) (x2 : Int32) (x3 : Int32) (x4 : Int32) (x5 : Int32) (h : HI) (g : HL) : GO Int32 :=
  if 4000 < ((h 0 6) + 20) then
    pX1_feed_18 N R F x1 x2 x3 x4 x5 0 h g
  else
    pX1_feed_18 N R F x1 x2 x3 x4 x5 1 h g
theorem jX1_feed_0 {D : DE} {f N R : Nat} (hf : 6 ≤ f) {o9 : GQ Int32} : ∀ (F : Frm) (_ : k_Fix F) (x1 : Int32) (x2 : Int32) (x3 : Int32) (x4 : Int32) (x5 : Int32) (h : HI) (g : HL), pX1_feed_0 N R F x1 x2 x3 x4 x5 h g = some o9 → JX1_feed_0 D f (gqi o9) (gt o9) F h g x1 x2 x3 x4 x5 := by
  intro F hF x1 x2 x3 x4 x5 h g E
  unfold pX1_feed_0 at E
  refine ⟨fun c0 => ?_, fun c0 => ?_⟩
  · replace E := iteT c0 E
    exact jX1_feed_18 hf  _ hF _ _ _ _ _ _ _ _ E
  · replace E := iteF c0 E
    exact jX1_feed_18 hf  _ hF _ _ _ _ _ _ _ _ E
abbrev ppX1_feed (N R : Nat) (F : Frm) (x1 : Int32) (x2 : Int32) (x3 : Int32) (x4 : Int32) (x5 : Int32) (h : HI) (g : HL) : GO Int32 := pX1_feed_0 N R F x1 x2 x3 x4 x5 h g
theorem sX1_feed {D : DE} {f N R : Nat} {F : Frm} (hF : k_Fix F) (hf : 7 ≤ f) {o9 : GQ Int32} {x1 : Int32} {x2 : Int32} {x3 : Int32} {x4 : Int32} {x5 : Int32} {h : HI} {g : HL} (E : ppX1_feed N R F x1 x2 x3 x4 x5 h g = some o9) : Gi D f mX1_feed [.ref (ad D 0), .int x1, .int x2, .int x3, .int x4, .int x5] F h g (gqi o9) (gt o9) := by
  obtain ⟨f, rfl⟩ : ∃ f0, f = f0 + 1 := ⟨f - 1, by omega⟩
  have hf : 6 ≤ f := by omega
  exact wX1_feed (f := f) hF _ _ _ _ _ (jX1_feed_0 hf _ hF _ _ _ _ _ _ _ E)
def pX0_feed_0 (N R : Nat) (F : Frm) (x1 : Int32) (x2 : Int32) (x3 : Int32) (x4 : Int32) (x5 : Int32) (h : HI) (g : HL) : GO Int32 :=
  ohi (ppX1_feed N R F x1 x2 x3 x4 x5 h g) (fun e F1 h1 g1 =>
    if e = 0 then
      some (.inl (1, F1, h1, g1))
    else none) fun (y1 : Int32) (F4 : Frm) (h2 : HI) (g3 : HL) =>
  bnd (up2 g3 159 (ix 0) y1.toInt64) fun (g5 : HL) =>
  some (.inl (0, F4, h2, g5))
theorem jX0_feed_0 {D : DE} {f N R : Nat} (hf : 7 ≤ f) {o9 : GQ Int32} : ∀ (F : Frm) (_ : k_Fix F) (x1 : Int32) (x2 : Int32) (x3 : Int32) (x4 : Int32) (x5 : Int32) (h : HI) (g : HL), pX0_feed_0 N R F x1 x2 x3 x4 x5 h g = some o9 → JX0_feed_0 D f (gqi o9) (gt o9) F h g x1 x2 x3 x4 x5 := by
  intro F hF x1 x2 x3 x4 x5 h g E
  unfold pX0_feed_0 at E
  refine Gi.oh (fun o1 e0 => (sX1_feed (N := N) (R := R) hF (by omega) e0)) E (fun y1 F4 h2 g3 hF E => ?_) (fun e F1 h1 g1 hF E => ?_)
  · skip
    intro g5 e0; replace E := bndE e0 E
    exact (Option.some.inj E).symm
  · skip
    by_cases c0 : e = 0
    · replace E := iteT c0 E
      refine ⟨c0, ?_⟩
      exact (Option.some.inj E).symm
    replace E := iteF c0 E
    cases E
abbrev ppX0_feed (N R : Nat) (F : Frm) (x1 : Int32) (x2 : Int32) (x3 : Int32) (x4 : Int32) (x5 : Int32) (h : HI) (g : HL) : GO Int32 := pX0_feed_0 N R F x1 x2 x3 x4 x5 h g
theorem sX0_feed {D : DE} {f N R : Nat} {F : Frm} (hF : k_Fix F) (hf : 8 ≤ f) {o9 : GQ Int32} {x1 : Int32} {x2 : Int32} {x3 : Int32} {x4 : Int32} {x5 : Int32} {h : HI} {g : HL} (E : ppX0_feed N R F x1 x2 x3 x4 x5 h g = some o9) : Gi D f mX0_feed [.ref (ad D 0), .int x1, .int x2, .int x3, .int x4, .int x5, .ref (ad D 159)] F h g (gqi o9) (gt o9) := by
  obtain ⟨f, rfl⟩ : ∃ f0, f = f0 + 1 := ⟨f - 1, by omega⟩
  have hf : 7 ≤ f := by omega
  exact wX0_feed (f := f) hF _ _ _ _ _ (jX0_feed_0 hf _ hF _ _ _ _ _ _ _ E)
def pX1_function_25 (N R : Nat) (F : Frm) (x2 : Int32) (x3 : Nat) (s0 : Int32) (h : HI) (g : HL) : GO Int32 :=
  ogv (ppX1_lies N R F s0 h g) fun (F3 : Frm) (h1 : HI) (g2 : HL) =>
  if x2 = 0 then
    gd (decide (F3.2.1 x3 = (18, 0))) <|
    some (.inl ((h1 x3 1), F3, h1, g2))
  else
    if x2 = 1 then
      gd (decide (F3.2.1 x3 = (18, 0))) <|
      some (.inl ((h1 x3 2), F3, h1, g2))
    else
      if x2 = 2 then
        gd (decide (F3.2.1 x3 = (18, 0))) <|
        obi (ppX1_sizeOf N R F3 (h1 x3 3) h1 g2) fun (y9 : Int32) (h10 : HI) (g11 : HL) =>
        some (.inl (y9, F3, h10, g11))
      else
        gd (decide (F3.2.1 x3 = (18, 0))) <|
        ob1 (F3.2.2 x3 5) fun (b4 : Nat) =>
        gd (decide ((F3.2.1 b4).1 = 0)) <|
        bnd ((F3.2.1 b4).2) fun (m5 : Nat) =>
        gd (vin (x2 - 3) m5) <|
        obi (ppX1_sizeOf N R F3 (h1 b4 (ix (x2 - 3))) h1 g2) fun (y6 : Int32) (h7 : HI) (g8 : HL) =>
        some (.inl (y6, F3, h7, g8))
theorem jX1_function_25 {D : DE} {f N R : Nat} (hf : 7 ≤ f) {o9 : GQ Int32} : ∀ (F : Frm) (_ : k_Fix F) (x2 : Int32) (x3 : Nat) (s0 : Int32) (h : HI) (g : HL), pX1_function_25 N R F x2 x3 s0 h g = some o9 → JX1_function_25 D f (gqi o9) (gt o9) F h g x2 x3 s0 := by
  intro F hF x2 x3 s0 h g E
  unfold pX1_function_25 at E
  refine Gv.ob (fun o1 e0 => (sX1_lies (N := N) (R := R) hF (by omega) e0)) E (fun F3 h1 g2 hF E => ?_) (fun _ _ _ _ e => e)
  refine ⟨fun c0 => ?_, fun c0 => ?_⟩
  · replace E := iteF c0 E
    refine ⟨fun c0 => ?_, fun c0 => ?_⟩
    · replace E := iteF c0 E
      refine ⟨fun c0 => ?_, fun c0 => ?_⟩
      · replace E := iteF c0 E
        obtain ⟨z0, E⟩ := gdE E; refine ⟨of_decide_eq_true z0, ?_⟩
        obtain ⟨b4, z0, E⟩ := ob1E E; refine ⟨b4, z0, ?_⟩
        obtain ⟨z0, E⟩ := gdE E; replace E := bndE rfl E; refine ⟨_, shE (of_decide_eq_true z0), ?_⟩
        obtain ⟨z0, E⟩ := gdE E; refine ⟨vinE z0, ?_⟩
        obtain ⟨y6, h7, g8, e0, E⟩ := obiE E
        refine Si.mono (sX1_sizeOf (N := N) (R := R) hF (by omega) e0) (fun y8 h8 g8 hq => ?_)
        obtain ⟨rfl, rfl, rfl⟩ := hq
        exact (Option.some.inj E).symm
      · replace E := iteT c0 E
        obtain ⟨z0, E⟩ := gdE E; refine ⟨of_decide_eq_true z0, ?_⟩
        obtain ⟨y9, h10, g11, e0, E⟩ := obiE E
        refine Si.mono (sX1_sizeOf (N := N) (R := R) hF (by omega) e0) (fun y8 h8 g8 hq => ?_)
        obtain ⟨rfl, rfl, rfl⟩ := hq
        exact (Option.some.inj E).symm
    · replace E := iteT c0 E
      obtain ⟨z0, E⟩ := gdE E; refine ⟨of_decide_eq_true z0, ?_⟩
      exact (Option.some.inj E).symm
  · replace E := iteT c0 E
    obtain ⟨z0, E⟩ := gdE E; refine ⟨of_decide_eq_true z0, ?_⟩
    exact (Option.some.inj E).symm
def pX1_function_24 (N R : Nat) (F : Frm) (x2 : Int32) (x3 : Nat) (h : HI) (g : HL) : GO Int32 :=
  pX1_function_25 N R F x2 x3 0 h g
theorem jX1_function_24 {D : DE} {f N R : Nat} (hf : 7 ≤ f) {o9 : GQ Int32} : ∀ (F : Frm) (_ : k_Fix F) (x2 : Int32) (x3 : Nat) (h : HI) (g : HL), pX1_function_24 N R F x2 x3 h g = some o9 → JX1_function_24 D f (gqi o9) (gt o9) F h g x2 x3 := by
  intro F hF x2 x3 h g E
  unfold pX1_function_24 at E
  exact jX1_function_25 hf  _ hF _ _ _ _ _ E
def pX1_function_0 (N R : Nat) (F : Frm) (x1 : Int32) (x2 : Int32) (h : HI) (g : HL) : GO Int32 :=
  ogr (ppX1_functionAt N R F x1 h g) fun (b1 : Nat) (F4 : Frm) (h2 : HI) (g3 : HL) =>
  if x2 < 0 then
    pX1_function_24 N R F4 x2 b1 h2 g3
  else
    gd (decide (F4.2.1 b1 = (18, 0))) <|
    if (3 + (h2 b1 1)) ≤ x2 then
      pX1_function_24 N R F4 x2 b1 h2 g3
    else
      pX1_function_25 N R F4 x2 b1 1 h2 g3
theorem jX1_function_0 {D : DE} {f N R : Nat} (hf : 7 ≤ f) {o9 : GQ Int32} : ∀ (F : Frm) (_ : k_Fix F) (x1 : Int32) (x2 : Int32) (h : HI) (g : HL), pX1_function_0 N R F x1 x2 h g = some o9 → JX1_function_0 D f (gqi o9) (gt o9) F h g x1 x2 := by
  intro F hF x1 x2 h g E
  unfold pX1_function_0 at E
  refine Gr.ob (fun o1 e0 => (sX1_functionAt (N := N) (R := R) hF (by omega) e0)) E (fun b1 F4 h2 g3 hF E => ?_) (fun _ _ _ _ e => e)
  refine ⟨fun c0 => ?_, fun c0 => ?_⟩
  · replace E := iteT c0 E
    exact jX1_function_24 hf  _ hF _ _ _ _ E
  · replace E := iteF c0 E
    obtain ⟨z0, E⟩ := gdE E; refine ⟨of_decide_eq_true z0, ?_⟩
    refine ⟨fun c0 => ?_, fun c0 => ?_⟩
    · replace E := iteT c0 E
      exact jX1_function_24 hf  _ hF _ _ _ _ E
    · replace E := iteF c0 E
      exact jX1_function_25 hf  _ hF _ _ _ _ _ E
abbrev ppX1_function (N R : Nat) (F : Frm) (x1 : Int32) (x2 : Int32) (h : HI) (g : HL) : GO Int32 := pX1_function_0 N R F x1 x2 h g
theorem sX1_function {D : DE} {f N R : Nat} {F : Frm} (hF : k_Fix F) (hf : 8 ≤ f) {o9 : GQ Int32} {x1 : Int32} {x2 : Int32} {h : HI} {g : HL} (E : ppX1_function N R F x1 x2 h g = some o9) : Gi D f mX1_function [.ref (ad D 0), .int x1, .int x2] F h g (gqi o9) (gt o9) := by
  obtain ⟨f, rfl⟩ : ∃ f0, f = f0 + 1 := ⟨f - 1, by omega⟩
  have hf : 7 ≤ f := by omega
  exact wX1_function (f := f) hF _ _ (jX1_function_0 hf _ hF _ _ _ _ E)
def pX0_function_0 (N R : Nat) (F : Frm) (x1 : Int32) (x2 : Int32) (h : HI) (g : HL) : GO Int32 :=
  ohi (ppX1_function N R F x1 x2 h g) (fun e F1 h1 g1 =>
    if e = 2 then
      some (.inl (1, F1, h1, g1))
    else none) fun (y1 : Int32) (F4 : Frm) (h2 : HI) (g3 : HL) =>
  bnd (up2 g3 159 (ix 0) y1.toInt64) fun (g5 : HL) =>
  some (.inl (0, F4, h2, g5))
theorem jX0_function_0 {D : DE} {f N R : Nat} (hf : 8 ≤ f) {o9 : GQ Int32} : ∀ (F : Frm) (_ : k_Fix F) (x1 : Int32) (x2 : Int32) (h : HI) (g : HL), pX0_function_0 N R F x1 x2 h g = some o9 → JX0_function_0 D f (gqi o9) (gt o9) F h g x1 x2 := by
  intro F hF x1 x2 h g E
  unfold pX0_function_0 at E
  refine Gi.oh (fun o1 e0 => (sX1_function (N := N) (R := R) hF (by omega) e0)) E (fun y1 F4 h2 g3 hF E => ?_) (fun e F1 h1 g1 hF E => ?_)
  · skip
    intro g5 e0; replace E := bndE e0 E
    exact (Option.some.inj E).symm
  · skip
    by_cases c0 : e = 2
    · replace E := iteT c0 E
      refine ⟨c0, ?_⟩
      exact (Option.some.inj E).symm
    replace E := iteF c0 E
    cases E
abbrev ppX0_function (N R : Nat) (F : Frm) (x1 : Int32) (x2 : Int32) (h : HI) (g : HL) : GO Int32 := pX0_function_0 N R F x1 x2 h g
theorem sX0_function {D : DE} {f N R : Nat} {F : Frm} (hF : k_Fix F) (hf : 9 ≤ f) {o9 : GQ Int32} {x1 : Int32} {x2 : Int32} {h : HI} {g : HL} (E : ppX0_function N R F x1 x2 h g = some o9) : Gi D f mX0_function [.ref (ad D 0), .int x1, .int x2, .ref (ad D 159)] F h g (gqi o9) (gt o9) := by
  obtain ⟨f, rfl⟩ : ∃ f0, f = f0 + 1 := ⟨f - 1, by omega⟩
  have hf : 8 ≤ f := by omega
  exact wX0_function (f := f) hF _ _ (jX0_function_0 hf _ hF _ _ _ _ E)
def pX1_input_31 (N R : Nat) (F : Frm) (x1 : Int32) (x2 : Int32) (s0 : Int32) (h : HI) (g : HL) : GO Int32 :=
  ogv (ppX1_may N R F s0 h g) fun (F3 : Frm) (h1 : HI) (g2 : HL) =>
  gd (vin (h1 0 13) 40) <|
  bnd (up2 h1 113 (ix (h1 0 13)) x1) fun (h4 : HI) =>
  gd (vin (h4 0 13) 40) <|
  bnd (up2 h4 114 (ix (h4 0 13)) x2) fun (h5 : HI) =>
  bnd (up2 h5 0 13 ((h5 0 13) + 1)) fun (h6 : HI) =>
  some (.inl ((h6 0 13), F3, h6, g2))
theorem jX1_input_31 {D : DE} {f N R : Nat} (hf : 6 ≤ f) {o9 : GQ Int32} : ∀ (F : Frm) (_ : k_Fix F) (x1 : Int32) (x2 : Int32) (s0 : Int32) (h : HI) (g : HL), pX1_input_31 N R F x1 x2 s0 h g = some o9 → JX1_input_31 D f (gqi o9) (gt o9) F h g x1 x2 s0 := by
  intro F hF x1 x2 s0 h g E
  unfold pX1_input_31 at E
  refine Gv.ob (fun o1 e0 => (sX1_may (N := N) (R := R) hF (by omega) e0)) E (fun F3 h1 g2 hF E => ?_) (fun _ _ _ _ e => e)
  obtain ⟨z0, E⟩ := gdE E; refine ⟨vinE z0, ?_⟩
  intro h4 e0; replace E := bndE e0 E
  obtain ⟨z0, E⟩ := gdE E; refine ⟨vinE z0, ?_⟩
  intro h5 e0; replace E := bndE e0 E
  intro h6 e0; replace E := bndE e0 E
  exact (Option.some.inj E).symm
def pX1_input_14 (N R : Nat) (F : Frm) (x1 : Int32) (x2 : Int32) (s0 : Int32) (h : HI) (g : HL) : GO Int32 :=
  ogv (ppX1_fits N R F s0 h g) fun (F3 : Frm) (h1 : HI) (g2 : HL) =>
  if 40 ≤ (h1 0 13) then
    pX1_input_31 N R F3 x1 x2 0 h1 g2
  else
    pX1_input_31 N R F3 x1 x2 1 h1 g2
theorem jX1_input_14 {D : DE} {f N R : Nat} (hf : 6 ≤ f) {o9 : GQ Int32} : ∀ (F : Frm) (_ : k_Fix F) (x1 : Int32) (x2 : Int32) (s0 : Int32) (h : HI) (g : HL), pX1_input_14 N R F x1 x2 s0 h g = some o9 → JX1_input_14 D f (gqi o9) (gt o9) F h g x1 x2 s0 := by
  intro F hF x1 x2 s0 h g E
  unfold pX1_input_14 at E
  refine Gv.ob (fun o1 e0 => (sX1_fits (N := N) (R := R) hF (by omega) e0)) E (fun F3 h1 g2 hF E => ?_) (fun _ _ _ _ e => e)
  refine ⟨fun c0 => ?_, fun c0 => ?_⟩
  · replace E := iteT c0 E
    exact jX1_input_31 hf  _ hF _ _ _ _ _ E
  · replace E := iteF c0 E
    exact jX1_input_31 hf  _ hF _ _ _ _ _ E
def pX1_input_13 (N R : Nat) (F : Frm) (x1 : Int32) (x2 : Int32) (h : HI) (g : HL) : GO Int32 :=
  pX1_input_14 N R F x1 x2 0 h g
theorem jX1_input_13 {D : DE} {f N R : Nat} (hf : 6 ≤ f) {o9 : GQ Int32} : ∀ (F : Frm) (_ : k_Fix F) (x1 : Int32) (x2 : Int32) (h : HI) (g : HL), pX1_input_13 N R F x1 x2 h g = some o9 → JX1_input_13 D f (gqi o9) (gt o9) F h g x1 x2 := by
  intro F hF x1 x2 h g E
  unfold pX1_input_13 at E
  exact jX1_input_14 hf  _ hF _ _ _ _ _ E
def pX1_input_0 (N R : Nat) (F : Frm) (x1 : Int32) (x2 : Int32) (h : HI) (g : HL) : GO Int32 :=
  if x1 < 0 then
    pX1_input_13 N R F x1 x2 h g
  else
    if 2 < x1 then
      pX1_input_13 N R F x1 x2 h g
    else
      pX1_input_14 N R F x1 x2 1 h g
theorem jX1_input_0 {D : DE} {f N R : Nat} (hf : 6 ≤ f) {o9 : GQ Int32} : ∀ (F : Frm) (_ : k_Fix F) (x1 : Int32) (x2 : Int32) (h : HI) (g : HL), pX1_input_0 N R F x1 x2 h g = some o9 → JX1_input_0 D f (gqi o9) (gt o9) F h g x1 x2 := by
  intro F hF x1 x2 h g E
  unfold pX1_input_0 at E
  refine ⟨fun c0 => ?_, fun c0 => ?_⟩
  · replace E := iteT c0 E
    exact jX1_input_13 hf  _ hF _ _ _ _ E
  · replace E := iteF c0 E
    refine ⟨fun c0 => ?_, fun c0 => ?_⟩
    · replace E := iteT c0 E
      exact jX1_input_13 hf  _ hF _ _ _ _ E
    · replace E := iteF c0 E
      exact jX1_input_14 hf  _ hF _ _ _ _ _ E
abbrev ppX1_input (N R : Nat) (F : Frm) (x1 : Int32) (x2 : Int32) (h : HI) (g : HL) : GO Int32 := pX1_input_0 N R F x1 x2 h g
theorem sX1_input {D : DE} {f N R : Nat} {F : Frm} (hF : k_Fix F) (hf : 7 ≤ f) {o9 : GQ Int32} {x1 : Int32} {x2 : Int32} {h : HI} {g : HL} (E : ppX1_input N R F x1 x2 h g = some o9) : Gi D f mX1_input [.ref (ad D 0), .int x1, .int x2] F h g (gqi o9) (gt o9) := by
  obtain ⟨f, rfl⟩ : ∃ f0, f = f0 + 1 := ⟨f - 1, by omega⟩
  have hf : 6 ≤ f := by omega
  exact wX1_input (f := f) hF _ _ (jX1_input_0 hf _ hF _ _ _ _ E)
def pX0_input_0 (N R : Nat) (F : Frm) (x1 : Int32) (x2 : Int32) (h : HI) (g : HL) : GO Int32 :=
  ohi (ppX1_input N R F x1 x2 h g) (fun e F1 h1 g1 =>
    if e = 1 then
      some (.inl (1, F1, h1, g1))
    else if e = 0 then
      some (.inl (2, F1, h1, g1))
    else none) fun (y1 : Int32) (F4 : Frm) (h2 : HI) (g3 : HL) =>
  bnd (up2 g3 159 (ix 0) y1.toInt64) fun (g5 : HL) =>
  some (.inl (0, F4, h2, g5))
theorem jX0_input_0 {D : DE} {f N R : Nat} (hf : 7 ≤ f) {o9 : GQ Int32} : ∀ (F : Frm) (_ : k_Fix F) (x1 : Int32) (x2 : Int32) (h : HI) (g : HL), pX0_input_0 N R F x1 x2 h g = some o9 → JX0_input_0 D f (gqi o9) (gt o9) F h g x1 x2 := by
  intro F hF x1 x2 h g E
  unfold pX0_input_0 at E
  refine Gi.oh (fun o1 e0 => (sX1_input (N := N) (R := R) hF (by omega) e0)) E (fun y1 F4 h2 g3 hF E => ?_) (fun e F1 h1 g1 hF E => ?_)
  · skip
    intro g5 e0; replace E := bndE e0 E
    exact (Option.some.inj E).symm
  · skip
    by_cases c0 : e = 1
    · replace E := iteT c0 E
      refine Or.inl ⟨c0, ?_⟩
      exact (Option.some.inj E).symm
    replace E := iteF c0 E
    by_cases c1 : e = 0
    · replace E := iteT c1 E
      refine Or.inr (⟨c1, ?_⟩)
      exact (Option.some.inj E).symm
    replace E := iteF c1 E
    cases E
abbrev ppX0_input (N R : Nat) (F : Frm) (x1 : Int32) (x2 : Int32) (h : HI) (g : HL) : GO Int32 := pX0_input_0 N R F x1 x2 h g
theorem sX0_input {D : DE} {f N R : Nat} {F : Frm} (hF : k_Fix F) (hf : 8 ≤ f) {o9 : GQ Int32} {x1 : Int32} {x2 : Int32} {h : HI} {g : HL} (E : ppX0_input N R F x1 x2 h g = some o9) : Gi D f mX0_input [.ref (ad D 0), .int x1, .int x2, .ref (ad D 159)] F h g (gqi o9) (gt o9) := by
  obtain ⟨f, rfl⟩ : ∃ f0, f = f0 + 1 := ⟨f - 1, by omega⟩
  have hf : 7 ≤ f := by omega
  exact wX0_input (f := f) hF _ _ (jX0_input_0 hf _ hF _ _ _ _ E)
def pX1_needed_20 (N R : Nat) (F : Frm) (x1 : Int32) (s0 : Int32) (h : HI) (g : HL) : GO Int32 :=
  ogv (ppX1_lies N R F s0 h g) fun (F3 : Frm) (h1 : HI) (g2 : HL) =>
  gd (vin x1 24016) <|
  gd (vin (h1 108 (ix x1)) 40) <|
  gd (isBb (h1 109 (ix (h1 108 (ix x1))))) <|
  some (.inl ((h1 109 (ix (h1 108 (ix x1)))), F3, h1, g2))
theorem jX1_needed_20 {D : DE} {f N R : Nat} (hf : 6 ≤ f) {o9 : GQ Int32} : ∀ (F : Frm) (_ : k_Fix F) (x1 : Int32) (s0 : Int32) (h : HI) (g : HL), pX1_needed_20 N R F x1 s0 h g = some o9 → JX1_needed_20 D f (gqi o9) (gt o9) F h g x1 s0 := by
  intro F hF x1 s0 h g E
  unfold pX1_needed_20 at E
  refine Gv.ob (fun o1 e0 => (sX1_lies (N := N) (R := R) hF (by omega) e0)) E (fun F3 h1 g2 hF E => ?_) (fun _ _ _ _ e => e)
  obtain ⟨z0, E⟩ := gdE E; refine ⟨vinE z0, ?_⟩
  obtain ⟨z0, E⟩ := gdE E; refine ⟨vinE z0, ?_⟩
  obtain ⟨z0, E⟩ := gdE E; refine ⟨isBbE z0, ?_⟩
  exact (Option.some.inj E).symm
def pX1_needed_19 (N R : Nat) (F : Frm) (x1 : Int32) (h : HI) (g : HL) : GO Int32 :=
  pX1_needed_20 N R F x1 0 h g
theorem jX1_needed_19 {D : DE} {f N R : Nat} (hf : 6 ≤ f) {o9 : GQ Int32} : ∀ (F : Frm) (_ : k_Fix F) (x1 : Int32) (h : HI) (g : HL), pX1_needed_19 N R F x1 h g = some o9 → JX1_needed_19 D f (gqi o9) (gt o9) F h g x1 := by
  intro F hF x1 h g E
  unfold pX1_needed_19 at E
  exact jX1_needed_20 hf  _ hF _ _ _ _ E
def pX1_needed_0 (N R : Nat) (F : Frm) (x1 : Int32) (h : HI) (g : HL) : GO Int32 :=
  if x1 < 0 then
    pX1_needed_19 N R F x1 h g
  else
    if (h 101 19) ≤ x1 then
      pX1_needed_19 N R F x1 h g
    else
      pX1_needed_20 N R F x1 1 h g
theorem jX1_needed_0 {D : DE} {f N R : Nat} (hf : 6 ≤ f) {o9 : GQ Int32} : ∀ (F : Frm) (_ : k_Fix F) (x1 : Int32) (h : HI) (g : HL), pX1_needed_0 N R F x1 h g = some o9 → JX1_needed_0 D f (gqi o9) (gt o9) F h g x1 := by
  intro F hF x1 h g E
  unfold pX1_needed_0 at E
  refine ⟨fun c0 => ?_, fun c0 => ?_⟩
  · replace E := iteT c0 E
    exact jX1_needed_19 hf  _ hF _ _ _ E
  · replace E := iteF c0 E
    refine ⟨fun c0 => ?_, fun c0 => ?_⟩
    · replace E := iteT c0 E
      exact jX1_needed_19 hf  _ hF _ _ _ E
    · replace E := iteF c0 E
      exact jX1_needed_20 hf  _ hF _ _ _ _ E
abbrev ppX1_needed (N R : Nat) (F : Frm) (x1 : Int32) (h : HI) (g : HL) : GO Int32 := pX1_needed_0 N R F x1 h g
theorem sX1_needed {D : DE} {f N R : Nat} {F : Frm} (hF : k_Fix F) (hf : 7 ≤ f) {o9 : GQ Int32} {x1 : Int32} {h : HI} {g : HL} (E : ppX1_needed N R F x1 h g = some o9) : Gi D f mX1_needed [.ref (ad D 0), .int x1] F h g (gqi o9) (gt o9) := by
  obtain ⟨f, rfl⟩ : ∃ f0, f = f0 + 1 := ⟨f - 1, by omega⟩
  have hf : 6 ≤ f := by omega
  exact wX1_needed (f := f) hF _ (jX1_needed_0 hf _ hF _ _ _ E)
def pX0_needed_0 (N R : Nat) (F : Frm) (x1 : Int32) (h : HI) (g : HL) : GO Int32 :=
  ohi (ppX1_needed N R F x1 h g) (fun e F1 h1 g1 =>
    if e = 2 then
      some (.inl (1, F1, h1, g1))
    else none) fun (y1 : Int32) (F4 : Frm) (h2 : HI) (g3 : HL) =>
  if y1 = 0 then
    bnd (up2 g3 159 (ix 0) 0) fun (g5 : HL) =>
    some (.inl (0, F4, h2, g5))
  else
    bnd (up2 g3 159 (ix 0) 1) fun (g6 : HL) =>
    some (.inl (0, F4, h2, g6))
theorem jX0_needed_0 {D : DE} {f N R : Nat} (hf : 7 ≤ f) {o9 : GQ Int32} : ∀ (F : Frm) (_ : k_Fix F) (x1 : Int32) (h : HI) (g : HL), pX0_needed_0 N R F x1 h g = some o9 → JX0_needed_0 D f (gqi o9) (gt o9) F h g x1 := by
  intro F hF x1 h g E
  unfold pX0_needed_0 at E
  refine Gi.oh (fun o1 e0 => (sX1_needed (N := N) (R := R) hF (by omega) e0)) E (fun y1 F4 h2 g3 hF E => ?_) (fun e F1 h1 g1 hF E => ?_)
  · skip
    refine ⟨fun c0 => ?_, fun c0 => ?_⟩
    · replace E := iteT c0 E
      intro g5 e0; replace E := bndE e0 E
      exact (Option.some.inj E).symm
    · replace E := iteF c0 E
      intro g6 e0; replace E := bndE e0 E
      exact (Option.some.inj E).symm
  · skip
    by_cases c0 : e = 2
    · replace E := iteT c0 E
      refine ⟨c0, ?_⟩
      exact (Option.some.inj E).symm
    replace E := iteF c0 E
    cases E
abbrev ppX0_needed (N R : Nat) (F : Frm) (x1 : Int32) (h : HI) (g : HL) : GO Int32 := pX0_needed_0 N R F x1 h g
theorem sX0_needed {D : DE} {f N R : Nat} {F : Frm} (hF : k_Fix F) (hf : 8 ≤ f) {o9 : GQ Int32} {x1 : Int32} {h : HI} {g : HL} (E : ppX0_needed N R F x1 h g = some o9) : Gi D f mX0_needed [.ref (ad D 0), .int x1, .ref (ad D 159)] F h g (gqi o9) (gt o9) := by
  obtain ⟨f, rfl⟩ : ∃ f0, f = f0 + 1 := ⟨f - 1, by omega⟩
  have hf : 7 ≤ f := by omega
  exact wX0_needed (f := f) hF _ (jX0_needed_0 hf _ hF _ _ _ E)
def pX1_plant_48 (N R : Nat) : Nat → Frm → Int32 → Int32 → Int32 → Int32 → Nat → Int32 → HI → HL → GO Int32
  | 0, _, _, _, _, _, _, _, _, _ => none
  | n + 1, F, x2, x3, x4, x5, x6, x7, h, g =>
    gd (decide (F.2.1 x6 = (18, 0))) <|
    if (h x6 1) ≤ x7 then
      ob1 (F.2.2 x6 7) fun (b1 : Nat) =>
      gd (decide ((F.2.1 b1).1 = 2)) <|
      bnd ((F.2.1 b1).2) fun (m2 : Nat) =>
      gd (vin x2 m2) <|
      bnd (up2 h b1 (ix x2) 0) fun (h3 : HI) =>
      ob1 (F.2.2 x6 8) fun (b4 : Nat) =>
      gd (decide ((F.2.1 b4).1 = 0)) <|
      bnd ((F.2.1 b4).2) fun (m5 : Nat) =>
      gd (vin ((4 * x2) + x3) m5) <|
      bnd (up2 h3 b4 (ix ((4 * x2) + x3)) x4) fun (h6 : HI) =>
      some (.inl (x5, F, h6, g))
    else
      ob1 (F.2.2 x6 8) fun (b7 : Nat) =>
      obi (ppX1_rowOf N R F x6 x2 x7 h g) fun (y8 : Int32) (h9 : HI) (g10 : HL) =>
      gd (decide ((F.2.1 b7).1 = 0)) <|
      bnd ((F.2.1 b7).2) fun (m11 : Nat) =>
      gd (vin ((4 * x2) + x7) m11) <|
      bnd (up2 h9 b7 (ix ((4 * x2) + x7)) y8) fun (h12 : HI) =>
      bnd (x7 + 1) fun (y13 : Int32) =>
      (pX1_plant_48 N R n) F x2 x3 x4 x5 x6 y13 h12 g10
theorem lX1_plant_48 {D : DE} {f N R : Nat} (hf : 9 ≤ f) {o9 : GQ Int32} : ∀ (n : Nat) (F : Frm) (_ : k_Fix F) (x2 : Int32) (x3 : Int32) (x4 : Int32) (x5 : Int32) (x6 : Nat) (x7 : Int32) (h : HI) (g : HL), pX1_plant_48 N R n F x2 x3 x4 x5 x6 x7 h g = some o9 → V D mX1_plant (f + 1) (gi (gqi o9) (gt o9)) 48 [(2, .int x2), (3, .int x3), (4, .int x4), (5, .int x5), (6, .ref (ad D x6)), (7, .int x7)] [] (F, h, g) := by
  intro n
  induction n with
  | zero => intro F hF x2 x3 x4 x5 x6 x7 h g E; cases E
  | succ n hK48 =>
    intro F hF x2 x3 x4 x5 x6 x7 h g E
    rw [pX1_plant_48] at E
    refine bX1_plant_48 (f := f) hF x2 x3 x4 x5 x6 x7  ?_
    obtain ⟨z0, E⟩ := gdE E; refine ⟨of_decide_eq_true z0, ?_⟩
    refine ⟨fun c0 => ?_, fun c0 => ?_⟩
    · replace E := iteT c0 E
      obtain ⟨b1, z0, E⟩ := ob1E E; refine ⟨b1, z0, ?_⟩
      obtain ⟨z0, E⟩ := gdE E; replace E := bndE rfl E; refine ⟨_, shE (of_decide_eq_true z0), ?_⟩
      obtain ⟨z0, E⟩ := gdE E; refine ⟨vinE z0, ?_⟩
      intro h3 e0; replace E := bndE e0 E
      obtain ⟨b4, z0, E⟩ := ob1E E; refine ⟨b4, z0, ?_⟩
      obtain ⟨z0, E⟩ := gdE E; replace E := bndE rfl E; refine ⟨_, shE (of_decide_eq_true z0), ?_⟩
      obtain ⟨z0, E⟩ := gdE E; refine ⟨vinE z0, ?_⟩
      intro h6 e0; replace E := bndE e0 E
      exact (Option.some.inj E).symm
    · replace E := iteF c0 E
      obtain ⟨b7, z0, E⟩ := ob1E E; refine ⟨b7, z0, ?_⟩
      obtain ⟨y8, h9, g10, e0, E⟩ := obiE E
      refine Si.mono (sX1_rowOf (N := N) (R := R) hF (by omega) e0) (fun y8 h8 g8 hq => ?_)
      obtain ⟨rfl, rfl, rfl⟩ := hq
      obtain ⟨z0, E⟩ := gdE E; replace E := bndE rfl E; refine ⟨_, shE (of_decide_eq_true z0), ?_⟩
      obtain ⟨z0, E⟩ := gdE E; refine ⟨vinE z0, ?_⟩
      intro h12 e0; replace E := bndE e0 E
      intro y13 e0; replace E := bndE e0 E
      exact hK48 _ hF _ _ _ _ _ _ _ _ E
def pX1_plant_42 (N R : Nat) (F : Frm) (x2 : Int32) (x3 : Int32) (x4 : Int32) (x5 : Int32) (x6 : Nat) (s0 : Int32) (h : HI) (g : HL) : GO Int32 :=
  ogv (ppX1_fits N R F s0 h g) fun (F3 : Frm) (h1 : HI) (g2 : HL) =>
  pX1_plant_48 N R N F3 x2 x3 x4 x5 x6 0 h1 g2
theorem jX1_plant_42 {D : DE} {f N R : Nat} (hf : 9 ≤ f) {o9 : GQ Int32} : ∀ (F : Frm) (_ : k_Fix F) (x2 : Int32) (x3 : Int32) (x4 : Int32) (x5 : Int32) (x6 : Nat) (s0 : Int32) (h : HI) (g : HL), pX1_plant_42 N R F x2 x3 x4 x5 x6 s0 h g = some o9 → JX1_plant_42 D f (gqi o9) (gt o9) F h g x2 x3 x4 x5 x6 s0 := by
  intro F hF x2 x3 x4 x5 x6 s0 h g E
  unfold pX1_plant_42 at E
  refine Gv.ob (fun o1 e0 => (sX1_fits (N := N) (R := R) hF (by omega) e0)) E (fun F3 h1 g2 hF E => ?_) (fun _ _ _ _ e => e)
  exact lX1_plant_48 hf  N _ hF _ _ _ _ _ _ _ _ E
def pX1_plant_41 (N R : Nat) (F : Frm) (x2 : Int32) (x3 : Int32) (x4 : Int32) (x5 : Int32) (x6 : Nat) (h : HI) (g : HL) : GO Int32 :=
  pX1_plant_42 N R F x2 x3 x4 x5 x6 0 h g
theorem jX1_plant_41 {D : DE} {f N R : Nat} (hf : 9 ≤ f) {o9 : GQ Int32} : ∀ (F : Frm) (_ : k_Fix F) (x2 : Int32) (x3 : Int32) (x4 : Int32) (x5 : Int32) (x6 : Nat) (h : HI) (g : HL), pX1_plant_41 N R F x2 x3 x4 x5 x6 h g = some o9 → JX1_plant_41 D f (gqi o9) (gt o9) F h g x2 x3 x4 x5 x6 := by
  intro F hF x2 x3 x4 x5 x6 h g E
  unfold pX1_plant_41 at E
  exact jX1_plant_42 hf  _ hF _ _ _ _ _ _ _ _ E
def pX1_plant_0 (N R : Nat) (F : Frm) (x1 : Int32) (x2 : Int32) (x3 : Int32) (x4 : Int32) (h : HI) (g : HL) : GO Int32 :=
  ogi (ppX1_asks N R F x1 x2 x3 h g) fun (y1 : Int32) (F4 : Frm) (h2 : HI) (g3 : HL) =>
  gd (vin x1 12) <|
  ob1 (F4.2.2 112 (ix x1)) fun (b5 : Nat) =>
  if x4 < 0 then
    pX1_plant_41 N R F4 x2 x3 x4 y1 b5 h2 g3
  else
    gd (decide (F4.2.1 b5 = (18, 0))) <|
    ob1 (F4.2.2 b5 5) fun (b6 : Nat) =>
    gd (decide ((F4.2.1 b6).1 = 0)) <|
    bnd ((F4.2.1 b6).2) fun (m7 : Nat) =>
    gd (vin x3 m7) <|
    obi (ppX1_sizeOf N R F4 (h2 b6 (ix x3)) h2 g3) fun (y8 : Int32) (h9 : HI) (g10 : HL) =>
    if y8 ≤ x4 then
      pX1_plant_41 N R F4 x2 x3 x4 y1 b5 h9 g10
    else
      pX1_plant_42 N R F4 x2 x3 x4 y1 b5 1 h9 g10
theorem jX1_plant_0 {D : DE} {f N R : Nat} (hf : 9 ≤ f) {o9 : GQ Int32} : ∀ (F : Frm) (_ : k_Fix F) (x1 : Int32) (x2 : Int32) (x3 : Int32) (x4 : Int32) (h : HI) (g : HL), pX1_plant_0 N R F x1 x2 x3 x4 h g = some o9 → JX1_plant_0 D f (gqi o9) (gt o9) F h g x1 x2 x3 x4 := by
  intro F hF x1 x2 x3 x4 h g E
  unfold pX1_plant_0 at E
  refine Gi.ob (fun o1 e0 => (sX1_asks (N := N) (R := R) hF (by omega) e0)) E (fun y1 F4 h2 g3 hF E => ?_) (fun _ _ _ _ e => e)
  obtain ⟨z0, E⟩ := gdE E; refine ⟨vinE z0, ?_⟩
  obtain ⟨b5, z0, E⟩ := ob1E E; refine ⟨b5, z0, ?_⟩
  refine ⟨fun c0 => ?_, fun c0 => ?_⟩
  · replace E := iteT c0 E
    exact jX1_plant_41 hf  _ hF _ _ _ _ _ _ _ E
  · replace E := iteF c0 E
    obtain ⟨z0, E⟩ := gdE E; refine ⟨of_decide_eq_true z0, ?_⟩
    obtain ⟨b6, z0, E⟩ := ob1E E; refine ⟨b6, z0, ?_⟩
    obtain ⟨z0, E⟩ := gdE E; replace E := bndE rfl E; refine ⟨_, shE (of_decide_eq_true z0), ?_⟩
    obtain ⟨z0, E⟩ := gdE E; refine ⟨vinE z0, ?_⟩
    obtain ⟨y8, h9, g10, e0, E⟩ := obiE E
    refine Si.mono (sX1_sizeOf (N := N) (R := R) hF (by omega) e0) (fun y8 h8 g8 hq => ?_)
    obtain ⟨rfl, rfl, rfl⟩ := hq
    refine ⟨fun c0 => ?_, fun c0 => ?_⟩
    · replace E := iteT c0 E
      exact jX1_plant_41 hf  _ hF _ _ _ _ _ _ _ E
    · replace E := iteF c0 E
      exact jX1_plant_42 hf  _ hF _ _ _ _ _ _ _ _ E
abbrev ppX1_plant (N R : Nat) (F : Frm) (x1 : Int32) (x2 : Int32) (x3 : Int32) (x4 : Int32) (h : HI) (g : HL) : GO Int32 := pX1_plant_0 N R F x1 x2 x3 x4 h g
theorem sX1_plant {D : DE} {f N R : Nat} {F : Frm} (hF : k_Fix F) (hf : 10 ≤ f) {o9 : GQ Int32} {x1 : Int32} {x2 : Int32} {x3 : Int32} {x4 : Int32} {h : HI} {g : HL} (E : ppX1_plant N R F x1 x2 x3 x4 h g = some o9) : Gi D f mX1_plant [.ref (ad D 0), .int x1, .int x2, .int x3, .int x4] F h g (gqi o9) (gt o9) := by
  obtain ⟨f, rfl⟩ : ∃ f0, f = f0 + 1 := ⟨f - 1, by omega⟩
  have hf : 9 ≤ f := by omega
  exact wX1_plant (f := f) hF _ _ _ _ (jX1_plant_0 hf _ hF _ _ _ _ _ _ E)
def pX0_plant_0 (N R : Nat) (F : Frm) (x1 : Int32) (x2 : Int32) (x3 : Int32) (x4 : Int32) (h : HI) (g : HL) : GO Int32 :=
  ohi (ppX1_plant N R F x1 x2 x3 x4 h g) (fun e F1 h1 g1 =>
    if e = 0 then
      some (.inl (1, F1, h1, g1))
    else if e = 2 then
      some (.inl (2, F1, h1, g1))
    else if e = 1 then
      some (.inl (3, F1, h1, g1))
    else none) fun (y1 : Int32) (F4 : Frm) (h2 : HI) (g3 : HL) =>
  bnd (up2 g3 159 (ix 0) y1.toInt64) fun (g5 : HL) =>
  some (.inl (0, F4, h2, g5))
theorem jX0_plant_0 {D : DE} {f N R : Nat} (hf : 10 ≤ f) {o9 : GQ Int32} : ∀ (F : Frm) (_ : k_Fix F) (x1 : Int32) (x2 : Int32) (x3 : Int32) (x4 : Int32) (h : HI) (g : HL), pX0_plant_0 N R F x1 x2 x3 x4 h g = some o9 → JX0_plant_0 D f (gqi o9) (gt o9) F h g x1 x2 x3 x4 := by
  intro F hF x1 x2 x3 x4 h g E
  unfold pX0_plant_0 at E
  refine Gi.oh (fun o1 e0 => (sX1_plant (N := N) (R := R) hF (by omega) e0)) E (fun y1 F4 h2 g3 hF E => ?_) (fun e F1 h1 g1 hF E => ?_)
  · skip
    intro g5 e0; replace E := bndE e0 E
    exact (Option.some.inj E).symm
  · skip
    by_cases c0 : e = 0
    · replace E := iteT c0 E
      refine Or.inl ⟨c0, ?_⟩
      exact (Option.some.inj E).symm
    replace E := iteF c0 E
    by_cases c1 : e = 2
    · replace E := iteT c1 E
      refine Or.inr (Or.inl ⟨c1, ?_⟩)
      exact (Option.some.inj E).symm
    replace E := iteF c1 E
    by_cases c2 : e = 1
    · replace E := iteT c2 E
      refine Or.inr (Or.inr (⟨c2, ?_⟩))
      exact (Option.some.inj E).symm
    replace E := iteF c2 E
    cases E
abbrev ppX0_plant (N R : Nat) (F : Frm) (x1 : Int32) (x2 : Int32) (x3 : Int32) (x4 : Int32) (h : HI) (g : HL) : GO Int32 := pX0_plant_0 N R F x1 x2 x3 x4 h g
theorem sX0_plant {D : DE} {f N R : Nat} {F : Frm} (hF : k_Fix F) (hf : 11 ≤ f) {o9 : GQ Int32} {x1 : Int32} {x2 : Int32} {x3 : Int32} {x4 : Int32} {h : HI} {g : HL} (E : ppX0_plant N R F x1 x2 x3 x4 h g = some o9) : Gi D f mX0_plant [.ref (ad D 0), .int x1, .int x2, .int x3, .int x4, .ref (ad D 159)] F h g (gqi o9) (gt o9) := by
  obtain ⟨f, rfl⟩ : ∃ f0, f = f0 + 1 := ⟨f - 1, by omega⟩
  have hf : 10 ≤ f := by omega
  exact wX0_plant (f := f) hF _ _ _ _ (jX0_plant_0 hf _ hF _ _ _ _ _ _ E)
def pX7_thingAt_140 (N R : Nat) (K29 : Frm → Int32 → Int32 → Int32 → Int32 → Int32 → HI → HL → Option (Int32 × HI × HL)) (F : Frm) (x1 : Int32) (x2 : Int32) (x3 : Int32) (x4 : Int32) (s0 : Int32) (h : HI) (g : HL) : Option (Int32 × HI × HL) :=
  K29 F x1 x2 x3 x4 s0 h g
theorem jX7_thingAt_140 {D : DE} {f N R : Nat} (hf : 0 ≤ f) {K29 : Frm → Int32 → Int32 → Int32 → Int32 → Int32 → HI → HL → Option (Int32 × HI × HL)} {y9 : Int32} {h9 : HI} {g9 : HL} (hK29 : ∀ (F : Frm) (_ : k_Fix F) (x1 : Int32) (x2 : Int32) (x3 : Int32) (x4 : Int32) (x5 : Int32) (h : HI) (g : HL), K29 F x1 x2 x3 x4 x5 h g = some (y9, h9, g9) → V D mX7_thingAt (f + 1) (qi F (eqi y9 h9 g9)) 29 [(0, .ref (ad D 101)), (1, .int x1), (2, .int x2), (3, .int x3), (4, .int x4), (5, .int x5)] [] (F, h, g)) : ∀ (F : Frm) (_ : k_Fix F) (x1 : Int32) (x2 : Int32) (x3 : Int32) (x4 : Int32) (s0 : Int32) (h : HI) (g : HL), pX7_thingAt_140 N R K29 F x1 x2 x3 x4 s0 h g = some (y9, h9, g9) → JX7_thingAt_140 D f (eqi y9 h9 g9) F h g x1 x2 x3 x4 s0 := by
  intro F hF x1 x2 x3 x4 s0 h g E
  unfold pX7_thingAt_140 at E
  exact hK29 _ hF _ _ _ _ _ _ _ E
def pX7_thingAt_128 (N R : Nat) (K29 : Frm → Int32 → Int32 → Int32 → Int32 → Int32 → HI → HL → Option (Int32 × HI × HL)) (F : Frm) (x1 : Int32) (x2 : Int32) (x4 : Int32) (x5 : Int32) (s0 : Int32) (h : HI) (g : HL) : Option (Int32 × HI × HL) :=
  if x5 = x1 then
    pX7_thingAt_140 N R K29 F x1 x2 s0 x4 (-1) h g
  else
    pX7_thingAt_140 N R K29 F x1 x2 s0 x4 x1 h g
theorem jX7_thingAt_128 {D : DE} {f N R : Nat} (hf : 0 ≤ f) {K29 : Frm → Int32 → Int32 → Int32 → Int32 → Int32 → HI → HL → Option (Int32 × HI × HL)} {y9 : Int32} {h9 : HI} {g9 : HL} (hK29 : ∀ (F : Frm) (_ : k_Fix F) (x1 : Int32) (x2 : Int32) (x3 : Int32) (x4 : Int32) (x5 : Int32) (h : HI) (g : HL), K29 F x1 x2 x3 x4 x5 h g = some (y9, h9, g9) → V D mX7_thingAt (f + 1) (qi F (eqi y9 h9 g9)) 29 [(0, .ref (ad D 101)), (1, .int x1), (2, .int x2), (3, .int x3), (4, .int x4), (5, .int x5)] [] (F, h, g)) : ∀ (F : Frm) (_ : k_Fix F) (x1 : Int32) (x2 : Int32) (x4 : Int32) (x5 : Int32) (s0 : Int32) (h : HI) (g : HL), pX7_thingAt_128 N R K29 F x1 x2 x4 x5 s0 h g = some (y9, h9, g9) → JX7_thingAt_128 D f (eqi y9 h9 g9) F h g x1 x2 x4 x5 s0 := by
  intro F hF x1 x2 x4 x5 s0 h g E
  unfold pX7_thingAt_128 at E
  refine ⟨fun c0 => ?_, fun c0 => ?_⟩
  · replace E := iteF c0 E
    exact jX7_thingAt_140 hf hK29 _ hF _ _ _ _ _ _ _ E
  · replace E := iteT c0 E
    exact jX7_thingAt_140 hf hK29 _ hF _ _ _ _ _ _ _ E
def pX7_thingAt_110 (N R : Nat) (K29 : Frm → Int32 → Int32 → Int32 → Int32 → Int32 → HI → HL → Option (Int32 × HI × HL)) (F : Frm) (x1 : Int32) (x2 : Int32) (x3 : Int32) (x5 : Int32) (x6 : Int32) (s0 : Int32) (h : HI) (g : HL) : Option (Int32 × HI × HL) :=
  if x6 = 0 then
    obi (ppX1_right N R F x3 h g) fun (y1 : Int32) (h2 : HI) (g3 : HL) =>
    pX7_thingAt_128 N R K29 F x1 x2 s0 x5 y1 h2 g3
  else
    obi (ppX1_left N R F x3 h g) fun (y4 : Int32) (h5 : HI) (g6 : HL) =>
    pX7_thingAt_128 N R K29 F x1 x2 s0 x5 y4 h5 g6
theorem jX7_thingAt_110 {D : DE} {f N R : Nat} (hf : 0 ≤ f) {K29 : Frm → Int32 → Int32 → Int32 → Int32 → Int32 → HI → HL → Option (Int32 × HI × HL)} {y9 : Int32} {h9 : HI} {g9 : HL} (hK29 : ∀ (F : Frm) (_ : k_Fix F) (x1 : Int32) (x2 : Int32) (x3 : Int32) (x4 : Int32) (x5 : Int32) (h : HI) (g : HL), K29 F x1 x2 x3 x4 x5 h g = some (y9, h9, g9) → V D mX7_thingAt (f + 1) (qi F (eqi y9 h9 g9)) 29 [(0, .ref (ad D 101)), (1, .int x1), (2, .int x2), (3, .int x3), (4, .int x4), (5, .int x5)] [] (F, h, g)) : ∀ (F : Frm) (_ : k_Fix F) (x1 : Int32) (x2 : Int32) (x3 : Int32) (x5 : Int32) (x6 : Int32) (s0 : Int32) (h : HI) (g : HL), pX7_thingAt_110 N R K29 F x1 x2 x3 x5 x6 s0 h g = some (y9, h9, g9) → JX7_thingAt_110 D f (eqi y9 h9 g9) F h g x1 x2 x3 x5 x6 s0 := by
  intro F hF x1 x2 x3 x5 x6 s0 h g E
  unfold pX7_thingAt_110 at E
  refine ⟨fun c0 => ?_, fun c0 => ?_⟩
  · replace E := iteT c0 E
    obtain ⟨y1, h2, g3, e0, E⟩ := obiE E
    refine Si.mono (sX1_right (N := N) (R := R) hF (by omega) e0) (fun y8 h8 g8 hq => ?_)
    obtain ⟨rfl, rfl, rfl⟩ := hq
    exact jX7_thingAt_128 hf hK29 _ hF _ _ _ _ _ _ _ E
  · replace E := iteF c0 E
    obtain ⟨y4, h5, g6, e0, E⟩ := obiE E
    refine Si.mono (sX1_left (N := N) (R := R) hF (by omega) e0) (fun y8 h8 g8 hq => ?_)
    obtain ⟨rfl, rfl, rfl⟩ := hq
    exact jX7_thingAt_128 hf hK29 _ hF _ _ _ _ _ _ _ E
def pX7_thingAt_88 (N R : Nat) (K29 : Frm → Int32 → Int32 → Int32 → Int32 → Int32 → HI → HL → Option (Int32 × HI × HL)) (F : Frm) (x1 : Int32) (x2 : Int32) (x3 : Int32) (x5 : Int32) (s0 : Int32) (h : HI) (g : HL) : Option (Int32 × HI × HL) :=
  if s0 = 0 then
    gd (vin x2 1540) <|
    pX7_thingAt_110 N R K29 F x1 x2 x3 x5 s0 (h 107 (ix x2)) h g
  else
    gd (vin x2 1540) <|
    pX7_thingAt_110 N R K29 F x1 x2 x3 x5 s0 (h 106 (ix x2)) h g
theorem jX7_thingAt_88 {D : DE} {f N R : Nat} (hf : 0 ≤ f) {K29 : Frm → Int32 → Int32 → Int32 → Int32 → Int32 → HI → HL → Option (Int32 × HI × HL)} {y9 : Int32} {h9 : HI} {g9 : HL} (hK29 : ∀ (F : Frm) (_ : k_Fix F) (x1 : Int32) (x2 : Int32) (x3 : Int32) (x4 : Int32) (x5 : Int32) (h : HI) (g : HL), K29 F x1 x2 x3 x4 x5 h g = some (y9, h9, g9) → V D mX7_thingAt (f + 1) (qi F (eqi y9 h9 g9)) 29 [(0, .ref (ad D 101)), (1, .int x1), (2, .int x2), (3, .int x3), (4, .int x4), (5, .int x5)] [] (F, h, g)) : ∀ (F : Frm) (_ : k_Fix F) (x1 : Int32) (x2 : Int32) (x3 : Int32) (x5 : Int32) (s0 : Int32) (h : HI) (g : HL), pX7_thingAt_88 N R K29 F x1 x2 x3 x5 s0 h g = some (y9, h9, g9) → JX7_thingAt_88 D f (eqi y9 h9 g9) F h g x1 x2 x3 x5 s0 := by
  intro F hF x1 x2 x3 x5 s0 h g E
  unfold pX7_thingAt_88 at E
  refine ⟨fun c0 => ?_, fun c0 => ?_⟩
  · replace E := iteT c0 E
    obtain ⟨z0, E⟩ := gdE E; refine ⟨vinE z0, ?_⟩
    exact jX7_thingAt_110 hf hK29 _ hF _ _ _ _ _ _ _ _ E
  · replace E := iteF c0 E
    obtain ⟨z0, E⟩ := gdE E; refine ⟨vinE z0, ?_⟩
    exact jX7_thingAt_110 hf hK29 _ hF _ _ _ _ _ _ _ _ E
def pX7_thingAt_74 (N R : Nat) (K29 : Frm → Int32 → Int32 → Int32 → Int32 → Int32 → HI → HL → Option (Int32 × HI × HL)) (F : Frm) (x1 : Int32) (x3 : Int32) (x5 : Int32) (s0 : Int32) (h : HI) (g : HL) : Option (Int32 × HI × HL) :=
  if (x5 &&& 1) = 1 then
    pX7_thingAt_88 N R K29 F x1 s0 x3 x5 1 h g
  else
    pX7_thingAt_88 N R K29 F x1 s0 x3 x5 0 h g
theorem jX7_thingAt_74 {D : DE} {f N R : Nat} (hf : 0 ≤ f) {K29 : Frm → Int32 → Int32 → Int32 → Int32 → Int32 → HI → HL → Option (Int32 × HI × HL)} {y9 : Int32} {h9 : HI} {g9 : HL} (hK29 : ∀ (F : Frm) (_ : k_Fix F) (x1 : Int32) (x2 : Int32) (x3 : Int32) (x4 : Int32) (x5 : Int32) (h : HI) (g : HL), K29 F x1 x2 x3 x4 x5 h g = some (y9, h9, g9) → V D mX7_thingAt (f + 1) (qi F (eqi y9 h9 g9)) 29 [(0, .ref (ad D 101)), (1, .int x1), (2, .int x2), (3, .int x3), (4, .int x4), (5, .int x5)] [] (F, h, g)) : ∀ (F : Frm) (_ : k_Fix F) (x1 : Int32) (x3 : Int32) (x5 : Int32) (s0 : Int32) (h : HI) (g : HL), pX7_thingAt_74 N R K29 F x1 x3 x5 s0 h g = some (y9, h9, g9) → JX7_thingAt_74 D f (eqi y9 h9 g9) F h g x1 x3 x5 s0 := by
  intro F hF x1 x3 x5 s0 h g E
  unfold pX7_thingAt_74 at E
  refine ⟨fun c0 => ?_, fun c0 => ?_⟩
  · replace E := iteF c0 E
    exact jX7_thingAt_88 hf hK29 _ hF _ _ _ _ _ _ _ E
  · replace E := iteT c0 E
    exact jX7_thingAt_88 hf hK29 _ hF _ _ _ _ _ _ _ E
def pX7_thingAt_57 (N R : Nat) (K29 : Frm → Int32 → Int32 → Int32 → Int32 → Int32 → HI → HL → Option (Int32 × HI × HL)) (F : Frm) (x1 : Int32) (x2 : Int32) (x3 : Int32) (x4 : Int32) (x5 : Int32) (h : HI) (g : HL) : Option (Int32 × HI × HL) :=
  if x4 = (-1) then
    pX7_thingAt_74 N R K29 F x1 x3 x5 x2 h g
  else
    gd (vin x4 1540) <|
    pX7_thingAt_74 N R K29 F x1 x3 x5 (h 105 (ix x4)) h g
theorem jX7_thingAt_57 {D : DE} {f N R : Nat} (hf : 0 ≤ f) {K29 : Frm → Int32 → Int32 → Int32 → Int32 → Int32 → HI → HL → Option (Int32 × HI × HL)} {y9 : Int32} {h9 : HI} {g9 : HL} (hK29 : ∀ (F : Frm) (_ : k_Fix F) (x1 : Int32) (x2 : Int32) (x3 : Int32) (x4 : Int32) (x5 : Int32) (h : HI) (g : HL), K29 F x1 x2 x3 x4 x5 h g = some (y9, h9, g9) → V D mX7_thingAt (f + 1) (qi F (eqi y9 h9 g9)) 29 [(0, .ref (ad D 101)), (1, .int x1), (2, .int x2), (3, .int x3), (4, .int x4), (5, .int x5)] [] (F, h, g)) : ∀ (F : Frm) (_ : k_Fix F) (x1 : Int32) (x2 : Int32) (x3 : Int32) (x4 : Int32) (x5 : Int32) (h : HI) (g : HL), pX7_thingAt_57 N R K29 F x1 x2 x3 x4 x5 h g = some (y9, h9, g9) → JX7_thingAt_57 D f (eqi y9 h9 g9) F h g x1 x2 x3 x4 x5 := by
  intro F hF x1 x2 x3 x4 x5 h g E
  unfold pX7_thingAt_57 at E
  refine ⟨fun c0 => ?_, fun c0 => ?_⟩
  · replace E := iteF c0 E
    obtain ⟨z0, E⟩ := gdE E; refine ⟨vinE z0, ?_⟩
    exact jX7_thingAt_74 hf hK29 _ hF _ _ _ _ _ _ E
  · replace E := iteT c0 E
    exact jX7_thingAt_74 hf hK29 _ hF _ _ _ _ _ _ E
def pX7_thingAt_29 (N R : Nat) : Nat → Frm → Int32 → Int32 → Int32 → Int32 → Int32 → HI → HL → Option (Int32 × HI × HL)
  | 0, _, _, _, _, _, _, _, _ => none
  | n + 1, F, x1, x2, x3, x4, x5, h, g =>
    if x5 < 0 then
      if x3 = 0 then
        gd (vin x4 1540) <|
        if (h 104 (ix x4)) = 2 then
          some (x4, h, g)
        else
          some ((-1), h, g)
      else
        some ((-1), h, g)
    else
      if x3 = 0 then
        some ((-1), h, g)
      else
        if x4 = (-1) then
          pX7_thingAt_57 N R (pX7_thingAt_29 N R n) F x1 x2 x3 x4 x5 h g
        else
          gd (vin x4 1540) <|
          if (h 104 (ix x4)) = 2 then
            pX7_thingAt_57 N R (pX7_thingAt_29 N R n) F x1 x2 x3 x4 x5 h g
          else
            some ((-1), h, g)
theorem lX7_thingAt_29 {D : DE} {f N R : Nat} (hf : 0 ≤ f) {y9 : Int32} {h9 : HI} {g9 : HL} : ∀ (n : Nat) (F : Frm) (_ : k_Fix F) (x1 : Int32) (x2 : Int32) (x3 : Int32) (x4 : Int32) (x5 : Int32) (h : HI) (g : HL), pX7_thingAt_29 N R n F x1 x2 x3 x4 x5 h g = some (y9, h9, g9) → V D mX7_thingAt (f + 1) (qi F (eqi y9 h9 g9)) 29 [(0, .ref (ad D 101)), (1, .int x1), (2, .int x2), (3, .int x3), (4, .int x4), (5, .int x5)] [] (F, h, g) := by
  intro n
  induction n with
  | zero => intro F hF x1 x2 x3 x4 x5 h g E; cases E
  | succ n hK29 =>
    intro F hF x1 x2 x3 x4 x5 h g E
    rw [pX7_thingAt_29] at E
    refine bX7_thingAt_29 (f := f) hF x1 x2 x3 x4 x5  ?_
    refine ⟨fun c0 => ?_, fun c0 => ?_⟩
    · replace E := iteT c0 E
      refine ⟨fun c0 => ?_, fun c0 => ?_⟩
      · replace E := iteF c0 E
        cases E; exact ⟨rfl, rfl, rfl⟩
      · replace E := iteT c0 E
        obtain ⟨z0, E⟩ := gdE E; refine ⟨vinE z0, ?_⟩
        refine ⟨fun c0 => ?_, fun c0 => ?_⟩
        · replace E := iteF c0 E
          cases E; exact ⟨rfl, rfl, rfl⟩
        · replace E := iteT c0 E
          cases E; exact ⟨rfl, rfl, rfl⟩
    · replace E := iteF c0 E
      refine ⟨fun c0 => ?_, fun c0 => ?_⟩
      · replace E := iteT c0 E
        cases E; exact ⟨rfl, rfl, rfl⟩
      · replace E := iteF c0 E
        refine ⟨fun c0 => ?_, fun c0 => ?_⟩
        · replace E := iteT c0 E
          exact jX7_thingAt_57 hf hK29 _ hF _ _ _ _ _ _ _ E
        · replace E := iteF c0 E
          obtain ⟨z0, E⟩ := gdE E; refine ⟨vinE z0, ?_⟩
          refine ⟨fun c0 => ?_, fun c0 => ?_⟩
          · replace E := iteT c0 E
            exact jX7_thingAt_57 hf hK29 _ hF _ _ _ _ _ _ _ E
          · replace E := iteF c0 E
            cases E; exact ⟨rfl, rfl, rfl⟩
def pX7_thingAt_27 (N R : Nat) (F : Frm) (x1 : Int32) (x2 : Int32) (x3 : Int32) (x4 : Int32) (s0 : Int32) (h : HI) (g : HL) : Option (Int32 × HI × HL) :=
  pX7_thingAt_29 N R N F x1 x2 x3 x4 s0 h g
theorem jX7_thingAt_27 {D : DE} {f N R : Nat} (hf : 0 ≤ f) {y9 : Int32} {h9 : HI} {g9 : HL} : ∀ (F : Frm) (_ : k_Fix F) (x1 : Int32) (x2 : Int32) (x3 : Int32) (x4 : Int32) (s0 : Int32) (h : HI) (g : HL), pX7_thingAt_27 N R F x1 x2 x3 x4 s0 h g = some (y9, h9, g9) → JX7_thingAt_27 D f (eqi y9 h9 g9) F h g x1 x2 x3 x4 s0 := by
  intro F hF x1 x2 x3 x4 s0 h g E
  unfold pX7_thingAt_27 at E
  exact lX7_thingAt_29 hf  N _ hF _ _ _ _ _ _ _ E
def pX7_thingAt_0 (N R : Nat) (F : Frm) (x1 : Int32) (h : HI) (g : HL) : Option (Int32 × HI × HL) :=
  bnd (h 101 17) fun (y1 : Int32) =>
  bnd (h 101 18) fun (y2 : Int32) =>
  if x1 ≤ 2 then
    pX7_thingAt_27 N R F x1 y1 y2 (-1) x1 h g
  else
    pX7_thingAt_27 N R F x1 y1 y2 (-1) ((x1 - 1) >>> (1 &&& 31)) h g
theorem jX7_thingAt_0 {D : DE} {f N R : Nat} (hf : 0 ≤ f) {y9 : Int32} {h9 : HI} {g9 : HL} : ∀ (F : Frm) (_ : k_Fix F) (x1 : Int32) (h : HI) (g : HL), pX7_thingAt_0 N R F x1 h g = some (y9, h9, g9) → JX7_thingAt_0 D f (eqi y9 h9 g9) F h g x1 := by
  intro F hF x1 h g E
  unfold pX7_thingAt_0 at E
  intro y1 e0; replace E := bndE e0 E
  intro y2 e0; replace E := bndE e0 E
  refine ⟨fun c0 => ?_, fun c0 => ?_⟩
  · replace E := iteT c0 E
    exact jX7_thingAt_27 hf  _ hF _ _ _ _ _ _ _ E
  · replace E := iteF c0 E
    exact jX7_thingAt_27 hf  _ hF _ _ _ _ _ _ _ E
abbrev ppX7_thingAt (N R : Nat) (F : Frm) (x1 : Int32) (h : HI) (g : HL) : Option (Int32 × HI × HL) := pX7_thingAt_0 N R F x1 h g
theorem sX7_thingAt {D : DE} {f N R : Nat} {F : Frm} (hF : k_Fix F) (hf : 1 ≤ f) {y9 : Int32} {h9 : HI} {g9 : HL} {x1 : Int32} {h : HI} {g : HL} (E : ppX7_thingAt N R F x1 h g = some (y9, h9, g9)) : Si D f mX7_thingAt [.ref (ad D 101), .int x1] F h g (eqi y9 h9 g9) := by
  obtain ⟨f, rfl⟩ : ∃ f0, f = f0 + 1 := ⟨f - 1, by omega⟩
  have hf : 0 ≤ f := by omega
  exact wX7_thingAt (f := f) hF _ (jX7_thingAt_0 hf _ hF _ _ _ E)
def pX1_result_77 (N R : Nat) (F : Frm) (x2 : Int32) (s0 : Int32) (h : HI) (g : HL) : GO Int32 :=
  ogv (ppX1_lies N R F s0 h g) fun (F3 : Frm) (h1 : HI) (g2 : HL) =>
  gd (vin x2 1540) <|
  some (.inl ((h1 105 (ix x2)), F3, h1, g2))
theorem jX1_result_77 {D : DE} {f N R : Nat} (hf : 6 ≤ f) {o9 : GQ Int32} : ∀ (F : Frm) (_ : k_Fix F) (x2 : Int32) (s0 : Int32) (h : HI) (g : HL), pX1_result_77 N R F x2 s0 h g = some o9 → JX1_result_77 D f (gqi o9) (gt o9) F h g x2 s0 := by
  intro F hF x2 s0 h g E
  unfold pX1_result_77 at E
  refine Gv.ob (fun o1 e0 => (sX1_lies (N := N) (R := R) hF (by omega) e0)) E (fun F3 h1 g2 hF E => ?_) (fun _ _ _ _ e => e)
  obtain ⟨z0, E⟩ := gdE E; refine ⟨vinE z0, ?_⟩
  exact (Option.some.inj E).symm
def pX1_result_48 (N R : Nat) (F : Frm) (s0 : Int32) (h : HI) (g : HL) : GO Int32 :=
  ogv (ppX1_lies N R F s0 h g) fun (F3 : Frm) (h1 : HI) (g2 : HL) =>
  some (.inl ((h1 101 17), F3, h1, g2))
theorem jX1_result_48 {D : DE} {f N R : Nat} (hf : 6 ≤ f) {o9 : GQ Int32} : ∀ (F : Frm) (_ : k_Fix F) (s0 : Int32) (h : HI) (g : HL), pX1_result_48 N R F s0 h g = some o9 → JX1_result_48 D f (gqi o9) (gt o9) F h g s0 := by
  intro F hF s0 h g E
  unfold pX1_result_48 at E
  refine Gv.ob (fun o1 e0 => (sX1_lies (N := N) (R := R) hF (by omega) e0)) E (fun F3 h1 g2 hF E => ?_) (fun _ _ _ _ e => e)
  exact (Option.some.inj E).symm
def pX1_result_26 (N R : Nat) (F : Frm) (x1 : Int32) (s0 : Int32) (h : HI) (g : HL) : GO Int32 :=
  ogv (ppX1_lies N R F s0 h g) fun (F3 : Frm) (h1 : HI) (g2 : HL) =>
  if x1 = 0 then
    if (h1 101 18) = 0 then
      pX1_result_48 N R F3 1 h1 g2
    else
      pX1_result_48 N R F3 0 h1 g2
  else
    obi (ppX7_thingAt N R F3 x1 h1 g2) fun (y4 : Int32) (h5 : HI) (g6 : HL) =>
    if y4 < 0 then
      pX1_result_77 N R F3 y4 0 h5 g6
    else
      pX1_result_77 N R F3 y4 1 h5 g6
theorem jX1_result_26 {D : DE} {f N R : Nat} (hf : 6 ≤ f) {o9 : GQ Int32} : ∀ (F : Frm) (_ : k_Fix F) (x1 : Int32) (s0 : Int32) (h : HI) (g : HL), pX1_result_26 N R F x1 s0 h g = some o9 → JX1_result_26 D f (gqi o9) (gt o9) F h g x1 s0 := by
  intro F hF x1 s0 h g E
  unfold pX1_result_26 at E
  refine Gv.ob (fun o1 e0 => (sX1_lies (N := N) (R := R) hF (by omega) e0)) E (fun F3 h1 g2 hF E => ?_) (fun _ _ _ _ e => e)
  refine ⟨fun c0 => ?_, fun c0 => ?_⟩
  · replace E := iteF c0 E
    obtain ⟨y4, h5, g6, e0, E⟩ := obiE E
    refine Si.mono (sX7_thingAt (N := N) (R := R) hF (by omega) e0) (fun y8 h8 g8 hq => ?_)
    obtain ⟨rfl, rfl, rfl⟩ := hq
    refine ⟨fun c0 => ?_, fun c0 => ?_⟩
    · replace E := iteT c0 E
      exact jX1_result_77 hf  _ hF _ _ _ _ E
    · replace E := iteF c0 E
      exact jX1_result_77 hf  _ hF _ _ _ _ E
  · replace E := iteT c0 E
    refine ⟨fun c0 => ?_, fun c0 => ?_⟩
    · replace E := iteF c0 E
      exact jX1_result_48 hf  _ hF _ _ _ E
    · replace E := iteT c0 E
      exact jX1_result_48 hf  _ hF _ _ _ E
def pX1_result_25 (N R : Nat) (F : Frm) (x1 : Int32) (h : HI) (g : HL) : GO Int32 :=
  pX1_result_26 N R F x1 0 h g
theorem jX1_result_25 {D : DE} {f N R : Nat} (hf : 6 ≤ f) {o9 : GQ Int32} : ∀ (F : Frm) (_ : k_Fix F) (x1 : Int32) (h : HI) (g : HL), pX1_result_25 N R F x1 h g = some o9 → JX1_result_25 D f (gqi o9) (gt o9) F h g x1 := by
  intro F hF x1 h g E
  unfold pX1_result_25 at E
  exact jX1_result_26 hf  _ hF _ _ _ _ E
def pX1_result_0 (N R : Nat) (F : Frm) (x1 : Int32) (h : HI) (g : HL) : GO Int32 :=
  if x1 < 0 then
    pX1_result_25 N R F x1 h g
  else
    if 6 < x1 then
      pX1_result_25 N R F x1 h g
    else
      if (h 101 16) = 1 then
        pX1_result_26 N R F x1 1 h g
      else
        pX1_result_25 N R F x1 h g
theorem jX1_result_0 {D : DE} {f N R : Nat} (hf : 6 ≤ f) {o9 : GQ Int32} : ∀ (F : Frm) (_ : k_Fix F) (x1 : Int32) (h : HI) (g : HL), pX1_result_0 N R F x1 h g = some o9 → JX1_result_0 D f (gqi o9) (gt o9) F h g x1 := by
  intro F hF x1 h g E
  unfold pX1_result_0 at E
  refine ⟨fun c0 => ?_, fun c0 => ?_⟩
  · replace E := iteT c0 E
    exact jX1_result_25 hf  _ hF _ _ _ E
  · replace E := iteF c0 E
    refine ⟨fun c0 => ?_, fun c0 => ?_⟩
    · replace E := iteT c0 E
      exact jX1_result_25 hf  _ hF _ _ _ E
    · replace E := iteF c0 E
      refine ⟨fun c0 => ?_, fun c0 => ?_⟩
      · replace E := iteF c0 E
        exact jX1_result_25 hf  _ hF _ _ _ E
      · replace E := iteT c0 E
        exact jX1_result_26 hf  _ hF _ _ _ _ E
abbrev ppX1_result (N R : Nat) (F : Frm) (x1 : Int32) (h : HI) (g : HL) : GO Int32 := pX1_result_0 N R F x1 h g
theorem sX1_result {D : DE} {f N R : Nat} {F : Frm} (hF : k_Fix F) (hf : 7 ≤ f) {o9 : GQ Int32} {x1 : Int32} {h : HI} {g : HL} (E : ppX1_result N R F x1 h g = some o9) : Gi D f mX1_result [.ref (ad D 0), .int x1] F h g (gqi o9) (gt o9) := by
  obtain ⟨f, rfl⟩ : ∃ f0, f = f0 + 1 := ⟨f - 1, by omega⟩
  have hf : 6 ≤ f := by omega
  exact wX1_result (f := f) hF _ (jX1_result_0 hf _ hF _ _ _ E)
def pX0_result_0 (N R : Nat) (F : Frm) (x1 : Int32) (h : HI) (g : HL) : GO Int32 :=
  ohi (ppX1_result N R F x1 h g) (fun e F1 h1 g1 =>
    if e = 2 then
      some (.inl (1, F1, h1, g1))
    else none) fun (y1 : Int32) (F4 : Frm) (h2 : HI) (g3 : HL) =>
  bnd (up2 g3 159 (ix 0) y1.toInt64) fun (g5 : HL) =>
  some (.inl (0, F4, h2, g5))
theorem jX0_result_0 {D : DE} {f N R : Nat} (hf : 7 ≤ f) {o9 : GQ Int32} : ∀ (F : Frm) (_ : k_Fix F) (x1 : Int32) (h : HI) (g : HL), pX0_result_0 N R F x1 h g = some o9 → JX0_result_0 D f (gqi o9) (gt o9) F h g x1 := by
  intro F hF x1 h g E
  unfold pX0_result_0 at E
  refine Gi.oh (fun o1 e0 => (sX1_result (N := N) (R := R) hF (by omega) e0)) E (fun y1 F4 h2 g3 hF E => ?_) (fun e F1 h1 g1 hF E => ?_)
  · skip
    intro g5 e0; replace E := bndE e0 E
    exact (Option.some.inj E).symm
  · skip
    by_cases c0 : e = 2
    · replace E := iteT c0 E
      refine ⟨c0, ?_⟩
      exact (Option.some.inj E).symm
    replace E := iteF c0 E
    cases E
abbrev ppX0_result (N R : Nat) (F : Frm) (x1 : Int32) (h : HI) (g : HL) : GO Int32 := pX0_result_0 N R F x1 h g
theorem sX0_result {D : DE} {f N R : Nat} {F : Frm} (hF : k_Fix F) (hf : 8 ≤ f) {o9 : GQ Int32} {x1 : Int32} {h : HI} {g : HL} (E : ppX0_result N R F x1 h g = some o9) : Gi D f mX0_result [.ref (ad D 0), .int x1, .ref (ad D 159)] F h g (gqi o9) (gt o9) := by
  obtain ⟨f, rfl⟩ : ∃ f0, f = f0 + 1 := ⟨f - 1, by omega⟩
  have hf : 7 ≤ f := by omega
  exact wX0_result (f := f) hF _ (jX0_result_0 hf _ hF _ _ _ E)
def pX1_round_110 (N R : Nat) (K4 : Frm → Int32 → Int32 → HI → HL → GO Int32) (K22 : Frm → Int32 → Int32 → Nat → Int32 → HI → HL → GO Int32) (K72 : Frm → Int32 → Int32 → Nat → Int32 → Nat → Int32 → HI → HL → GO Int32) (F : Frm) (x2 : Int32) (x3 : Nat) (x4 : Int32) (x5 : Nat) (x6 : Int32) (s0 : Int32) (s1 : Int32) (h : HI) (g : HL) : GO Int32 :=
  bnd (s0 ||| s1) fun (y1 : Int32) =>
  gd (decide (F.2.1 x3 = (18, 0))) <|
  ob1 (F.2.2 x3 8) fun (b2 : Nat) =>
  gd (decide (F.2.1 x5 = (15, 0))) <|
  ob1 (F.2.2 x5 0) fun (b3 : Nat) =>
  gd (decide ((F.2.1 b3).1 = 0)) <|
  bnd ((F.2.1 b3).2) fun (m4 : Nat) =>
  gd (vin x6 m4) <|
  gd (decide ((F.2.1 b2).1 = 0)) <|
  bnd ((F.2.1 b2).2) fun (m5 : Nat) =>
  gd (vin ((4 * x4) + x6) m5) <|
  bnd (up2 h b2 (ix ((4 * x4) + x6)) (h b3 (ix x6))) fun (h6 : HI) =>
  bnd (x6 + 1) fun (y7 : Int32) =>
  K72 F y1 x2 x3 x4 x5 y7 h6 g
theorem jX1_round_110 {D : DE} {f N R : Nat} (hf : 4 + 2 * R ≤ f) {K4 : Frm → Int32 → Int32 → HI → HL → GO Int32} {K22 : Frm → Int32 → Int32 → Nat → Int32 → HI → HL → GO Int32} {K72 : Frm → Int32 → Int32 → Nat → Int32 → Nat → Int32 → HI → HL → GO Int32} {o9 : GQ Int32} (hK4 : ∀ (F : Frm) (_ : k_Fix F) (x1 : Int32) (x2 : Int32) (h : HI) (g : HL), K4 F x1 x2 h g = some o9 → V D mX1_round (f + 1) (gi (gqi o9) (gt o9)) 4 [(0, .ref (ad D 0)), (1, .int x1), (2, .int x2)] [] (F, h, g)) (hK22 : ∀ (F : Frm) (_ : k_Fix F) (x1 : Int32) (x2 : Int32) (x3 : Nat) (x4 : Int32) (h : HI) (g : HL), K22 F x1 x2 x3 x4 h g = some o9 → V D mX1_round (f + 1) (gi (gqi o9) (gt o9)) 22 [(0, .ref (ad D 0)), (1, .int x1), (2, .int x2), (3, .ref (ad D x3)), (4, .int x4)] [] (F, h, g)) (hK72 : ∀ (F : Frm) (_ : k_Fix F) (x1 : Int32) (x2 : Int32) (x3 : Nat) (x4 : Int32) (x5 : Nat) (x6 : Int32) (h : HI) (g : HL), K72 F x1 x2 x3 x4 x5 x6 h g = some o9 → V D mX1_round (f + 1) (gi (gqi o9) (gt o9)) 72 [(0, .ref (ad D 0)), (1, .int x1), (2, .int x2), (3, .ref (ad D x3)), (4, .int x4), (5, .ref (ad D x5)), (6, .int x6)] [] (F, h, g)) : ∀ (F : Frm) (_ : k_Fix F) (x2 : Int32) (x3 : Nat) (x4 : Int32) (x5 : Nat) (x6 : Int32) (s0 : Int32) (s1 : Int32) (h : HI) (g : HL), pX1_round_110 N R K4 K22 K72 F x2 x3 x4 x5 x6 s0 s1 h g = some o9 → JX1_round_110 D f (gqi o9) (gt o9) F h g x2 x3 x4 x5 x6 s0 s1 := by
  intro F hF x2 x3 x4 x5 x6 s0 s1 h g E
  unfold pX1_round_110 at E
  intro y1 e0; replace E := bndE e0 E
  obtain ⟨z0, E⟩ := gdE E; refine ⟨of_decide_eq_true z0, ?_⟩
  obtain ⟨b2, z0, E⟩ := ob1E E; refine ⟨b2, z0, ?_⟩
  obtain ⟨z0, E⟩ := gdE E; refine ⟨of_decide_eq_true z0, ?_⟩
  obtain ⟨b3, z0, E⟩ := ob1E E; refine ⟨b3, z0, ?_⟩
  obtain ⟨z0, E⟩ := gdE E; replace E := bndE rfl E; refine ⟨_, shE (of_decide_eq_true z0), ?_⟩
  obtain ⟨z0, E⟩ := gdE E; refine ⟨vinE z0, ?_⟩
  obtain ⟨z0, E⟩ := gdE E; replace E := bndE rfl E; refine ⟨_, shE (of_decide_eq_true z0), ?_⟩
  obtain ⟨z0, E⟩ := gdE E; refine ⟨vinE z0, ?_⟩
  intro h6 e0; replace E := bndE e0 E
  intro y7 e0; replace E := bndE e0 E
  exact hK72 _ hF _ _ _ _ _ _ _ _ E
def pX1_round_72 (N R : Nat) (K4 : Frm → Int32 → Int32 → HI → HL → GO Int32) (K22 : Frm → Int32 → Int32 → Nat → Int32 → HI → HL → GO Int32) : Nat → Frm → Int32 → Int32 → Nat → Int32 → Nat → Int32 → HI → HL → GO Int32
  | 0, _, _, _, _, _, _, _, _, _ => none
  | n + 1, F, x1, x2, x3, x4, x5, x6, h, g =>
    gd (decide (F.2.1 x3 = (18, 0))) <|
    if (h x3 1) ≤ x6 then
      ob1 (F.2.2 x3 7) fun (b1 : Nat) =>
      gd (decide (F.2.1 x5 = (15, 0))) <|
      gd (decide ((F.2.1 b1).1 = 2)) <|
      bnd ((F.2.1 b1).2) fun (m2 : Nat) =>
      gd (vin x4 m2) <|
      gd (isBb (h x5 1)) <|
      bnd (up2 h b1 (ix x4) (h x5 1)) fun (h3 : HI) =>
      bnd (x4 + 1) fun (y4 : Int32) =>
      K22 F x1 x2 x3 y4 h3 g
    else
      obi (ppX1_rowOf N R F x3 x4 x6 h g) fun (y5 : Int32) (h6 : HI) (g7 : HL) =>
      gd (decide (F.2.1 x5 = (15, 0))) <|
      ob1 (F.2.2 x5 0) fun (b8 : Nat) =>
      gd (decide ((F.2.1 b8).1 = 0)) <|
      bnd ((F.2.1 b8).2) fun (m9 : Nat) =>
      gd (vin x6 m9) <|
      if (h6 b8 (ix x6)) = y5 then
        pX1_round_110 N R K4 K22 (pX1_round_72 N R K4 K22 n) F x2 x3 x4 x5 x6 x1 0 h6 g7
      else
        pX1_round_110 N R K4 K22 (pX1_round_72 N R K4 K22 n) F x2 x3 x4 x5 x6 x1 1 h6 g7
theorem lX1_round_72 {D : DE} {f N R : Nat} (hf : 4 + 2 * R ≤ f) {K4 : Frm → Int32 → Int32 → HI → HL → GO Int32} {K22 : Frm → Int32 → Int32 → Nat → Int32 → HI → HL → GO Int32} {o9 : GQ Int32} (hK4 : ∀ (F : Frm) (_ : k_Fix F) (x1 : Int32) (x2 : Int32) (h : HI) (g : HL), K4 F x1 x2 h g = some o9 → V D mX1_round (f + 1) (gi (gqi o9) (gt o9)) 4 [(0, .ref (ad D 0)), (1, .int x1), (2, .int x2)] [] (F, h, g)) (hK22 : ∀ (F : Frm) (_ : k_Fix F) (x1 : Int32) (x2 : Int32) (x3 : Nat) (x4 : Int32) (h : HI) (g : HL), K22 F x1 x2 x3 x4 h g = some o9 → V D mX1_round (f + 1) (gi (gqi o9) (gt o9)) 22 [(0, .ref (ad D 0)), (1, .int x1), (2, .int x2), (3, .ref (ad D x3)), (4, .int x4)] [] (F, h, g)) : ∀ (n : Nat) (F : Frm) (_ : k_Fix F) (x1 : Int32) (x2 : Int32) (x3 : Nat) (x4 : Int32) (x5 : Nat) (x6 : Int32) (h : HI) (g : HL), pX1_round_72 N R K4 K22 n F x1 x2 x3 x4 x5 x6 h g = some o9 → V D mX1_round (f + 1) (gi (gqi o9) (gt o9)) 72 [(0, .ref (ad D 0)), (1, .int x1), (2, .int x2), (3, .ref (ad D x3)), (4, .int x4), (5, .ref (ad D x5)), (6, .int x6)] [] (F, h, g) := by
  intro n
  induction n with
  | zero => intro F hF x1 x2 x3 x4 x5 x6 h g E; cases E
  | succ n hK72 =>
    intro F hF x1 x2 x3 x4 x5 x6 h g E
    rw [pX1_round_72] at E
    refine bX1_round_72 (f := f) hF x1 x2 x3 x4 x5 x6  ?_
    obtain ⟨z0, E⟩ := gdE E; refine ⟨of_decide_eq_true z0, ?_⟩
    refine ⟨fun c0 => ?_, fun c0 => ?_⟩
    · replace E := iteT c0 E
      obtain ⟨b1, z0, E⟩ := ob1E E; refine ⟨b1, z0, ?_⟩
      obtain ⟨z0, E⟩ := gdE E; refine ⟨of_decide_eq_true z0, ?_⟩
      obtain ⟨z0, E⟩ := gdE E; replace E := bndE rfl E; refine ⟨_, shE (of_decide_eq_true z0), ?_⟩
      obtain ⟨z0, E⟩ := gdE E; refine ⟨vinE z0, ?_⟩
      obtain ⟨z0, E⟩ := gdE E; refine ⟨isBbE z0, ?_⟩
      intro h3 e0; replace E := bndE e0 E
      intro y4 e0; replace E := bndE e0 E
      exact hK22 _ hF _ _ _ _ _ _ E
    · replace E := iteF c0 E
      obtain ⟨y5, h6, g7, e0, E⟩ := obiE E
      refine Si.mono (sX1_rowOf (N := N) (R := R) hF (by omega) e0) (fun y8 h8 g8 hq => ?_)
      obtain ⟨rfl, rfl, rfl⟩ := hq
      obtain ⟨z0, E⟩ := gdE E; refine ⟨of_decide_eq_true z0, ?_⟩
      obtain ⟨b8, z0, E⟩ := ob1E E; refine ⟨b8, z0, ?_⟩
      obtain ⟨z0, E⟩ := gdE E; replace E := bndE rfl E; refine ⟨_, shE (of_decide_eq_true z0), ?_⟩
      obtain ⟨z0, E⟩ := gdE E; refine ⟨vinE z0, ?_⟩
      refine ⟨fun c0 => ?_, fun c0 => ?_⟩
      · replace E := iteT c0 E
        exact jX1_round_110 hf hK4 hK22 hK72 _ hF _ _ _ _ _ _ _ _ _ E
      · replace E := iteF c0 E
        exact jX1_round_110 hf hK4 hK22 hK72 _ hF _ _ _ _ _ _ _ _ _ E
def pX1_round_67 (N R : Nat) (K4 : Frm → Int32 → Int32 → HI → HL → GO Int32) (K22 : Frm → Int32 → Int32 → Nat → Int32 → HI → HL → GO Int32) (F : Frm) (x2 : Int32) (x3 : Nat) (x4 : Int32) (x5 : Nat) (s0 : Int32) (s1 : Int32) (h : HI) (g : HL) : GO Int32 :=
  bnd (s0 ||| s1) fun (y1 : Int32) =>
  pX1_round_72 N R K4 K22 N F y1 x2 x3 x4 x5 0 h g
theorem jX1_round_67 {D : DE} {f N R : Nat} (hf : 4 + 2 * R ≤ f) {K4 : Frm → Int32 → Int32 → HI → HL → GO Int32} {K22 : Frm → Int32 → Int32 → Nat → Int32 → HI → HL → GO Int32} {o9 : GQ Int32} (hK4 : ∀ (F : Frm) (_ : k_Fix F) (x1 : Int32) (x2 : Int32) (h : HI) (g : HL), K4 F x1 x2 h g = some o9 → V D mX1_round (f + 1) (gi (gqi o9) (gt o9)) 4 [(0, .ref (ad D 0)), (1, .int x1), (2, .int x2)] [] (F, h, g)) (hK22 : ∀ (F : Frm) (_ : k_Fix F) (x1 : Int32) (x2 : Int32) (x3 : Nat) (x4 : Int32) (h : HI) (g : HL), K22 F x1 x2 x3 x4 h g = some o9 → V D mX1_round (f + 1) (gi (gqi o9) (gt o9)) 22 [(0, .ref (ad D 0)), (1, .int x1), (2, .int x2), (3, .ref (ad D x3)), (4, .int x4)] [] (F, h, g)) : ∀ (F : Frm) (_ : k_Fix F) (x2 : Int32) (x3 : Nat) (x4 : Int32) (x5 : Nat) (s0 : Int32) (s1 : Int32) (h : HI) (g : HL), pX1_round_67 N R K4 K22 F x2 x3 x4 x5 s0 s1 h g = some o9 → JX1_round_67 D f (gqi o9) (gt o9) F h g x2 x3 x4 x5 s0 s1 := by
  intro F hF x2 x3 x4 x5 s0 s1 h g E
  unfold pX1_round_67 at E
  intro y1 e0; replace E := bndE e0 E
  exact lX1_round_72 hf hK4 hK22 N _ hF _ _ _ _ _ _ _ _ E
def pX1_round_22 (N R : Nat) (K4 : Frm → Int32 → Int32 → HI → HL → GO Int32) : Nat → Frm → Int32 → Int32 → Nat → Int32 → HI → HL → GO Int32
  | 0, _, _, _, _, _, _, _ => none
  | n + 1, F, x1, x2, x3, x4, h, g =>
    gd (decide (F.2.1 x3 = (18, 0))) <|
    obi (ppX1_sizeOf N R F (h x3 3) h g) fun (y1 : Int32) (h2 : HI) (g3 : HL) =>
    if y1 ≤ x4 then
      bnd (x2 + 1) fun (y4 : Int32) =>
      K4 F x1 y4 h2 g3
    else
      ogr (ppX5_of N R F x3 x4 h2 g3) fun (b5 : Nat) (F8 : Frm) (h6 : HI) (g7 : HL) =>
      gd (decide (F8.2.1 b5 = (15, 0))) <|
      gd (decide (F8.2.1 x3 = (18, 0))) <|
      ob1 (F8.2.2 x3 7) fun (b9 : Nat) =>
      gd (decide ((F8.2.1 b9).1 = 2)) <|
      bnd ((F8.2.1 b9).2) fun (m10 : Nat) =>
      gd (vin x4 m10) <|
      if (h6 b5 1) = (h6 b9 (ix x4)) then
        pX1_round_67 N R K4 (pX1_round_22 N R K4 n) F8 x2 x3 x4 b5 x1 0 h6 g7
      else
        pX1_round_67 N R K4 (pX1_round_22 N R K4 n) F8 x2 x3 x4 b5 x1 1 h6 g7
theorem lX1_round_22 {D : DE} {f N R : Nat} (hf : 4 + 2 * R ≤ f) {K4 : Frm → Int32 → Int32 → HI → HL → GO Int32} {o9 : GQ Int32} (hK4 : ∀ (F : Frm) (_ : k_Fix F) (x1 : Int32) (x2 : Int32) (h : HI) (g : HL), K4 F x1 x2 h g = some o9 → V D mX1_round (f + 1) (gi (gqi o9) (gt o9)) 4 [(0, .ref (ad D 0)), (1, .int x1), (2, .int x2)] [] (F, h, g)) : ∀ (n : Nat) (F : Frm) (_ : k_Fix F) (x1 : Int32) (x2 : Int32) (x3 : Nat) (x4 : Int32) (h : HI) (g : HL), pX1_round_22 N R K4 n F x1 x2 x3 x4 h g = some o9 → V D mX1_round (f + 1) (gi (gqi o9) (gt o9)) 22 [(0, .ref (ad D 0)), (1, .int x1), (2, .int x2), (3, .ref (ad D x3)), (4, .int x4)] [] (F, h, g) := by
  intro n
  induction n with
  | zero => intro F hF x1 x2 x3 x4 h g E; cases E
  | succ n hK22 =>
    intro F hF x1 x2 x3 x4 h g E
    rw [pX1_round_22] at E
    refine bX1_round_22 (f := f) hF x1 x2 x3 x4  ?_
    obtain ⟨z0, E⟩ := gdE E; refine ⟨of_decide_eq_true z0, ?_⟩
    obtain ⟨y1, h2, g3, e0, E⟩ := obiE E
    refine Si.mono (sX1_sizeOf (N := N) (R := R) hF (by omega) e0) (fun y8 h8 g8 hq => ?_)
    obtain ⟨rfl, rfl, rfl⟩ := hq
    refine ⟨fun c0 => ?_, fun c0 => ?_⟩
    · replace E := iteT c0 E
      intro y4 e0; replace E := bndE e0 E
      exact hK4 _ hF _ _ _ _ E
    · replace E := iteF c0 E
      refine Gr.ob (fun o1 e0 => (sX5_of (N := N) (R := R) hF (by omega) e0)) E (fun b5 F8 h6 g7 hF E => ?_) (fun _ _ _ _ e => e)
      obtain ⟨z0, E⟩ := gdE E; refine ⟨of_decide_eq_true z0, ?_⟩
      obtain ⟨z0, E⟩ := gdE E; refine ⟨of_decide_eq_true z0, ?_⟩
      obtain ⟨b9, z0, E⟩ := ob1E E; refine ⟨b9, z0, ?_⟩
      obtain ⟨z0, E⟩ := gdE E; replace E := bndE rfl E; refine ⟨_, shE (of_decide_eq_true z0), ?_⟩
      obtain ⟨z0, E⟩ := gdE E; refine ⟨vinE z0, ?_⟩
      refine ⟨fun c0 => ?_, fun c0 => ?_⟩
      · replace E := iteT c0 E
        exact jX1_round_67 hf hK4 hK22 _ hF _ _ _ _ _ _ _ _ E
      · replace E := iteF c0 E
        exact jX1_round_67 hf hK4 hK22 _ hF _ _ _ _ _ _ _ _ E
def pX1_round_4 (N R : Nat) : Nat → Frm → Int32 → Int32 → HI → HL → GO Int32
  | 0, _, _, _, _, _ => none
  | n + 1, F, x1, x2, h, g =>
    if (h 0 9) ≤ x2 then
      gd (isBb x1) <|
      some (.inl (x1, F, h, g))
    else
      gd (vin x2 12) <|
      ob1 (F.2.2 112 (ix x2)) fun (b1 : Nat) =>
      pX1_round_22 N R (pX1_round_4 N R n) N F x1 x2 b1 1 h g
theorem lX1_round_4 {D : DE} {f N R : Nat} (hf : 4 + 2 * R ≤ f) {o9 : GQ Int32} : ∀ (n : Nat) (F : Frm) (_ : k_Fix F) (x1 : Int32) (x2 : Int32) (h : HI) (g : HL), pX1_round_4 N R n F x1 x2 h g = some o9 → V D mX1_round (f + 1) (gi (gqi o9) (gt o9)) 4 [(0, .ref (ad D 0)), (1, .int x1), (2, .int x2)] [] (F, h, g) := by
  intro n
  induction n with
  | zero => intro F hF x1 x2 h g E; cases E
  | succ n hK4 =>
    intro F hF x1 x2 h g E
    rw [pX1_round_4] at E
    refine bX1_round_4 (f := f) hF x1 x2  ?_
    refine ⟨fun c0 => ?_, fun c0 => ?_⟩
    · replace E := iteT c0 E
      obtain ⟨z0, E⟩ := gdE E; refine ⟨isBbE z0, ?_⟩
      exact (Option.some.inj E).symm
    · replace E := iteF c0 E
      obtain ⟨z0, E⟩ := gdE E; refine ⟨vinE z0, ?_⟩
      obtain ⟨b1, z0, E⟩ := ob1E E; refine ⟨b1, z0, ?_⟩
      exact lX1_round_22 hf hK4 N _ hF _ _ _ _ _ _ E
def pX1_round_0 (N R : Nat) (F : Frm) (h : HI) (g : HL) : GO Int32 :=
  pX1_round_4 N R N F 0 0 h g
theorem jX1_round_0 {D : DE} {f N R : Nat} (hf : 4 + 2 * R ≤ f) {o9 : GQ Int32} : ∀ (F : Frm) (_ : k_Fix F) (h : HI) (g : HL), pX1_round_0 N R F h g = some o9 → JX1_round_0 D f (gqi o9) (gt o9) F h g := by
  intro F hF h g E
  unfold pX1_round_0 at E
  exact lX1_round_4 hf  N _ hF _ _ _ _ E
abbrev ppX1_round (N R : Nat) (F : Frm) (h : HI) (g : HL) : GO Int32 := pX1_round_0 N R F h g
theorem sX1_round {D : DE} {f N R : Nat} {F : Frm} (hF : k_Fix F) (hf : 5 + 2 * R ≤ f) {o9 : GQ Int32} {h : HI} {g : HL} (E : ppX1_round N R F h g = some o9) : Gi D f mX1_round [.ref (ad D 0)] F h g (gqi o9) (gt o9) := by
  obtain ⟨f, rfl⟩ : ∃ f0, f = f0 + 1 := ⟨f - 1, by omega⟩
  have hf : 4 + 2 * R ≤ f := by omega
  exact wX1_round (f := f) hF (jX1_round_0 hf _ hF _ _ E)
def pX1_rounds_71 (N R : Nat) : Nat → Frm → Int32 → Int32 → HI → HL → GO Int32
  | 0, _, _, _, _, _ => none
  | n + 1, F, x1, x2, h, g =>
    if x2 = 0 then
      bnd (up2 h 0 10 1) fun (h1 : HI) =>
      some (.inl (x1, F, h1, g))
    else
      ogi (ppX1_round N R F h g) fun (y2 : Int32) (F5 : Frm) (h3 : HI) (g4 : HL) =>
      bnd (x1 + 1) fun (y6 : Int32) =>
      (pX1_rounds_71 N R n) F5 y6 y2 h3 g4
theorem lX1_rounds_71 {D : DE} {f N R : Nat} (hf : 6 + 2 * R ≤ f) {o9 : GQ Int32} : ∀ (n : Nat) (F : Frm) (_ : k_Fix F) (x1 : Int32) (x2 : Int32) (h : HI) (g : HL), pX1_rounds_71 N R n F x1 x2 h g = some o9 → V D mX1_rounds (f + 1) (gi (gqi o9) (gt o9)) 71 [(0, .ref (ad D 0)), (1, .int x1), (2, .int x2)] [] (F, h, g) := by
  intro n
  induction n with
  | zero => intro F hF x1 x2 h g E; cases E
  | succ n hK71 =>
    intro F hF x1 x2 h g E
    rw [pX1_rounds_71] at E
    refine bX1_rounds_71 (f := f) hF x1 x2  ?_
    refine ⟨fun c0 => ?_, fun c0 => ?_⟩
    · replace E := iteT c0 E
      intro h1 e0; replace E := bndE e0 E
      exact (Option.some.inj E).symm
    · replace E := iteF c0 E
      refine Gi.ob (fun o1 e0 => (sX1_round (N := N) (R := R) hF (by omega) e0)) E (fun y2 F5 h3 g4 hF E => ?_) (fun _ _ _ _ e => e)
      intro y6 e0; replace E := bndE e0 E
      exact hK71 _ hF _ _ _ _ E
def pX1_rounds_27 (N R : Nat) (K17 : Frm → Int32 → HI → HL → GO Int32) : Nat → Frm → Int32 → Int32 → HI → HL → GO Int32
  | 0, _, _, _, _, _ => none
  | n + 1, F, x1, x2, h, g =>
    gd (vin x1 12) <|
    ob1 (F.2.2 112 (ix x1)) fun (b1 : Nat) =>
    gd (decide (F.2.1 b1 = (18, 0))) <|
    obi (ppX1_sizeOf N R F (h b1 3) h g) fun (y2 : Int32) (h3 : HI) (g4 : HL) =>
    if y2 ≤ x2 then
      bnd (x1 + 1) fun (y5 : Int32) =>
      K17 F y5 h3 g4
    else
      gd (vin x1 12) <|
      ob1 (F.2.2 112 (ix x1)) fun (b6 : Nat) =>
      gd (decide (F.2.1 b6 = (18, 0))) <|
      ob1 (F.2.2 b6 7) fun (b7 : Nat) =>
      gd (decide ((F.2.1 b7).1 = 2)) <|
      bnd ((F.2.1 b7).2) fun (m8 : Nat) =>
      gd (vin x2 m8) <|
      bnd (up2 h3 b7 (ix x2) 1) fun (h9 : HI) =>
      bnd (x2 + 1) fun (y10 : Int32) =>
      (pX1_rounds_27 N R K17 n) F x1 y10 h9 g4
theorem lX1_rounds_27 {D : DE} {f N R : Nat} (hf : 6 + 2 * R ≤ f) {K17 : Frm → Int32 → HI → HL → GO Int32} {o9 : GQ Int32} (hK17 : ∀ (F : Frm) (_ : k_Fix F) (x1 : Int32) (h : HI) (g : HL), K17 F x1 h g = some o9 → V D mX1_rounds (f + 1) (gi (gqi o9) (gt o9)) 17 [(0, .ref (ad D 0)), (1, .int x1)] [] (F, h, g)) : ∀ (n : Nat) (F : Frm) (_ : k_Fix F) (x1 : Int32) (x2 : Int32) (h : HI) (g : HL), pX1_rounds_27 N R K17 n F x1 x2 h g = some o9 → V D mX1_rounds (f + 1) (gi (gqi o9) (gt o9)) 27 [(0, .ref (ad D 0)), (1, .int x1), (2, .int x2)] [] (F, h, g) := by
  intro n
  induction n with
  | zero => intro F hF x1 x2 h g E; cases E
  | succ n hK27 =>
    intro F hF x1 x2 h g E
    rw [pX1_rounds_27] at E
    refine bX1_rounds_27 (f := f) hF x1 x2  ?_
    obtain ⟨z0, E⟩ := gdE E; refine ⟨vinE z0, ?_⟩
    obtain ⟨b1, z0, E⟩ := ob1E E; refine ⟨b1, z0, ?_⟩
    obtain ⟨z0, E⟩ := gdE E; refine ⟨of_decide_eq_true z0, ?_⟩
    obtain ⟨y2, h3, g4, e0, E⟩ := obiE E
    refine Si.mono (sX1_sizeOf (N := N) (R := R) hF (by omega) e0) (fun y8 h8 g8 hq => ?_)
    obtain ⟨rfl, rfl, rfl⟩ := hq
    refine ⟨fun c0 => ?_, fun c0 => ?_⟩
    · replace E := iteT c0 E
      intro y5 e0; replace E := bndE e0 E
      exact hK17 _ hF _ _ _ E
    · replace E := iteF c0 E
      obtain ⟨z0, E⟩ := gdE E; refine ⟨vinE z0, ?_⟩
      obtain ⟨b6, z0, E⟩ := ob1E E; refine ⟨b6, z0, ?_⟩
      obtain ⟨z0, E⟩ := gdE E; refine ⟨of_decide_eq_true z0, ?_⟩
      obtain ⟨b7, z0, E⟩ := ob1E E; refine ⟨b7, z0, ?_⟩
      obtain ⟨z0, E⟩ := gdE E; replace E := bndE rfl E; refine ⟨_, shE (of_decide_eq_true z0), ?_⟩
      obtain ⟨z0, E⟩ := gdE E; refine ⟨vinE z0, ?_⟩
      intro h9 e0; replace E := bndE e0 E
      intro y10 e0; replace E := bndE e0 E
      exact hK27 _ hF _ _ _ _ E
def pX1_rounds_17 (N R : Nat) : Nat → Frm → Int32 → HI → HL → GO Int32
  | 0, _, _, _, _ => none
  | n + 1, F, x1, h, g =>
    if (h 0 9) ≤ x1 then
      pX1_rounds_71 N R N F 0 1 h g
    else
      pX1_rounds_27 N R (pX1_rounds_17 N R n) N F x1 1 h g
theorem lX1_rounds_17 {D : DE} {f N R : Nat} (hf : 6 + 2 * R ≤ f) {o9 : GQ Int32} : ∀ (n : Nat) (F : Frm) (_ : k_Fix F) (x1 : Int32) (h : HI) (g : HL), pX1_rounds_17 N R n F x1 h g = some o9 → V D mX1_rounds (f + 1) (gi (gqi o9) (gt o9)) 17 [(0, .ref (ad D 0)), (1, .int x1)] [] (F, h, g) := by
  intro n
  induction n with
  | zero => intro F hF x1 h g E; cases E
  | succ n hK17 =>
    intro F hF x1 h g E
    rw [pX1_rounds_17] at E
    refine bX1_rounds_17 (f := f) hF x1  ?_
    refine ⟨fun c0 => ?_, fun c0 => ?_⟩
    · replace E := iteT c0 E
      exact lX1_rounds_71 hf  N _ hF _ _ _ _ E
    · replace E := iteF c0 E
      exact lX1_rounds_27 hf hK17 N _ hF _ _ _ _ E
def pX1_rounds_12 (N R : Nat) (F : Frm) (s0 : Int32) (h : HI) (g : HL) : GO Int32 :=
  ogv (ppX1_may N R F s0 h g) fun (F3 : Frm) (h1 : HI) (g2 : HL) =>
  pX1_rounds_17 N R N F3 0 h1 g2
theorem jX1_rounds_12 {D : DE} {f N R : Nat} (hf : 6 + 2 * R ≤ f) {o9 : GQ Int32} : ∀ (F : Frm) (_ : k_Fix F) (s0 : Int32) (h : HI) (g : HL), pX1_rounds_12 N R F s0 h g = some o9 → JX1_rounds_12 D f (gqi o9) (gt o9) F h g s0 := by
  intro F hF s0 h g E
  unfold pX1_rounds_12 at E
  refine Gv.ob (fun o1 e0 => (sX1_may (N := N) (R := R) hF (by omega) e0)) E (fun F3 h1 g2 hF E => ?_) (fun _ _ _ _ e => e)
  exact lX1_rounds_17 hf  N _ hF _ _ _ E
def pX1_rounds_0 (N R : Nat) (F : Frm) (h : HI) (g : HL) : GO Int32 :=
  if (h 0 9) ≤ 0 then
    pX1_rounds_12 N R F 0 h g
  else
    pX1_rounds_12 N R F 1 h g
theorem jX1_rounds_0 {D : DE} {f N R : Nat} (hf : 6 + 2 * R ≤ f) {o9 : GQ Int32} : ∀ (F : Frm) (_ : k_Fix F) (h : HI) (g : HL), pX1_rounds_0 N R F h g = some o9 → JX1_rounds_0 D f (gqi o9) (gt o9) F h g := by
  intro F hF h g E
  unfold pX1_rounds_0 at E
  refine ⟨fun c0 => ?_, fun c0 => ?_⟩
  · replace E := iteT c0 E
    exact jX1_rounds_12 hf  _ hF _ _ _ E
  · replace E := iteF c0 E
    exact jX1_rounds_12 hf  _ hF _ _ _ E
abbrev ppX1_rounds (N R : Nat) (F : Frm) (h : HI) (g : HL) : GO Int32 := pX1_rounds_0 N R F h g
theorem sX1_rounds {D : DE} {f N R : Nat} {F : Frm} (hF : k_Fix F) (hf : 7 + 2 * R ≤ f) {o9 : GQ Int32} {h : HI} {g : HL} (E : ppX1_rounds N R F h g = some o9) : Gi D f mX1_rounds [.ref (ad D 0)] F h g (gqi o9) (gt o9) := by
  obtain ⟨f, rfl⟩ : ∃ f0, f = f0 + 1 := ⟨f - 1, by omega⟩
  have hf : 6 + 2 * R ≤ f := by omega
  exact wX1_rounds (f := f) hF (jX1_rounds_0 hf _ hF _ _ E)
def pX0_rounds_0 (N R : Nat) (F : Frm) (h : HI) (g : HL) : GO Int32 :=
  ohi (ppX1_rounds N R F h g) (fun e F1 h1 g1 =>
    if e = 0 then
      some (.inl (1, F1, h1, g1))
    else none) fun (y1 : Int32) (F4 : Frm) (h2 : HI) (g3 : HL) =>
  bnd (up2 g3 159 (ix 0) y1.toInt64) fun (g5 : HL) =>
  some (.inl (0, F4, h2, g5))
theorem jX0_rounds_0 {D : DE} {f N R : Nat} (hf : 7 + 2 * R ≤ f) {o9 : GQ Int32} : ∀ (F : Frm) (_ : k_Fix F) (h : HI) (g : HL), pX0_rounds_0 N R F h g = some o9 → JX0_rounds_0 D f (gqi o9) (gt o9) F h g := by
  intro F hF h g E
  unfold pX0_rounds_0 at E
  refine Gi.oh (fun o1 e0 => (sX1_rounds (N := N) (R := R) hF (by omega) e0)) E (fun y1 F4 h2 g3 hF E => ?_) (fun e F1 h1 g1 hF E => ?_)
  · skip
    intro g5 e0; replace E := bndE e0 E
    exact (Option.some.inj E).symm
  · skip
    by_cases c0 : e = 0
    · replace E := iteT c0 E
      refine ⟨c0, ?_⟩
      exact (Option.some.inj E).symm
    replace E := iteF c0 E
    cases E
abbrev ppX0_rounds (N R : Nat) (F : Frm) (h : HI) (g : HL) : GO Int32 := pX0_rounds_0 N R F h g
theorem sX0_rounds {D : DE} {f N R : Nat} {F : Frm} (hF : k_Fix F) (hf : 8 + 2 * R ≤ f) {o9 : GQ Int32} {h : HI} {g : HL} (E : ppX0_rounds N R F h g = some o9) : Gi D f mX0_rounds [.ref (ad D 0), .ref (ad D 159)] F h g (gqi o9) (gt o9) := by
  obtain ⟨f, rfl⟩ : ∃ f0, f = f0 + 1 := ⟨f - 1, by omega⟩
  have hf : 7 + 2 * R ≤ f := by omega
  exact wX0_rounds (f := f) hF (jX0_rounds_0 hf _ hF _ _ E)
def pX7_fit_137 (N R : Nat) (F : Frm) (x2 : Int32) (x4 : Int32) (x5 : Int32) (h : HI) (g : HL) : Option (Int32 × HI × HL) :=
  if x4 = 0 then
    if x5 = x2 then
      some (1, h, g)
    else
      some (0, h, g)
  else
    some (0, h, g)
theorem jX7_fit_137 {D : DE} {f N R : Nat} (hf : 0 ≤ f) {y9 : Int32} {h9 : HI} {g9 : HL} : ∀ (F : Frm) (_ : k_Fix F) (x2 : Int32) (x4 : Int32) (x5 : Int32) (h : HI) (g : HL), pX7_fit_137 N R F x2 x4 x5 h g = some (y9, h9, g9) → JX7_fit_137 D f (eqi y9 h9 g9) F h g x2 x4 x5 := by
  intro F hF x2 x4 x5 h g E
  unfold pX7_fit_137 at E
  refine ⟨fun c0 => ?_, fun c0 => ?_⟩
  · replace E := iteF c0 E
    cases E; exact ⟨rfl, rfl, rfl⟩
  · replace E := iteT c0 E
    refine ⟨fun c0 => ?_, fun c0 => ?_⟩
    · replace E := iteF c0 E
      cases E; exact ⟨rfl, rfl, rfl⟩
    · replace E := iteT c0 E
      cases E; exact ⟨rfl, rfl, rfl⟩
def pX7_fit_131 (N R : Nat) (K44 : Frm → Nat → Int32 → Int32 → Int32 → HI → HL → Option (Int32 × HI × HL)) (F : Frm) (x1 : Nat) (x2 : Int32) (x4 : Int32) (x5 : Int32) (h : HI) (g : HL) : Option (Int32 × HI × HL) :=
  bnd (x5 + 1) fun (y1 : Int32) =>
  K44 F x1 x2 x4 y1 h g
theorem jX7_fit_131 {D : DE} {f N R : Nat} (hf : 0 ≤ f) {K44 : Frm → Nat → Int32 → Int32 → Int32 → HI → HL → Option (Int32 × HI × HL)} {y9 : Int32} {h9 : HI} {g9 : HL} (hK44 : ∀ (F : Frm) (_ : k_Fix F) (x1 : Nat) (x2 : Int32) (x4 : Int32) (x5 : Int32) (h : HI) (g : HL), K44 F x1 x2 x4 x5 h g = some (y9, h9, g9) → V D mX7_fit (f + 1) (qi F (eqi y9 h9 g9)) 44 [(0, .ref (ad D 101)), (1, .ref (ad D x1)), (2, .int x2), (4, .int x4), (5, .int x5)] [] (F, h, g)) : ∀ (F : Frm) (_ : k_Fix F) (x1 : Nat) (x2 : Int32) (x4 : Int32) (x5 : Int32) (h : HI) (g : HL), pX7_fit_131 N R K44 F x1 x2 x4 x5 h g = some (y9, h9, g9) → JX7_fit_131 D f (eqi y9 h9 g9) F h g x1 x2 x4 x5 := by
  intro F hF x1 x2 x4 x5 h g E
  unfold pX7_fit_131 at E
  intro y1 e0; replace E := bndE e0 E
  exact hK44 _ hF _ _ _ _ _ _ E
def pX7_fit_94 (N R : Nat) (K44 : Frm → Nat → Int32 → Int32 → Int32 → HI → HL → Option (Int32 × HI × HL)) (F : Frm) (x1 : Nat) (x2 : Int32) (x4 : Int32) (x5 : Int32) (x6 : Int32) (h : HI) (g : HL) : Option (Int32 × HI × HL) :=
  gd (decide ((F.2.1 x1).1 = 0)) <|
  bnd ((F.2.1 x1).2) fun (m1 : Nat) =>
  gd (vin x5 m1) <|
  if (h x1 (ix x5)) = 2 then
    obi (ppX1_right N R F x6 h g) fun (y2 : Int32) (h3 : HI) (g4 : HL) =>
    gd (vin x4 16) <|
    bnd (up2 h3 110 (ix x4) y2) fun (h5 : HI) =>
    obi (ppX1_left N R F x6 h5 g4) fun (y6 : Int32) (h7 : HI) (g8 : HL) =>
    gd (vin (x4 + 1) 16) <|
    bnd (up2 h7 110 (ix (x4 + 1)) y6) fun (h9 : HI) =>
    bnd (x4 + 2) fun (y10 : Int32) =>
    pX7_fit_131 N R K44 F x1 x2 y10 x5 h9 g8
  else
    pX7_fit_131 N R K44 F x1 x2 x4 x5 h g
theorem jX7_fit_94 {D : DE} {f N R : Nat} (hf : 0 ≤ f) {K44 : Frm → Nat → Int32 → Int32 → Int32 → HI → HL → Option (Int32 × HI × HL)} {y9 : Int32} {h9 : HI} {g9 : HL} (hK44 : ∀ (F : Frm) (_ : k_Fix F) (x1 : Nat) (x2 : Int32) (x4 : Int32) (x5 : Int32) (h : HI) (g : HL), K44 F x1 x2 x4 x5 h g = some (y9, h9, g9) → V D mX7_fit (f + 1) (qi F (eqi y9 h9 g9)) 44 [(0, .ref (ad D 101)), (1, .ref (ad D x1)), (2, .int x2), (4, .int x4), (5, .int x5)] [] (F, h, g)) : ∀ (F : Frm) (_ : k_Fix F) (x1 : Nat) (x2 : Int32) (x4 : Int32) (x5 : Int32) (x6 : Int32) (h : HI) (g : HL), pX7_fit_94 N R K44 F x1 x2 x4 x5 x6 h g = some (y9, h9, g9) → JX7_fit_94 D f (eqi y9 h9 g9) F h g x1 x2 x4 x5 x6 := by
  intro F hF x1 x2 x4 x5 x6 h g E
  unfold pX7_fit_94 at E
  obtain ⟨z0, E⟩ := gdE E; replace E := bndE rfl E; refine ⟨_, shE (of_decide_eq_true z0), ?_⟩
  obtain ⟨z0, E⟩ := gdE E; refine ⟨vinE z0, ?_⟩
  refine ⟨fun c0 => ?_, fun c0 => ?_⟩
  · replace E := iteF c0 E
    exact jX7_fit_131 hf hK44 _ hF _ _ _ _ _ _ E
  · replace E := iteT c0 E
    obtain ⟨y2, h3, g4, e0, E⟩ := obiE E
    refine Si.mono (sX1_right (N := N) (R := R) hF (by omega) e0) (fun y8 h8 g8 hq => ?_)
    obtain ⟨rfl, rfl, rfl⟩ := hq
    obtain ⟨z0, E⟩ := gdE E; refine ⟨vinE z0, ?_⟩
    intro h5 e0; replace E := bndE e0 E
    obtain ⟨y6, h7, g8, e0, E⟩ := obiE E
    refine Si.mono (sX1_left (N := N) (R := R) hF (by omega) e0) (fun y8 h8 g8 hq => ?_)
    obtain ⟨rfl, rfl, rfl⟩ := hq
    obtain ⟨z0, E⟩ := gdE E; refine ⟨vinE z0, ?_⟩
    intro h9 e0; replace E := bndE e0 E
    intro y10 e0; replace E := bndE e0 E
    exact jX7_fit_131 hf hK44 _ hF _ _ _ _ _ _ E
def pX7_fit_79 (N R : Nat) (K44 : Frm → Nat → Int32 → Int32 → Int32 → HI → HL → Option (Int32 × HI × HL)) (F : Frm) (x1 : Nat) (x2 : Int32) (x4 : Int32) (x5 : Int32) (x6 : Int32) (h : HI) (g : HL) : Option (Int32 × HI × HL) :=
  gd (decide ((F.2.1 x1).1 = 0)) <|
  bnd ((F.2.1 x1).2) fun (m1 : Nat) =>
  gd (vin x5 m1) <|
  if (h x1 (ix x5)) = 2 then
    if x6 = 0 then
      some (0, h, g)
    else
      pX7_fit_94 N R K44 F x1 x2 x4 x5 x6 h g
  else
    pX7_fit_94 N R K44 F x1 x2 x4 x5 x6 h g
theorem jX7_fit_79 {D : DE} {f N R : Nat} (hf : 0 ≤ f) {K44 : Frm → Nat → Int32 → Int32 → Int32 → HI → HL → Option (Int32 × HI × HL)} {y9 : Int32} {h9 : HI} {g9 : HL} (hK44 : ∀ (F : Frm) (_ : k_Fix F) (x1 : Nat) (x2 : Int32) (x4 : Int32) (x5 : Int32) (h : HI) (g : HL), K44 F x1 x2 x4 x5 h g = some (y9, h9, g9) → V D mX7_fit (f + 1) (qi F (eqi y9 h9 g9)) 44 [(0, .ref (ad D 101)), (1, .ref (ad D x1)), (2, .int x2), (4, .int x4), (5, .int x5)] [] (F, h, g)) : ∀ (F : Frm) (_ : k_Fix F) (x1 : Nat) (x2 : Int32) (x4 : Int32) (x5 : Int32) (x6 : Int32) (h : HI) (g : HL), pX7_fit_79 N R K44 F x1 x2 x4 x5 x6 h g = some (y9, h9, g9) → JX7_fit_79 D f (eqi y9 h9 g9) F h g x1 x2 x4 x5 x6 := by
  intro F hF x1 x2 x4 x5 x6 h g E
  unfold pX7_fit_79 at E
  obtain ⟨z0, E⟩ := gdE E; replace E := bndE rfl E; refine ⟨_, shE (of_decide_eq_true z0), ?_⟩
  obtain ⟨z0, E⟩ := gdE E; refine ⟨vinE z0, ?_⟩
  refine ⟨fun c0 => ?_, fun c0 => ?_⟩
  · replace E := iteF c0 E
    exact jX7_fit_94 hf hK44 _ hF _ _ _ _ _ _ _ E
  · replace E := iteT c0 E
    refine ⟨fun c0 => ?_, fun c0 => ?_⟩
    · replace E := iteF c0 E
      exact jX7_fit_94 hf hK44 _ hF _ _ _ _ _ _ _ E
    · replace E := iteT c0 E
      cases E; exact ⟨rfl, rfl, rfl⟩
def pX7_fit_44 (N R : Nat) : Nat → Frm → Nat → Int32 → Int32 → Int32 → HI → HL → Option (Int32 × HI × HL)
  | 0, _, _, _, _, _, _, _ => none
  | n + 1, F, x1, x2, x4, x5, h, g =>
    if x4 ≤ 0 then
      pX7_fit_137 N R F x2 x4 x5 h g
    else
      if x2 ≤ x5 then
        pX7_fit_137 N R F x2 x4 x5 h g
      else
        bnd (x4 + (-1)) fun (y1 : Int32) =>
        gd (vin y1 16) <|
        bnd (h 110 (ix y1)) fun (y2 : Int32) =>
        gd (decide ((F.2.1 x1).1 = 0)) <|
        bnd ((F.2.1 x1).2) fun (m3 : Nat) =>
        gd (vin x5 m3) <|
        if (h x1 (ix x5)) = 0 then
          if y2 = 0 then
            pX7_fit_79 N R (pX7_fit_44 N R n) F x1 x2 y1 x5 y2 h g
          else
            some (0, h, g)
        else
          pX7_fit_79 N R (pX7_fit_44 N R n) F x1 x2 y1 x5 y2 h g
theorem lX7_fit_44 {D : DE} {f N R : Nat} (hf : 0 ≤ f) {y9 : Int32} {h9 : HI} {g9 : HL} : ∀ (n : Nat) (F : Frm) (_ : k_Fix F) (x1 : Nat) (x2 : Int32) (x4 : Int32) (x5 : Int32) (h : HI) (g : HL), pX7_fit_44 N R n F x1 x2 x4 x5 h g = some (y9, h9, g9) → V D mX7_fit (f + 1) (qi F (eqi y9 h9 g9)) 44 [(0, .ref (ad D 101)), (1, .ref (ad D x1)), (2, .int x2), (4, .int x4), (5, .int x5)] [] (F, h, g) := by
  intro n
  induction n with
  | zero => intro F hF x1 x2 x4 x5 h g E; cases E
  | succ n hK44 =>
    intro F hF x1 x2 x4 x5 h g E
    rw [pX7_fit_44] at E
    refine bX7_fit_44 (f := f) hF x1 x2 x4 x5  ?_
    refine ⟨fun c0 => ?_, fun c0 => ?_⟩
    · replace E := iteT c0 E
      exact jX7_fit_137 hf  _ hF _ _ _ _ _ E
    · replace E := iteF c0 E
      refine ⟨fun c0 => ?_, fun c0 => ?_⟩
      · replace E := iteT c0 E
        exact jX7_fit_137 hf  _ hF _ _ _ _ _ E
      · replace E := iteF c0 E
        intro y1 e0; replace E := bndE e0 E
        obtain ⟨z0, E⟩ := gdE E; refine ⟨vinE z0, ?_⟩
        intro y2 e0; replace E := bndE e0 E
        obtain ⟨z0, E⟩ := gdE E; replace E := bndE rfl E; refine ⟨_, shE (of_decide_eq_true z0), ?_⟩
        obtain ⟨z0, E⟩ := gdE E; refine ⟨vinE z0, ?_⟩
        refine ⟨fun c0 => ?_, fun c0 => ?_⟩
        · replace E := iteF c0 E
          exact jX7_fit_79 hf hK44 _ hF _ _ _ _ _ _ _ E
        · replace E := iteT c0 E
          refine ⟨fun c0 => ?_, fun c0 => ?_⟩
          · replace E := iteF c0 E
            cases E; exact ⟨rfl, rfl, rfl⟩
          · replace E := iteT c0 E
            exact jX7_fit_79 hf hK44 _ hF _ _ _ _ _ _ _ E
def pX7_fit_9 (N R : Nat) : Nat → Frm → Nat → Int32 → Nat → Int32 → Int32 → HI → HL → Option (Int32 × HI × HL)
  | 0, _, _, _, _, _, _, _, _ => none
  | n + 1, F, x1, x2, x3, x4, x5, h, g =>
    if x4 ≤ x5 then
      pX7_fit_44 N R N F x1 x2 x4 0 h g
    else
      gd (decide (F.2.1 x3 = (18, 0))) <|
      ob1 (F.2.2 x3 5) fun (b1 : Nat) =>
      gd (decide ((F.2.1 b1).1 = 0)) <|
      bnd ((F.2.1 b1).2) fun (m2 : Nat) =>
      gd (vin x5 m2) <|
      gd (vin ((x4 - 1) - x5) 16) <|
      bnd (up2 h 110 (ix ((x4 - 1) - x5)) (h b1 (ix x5))) fun (h3 : HI) =>
      bnd (x5 + 1) fun (y4 : Int32) =>
      (pX7_fit_9 N R n) F x1 x2 x3 x4 y4 h3 g
theorem lX7_fit_9 {D : DE} {f N R : Nat} (hf : 0 ≤ f) {y9 : Int32} {h9 : HI} {g9 : HL} : ∀ (n : Nat) (F : Frm) (_ : k_Fix F) (x1 : Nat) (x2 : Int32) (x3 : Nat) (x4 : Int32) (x5 : Int32) (h : HI) (g : HL), pX7_fit_9 N R n F x1 x2 x3 x4 x5 h g = some (y9, h9, g9) → V D mX7_fit (f + 1) (qi F (eqi y9 h9 g9)) 9 [(0, .ref (ad D 101)), (1, .ref (ad D x1)), (2, .int x2), (3, .ref (ad D x3)), (4, .int x4), (5, .int x5)] [] (F, h, g) := by
  intro n
  induction n with
  | zero => intro F hF x1 x2 x3 x4 x5 h g E; cases E
  | succ n hK9 =>
    intro F hF x1 x2 x3 x4 x5 h g E
    rw [pX7_fit_9] at E
    refine bX7_fit_9 (f := f) hF x1 x2 x3 x4 x5  ?_
    refine ⟨fun c0 => ?_, fun c0 => ?_⟩
    · replace E := iteT c0 E
      exact lX7_fit_44 hf  N _ hF _ _ _ _ _ _ E
    · replace E := iteF c0 E
      obtain ⟨z0, E⟩ := gdE E; refine ⟨of_decide_eq_true z0, ?_⟩
      obtain ⟨b1, z0, E⟩ := ob1E E; refine ⟨b1, z0, ?_⟩
      obtain ⟨z0, E⟩ := gdE E; replace E := bndE rfl E; refine ⟨_, shE (of_decide_eq_true z0), ?_⟩
      obtain ⟨z0, E⟩ := gdE E; refine ⟨vinE z0, ?_⟩
      obtain ⟨z0, E⟩ := gdE E; refine ⟨vinE z0, ?_⟩
      intro h3 e0; replace E := bndE e0 E
      intro y4 e0; replace E := bndE e0 E
      exact hK9 _ hF _ _ _ _ _ _ _ E
def pX7_fit_0 (N R : Nat) (F : Frm) (x1 : Nat) (x2 : Int32) (x3 : Nat) (h : HI) (g : HL) : Option (Int32 × HI × HL) :=
  gd (decide (F.2.1 x3 = (18, 0))) <|
  bnd (h x3 1) fun (y1 : Int32) =>
  pX7_fit_9 N R N F x1 x2 x3 y1 0 h g
theorem jX7_fit_0 {D : DE} {f N R : Nat} (hf : 0 ≤ f) {y9 : Int32} {h9 : HI} {g9 : HL} : ∀ (F : Frm) (_ : k_Fix F) (x1 : Nat) (x2 : Int32) (x3 : Nat) (h : HI) (g : HL), pX7_fit_0 N R F x1 x2 x3 h g = some (y9, h9, g9) → JX7_fit_0 D f (eqi y9 h9 g9) F h g x1 x2 x3 := by
  intro F hF x1 x2 x3 h g E
  unfold pX7_fit_0 at E
  obtain ⟨z0, E⟩ := gdE E; refine ⟨of_decide_eq_true z0, ?_⟩
  intro y1 e0; replace E := bndE e0 E
  exact lX7_fit_9 hf  N _ hF _ _ _ _ _ _ _ E
abbrev ppX7_fit (N R : Nat) (F : Frm) (x1 : Nat) (x2 : Int32) (x3 : Nat) (h : HI) (g : HL) : Option (Int32 × HI × HL) := pX7_fit_0 N R F x1 x2 x3 h g
theorem sX7_fit {D : DE} {f N R : Nat} {F : Frm} (hF : k_Fix F) (hf : 1 ≤ f) {y9 : Int32} {h9 : HI} {g9 : HL} {x1 : Nat} {x2 : Int32} {x3 : Nat} {h : HI} {g : HL} (E : ppX7_fit N R F x1 x2 x3 h g = some (y9, h9, g9)) : Si D f mX7_fit [.ref (ad D 101), .ref (ad D x1), .int x2, .ref (ad D x3)] F h g (eqi y9 h9 g9) := by
  obtain ⟨f, rfl⟩ : ∃ f0, f = f0 + 1 := ⟨f - 1, by omega⟩
  have hf : 0 ≤ f := by omega
  exact wX7_fit (f := f) hF _ _ _ (jX7_fit_0 hf _ hF _ _ _ _ _ E)
def pX7_ends_0 (N R : Nat) (F : Frm) (x1 : Int32) (h : HI) (g : HL) : Option (HI × HL) :=
  if (h 101 16) = 0 then
    bnd (up2 h 101 16 x1) fun (h2 : HI) =>
    some (h2, g)
  else
    bnd (up2 h 101 16 (h 101 16)) fun (h1 : HI) =>
    some (h1, g)
theorem jX7_ends_0 {D : DE} {f N R : Nat} (hf : 0 ≤ f) {h9 : HI} {g9 : HL} : ∀ (F : Frm) (_ : k_Fix F) (x1 : Int32) (h : HI) (g : HL), pX7_ends_0 N R F x1 h g = some (h9, g9) → JX7_ends_0 D f (eqv h9 g9) F h g x1 := by
  intro F hF x1 h g E
  unfold pX7_ends_0 at E
  refine ⟨fun c0 => ?_, fun c0 => ?_⟩
  · replace E := iteF c0 E
    intro h1 e0; replace E := bndE e0 E
    cases E; exact ⟨rfl, rfl⟩
  · replace E := iteT c0 E
    intro h2 e0; replace E := bndE e0 E
    cases E; exact ⟨rfl, rfl⟩
abbrev ppX7_ends (N R : Nat) (F : Frm) (x1 : Int32) (h : HI) (g : HL) : Option (HI × HL) := pX7_ends_0 N R F x1 h g
theorem sX7_ends {D : DE} {f N R : Nat} {F : Frm} (hF : k_Fix F) (hf : 0 ≤ f) {h9 : HI} {g9 : HL} {x1 : Int32} {h : HI} {g : HL} (E : ppX7_ends N R F x1 h g = some (h9, g9)) : Sv D f mX7_ends [.ref (ad D 101), .int x1] F h g (eqv h9 g9) := by
  exact wX7_ends (f := f) hF _ (jX7_ends_0 hf _ hF _ _ _ E)
def pX10_alone_0 (N R : Nat) (F : Frm) (x0 : Nat) (h : HI) (g : HL) : Option (Int32 × HI × HL) :=
  some ((-1), h, g)
theorem jX10_alone_0 {D : DE} {f N R : Nat} (hf : 0 ≤ f) {y9 : Int32} {h9 : HI} {g9 : HL} : ∀ (F : Frm) (_ : k_Fix F) (x0 : Nat) (h : HI) (g : HL), pX10_alone_0 N R F x0 h g = some (y9, h9, g9) → JX10_alone_0 D f (eqi y9 h9 g9) F h g x0 := by
  intro F hF x0 h g E
  unfold pX10_alone_0 at E
  cases E; exact ⟨rfl, rfl, rfl⟩
abbrev ppX10_alone (N R : Nat) (F : Frm) (x0 : Nat) (h : HI) (g : HL) : Option (Int32 × HI × HL) := pX10_alone_0 N R F x0 h g
theorem sX10_alone {D : DE} {f N R : Nat} {F : Frm} (hF : k_Fix F) (hf : 0 ≤ f) {y9 : Int32} {h9 : HI} {g9 : HL} {x0 : Nat} {h : HI} {g : HL} (E : ppX10_alone N R F x0 h g = some (y9, h9, g9)) : Si D f mX10_alone [.ref (ad D x0)] F h g (eqi y9 h9 g9) := by
  exact wX10_alone (f := f) hF _ (jX10_alone_0 hf _ hF _ _ _ E)
def pX18_alone_0 (N R : Nat) (F : Frm) (x0 : Nat) (h : HI) (g : HL) : Option (Int32 × HI × HL) :=
  gd (decide (F.2.1 x0 = (26, 0))) <|
  some ((h x0 2), h, g)
theorem jX18_alone_0 {D : DE} {f N R : Nat} (hf : 0 ≤ f) {y9 : Int32} {h9 : HI} {g9 : HL} : ∀ (F : Frm) (_ : k_Fix F) (x0 : Nat) (h : HI) (g : HL), pX18_alone_0 N R F x0 h g = some (y9, h9, g9) → JX18_alone_0 D f (eqi y9 h9 g9) F h g x0 := by
  intro F hF x0 h g E
  unfold pX18_alone_0 at E
  obtain ⟨z0, E⟩ := gdE E; refine ⟨of_decide_eq_true z0, ?_⟩
  cases E; exact ⟨rfl, rfl, rfl⟩
abbrev ppX18_alone (N R : Nat) (F : Frm) (x0 : Nat) (h : HI) (g : HL) : Option (Int32 × HI × HL) := pX18_alone_0 N R F x0 h g
theorem sX18_alone {D : DE} {f N R : Nat} {F : Frm} (hF : k_Fix F) (hf : 0 ≤ f) {y9 : Int32} {h9 : HI} {g9 : HL} {x0 : Nat} {h : HI} {g : HL} (E : ppX18_alone N R F x0 h g = some (y9, h9, g9)) : Si D f mX18_alone [.ref (ad D x0)] F h g (eqi y9 h9 g9) := by
  exact wX18_alone (f := f) hF _ (jX18_alone_0 hf _ hF _ _ _ E)
def pX7_put_0 (N R : Nat) (F : Frm) (x1 : Nat) (x2 : Int32) (x3 : Int32) (h : HI) (g : HL) : GO Int32 :=
  gd (vin (h 101 4) 1540) <|
  gd (isEb F x1) <|
  bnd ((F.2.1 x1).1 - 10) fun (k2 : Nat) =>
  bnd (fwr F 102 (ix (h 101 4)) (some x1)) fun (F1 : Frm) =>
  gd (vin (h 101 4) 1540) <|
  bnd (up2 h 103 (ix (h 101 4)) x2) fun (h3 : HI) =>
  gd (vin (h3 101 4) 1540) <|
  bnd (up2 h3 104 (ix (h3 101 4)) x3.toInt8.toInt32.toInt8.toInt32) fun (h4 : HI) =>
  bnd (up2 h4 101 4 ((h4 101 4) + 1)) fun (h5 : HI) =>
  some (.inl (((h5 101 4) - 1), F1, h5, g))
theorem jX7_put_0 {D : DE} {f N R : Nat} (hf : 0 ≤ f) {o9 : GQ Int32} : ∀ (F : Frm) (_ : k_Fix F) (x1 : Nat) (x2 : Int32) (x3 : Int32) (h : HI) (g : HL), pX7_put_0 N R F x1 x2 x3 h g = some o9 → JX7_put_0 D f (gqi o9) (gt o9) F h g x1 x2 x3 := by
  intro F hF x1 x2 x3 h g E
  unfold pX7_put_0 at E
  obtain ⟨z0, E⟩ := gdE E; refine ⟨vinE z0, ?_⟩
  obtain ⟨z0, E⟩ := gdE E; obtain ⟨k2, e1⟩ : ∃ k, k = (F.2.1 x1).1 - 10 := ⟨_, rfl⟩; replace E := bndE e1 E; have zEk2 : isE F x1 k2 := by rw [e1]; exact isEbE z0
  refine ⟨k2, zEk2, ?_⟩
  intro F1 e0; replace E := bndE e0 E
  replace hF : k_Fix F1 := by rw [e0]; exact k_Fix.wr hF (fx_okA (by decide +kernel)) _
  replace zEk2 : isE F1 x1 k2 := by rw [e0]; exact zEk2
  obtain ⟨z0, E⟩ := gdE E; refine ⟨vinE z0, ?_⟩
  intro h3 e0; replace E := bndE e0 E
  obtain ⟨z0, E⟩ := gdE E; refine ⟨vinE z0, ?_⟩
  intro h4 e0; replace E := bndE e0 E
  intro h5 e0; replace E := bndE e0 E
  exact (Option.some.inj E).symm
abbrev ppX7_put (N R : Nat) (F : Frm) (x1 : Nat) (x2 : Int32) (x3 : Int32) (h : HI) (g : HL) : GO Int32 := pX7_put_0 N R F x1 x2 x3 h g
theorem sX7_put {D : DE} {f N R : Nat} {F : Frm} (hF : k_Fix F) (hf : 0 ≤ f) {o9 : GQ Int32} {x1 : Nat} {x2 : Int32} {x3 : Int32} {h : HI} {g : HL} (E : ppX7_put N R F x1 x2 x3 h g = some o9) : Gi D f mX7_put [.ref (ad D 101), .ref (ad D x1), .int x2, .int x3] F h g (gqi o9) (gt o9) := by
  exact wX7_put (f := f) hF _ _ _ (jX7_put_0 hf _ hF _ _ _ _ _ E)
def pX7_putn_0 (N R : Nat) (F : Frm) (x2 : Int32) (x3 : Int32) (h : HI) (g : HL) : GO Int32 :=
  gd (vin (h 101 4) 1540) <|
  bnd (fwr F 102 (ix (h 101 4)) none) fun (F1 : Frm) =>
  gd (vin (h 101 4) 1540) <|
  bnd (up2 h 103 (ix (h 101 4)) x2) fun (h2 : HI) =>
  gd (vin (h2 101 4) 1540) <|
  bnd (up2 h2 104 (ix (h2 101 4)) x3.toInt8.toInt32.toInt8.toInt32) fun (h3 : HI) =>
  bnd (up2 h3 101 4 ((h3 101 4) + 1)) fun (h4 : HI) =>
  some (.inl (((h4 101 4) - 1), F1, h4, g))
theorem jX7_putn_0 {D : DE} {f N R : Nat} (hf : 0 ≤ f) {o9 : GQ Int32} : ∀ (F : Frm) (_ : k_Fix F) (x2 : Int32) (x3 : Int32) (h : HI) (g : HL), pX7_putn_0 N R F x2 x3 h g = some o9 → JX7_putn_0 D f (gqi o9) (gt o9) F h g x2 x3 := by
  intro F hF x2 x3 h g E
  unfold pX7_putn_0 at E
  obtain ⟨z0, E⟩ := gdE E; refine ⟨vinE z0, ?_⟩
  intro F1 e0; replace E := bndE e0 E
  replace hF : k_Fix F1 := by rw [e0]; exact k_Fix.wr hF (fx_okA (by decide +kernel)) _
  obtain ⟨z0, E⟩ := gdE E; refine ⟨vinE z0, ?_⟩
  intro h2 e0; replace E := bndE e0 E
  obtain ⟨z0, E⟩ := gdE E; refine ⟨vinE z0, ?_⟩
  intro h3 e0; replace E := bndE e0 E
  intro h4 e0; replace E := bndE e0 E
  exact (Option.some.inj E).symm
abbrev ppX7_putn (N R : Nat) (F : Frm) (x2 : Int32) (x3 : Int32) (h : HI) (g : HL) : GO Int32 := pX7_putn_0 N R F x2 x3 h g
theorem sX7_putn {D : DE} {f N R : Nat} {F : Frm} (hF : k_Fix F) (hf : 0 ≤ f) {o9 : GQ Int32} {x2 : Int32} {x3 : Int32} {h : HI} {g : HL} (E : ppX7_putn N R F x2 x3 h g = some o9) : Gi D f mX7_put [.ref (ad D 101), .null, .int x2, .int x3] F h g (gqi o9) (gt o9) := by
  exact wX7_putn (f := f) hF _ _ (jX7_putn_0 hf _ hF _ _ _ _ E)
def pv_alone (N R : Nat) (k : Nat) (F : Frm) (x0 : Nat) (h : HI) (g : HL) : Option (Int32 × HI × HL) := match k with
  | 9 => ppX10_alone N R F x0 h g
  | 10 => ppX10_alone N R F x0 h g
  | 11 => ppX10_alone N R F x0 h g
  | 12 => ppX10_alone N R F x0 h g
  | 13 => ppX10_alone N R F x0 h g
  | 14 => ppX10_alone N R F x0 h g
  | 15 => ppX10_alone N R F x0 h g
  | 16 => ppX18_alone N R F x0 h g
  | 17 => ppX10_alone N R F x0 h g
  | _ => none
theorem sv_alone {D : DE} {f N R : Nat} {F : Frm} (hF : k_Fix F) (hf : 0 ≤ f) {y9 : Int32} {h9 : HI} {g9 : HL} {k : Nat} {x0 : Nat} {h : HI} {g : HL} (zE : isE F x0 k) (E : pv_alone N R k F x0 h g = some (y9, h9, g9)) : Si D f (v_alone k) [.ref (ad D x0)] F h g (eqi y9 h9 g9) := by
  obtain ⟨-, h1, h2⟩ := zE
  rcases isE.cases h1 h2 with rfl | rfl | rfl | rfl | rfl | rfl | rfl | rfl | rfl
  · exact sX10_alone (N := N) (R := R) hF (by omega) E
  · exact sX10_alone (N := N) (R := R) hF (by omega) E
  · exact sX10_alone (N := N) (R := R) hF (by omega) E
  · exact sX10_alone (N := N) (R := R) hF (by omega) E
  · exact sX10_alone (N := N) (R := R) hF (by omega) E
  · exact sX10_alone (N := N) (R := R) hF (by omega) E
  · exact sX10_alone (N := N) (R := R) hF (by omega) E
  · exact sX18_alone (N := N) (R := R) hF (by omega) E
  · exact sX10_alone (N := N) (R := R) hF (by omega) E
def pX7_thing_41 (N R : Nat) (F : Frm) (h : HI) (g : HL) : GO Int32 :=
  obv (ppX7_ends N R F 5 h g) fun (h1 : HI) (g2 : HL) =>
  some (.inl (0, F, h1, g2))
theorem jX7_thing_41 {D : DE} {f N R : Nat} (hf : 0 ≤ f) {o9 : GQ Int32} : ∀ (F : Frm) (_ : k_Fix F) (h : HI) (g : HL), pX7_thing_41 N R F h g = some o9 → JX7_thing_41 D f (gqi o9) (gt o9) F h g := by
  intro F hF h g E
  unfold pX7_thing_41 at E
  obtain ⟨h1, g2, e0, E⟩ := obvE E
  refine Sv.mono (sX7_ends (N := N) (R := R) hF (by omega) e0) (fun h8 g8 hq => ?_)
  obtain ⟨rfl, rfl⟩ := hq
  exact (Option.some.inj E).symm
def pX7_thing_0 (N R : Nat) (F : Frm) (x1 : Nat) (x2 : Int32) (h : HI) (g : HL) : GO Int32 :=
  gd (isEb F x1) <|
  bnd ((F.2.1 x1).1 - 10) fun (k1 : Nat) =>
  obi (pv_alone N R k1 F x1 h g) fun (y2 : Int32) (h3 : HI) (g4 : HL) =>
  if y2 < 0 then
    if (h3 101 16) = 0 then
      if ((h3 101 4) - (h3 101 10)) = 1500 then
        pX7_thing_41 N R F h3 g4
      else
        ogi (ppX7_put N R F x1 x2 0 h3 g4) fun (y5 : Int32) (F8 : Frm) (h6 : HI) (g7 : HL) =>
        some (.inl (y5, F8, h6, g7))
    else
      pX7_thing_41 N R F h3 g4
  else
    obi (pv_alone N R k1 F x1 h3 g4) fun (y9 : Int32) (h10 : HI) (g11 : HL) =>
    gd (vin (x2 + y9) 24016) <|
    some (.inl ((h10 108 (ix (x2 + y9))), F, h10, g11))
theorem jX7_thing_0 {D : DE} {f N R : Nat} (hf : 0 ≤ f) {o9 : GQ Int32} : ∀ (F : Frm) (_ : k_Fix F) (x1 : Nat) (x2 : Int32) (h : HI) (g : HL), pX7_thing_0 N R F x1 x2 h g = some o9 → JX7_thing_0 D f (gqi o9) (gt o9) F h g x1 x2 := by
  intro F hF x1 x2 h g E
  unfold pX7_thing_0 at E
  obtain ⟨z0, E⟩ := gdE E; obtain ⟨k1, e1⟩ : ∃ k, k = (F.2.1 x1).1 - 10 := ⟨_, rfl⟩; replace E := bndE e1 E; have zEk1 : isE F x1 k1 := by rw [e1]; exact isEbE z0
  refine ⟨k1, zEk1, ?_⟩
  obtain ⟨y2, h3, g4, e0, E⟩ := obiE E
  refine Si.mono (sv_alone (N := N) (R := R) hF (by omega) zEk1 e0) (fun y8 h8 g8 hq => ?_)
  obtain ⟨rfl, rfl, rfl⟩ := hq
  refine ⟨fun c0 => ?_, fun c0 => ?_⟩
  · replace E := iteT c0 E
    refine ⟨fun c0 => ?_, fun c0 => ?_⟩
    · replace E := iteF c0 E
      exact jX7_thing_41 hf  _ hF _ _ E
    · replace E := iteT c0 E
      refine ⟨fun c0 => ?_, fun c0 => ?_⟩
      · replace E := iteF c0 E
        refine Gi.ob (fun o1 e0 => (sX7_put (N := N) (R := R) hF (by omega) e0)) E (fun y5 F8 h6 g7 hF E => ?_) (fun _ _ _ _ e => e)
        exact (Option.some.inj E).symm
      · replace E := iteT c0 E
        exact jX7_thing_41 hf  _ hF _ _ E
  · replace E := iteF c0 E
    obtain ⟨y9, h10, g11, e0, E⟩ := obiE E
    refine Si.mono (sv_alone (N := N) (R := R) hF (by omega) zEk1 e0) (fun y8 h8 g8 hq => ?_)
    obtain ⟨rfl, rfl, rfl⟩ := hq
    obtain ⟨z0, E⟩ := gdE E; refine ⟨vinE z0, ?_⟩
    exact (Option.some.inj E).symm
abbrev ppX7_thing (N R : Nat) (F : Frm) (x1 : Nat) (x2 : Int32) (h : HI) (g : HL) : GO Int32 := pX7_thing_0 N R F x1 x2 h g
theorem sX7_thing {D : DE} {f N R : Nat} {F : Frm} (hF : k_Fix F) (hf : 1 ≤ f) {o9 : GQ Int32} {x1 : Nat} {x2 : Int32} {h : HI} {g : HL} (E : ppX7_thing N R F x1 x2 h g = some o9) : Gi D f mX7_thing [.ref (ad D 101), .ref (ad D x1), .int x2] F h g (gqi o9) (gt o9) := by
  obtain ⟨f, rfl⟩ : ∃ f0, f = f0 + 1 := ⟨f - 1, by omega⟩
  have hf : 0 ≤ f := by omega
  exact wX7_thing (f := f) hF _ _ (jX7_thing_0 hf _ hF _ _ _ _ E)
def pX14_work_0 (N R : Nat) (F : Frm) (x0 : Nat) (x2 : Int32) (h : HI) (g : HL) : GO Int32 :=
  gd (decide (F.2.1 x0 = (22, 0))) <|
  some (.inl ((h x0 2), F, h, g))
theorem jX14_work_0 {D : DE} {f N R : Nat} (hf : 0 ≤ f) {o9 : GQ Int32} : ∀ (F : Frm) (_ : k_Fix F) (x0 : Nat) (x2 : Int32) (h : HI) (g : HL), pX14_work_0 N R F x0 x2 h g = some o9 → JX14_work_0 D f (gqi o9) (gt o9) F h g x0 x2 := by
  intro F hF x0 x2 h g E
  unfold pX14_work_0 at E
  obtain ⟨z0, E⟩ := gdE E; refine ⟨of_decide_eq_true z0, ?_⟩
  exact (Option.some.inj E).symm
abbrev ppX14_work (N R : Nat) (F : Frm) (x0 : Nat) (x2 : Int32) (h : HI) (g : HL) : GO Int32 := pX14_work_0 N R F x0 x2 h g
theorem sX14_work {D : DE} {f N R : Nat} {F : Frm} (hF : k_Fix F) (hf : 0 ≤ f) {o9 : GQ Int32} {x0 : Nat} {x2 : Int32} {h : HI} {g : HL} (E : ppX14_work N R F x0 x2 h g = some o9) : Gi D f mX14_work [.ref (ad D x0), .ref (ad D 101), .int x2] F h g (gqi o9) (gt o9) := by
  exact wX14_work (f := f) hF _ _ (jX14_work_0 hf _ hF _ _ _ _ E)
def pX15_work_0 (N R : Nat) (F : Frm) (x0 : Nat) (x2 : Int32) (h : HI) (g : HL) : GO Int32 :=
  obv (ppX7_ends N R F 2 h g) fun (h1 : HI) (g2 : HL) =>
  some (.inl (0, F, h1, g2))
theorem jX15_work_0 {D : DE} {f N R : Nat} (hf : 0 ≤ f) {o9 : GQ Int32} : ∀ (F : Frm) (_ : k_Fix F) (x0 : Nat) (x2 : Int32) (h : HI) (g : HL), pX15_work_0 N R F x0 x2 h g = some o9 → JX15_work_0 D f (gqi o9) (gt o9) F h g x0 x2 := by
  intro F hF x0 x2 h g E
  unfold pX15_work_0 at E
  obtain ⟨h1, g2, e0, E⟩ := obvE E
  refine Sv.mono (sX7_ends (N := N) (R := R) hF (by omega) e0) (fun h8 g8 hq => ?_)
  obtain ⟨rfl, rfl⟩ := hq
  exact (Option.some.inj E).symm
abbrev ppX15_work (N R : Nat) (F : Frm) (x0 : Nat) (x2 : Int32) (h : HI) (g : HL) : GO Int32 := pX15_work_0 N R F x0 x2 h g
theorem sX15_work {D : DE} {f N R : Nat} {F : Frm} (hF : k_Fix F) (hf : 1 ≤ f) {o9 : GQ Int32} {x0 : Nat} {x2 : Int32} {h : HI} {g : HL} (E : ppX15_work N R F x0 x2 h g = some o9) : Gi D f mX15_work [.ref (ad D x0), .ref (ad D 101), .int x2] F h g (gqi o9) (gt o9) := by
  obtain ⟨f, rfl⟩ : ∃ f0, f = f0 + 1 := ⟨f - 1, by omega⟩
  have hf : 0 ≤ f := by omega
  exact wX15_work (f := f) hF _ _ (jX15_work_0 hf _ hF _ _ _ _ E)
def pX7_pair_0 (N R : Nat) (F : Frm) (h : HI) (g : HL) : Option (Int32 × HI × HL) :=
  if ((h 101 7) - (h 101 11)) = 1500 then
    obv (ppX7_ends N R F 5 h g) fun (h2 : HI) (g3 : HL) =>
    some (0, h2, g3)
  else
    bnd (up2 h 101 7 ((h 101 7) + 1)) fun (h1 : HI) =>
    some (((h1 101 7) - 1), h1, g)
theorem jX7_pair_0 {D : DE} {f N R : Nat} (hf : 0 ≤ f) {y9 : Int32} {h9 : HI} {g9 : HL} : ∀ (F : Frm) (_ : k_Fix F) (h : HI) (g : HL), pX7_pair_0 N R F h g = some (y9, h9, g9) → JX7_pair_0 D f (eqi y9 h9 g9) F h g := by
  intro F hF h g E
  unfold pX7_pair_0 at E
  refine ⟨fun c0 => ?_, fun c0 => ?_⟩
  · replace E := iteF c0 E
    intro h1 e0; replace E := bndE e0 E
    cases E; exact ⟨rfl, rfl, rfl⟩
  · replace E := iteT c0 E
    obtain ⟨h2, g3, e0, E⟩ := obvE E
    refine Sv.mono (sX7_ends (N := N) (R := R) hF (by omega) e0) (fun h8 g8 hq => ?_)
    obtain ⟨rfl, rfl⟩ := hq
    cases E; exact ⟨rfl, rfl, rfl⟩
abbrev ppX7_pair (N R : Nat) (F : Frm) (h : HI) (g : HL) : Option (Int32 × HI × HL) := pX7_pair_0 N R F h g
theorem sX7_pair {D : DE} {f N R : Nat} {F : Frm} (hF : k_Fix F) (hf : 1 ≤ f) {y9 : Int32} {h9 : HI} {g9 : HL} {h : HI} {g : HL} (E : ppX7_pair N R F h g = some (y9, h9, g9)) : Si D f mX7_pair [.ref (ad D 101)] F h g (eqi y9 h9 g9) := by
  obtain ⟨f, rfl⟩ : ∃ f0, f = f0 + 1 := ⟨f - 1, by omega⟩
  have hf : 0 ≤ f := by omega
  exact wX7_pair (f := f) hF (jX7_pair_0 hf _ hF _ _ E)
def pX16_work_0 (N R : Nat) (F : Frm) (x0 : Nat) (x2 : Int32) (h : HI) (g : HL) : GO Int32 :=
  obi (ppX7_pair N R F h g) fun (y1 : Int32) (h2 : HI) (g3 : HL) =>
  if (h2 101 16) = 0 then
    gd (decide (F.2.1 x0 = (24, 0))) <|
    ob1 (F.2.2 x0 2) fun (b4 : Nat) =>
    ogi (ppX7_thing N R F b4 x2 h2 g3) fun (y5 : Int32) (F8 : Frm) (h6 : HI) (g7 : HL) =>
    gd (vin y1 1540) <|
    bnd (up2 h6 106 (ix y1) y5) fun (h9 : HI) =>
    gd (decide (F8.2.1 x0 = (24, 0))) <|
    ob1 (F8.2.2 x0 3) fun (b10 : Nat) =>
    ogi (ppX7_thing N R F8 b10 x2 h9 g7) fun (y11 : Int32) (F14 : Frm) (h12 : HI) (g13 : HL) =>
    gd (vin y1 1540) <|
    bnd (up2 h12 107 (ix y1) y11) fun (h15 : HI) =>
    some (.inl (y1, F14, h15, g13))
  else
    some (.inl (y1, F, h2, g3))
theorem jX16_work_0 {D : DE} {f N R : Nat} (hf : 1 ≤ f) {o9 : GQ Int32} : ∀ (F : Frm) (_ : k_Fix F) (x0 : Nat) (x2 : Int32) (h : HI) (g : HL), pX16_work_0 N R F x0 x2 h g = some o9 → JX16_work_0 D f (gqi o9) (gt o9) F h g x0 x2 := by
  intro F hF x0 x2 h g E
  unfold pX16_work_0 at E
  obtain ⟨y1, h2, g3, e0, E⟩ := obiE E
  refine Si.mono (sX7_pair (N := N) (R := R) hF (by omega) e0) (fun y8 h8 g8 hq => ?_)
  obtain ⟨rfl, rfl, rfl⟩ := hq
  refine ⟨fun c0 => ?_, fun c0 => ?_⟩
  · replace E := iteF c0 E
    exact (Option.some.inj E).symm
  · replace E := iteT c0 E
    obtain ⟨z0, E⟩ := gdE E; refine ⟨of_decide_eq_true z0, ?_⟩
    obtain ⟨b4, z0, E⟩ := ob1E E; refine ⟨b4, z0, ?_⟩
    refine Gi.ob (fun o1 e0 => (sX7_thing (N := N) (R := R) hF (by omega) e0)) E (fun y5 F8 h6 g7 hF E => ?_) (fun _ _ _ _ e => e)
    obtain ⟨z0, E⟩ := gdE E; refine ⟨vinE z0, ?_⟩
    intro h9 e0; replace E := bndE e0 E
    obtain ⟨z0, E⟩ := gdE E; refine ⟨of_decide_eq_true z0, ?_⟩
    obtain ⟨b10, z0, E⟩ := ob1E E; refine ⟨b10, z0, ?_⟩
    refine Gi.ob (fun o1 e0 => (sX7_thing (N := N) (R := R) hF (by omega) e0)) E (fun y11 F14 h12 g13 hF E => ?_) (fun _ _ _ _ e => e)
    obtain ⟨z0, E⟩ := gdE E; refine ⟨vinE z0, ?_⟩
    intro h15 e0; replace E := bndE e0 E
    exact (Option.some.inj E).symm
abbrev ppX16_work (N R : Nat) (F : Frm) (x0 : Nat) (x2 : Int32) (h : HI) (g : HL) : GO Int32 := pX16_work_0 N R F x0 x2 h g
theorem sX16_work {D : DE} {f N R : Nat} {F : Frm} (hF : k_Fix F) (hf : 2 ≤ f) {o9 : GQ Int32} {x0 : Nat} {x2 : Int32} {h : HI} {g : HL} (E : ppX16_work N R F x0 x2 h g = some o9) : Gi D f mX16_work [.ref (ad D x0), .ref (ad D 101), .int x2] F h g (gqi o9) (gt o9) := by
  obtain ⟨f, rfl⟩ : ∃ f0, f = f0 + 1 := ⟨f - 1, by omega⟩
  have hf : 1 ≤ f := by omega
  exact wX16_work (f := f) hF _ _ (jX16_work_0 hf _ hF _ _ _ _ E)
def pX7_call_0 (N R : Nat) (F : Frm) (h : HI) (g : HL) : Option (Int32 × HI × HL) :=
  if (h 101 9) = 1500 then
    obv (ppX7_ends N R F 5 h g) fun (h2 : HI) (g3 : HL) =>
    some (0, h2, g3)
  else
    bnd (up2 h 101 9 ((h 101 9) + 1)) fun (h1 : HI) =>
    some ((16 * (h1 101 9)), h1, g)
theorem jX7_call_0 {D : DE} {f N R : Nat} (hf : 0 ≤ f) {y9 : Int32} {h9 : HI} {g9 : HL} : ∀ (F : Frm) (_ : k_Fix F) (h : HI) (g : HL), pX7_call_0 N R F h g = some (y9, h9, g9) → JX7_call_0 D f (eqi y9 h9 g9) F h g := by
  intro F hF h g E
  unfold pX7_call_0 at E
  refine ⟨fun c0 => ?_, fun c0 => ?_⟩
  · replace E := iteF c0 E
    intro h1 e0; replace E := bndE e0 E
    cases E; exact ⟨rfl, rfl, rfl⟩
  · replace E := iteT c0 E
    obtain ⟨h2, g3, e0, E⟩ := obvE E
    refine Sv.mono (sX7_ends (N := N) (R := R) hF (by omega) e0) (fun h8 g8 hq => ?_)
    obtain ⟨rfl, rfl⟩ := hq
    cases E; exact ⟨rfl, rfl, rfl⟩
abbrev ppX7_call (N R : Nat) (F : Frm) (h : HI) (g : HL) : Option (Int32 × HI × HL) := pX7_call_0 N R F h g
theorem sX7_call {D : DE} {f N R : Nat} {F : Frm} (hF : k_Fix F) (hf : 1 ≤ f) {y9 : Int32} {h9 : HI} {g9 : HL} {h : HI} {g : HL} (E : ppX7_call N R F h g = some (y9, h9, g9)) : Si D f mX7_call [.ref (ad D 101)] F h g (eqi y9 h9 g9) := by
  obtain ⟨f, rfl⟩ : ∃ f0, f = f0 + 1 := ⟨f - 1, by omega⟩
  have hf : 0 ≤ f := by omega
  exact wX7_call (f := f) hF (jX7_call_0 hf _ hF _ _ E)
abbrev ty4 : Type := (Frm → Nat → Int32 → HI → HL → GO Int32) × (Frm → Nat → Int32 → HI → HL → GO Int32) × (Frm → Nat → Int32 → HI → HL → GO Int32) × (Frm → Nat → Int32 → HI → HL → GO Int32) × (Frm → Nat → Int32 → HI → HL → GO Int32) × (Frm → Nat → Int32 → HI → HL → GO Int32) × (Frm → Int32 → HI → HL → GO Int32) × (Frm → Nat → Int32 → HI → HL → GO Int32)
def ok4 (D : DE) (R f : Nat) (C : ty4) : Prop := (∀ (F : Frm) (_ : k_Fix F) (x0 : Nat) (x2 : Int32) (h : HI) (g : HL) (o9 : GQ Int32), C.1 F x0 x2 h g = some o9 → Gi D f mX11_work [.ref (ad D x0), .ref (ad D 101), .int x2] F h g (gqi o9) (gt o9)) ∧ (∀ (F : Frm) (_ : k_Fix F) (x0 : Nat) (x2 : Int32) (h : HI) (g : HL) (o9 : GQ Int32), C.2.1 F x0 x2 h g = some o9 → Gi D f mX12_work [.ref (ad D x0), .ref (ad D 101), .int x2] F h g (gqi o9) (gt o9)) ∧ (∀ (F : Frm) (_ : k_Fix F) (x0 : Nat) (x2 : Int32) (h : HI) (g : HL) (o9 : GQ Int32), C.2.2.1 F x0 x2 h g = some o9 → Gi D f mX13_work [.ref (ad D x0), .ref (ad D 101), .int x2] F h g (gqi o9) (gt o9)) ∧ (∀ (F : Frm) (_ : k_Fix F) (x0 : Nat) (x2 : Int32) (h : HI) (g : HL) (o9 : GQ Int32), C.2.2.2.1 F x0 x2 h g = some o9 → Gi D f mX17_work [.ref (ad D x0), .ref (ad D 101), .int x2] F h g (gqi o9) (gt o9)) ∧ (∀ (F : Frm) (_ : k_Fix F) (x0 : Nat) (x2 : Int32) (h : HI) (g : HL) (o9 : GQ Int32), C.2.2.2.2.1 F x0 x2 h g = some o9 → Gi D f mX18_work [.ref (ad D x0), .ref (ad D 101), .int x2] F h g (gqi o9) (gt o9)) ∧ (∀ (F : Frm) (_ : k_Fix F) (x0 : Nat) (x2 : Int32) (h : HI) (g : HL) (o9 : GQ Int32), C.2.2.2.2.2.1 F x0 x2 h g = some o9 → Gi D f mX19_work [.ref (ad D x0), .ref (ad D 101), .int x2] F h g (gqi o9) (gt o9)) ∧ (∀ (F : Frm) (_ : k_Fix F) (x1 : Int32) (h : HI) (g : HL) (o9 : GQ Int32), C.2.2.2.2.2.2.1 F x1 h g = some o9 → Gi D f mX7_need [.ref (ad D 101), .int x1] F h g (gqi o9) (gt o9)) ∧ (∀ (F : Frm) (_ : k_Fix F) (x1 : Nat) (x2 : Int32) (h : HI) (g : HL) (o9 : GQ Int32), C.2.2.2.2.2.2.2 F x1 x2 h g = some o9 → Gi D f mX7_work [.ref (ad D 101), .ref (ad D x1), .int x2] F h g (gqi o9) (gt o9))
def pv_work (N R : Nat) (C : ty4) (k : Nat) (F : Frm) (x0 : Nat) (x2 : Int32) (h : HI) (g : HL) : GO Int32 := match k with
  | 9 => C.1 F x0 x2 h g
  | 10 => C.2.1 F x0 x2 h g
  | 11 => C.2.2.1 F x0 x2 h g
  | 12 => ppX14_work N R F x0 x2 h g
  | 13 => ppX15_work N R F x0 x2 h g
  | 14 => ppX16_work N R F x0 x2 h g
  | 15 => C.2.2.2.1 F x0 x2 h g
  | 16 => C.2.2.2.2.1 F x0 x2 h g
  | 17 => C.2.2.2.2.2.1 F x0 x2 h g
  | _ => none
theorem sv_work {D : DE} {f N R : Nat} {C : ty4} {F : Frm} (hF : k_Fix F) (hf : 2 ≤ f) (hC : ok4 D R f C) {o9 : GQ Int32} {k : Nat} {x0 : Nat} {x2 : Int32} {h : HI} {g : HL} (zE : isE F x0 k) (E : pv_work N R C k F x0 x2 h g = some o9) : Gi D f (v_work k) [.ref (ad D x0), .ref (ad D 101), .int x2] F h g (gqi o9) (gt o9) := by
  obtain ⟨-, h1, h2⟩ := zE
  rcases isE.cases h1 h2 with rfl | rfl | rfl | rfl | rfl | rfl | rfl | rfl | rfl
  · exact hC.1 _ hF _ _ _ _ _ E
  · exact hC.2.1 _ hF _ _ _ _ _ E
  · exact hC.2.2.1 _ hF _ _ _ _ _ E
  · exact sX14_work (N := N) (R := R) hF (by omega) E
  · exact sX15_work (N := N) (R := R) hF (by omega) E
  · exact sX16_work (N := N) (R := R) hF (by omega) E
  · exact hC.2.2.2.1 _ hF _ _ _ _ _ E
  · exact hC.2.2.2.2.1 _ hF _ _ _ _ _ E
  · exact hC.2.2.2.2.2.1 _ hF _ _ _ _ _ E
def pX11_work_0 (N R : Nat) (C : ty4) (F : Frm) (x0 : Nat) (x2 : Int32) (h : HI) (g : HL) : GO Int32 :=
  gd (decide (F.2.1 x0 = (19, 0))) <|
  ob1 (F.2.2 x0 3) fun (b1 : Nat) =>
  ogi (ppX7_thing N R F b1 x2 h g) fun (y2 : Int32) (F5 : Frm) (h3 : HI) (g4 : HL) =>
  gd (vin (x2 + (h x0 2)) 24016) <|
  bnd (up2 h3 108 (ix (x2 + (h x0 2))) y2) fun (h6 : HI) =>
  gd (decide (F5.2.1 x0 = (19, 0))) <|
  ob1 (F5.2.2 x0 4) fun (b7 : Nat) =>
  ogi (C.2.2.2.2.2.2.2 F5 b7 x2 h6 g4) fun (y8 : Int32) (F11 : Frm) (h9 : HI) (g10 : HL) =>
  some (.inl (y8, F11, h9, g10))
theorem jX11_work_0 {D : DE} {f N R : Nat} (hf : 2 ≤ f) {C : ty4} (hC : ok4 D R f C) {o9 : GQ Int32} : ∀ (F : Frm) (_ : k_Fix F) (x0 : Nat) (x2 : Int32) (h : HI) (g : HL), pX11_work_0 N R C F x0 x2 h g = some o9 → JX11_work_0 D f (gqi o9) (gt o9) F h g x0 x2 := by
  intro F hF x0 x2 h g E
  unfold pX11_work_0 at E
  obtain ⟨z0, E⟩ := gdE E; refine ⟨of_decide_eq_true z0, ?_⟩
  obtain ⟨b1, z0, E⟩ := ob1E E; refine ⟨b1, z0, ?_⟩
  refine Gi.ob (fun o1 e0 => (sX7_thing (N := N) (R := R) hF (by omega) e0)) E (fun y2 F5 h3 g4 hF E => ?_) (fun _ _ _ _ e => e)
  obtain ⟨z0, E⟩ := gdE E; refine ⟨vinE z0, ?_⟩
  intro h6 e0; replace E := bndE e0 E
  obtain ⟨z0, E⟩ := gdE E; refine ⟨of_decide_eq_true z0, ?_⟩
  obtain ⟨b7, z0, E⟩ := ob1E E; refine ⟨b7, z0, ?_⟩
  refine Gi.ob (fun o1 e0 => (hC.2.2.2.2.2.2.2 _ hF _ _ _ _ _ e0)) E (fun y8 F11 h9 g10 hF E => ?_) (fun _ _ _ _ e => e)
  exact (Option.some.inj E).symm
theorem sX11_work_C {D : DE} {f N R : Nat} {C : ty4} {F : Frm} (hF : k_Fix F) (hf : 2 ≤ f) (hC : ok4 D R f C) {o9 : GQ Int32} {x0 : Nat} {x2 : Int32} {h : HI} {g : HL} (E : pX11_work_0 N R C F x0 x2 h g = some o9) : Gi D (f + 1) mX11_work [.ref (ad D x0), .ref (ad D 101), .int x2] F h g (gqi o9) (gt o9) := by
  exact wX11_work (f := f) hF _ _ (jX11_work_0 hf hC _ hF _ _ _ _ E)
def pX12_work_53 (N R : Nat) (C : ty4) (F : Frm) (x0 : Nat) (x2 : Int32) (h : HI) (g : HL) : GO Int32 :=
  gd (decide (F.2.1 x0 = (20, 0))) <|
  ob1 (F.2.2 x0 4) fun (b1 : Nat) =>
  ogi (C.2.2.2.2.2.2.2 F b1 x2 h g) fun (y2 : Int32) (F5 : Frm) (h3 : HI) (g4 : HL) =>
  some (.inl (y2, F5, h3, g4))
theorem jX12_work_53 {D : DE} {f N R : Nat} (hf : 2 ≤ f) {C : ty4} (hC : ok4 D R f C) {o9 : GQ Int32} : ∀ (F : Frm) (_ : k_Fix F) (x0 : Nat) (x2 : Int32) (h : HI) (g : HL), pX12_work_53 N R C F x0 x2 h g = some o9 → JX12_work_53 D f (gqi o9) (gt o9) F h g x0 x2 := by
  intro F hF x0 x2 h g E
  unfold pX12_work_53 at E
  obtain ⟨z0, E⟩ := gdE E; refine ⟨of_decide_eq_true z0, ?_⟩
  obtain ⟨b1, z0, E⟩ := ob1E E; refine ⟨b1, z0, ?_⟩
  refine Gi.ob (fun o1 e0 => (hC.2.2.2.2.2.2.2 _ hF _ _ _ _ _ e0)) E (fun y2 F5 h3 g4 hF E => ?_) (fun _ _ _ _ e => e)
  exact (Option.some.inj E).symm
def pX12_work_0 (N R : Nat) (C : ty4) (F : Frm) (x0 : Nat) (x2 : Int32) (h : HI) (g : HL) : GO Int32 :=
  gd (decide (F.2.1 x0 = (20, 0))) <|
  ob1 (F.2.2 x0 3) fun (b1 : Nat) =>
  ogi (C.2.2.2.2.2.2.2 F b1 x2 h g) fun (y2 : Int32) (F5 : Frm) (h3 : HI) (g4 : HL) =>
  if (h3 101 16) = 0 then
    gd (decide (F5.2.1 x0 = (20, 0))) <|
    gd (vin y2 1540) <|
    gd (vin (x2 + (h3 x0 2)) 24016) <|
    bnd (up2 h3 108 (ix (x2 + (h3 x0 2))) (h3 106 (ix y2))) fun (h6 : HI) =>
    gd (vin y2 1540) <|
    gd (vin ((x2 + (h6 x0 2)) + 1) 24016) <|
    bnd (up2 h6 108 (ix ((x2 + (h6 x0 2)) + 1)) (h6 107 (ix y2))) fun (h7 : HI) =>
    pX12_work_53 N R C F5 x0 x2 h7 g4
  else
    pX12_work_53 N R C F5 x0 x2 h3 g4
theorem jX12_work_0 {D : DE} {f N R : Nat} (hf : 2 ≤ f) {C : ty4} (hC : ok4 D R f C) {o9 : GQ Int32} : ∀ (F : Frm) (_ : k_Fix F) (x0 : Nat) (x2 : Int32) (h : HI) (g : HL), pX12_work_0 N R C F x0 x2 h g = some o9 → JX12_work_0 D f (gqi o9) (gt o9) F h g x0 x2 := by
  intro F hF x0 x2 h g E
  unfold pX12_work_0 at E
  obtain ⟨z0, E⟩ := gdE E; refine ⟨of_decide_eq_true z0, ?_⟩
  obtain ⟨b1, z0, E⟩ := ob1E E; refine ⟨b1, z0, ?_⟩
  refine Gi.ob (fun o1 e0 => (hC.2.2.2.2.2.2.2 _ hF _ _ _ _ _ e0)) E (fun y2 F5 h3 g4 hF E => ?_) (fun _ _ _ _ e => e)
  refine ⟨fun c0 => ?_, fun c0 => ?_⟩
  · replace E := iteF c0 E
    exact jX12_work_53 hf hC  _ hF _ _ _ _ E
  · replace E := iteT c0 E
    obtain ⟨z0, E⟩ := gdE E; refine ⟨of_decide_eq_true z0, ?_⟩
    obtain ⟨z0, E⟩ := gdE E; refine ⟨vinE z0, ?_⟩
    obtain ⟨z0, E⟩ := gdE E; refine ⟨vinE z0, ?_⟩
    intro h6 e0; replace E := bndE e0 E
    obtain ⟨z0, E⟩ := gdE E; refine ⟨vinE z0, ?_⟩
    obtain ⟨z0, E⟩ := gdE E; refine ⟨vinE z0, ?_⟩
    intro h7 e0; replace E := bndE e0 E
    exact jX12_work_53 hf hC  _ hF _ _ _ _ E
theorem sX12_work_C {D : DE} {f N R : Nat} {C : ty4} {F : Frm} (hF : k_Fix F) (hf : 2 ≤ f) (hC : ok4 D R f C) {o9 : GQ Int32} {x0 : Nat} {x2 : Int32} {h : HI} {g : HL} (E : pX12_work_0 N R C F x0 x2 h g = some o9) : Gi D (f + 1) mX12_work [.ref (ad D x0), .ref (ad D 101), .int x2] F h g (gqi o9) (gt o9) := by
  exact wX12_work (f := f) hF _ _ (jX12_work_0 hf hC _ hF _ _ _ _ E)
def pX13_work_0 (N R : Nat) (C : ty4) (F : Frm) (x0 : Nat) (x2 : Int32) (h : HI) (g : HL) : GO Int32 :=
  gd (decide (F.2.1 x0 = (21, 0))) <|
  ob1 (F.2.2 x0 2) fun (b1 : Nat) =>
  ogi (C.2.2.2.2.2.2.2 F b1 x2 h g) fun (y2 : Int32) (F5 : Frm) (h3 : HI) (g4 : HL) =>
  if y2 = 0 then
    gd (decide (F5.2.1 x0 = (21, 0))) <|
    ob1 (F5.2.2 x0 4) fun (b11 : Nat) =>
    ogi (C.2.2.2.2.2.2.2 F5 b11 x2 h3 g4) fun (y12 : Int32) (F15 : Frm) (h13 : HI) (g14 : HL) =>
    some (.inl (y12, F15, h13, g14))
  else
    gd (decide (F5.2.1 x0 = (21, 0))) <|
    ob1 (F5.2.2 x0 3) fun (b6 : Nat) =>
    ogi (C.2.2.2.2.2.2.2 F5 b6 x2 h3 g4) fun (y7 : Int32) (F10 : Frm) (h8 : HI) (g9 : HL) =>
    some (.inl (y7, F10, h8, g9))
theorem jX13_work_0 {D : DE} {f N R : Nat} (hf : 2 ≤ f) {C : ty4} (hC : ok4 D R f C) {o9 : GQ Int32} : ∀ (F : Frm) (_ : k_Fix F) (x0 : Nat) (x2 : Int32) (h : HI) (g : HL), pX13_work_0 N R C F x0 x2 h g = some o9 → JX13_work_0 D f (gqi o9) (gt o9) F h g x0 x2 := by
  intro F hF x0 x2 h g E
  unfold pX13_work_0 at E
  obtain ⟨z0, E⟩ := gdE E; refine ⟨of_decide_eq_true z0, ?_⟩
  obtain ⟨b1, z0, E⟩ := ob1E E; refine ⟨b1, z0, ?_⟩
  refine Gi.ob (fun o1 e0 => (hC.2.2.2.2.2.2.2 _ hF _ _ _ _ _ e0)) E (fun y2 F5 h3 g4 hF E => ?_) (fun _ _ _ _ e => e)
  refine ⟨fun c0 => ?_, fun c0 => ?_⟩
  · replace E := iteF c0 E
    obtain ⟨z0, E⟩ := gdE E; refine ⟨of_decide_eq_true z0, ?_⟩
    obtain ⟨b6, z0, E⟩ := ob1E E; refine ⟨b6, z0, ?_⟩
    refine Gi.ob (fun o1 e0 => (hC.2.2.2.2.2.2.2 _ hF _ _ _ _ _ e0)) E (fun y7 F10 h8 g9 hF E => ?_) (fun _ _ _ _ e => e)
    exact (Option.some.inj E).symm
  · replace E := iteT c0 E
    obtain ⟨z0, E⟩ := gdE E; refine ⟨of_decide_eq_true z0, ?_⟩
    obtain ⟨b11, z0, E⟩ := ob1E E; refine ⟨b11, z0, ?_⟩
    refine Gi.ob (fun o1 e0 => (hC.2.2.2.2.2.2.2 _ hF _ _ _ _ _ e0)) E (fun y12 F15 h13 g14 hF E => ?_) (fun _ _ _ _ e => e)
    exact (Option.some.inj E).symm
theorem sX13_work_C {D : DE} {f N R : Nat} {C : ty4} {F : Frm} (hF : k_Fix F) (hf : 2 ≤ f) (hC : ok4 D R f C) {o9 : GQ Int32} {x0 : Nat} {x2 : Int32} {h : HI} {g : HL} (E : pX13_work_0 N R C F x0 x2 h g = some o9) : Gi D (f + 1) mX13_work [.ref (ad D x0), .ref (ad D 101), .int x2] F h g (gqi o9) (gt o9) := by
  exact wX13_work (f := f) hF _ _ (jX13_work_0 hf hC _ hF _ _ _ _ E)
def pX17_work_51 (N R : Nat) (C : ty4) (F : Frm) (x0 : Nat) (x3 : Int32) (h : HI) (g : HL) : GO Int32 :=
  if (h 101 16) = 0 then
    gd (decide (F.2.1 x0 = (25, 0))) <|
    ob1 (F.2.2 x0 2) fun (b1 : Nat) =>
    gd (decide (F.2.1 b1 = (18, 0))) <|
    ob1 (F.2.2 b1 6) fun (b2 : Nat) =>
    ogi (C.2.2.2.2.2.2.2 F b2 x3 h g) fun (y3 : Int32) (F6 : Frm) (h4 : HI) (g5 : HL) =>
    some (.inl (y3, F6, h4, g5))
  else
    some (.inl (0, F, h, g))
theorem jX17_work_51 {D : DE} {f N R : Nat} (hf : 2 ≤ f) {C : ty4} (hC : ok4 D R f C) {o9 : GQ Int32} : ∀ (F : Frm) (_ : k_Fix F) (x0 : Nat) (x3 : Int32) (h : HI) (g : HL), pX17_work_51 N R C F x0 x3 h g = some o9 → JX17_work_51 D f (gqi o9) (gt o9) F h g x0 x3 := by
  intro F hF x0 x3 h g E
  unfold pX17_work_51 at E
  refine ⟨fun c0 => ?_, fun c0 => ?_⟩
  · replace E := iteF c0 E
    exact (Option.some.inj E).symm
  · replace E := iteT c0 E
    obtain ⟨z0, E⟩ := gdE E; refine ⟨of_decide_eq_true z0, ?_⟩
    obtain ⟨b1, z0, E⟩ := ob1E E; refine ⟨b1, z0, ?_⟩
    obtain ⟨z0, E⟩ := gdE E; refine ⟨of_decide_eq_true z0, ?_⟩
    obtain ⟨b2, z0, E⟩ := ob1E E; refine ⟨b2, z0, ?_⟩
    refine Gi.ob (fun o1 e0 => (hC.2.2.2.2.2.2.2 _ hF _ _ _ _ _ e0)) E (fun y3 F6 h4 g5 hF E => ?_) (fun _ _ _ _ e => e)
    exact (Option.some.inj E).symm
def pX17_work_8 (N R : Nat) (C : ty4) : Nat → Frm → Nat → Int32 → Int32 → Int32 → HI → HL → GO Int32
  | 0, _, _, _, _, _, _, _ => none
  | n + 1, F, x0, x2, x3, x4, h, g =>
    gd (decide (F.2.1 x0 = (25, 0))) <|
    if (h x0 4) ≤ x4 then
      pX17_work_51 N R C F x0 x3 h g
    else
      if (h 101 16) = 0 then
        ob1 (F.2.2 x0 3) fun (b1 : Nat) =>
        gd (decide ((F.2.1 b1).1 = 5)) <|
        bnd ((F.2.1 b1).2) fun (m2 : Nat) =>
        gd (vin x4 m2) <|
        ob1 (F.2.2 b1 (ix x4)) fun (b3 : Nat) =>
        ogi (ppX7_thing N R F b3 x2 h g) fun (y4 : Int32) (F7 : Frm) (h5 : HI) (g6 : HL) =>
        gd (vin (x3 + x4) 24016) <|
        bnd (up2 h5 108 (ix (x3 + x4)) y4) fun (h8 : HI) =>
        bnd (x4 + 1) fun (y9 : Int32) =>
        (pX17_work_8 N R C n) F7 x0 x2 x3 y9 h8 g6
      else
        pX17_work_51 N R C F x0 x3 h g
theorem lX17_work_8 {D : DE} {f N R : Nat} (hf : 2 ≤ f) {C : ty4} (hC : ok4 D R f C) {o9 : GQ Int32} : ∀ (n : Nat) (F : Frm) (_ : k_Fix F) (x0 : Nat) (x2 : Int32) (x3 : Int32) (x4 : Int32) (h : HI) (g : HL), pX17_work_8 N R C n F x0 x2 x3 x4 h g = some o9 → V D mX17_work (f + 1) (gi (gqi o9) (gt o9)) 8 [(0, .ref (ad D x0)), (1, .ref (ad D 101)), (2, .int x2), (3, .int x3), (4, .int x4)] [] (F, h, g) := by
  intro n
  induction n with
  | zero => intro F hF x0 x2 x3 x4 h g E; cases E
  | succ n hK8 =>
    intro F hF x0 x2 x3 x4 h g E
    rw [pX17_work_8] at E
    refine bX17_work_8 (f := f) hF x0 x2 x3 x4  ?_
    obtain ⟨z0, E⟩ := gdE E; refine ⟨of_decide_eq_true z0, ?_⟩
    refine ⟨fun c0 => ?_, fun c0 => ?_⟩
    · replace E := iteT c0 E
      exact jX17_work_51 hf hC  _ hF _ _ _ _ E
    · replace E := iteF c0 E
      refine ⟨fun c0 => ?_, fun c0 => ?_⟩
      · replace E := iteF c0 E
        exact jX17_work_51 hf hC  _ hF _ _ _ _ E
      · replace E := iteT c0 E
        obtain ⟨b1, z0, E⟩ := ob1E E; refine ⟨b1, z0, ?_⟩
        obtain ⟨z0, E⟩ := gdE E; replace E := bndE rfl E; refine ⟨_, shE (of_decide_eq_true z0), ?_⟩
        obtain ⟨z0, E⟩ := gdE E; refine ⟨vinE z0, ?_⟩
        obtain ⟨b3, z0, E⟩ := ob1E E; refine ⟨b3, z0, ?_⟩
        refine Gi.ob (fun o1 e0 => (sX7_thing (N := N) (R := R) hF (by omega) e0)) E (fun y4 F7 h5 g6 hF E => ?_) (fun _ _ _ _ e => e)
        obtain ⟨z0, E⟩ := gdE E; refine ⟨vinE z0, ?_⟩
        intro h8 e0; replace E := bndE e0 E
        intro y9 e0; replace E := bndE e0 E
        exact hK8 _ hF _ _ _ _ _ _ E
def pX17_work_0 (N R : Nat) (C : ty4) (F : Frm) (x0 : Nat) (x2 : Int32) (h : HI) (g : HL) : GO Int32 :=
  obi (ppX7_call N R F h g) fun (y1 : Int32) (h2 : HI) (g3 : HL) =>
  pX17_work_8 N R C N F x0 x2 y1 0 h2 g3
theorem jX17_work_0 {D : DE} {f N R : Nat} (hf : 2 ≤ f) {C : ty4} (hC : ok4 D R f C) {o9 : GQ Int32} : ∀ (F : Frm) (_ : k_Fix F) (x0 : Nat) (x2 : Int32) (h : HI) (g : HL), pX17_work_0 N R C F x0 x2 h g = some o9 → JX17_work_0 D f (gqi o9) (gt o9) F h g x0 x2 := by
  intro F hF x0 x2 h g E
  unfold pX17_work_0 at E
  obtain ⟨y1, h2, g3, e0, E⟩ := obiE E
  refine Si.mono (sX7_call (N := N) (R := R) hF (by omega) e0) (fun y8 h8 g8 hq => ?_)
  obtain ⟨rfl, rfl, rfl⟩ := hq
  exact lX17_work_8 hf hC  N _ hF _ _ _ _ _ _ E
theorem sX17_work_C {D : DE} {f N R : Nat} {C : ty4} {F : Frm} (hF : k_Fix F) (hf : 2 ≤ f) (hC : ok4 D R f C) {o9 : GQ Int32} {x0 : Nat} {x2 : Int32} {h : HI} {g : HL} (E : pX17_work_0 N R C F x0 x2 h g = some o9) : Gi D (f + 1) mX17_work [.ref (ad D x0), .ref (ad D 101), .int x2] F h g (gqi o9) (gt o9) := by
  exact wX17_work (f := f) hF _ _ (jX17_work_0 hf hC _ hF _ _ _ _ E)
def pX18_work_0 (N R : Nat) (C : ty4) (F : Frm) (x0 : Nat) (x2 : Int32) (h : HI) (g : HL) : GO Int32 :=
  gd (decide (F.2.1 x0 = (26, 0))) <|
  gd (vin (x2 + (h x0 2)) 24016) <|
  ogi (C.2.2.2.2.2.2.1 F (h 108 (ix (x2 + (h x0 2)))) h g) fun (y1 : Int32) (F4 : Frm) (h2 : HI) (g3 : HL) =>
  some (.inl (y1, F4, h2, g3))
theorem jX18_work_0 {D : DE} {f N R : Nat} (hf : 2 ≤ f) {C : ty4} (hC : ok4 D R f C) {o9 : GQ Int32} : ∀ (F : Frm) (_ : k_Fix F) (x0 : Nat) (x2 : Int32) (h : HI) (g : HL), pX18_work_0 N R C F x0 x2 h g = some o9 → JX18_work_0 D f (gqi o9) (gt o9) F h g x0 x2 := by
  intro F hF x0 x2 h g E
  unfold pX18_work_0 at E
  obtain ⟨z0, E⟩ := gdE E; refine ⟨of_decide_eq_true z0, ?_⟩
  obtain ⟨z0, E⟩ := gdE E; refine ⟨vinE z0, ?_⟩
  refine Gi.ob (fun o1 e0 => (hC.2.2.2.2.2.2.1 _ hF _ _ _ _ e0)) E (fun y1 F4 h2 g3 hF E => ?_) (fun _ _ _ _ e => e)
  exact (Option.some.inj E).symm
theorem sX18_work_C {D : DE} {f N R : Nat} {C : ty4} {F : Frm} (hF : k_Fix F) (hf : 2 ≤ f) (hC : ok4 D R f C) {o9 : GQ Int32} {x0 : Nat} {x2 : Int32} {h : HI} {g : HL} (E : pX18_work_0 N R C F x0 x2 h g = some o9) : Gi D (f + 1) mX18_work [.ref (ad D x0), .ref (ad D 101), .int x2] F h g (gqi o9) (gt o9) := by
  exact wX18_work (f := f) hF _ _ (jX18_work_0 hf hC _ hF _ _ _ _ E)
def pX19_work_0 (N R : Nat) (C : ty4) (F : Frm) (x0 : Nat) (x2 : Int32) (h : HI) (g : HL) : GO Int32 :=
  gd (decide (F.2.1 x0 = (27, 0))) <|
  ob1 (F.2.2 x0 3) fun (b1 : Nat) =>
  ogi (C.2.2.2.2.2.2.2 F b1 x2 h g) fun (y2 : Int32) (F5 : Frm) (h3 : HI) (g4 : HL) =>
  gd (decide (F5.2.1 x0 = (27, 0))) <|
  ob1 (F5.2.2 x0 4) fun (b6 : Nat) =>
  ogi (C.2.2.2.2.2.2.2 F5 b6 x2 h3 g4) fun (y7 : Int32) (F10 : Frm) (h8 : HI) (g9 : HL) =>
  gd (decide (F10.2.1 x0 = (27, 0))) <|
  bnd (h8 x0 2) fun (y11 : Int32) =>
  if y11.toInt < 6 ∨ 9 < y11.toInt then
    if y2 = y7 then
      some (.inl (1, F10, h8, g9))
    else
      some (.inl (0, F10, h8, g9))
  else if y11 = 6 then
    some (.inl ((y2 + y7), F10, h8, g9))
  else if y11 = 7 then
    some (.inl ((y2 - y7), F10, h8, g9))
  else if y11 = 8 then
    some (.inl ((y2 * y7), F10, h8, g9))
  else
    if y7 ≤ y2 then
      some (.inl (0, F10, h8, g9))
    else
      some (.inl (1, F10, h8, g9))
theorem jX19_work_0 {D : DE} {f N R : Nat} (hf : 2 ≤ f) {C : ty4} (hC : ok4 D R f C) {o9 : GQ Int32} : ∀ (F : Frm) (_ : k_Fix F) (x0 : Nat) (x2 : Int32) (h : HI) (g : HL), pX19_work_0 N R C F x0 x2 h g = some o9 → JX19_work_0 D f (gqi o9) (gt o9) F h g x0 x2 := by
  intro F hF x0 x2 h g E
  unfold pX19_work_0 at E
  obtain ⟨z0, E⟩ := gdE E; refine ⟨of_decide_eq_true z0, ?_⟩
  obtain ⟨b1, z0, E⟩ := ob1E E; refine ⟨b1, z0, ?_⟩
  refine Gi.ob (fun o1 e0 => (hC.2.2.2.2.2.2.2 _ hF _ _ _ _ _ e0)) E (fun y2 F5 h3 g4 hF E => ?_) (fun _ _ _ _ e => e)
  obtain ⟨z0, E⟩ := gdE E; refine ⟨of_decide_eq_true z0, ?_⟩
  obtain ⟨b6, z0, E⟩ := ob1E E; refine ⟨b6, z0, ?_⟩
  refine Gi.ob (fun o1 e0 => (hC.2.2.2.2.2.2.2 _ hF _ _ _ _ _ e0)) E (fun y7 F10 h8 g9 hF E => ?_) (fun _ _ _ _ e => e)
  obtain ⟨z0, E⟩ := gdE E; refine ⟨of_decide_eq_true z0, ?_⟩
  intro y11 e0; replace E := bndE e0 E
  refine ⟨fun c0 => ?_, fun c0 => ?_, fun c0 => ?_, fun c0 => ?_, fun c0 => ?_⟩
  · replace E := iteT c0 E
    refine ⟨fun c0 => ?_, fun c0 => ?_⟩
    · replace E := iteF c0 E
      exact (Option.some.inj E).symm
    · replace E := iteT c0 E
      exact (Option.some.inj E).symm
  · replace E := iteF (by rw [c0]; decide) E
    replace E := iteT c0 E
    exact (Option.some.inj E).symm
  · replace E := iteF (by rw [c0]; decide) E
    replace E := iteF (by rw [c0]; decide) E
    replace E := iteT c0 E
    exact (Option.some.inj E).symm
  · replace E := iteF (by rw [c0]; decide) E
    replace E := iteF (by rw [c0]; decide) E
    replace E := iteF (by rw [c0]; decide) E
    replace E := iteT c0 E
    exact (Option.some.inj E).symm
  · replace E := iteF (by rw [c0]; decide) E
    replace E := iteF (by rw [c0]; decide) E
    replace E := iteF (by rw [c0]; decide) E
    replace E := iteF (by rw [c0]; decide) E
    refine ⟨fun c0 => ?_, fun c0 => ?_⟩
    · replace E := iteT c0 E
      exact (Option.some.inj E).symm
    · replace E := iteF c0 E
      exact (Option.some.inj E).symm
theorem sX19_work_C {D : DE} {f N R : Nat} {C : ty4} {F : Frm} (hF : k_Fix F) (hf : 2 ≤ f) (hC : ok4 D R f C) {o9 : GQ Int32} {x0 : Nat} {x2 : Int32} {h : HI} {g : HL} (E : pX19_work_0 N R C F x0 x2 h g = some o9) : Gi D (f + 1) mX19_work [.ref (ad D x0), .ref (ad D 101), .int x2] F h g (gqi o9) (gt o9) := by
  exact wX19_work (f := f) hF _ _ (jX19_work_0 hf hC _ hF _ _ _ _ E)
def pX7_need_15 (N R : Nat) (C : ty4) (F : Frm) (x1 : Int32) (h : HI) (g : HL) : GO Int32 :=
  gd (vin x1 1540) <|
  if (h 104 (ix x1)) = 2 then
    gd (vin x1 1540) <|
    some (.inl ((h 105 (ix x1)), F, h, g))
  else
    gd (vin x1 1540) <|
    if (h 104 (ix x1)) = 0 then
      gd (vin x1 1540) <|
      bnd (up2 h 104 (ix x1) (1 : Int32).toInt8.toInt32) fun (h1 : HI) =>
      gd (vin x1 1540) <|
      ob1 (F.2.2 102 (ix x1)) fun (b2 : Nat) =>
      gd (vin x1 1540) <|
      ogi (C.2.2.2.2.2.2.2 F b2 (h1 103 (ix x1)) h1 g) fun (y3 : Int32) (F6 : Frm) (h4 : HI) (g5 : HL) =>
      if (h4 101 16) = 0 then
        gd (vin x1 1540) <|
        bnd (up2 h4 104 (ix x1) (2 : Int32).toInt8.toInt32) fun (h7 : HI) =>
        gd (vin x1 1540) <|
        bnd (up2 h7 105 (ix x1) y3) fun (h8 : HI) =>
        some (.inl (y3, F6, h8, g5))
      else
        some (.inl (y3, F6, h4, g5))
    else
      obv (ppX7_ends N R F 2 h g) fun (h9 : HI) (g10 : HL) =>
      some (.inl (0, F, h9, g10))
theorem jX7_need_15 {D : DE} {f N R : Nat} (hf : 2 ≤ f) {C : ty4} (hC : ok4 D R f C) {o9 : GQ Int32} : ∀ (F : Frm) (_ : k_Fix F) (x1 : Int32) (h : HI) (g : HL), pX7_need_15 N R C F x1 h g = some o9 → JX7_need_15 D f (gqi o9) (gt o9) F h g x1 := by
  intro F hF x1 h g E
  unfold pX7_need_15 at E
  obtain ⟨z0, E⟩ := gdE E; refine ⟨vinE z0, ?_⟩
  refine ⟨fun c0 => ?_, fun c0 => ?_⟩
  · replace E := iteF c0 E
    obtain ⟨z0, E⟩ := gdE E; refine ⟨vinE z0, ?_⟩
    refine ⟨fun c0 => ?_, fun c0 => ?_⟩
    · replace E := iteT c0 E
      obtain ⟨z0, E⟩ := gdE E; refine ⟨vinE z0, ?_⟩
      intro h1 e0; replace E := bndE e0 E
      obtain ⟨z0, E⟩ := gdE E; refine ⟨vinE z0, ?_⟩
      obtain ⟨b2, z0, E⟩ := ob1E E; refine ⟨b2, z0, ?_⟩
      obtain ⟨z0, E⟩ := gdE E; refine ⟨vinE z0, ?_⟩
      refine Gi.ob (fun o1 e0 => (hC.2.2.2.2.2.2.2 _ hF _ _ _ _ _ e0)) E (fun y3 F6 h4 g5 hF E => ?_) (fun _ _ _ _ e => e)
      refine ⟨fun c0 => ?_, fun c0 => ?_⟩
      · replace E := iteF c0 E
        exact (Option.some.inj E).symm
      · replace E := iteT c0 E
        obtain ⟨z0, E⟩ := gdE E; refine ⟨vinE z0, ?_⟩
        intro h7 e0; replace E := bndE e0 E
        obtain ⟨z0, E⟩ := gdE E; refine ⟨vinE z0, ?_⟩
        intro h8 e0; replace E := bndE e0 E
        exact (Option.some.inj E).symm
    · replace E := iteF c0 E
      obtain ⟨h9, g10, e0, E⟩ := obvE E
      refine Sv.mono (sX7_ends (N := N) (R := R) hF (by omega) e0) (fun h8 g8 hq => ?_)
      obtain ⟨rfl, rfl⟩ := hq
      exact (Option.some.inj E).symm
  · replace E := iteT c0 E
    obtain ⟨z0, E⟩ := gdE E; refine ⟨vinE z0, ?_⟩
    exact (Option.some.inj E).symm
def pX7_need_0 (N R : Nat) (C : ty4) (F : Frm) (x1 : Int32) (h : HI) (g : HL) : GO Int32 :=
  if (h 101 10) ≤ x1 then
    pX7_need_15 N R C F x1 h g
  else
    gd (vin x1 40) <|
    bnd (up2 h 109 (ix x1) 1) fun (h1 : HI) =>
    pX7_need_15 N R C F x1 h1 g
theorem jX7_need_0 {D : DE} {f N R : Nat} (hf : 2 ≤ f) {C : ty4} (hC : ok4 D R f C) {o9 : GQ Int32} : ∀ (F : Frm) (_ : k_Fix F) (x1 : Int32) (h : HI) (g : HL), pX7_need_0 N R C F x1 h g = some o9 → JX7_need_0 D f (gqi o9) (gt o9) F h g x1 := by
  intro F hF x1 h g E
  unfold pX7_need_0 at E
  refine ⟨fun c0 => ?_, fun c0 => ?_⟩
  · replace E := iteT c0 E
    exact jX7_need_15 hf hC  _ hF _ _ _ E
  · replace E := iteF c0 E
    obtain ⟨z0, E⟩ := gdE E; refine ⟨vinE z0, ?_⟩
    intro h1 e0; replace E := bndE e0 E
    exact jX7_need_15 hf hC  _ hF _ _ _ E
theorem sX7_need_C {D : DE} {f N R : Nat} {C : ty4} {F : Frm} (hF : k_Fix F) (hf : 2 ≤ f) (hC : ok4 D R f C) {o9 : GQ Int32} {x1 : Int32} {h : HI} {g : HL} (E : pX7_need_0 N R C F x1 h g = some o9) : Gi D (f + 1) mX7_need [.ref (ad D 101), .int x1] F h g (gqi o9) (gt o9) := by
  exact wX7_need (f := f) hF _ (jX7_need_0 hf hC _ hF _ _ _ E)
def pX7_work_30 (N R : Nat) (C : ty4) (F : Frm) (h : HI) (g : HL) : GO Int32 :=
  if (h 101 13) = (h 101 12) then
    obv (ppX7_ends N R F 3 h g) fun (h3 : HI) (g4 : HL) =>
    some (.inl (0, F, h3, g4))
  else
    obv (ppX7_ends N R F 4 h g) fun (h1 : HI) (g2 : HL) =>
    some (.inl (0, F, h1, g2))
theorem jX7_work_30 {D : DE} {f N R : Nat} (hf : 2 ≤ f) {C : ty4} (hC : ok4 D R f C) {o9 : GQ Int32} : ∀ (F : Frm) (_ : k_Fix F) (h : HI) (g : HL), pX7_work_30 N R C F h g = some o9 → JX7_work_30 D f (gqi o9) (gt o9) F h g := by
  intro F hF h g E
  unfold pX7_work_30 at E
  refine ⟨fun c0 => ?_, fun c0 => ?_⟩
  · replace E := iteF c0 E
    obtain ⟨h1, g2, e0, E⟩ := obvE E
    refine Sv.mono (sX7_ends (N := N) (R := R) hF (by omega) e0) (fun h8 g8 hq => ?_)
    obtain ⟨rfl, rfl⟩ := hq
    exact (Option.some.inj E).symm
  · replace E := iteT c0 E
    obtain ⟨h3, g4, e0, E⟩ := obvE E
    refine Sv.mono (sX7_ends (N := N) (R := R) hF (by omega) e0) (fun h8 g8 hq => ?_)
    obtain ⟨rfl, rfl⟩ := hq
    exact (Option.some.inj E).symm
def pX7_work_0 (N R : Nat) (C : ty4) (F : Frm) (x1 : Nat) (x2 : Int32) (h : HI) (g : HL) : GO Int32 :=
  if (h 101 16) = 0 then
    if (h 101 13) = (h 101 12) then
      pX7_work_30 N R C F h g
    else
      if (h 101 14) = 150 then
        pX7_work_30 N R C F h g
      else
        bnd (up2 h 101 13 ((h 101 13) + 1)) fun (h1 : HI) =>
        bnd (up2 h1 101 14 ((h1 101 14) + 1)) fun (h2 : HI) =>
        bnd (if (h2 101 15) < (h2 101 14) then (h2 101 14) else (h2 101 15)) fun (y3 : Int32) =>
        bnd (up2 h2 101 15 y3) fun (h4 : HI) =>
        gd (isEb F x1) <|
        bnd ((F.2.1 x1).1 - 10) fun (k5 : Nat) =>
        ogi (pv_work N R C k5 F x1 x2 h4 g) fun (y6 : Int32) (F9 : Frm) (h7 : HI) (g8 : HL) =>
        bnd (up2 h7 101 14 ((h7 101 14) - 1)) fun (h10 : HI) =>
        some (.inl (y6, F9, h10, g8))
  else
    some (.inl (0, F, h, g))
theorem jX7_work_0 {D : DE} {f N R : Nat} (hf : 2 ≤ f) {C : ty4} (hC : ok4 D R f C) {o9 : GQ Int32} : ∀ (F : Frm) (_ : k_Fix F) (x1 : Nat) (x2 : Int32) (h : HI) (g : HL), pX7_work_0 N R C F x1 x2 h g = some o9 → JX7_work_0 D f (gqi o9) (gt o9) F h g x1 x2 := by
  intro F hF x1 x2 h g E
  unfold pX7_work_0 at E
  refine ⟨fun c0 => ?_, fun c0 => ?_⟩
  · replace E := iteT c0 E
    refine ⟨fun c0 => ?_, fun c0 => ?_⟩
    · replace E := iteT c0 E
      exact jX7_work_30 hf hC  _ hF _ _ E
    · replace E := iteF c0 E
      refine ⟨fun c0 => ?_, fun c0 => ?_⟩
      · replace E := iteF c0 E
        intro h1 e0; replace E := bndE e0 E
        intro h2 e0; replace E := bndE e0 E
        intro y3 e0; replace E := bndE e0 E
        intro h4 e0; replace E := bndE e0 E
        obtain ⟨z0, E⟩ := gdE E; obtain ⟨k5, e1⟩ : ∃ k, k = (F.2.1 x1).1 - 10 := ⟨_, rfl⟩; replace E := bndE e1 E; have zEk5 : isE F x1 k5 := by rw [e1]; exact isEbE z0
        refine ⟨k5, zEk5, ?_⟩
        refine Gi.ob (fun o1 e0 => (sv_work (N := N) (R := R) hF (by omega) hC zEk5 e0)) E (fun y6 F9 h7 g8 hF E => ?_) (fun _ _ _ _ e => e)
        intro h10 e0; replace E := bndE e0 E
        exact (Option.some.inj E).symm
      · replace E := iteT c0 E
        exact jX7_work_30 hf hC  _ hF _ _ E
  · replace E := iteF c0 E
    exact (Option.some.inj E).symm
theorem sX7_work_C {D : DE} {f N R : Nat} {C : ty4} {F : Frm} (hF : k_Fix F) (hf : 2 ≤ f) (hC : ok4 D R f C) {o9 : GQ Int32} {x1 : Nat} {x2 : Int32} {h : HI} {g : HL} (E : pX7_work_0 N R C F x1 x2 h g = some o9) : Gi D (f + 1) mX7_work [.ref (ad D 101), .ref (ad D x1), .int x2] F h g (gqi o9) (gt o9) := by
  exact wX7_work (f := f) hF _ _ (jX7_work_0 hf hC _ hF _ _ _ _ E)
def tie4 (N R : Nat) : Nat → ty4
  | 0 => ((fun _ _ _ _ _ => none), (fun _ _ _ _ _ => none), (fun _ _ _ _ _ => none), (fun _ _ _ _ _ => none), (fun _ _ _ _ _ => none), (fun _ _ _ _ _ => none), (fun _ _ _ _ => none), (fun _ _ _ _ _ => none))
  | n + 1 => ((fun F x0 x2 h g => pX11_work_0 N R (tie4 N R n) F x0 x2 h g), (fun F x0 x2 h g => pX12_work_0 N R (tie4 N R n) F x0 x2 h g), (fun F x0 x2 h g => pX13_work_0 N R (tie4 N R n) F x0 x2 h g), (fun F x0 x2 h g => pX17_work_0 N R (tie4 N R n) F x0 x2 h g), (fun F x0 x2 h g => pX18_work_0 N R (tie4 N R n) F x0 x2 h g), (fun F x0 x2 h g => pX19_work_0 N R (tie4 N R n) F x0 x2 h g), (fun F x1 h g => pX7_need_0 N R (tie4 N R n) F x1 h g), (fun F x1 x2 h g => pX7_work_0 N R (tie4 N R n) F x1 x2 h g))
theorem tie4_ok {D : DE} {N R : Nat} : ∀ (n f : Nat), 2 + n ≤ f → ok4 D R f (tie4 N R n) := by
  intro n
  induction n with
  | zero =>
    intro f hf
    exact ⟨fun _ _ _ _ _ _ _ E => (by cases E), fun _ _ _ _ _ _ _ E => (by cases E), fun _ _ _ _ _ _ _ E => (by cases E), fun _ _ _ _ _ _ _ E => (by cases E), fun _ _ _ _ _ _ _ E => (by cases E), fun _ _ _ _ _ _ _ E => (by cases E), fun _ _ _ _ _ _ E => (by cases E), fun _ _ _ _ _ _ _ E => (by cases E)⟩
  | succ n ih =>
    intro f hf
    obtain ⟨f, rfl⟩ : ∃ f0, f = f0 + 1 := ⟨f - 1, by omega⟩
    have hC := ih f (by omega)
    exact ⟨fun F hF x0 x2 h g o9 E => sX11_work_C (N := N) (R := R) hF (by omega) hC E, fun F hF x0 x2 h g o9 E => sX12_work_C (N := N) (R := R) hF (by omega) hC E, fun F hF x0 x2 h g o9 E => sX13_work_C (N := N) (R := R) hF (by omega) hC E, fun F hF x0 x2 h g o9 E => sX17_work_C (N := N) (R := R) hF (by omega) hC E, fun F hF x0 x2 h g o9 E => sX18_work_C (N := N) (R := R) hF (by omega) hC E, fun F hF x0 x2 h g o9 E => sX19_work_C (N := N) (R := R) hF (by omega) hC E, fun F hF x1 h g o9 E => sX7_need_C (N := N) (R := R) hF (by omega) hC E, fun F hF x1 x2 h g o9 E => sX7_work_C (N := N) (R := R) hF (by omega) hC E⟩
abbrev ppX11_work (N R : Nat) (F : Frm) (x0 : Nat) (x2 : Int32) (h : HI) (g : HL) : GO Int32 := (tie4 N R R).1 F x0 x2 h g
theorem sX11_work {D : DE} {f N R : Nat} {F : Frm} (hF : k_Fix F) (hf : 2 + 1 * R ≤ f) {o9 : GQ Int32} {x0 : Nat} {x2 : Int32} {h : HI} {g : HL} (E : ppX11_work N R F x0 x2 h g = some o9) : Gi D f mX11_work [.ref (ad D x0), .ref (ad D 101), .int x2] F h g (gqi o9) (gt o9) := (tie4_ok (N := N) R f (by omega)).1 _ hF _ _ _ _ _ E
abbrev ppX12_work (N R : Nat) (F : Frm) (x0 : Nat) (x2 : Int32) (h : HI) (g : HL) : GO Int32 := (tie4 N R R).2.1 F x0 x2 h g
theorem sX12_work {D : DE} {f N R : Nat} {F : Frm} (hF : k_Fix F) (hf : 2 + 1 * R ≤ f) {o9 : GQ Int32} {x0 : Nat} {x2 : Int32} {h : HI} {g : HL} (E : ppX12_work N R F x0 x2 h g = some o9) : Gi D f mX12_work [.ref (ad D x0), .ref (ad D 101), .int x2] F h g (gqi o9) (gt o9) := (tie4_ok (N := N) R f (by omega)).2.1 _ hF _ _ _ _ _ E
abbrev ppX13_work (N R : Nat) (F : Frm) (x0 : Nat) (x2 : Int32) (h : HI) (g : HL) : GO Int32 := (tie4 N R R).2.2.1 F x0 x2 h g
theorem sX13_work {D : DE} {f N R : Nat} {F : Frm} (hF : k_Fix F) (hf : 2 + 1 * R ≤ f) {o9 : GQ Int32} {x0 : Nat} {x2 : Int32} {h : HI} {g : HL} (E : ppX13_work N R F x0 x2 h g = some o9) : Gi D f mX13_work [.ref (ad D x0), .ref (ad D 101), .int x2] F h g (gqi o9) (gt o9) := (tie4_ok (N := N) R f (by omega)).2.2.1 _ hF _ _ _ _ _ E
abbrev ppX17_work (N R : Nat) (F : Frm) (x0 : Nat) (x2 : Int32) (h : HI) (g : HL) : GO Int32 := (tie4 N R R).2.2.2.1 F x0 x2 h g
theorem sX17_work {D : DE} {f N R : Nat} {F : Frm} (hF : k_Fix F) (hf : 2 + 1 * R ≤ f) {o9 : GQ Int32} {x0 : Nat} {x2 : Int32} {h : HI} {g : HL} (E : ppX17_work N R F x0 x2 h g = some o9) : Gi D f mX17_work [.ref (ad D x0), .ref (ad D 101), .int x2] F h g (gqi o9) (gt o9) := (tie4_ok (N := N) R f (by omega)).2.2.2.1 _ hF _ _ _ _ _ E
abbrev ppX18_work (N R : Nat) (F : Frm) (x0 : Nat) (x2 : Int32) (h : HI) (g : HL) : GO Int32 := (tie4 N R R).2.2.2.2.1 F x0 x2 h g
theorem sX18_work {D : DE} {f N R : Nat} {F : Frm} (hF : k_Fix F) (hf : 2 + 1 * R ≤ f) {o9 : GQ Int32} {x0 : Nat} {x2 : Int32} {h : HI} {g : HL} (E : ppX18_work N R F x0 x2 h g = some o9) : Gi D f mX18_work [.ref (ad D x0), .ref (ad D 101), .int x2] F h g (gqi o9) (gt o9) := (tie4_ok (N := N) R f (by omega)).2.2.2.2.1 _ hF _ _ _ _ _ E
abbrev ppX19_work (N R : Nat) (F : Frm) (x0 : Nat) (x2 : Int32) (h : HI) (g : HL) : GO Int32 := (tie4 N R R).2.2.2.2.2.1 F x0 x2 h g
theorem sX19_work {D : DE} {f N R : Nat} {F : Frm} (hF : k_Fix F) (hf : 2 + 1 * R ≤ f) {o9 : GQ Int32} {x0 : Nat} {x2 : Int32} {h : HI} {g : HL} (E : ppX19_work N R F x0 x2 h g = some o9) : Gi D f mX19_work [.ref (ad D x0), .ref (ad D 101), .int x2] F h g (gqi o9) (gt o9) := (tie4_ok (N := N) R f (by omega)).2.2.2.2.2.1 _ hF _ _ _ _ _ E
abbrev ppX7_need (N R : Nat) (F : Frm) (x1 : Int32) (h : HI) (g : HL) : GO Int32 := (tie4 N R R).2.2.2.2.2.2.1 F x1 h g
theorem sX7_need {D : DE} {f N R : Nat} {F : Frm} (hF : k_Fix F) (hf : 2 + 1 * R ≤ f) {o9 : GQ Int32} {x1 : Int32} {h : HI} {g : HL} (E : ppX7_need N R F x1 h g = some o9) : Gi D f mX7_need [.ref (ad D 101), .int x1] F h g (gqi o9) (gt o9) := (tie4_ok (N := N) R f (by omega)).2.2.2.2.2.2.1 _ hF _ _ _ _ E
abbrev ppX7_work (N R : Nat) (F : Frm) (x1 : Nat) (x2 : Int32) (h : HI) (g : HL) : GO Int32 := (tie4 N R R).2.2.2.2.2.2.2 F x1 x2 h g
theorem sX7_work {D : DE} {f N R : Nat} {F : Frm} (hF : k_Fix F) (hf : 2 + 1 * R ≤ f) {o9 : GQ Int32} {x1 : Nat} {x2 : Int32} {h : HI} {g : HL} (E : ppX7_work N R F x1 x2 h g = some o9) : Gi D f mX7_work [.ref (ad D 101), .ref (ad D x1), .int x2] F h g (gqi o9) (gt o9) := (tie4_ok (N := N) R f (by omega)).2.2.2.2.2.2.2 _ hF _ _ _ _ _ E
abbrev ty5 : Type := (Frm → Int32 → Int32 → Int32 → HI → HL → GO Unit) × (Frm → Int32 → Int32 → Int32 → HI → HL → GO Unit)
def ok5 (D : DE) (R f : Nat) (C : ty5) : Prop := (∀ (F : Frm) (_ : k_Fix F) (x1 : Int32) (x2 : Int32) (x3 : Int32) (h : HI) (g : HL) (o9 : GQ Unit), C.1 F x1 x2 x3 h g = some o9 → Gv D f mX7_ask [.ref (ad D 101), .int x1, .int x2, .int x3] F h g (gqv o9) (gt o9)) ∧ (∀ (F : Frm) (_ : k_Fix F) (x1 : Int32) (x2 : Int32) (x3 : Int32) (h : HI) (g : HL) (o9 : GQ Unit), C.2 F x1 x2 x3 h g = some o9 → Gv D f mX7_part [.ref (ad D 101), .int x1, .int x2, .int x3] F h g (gqv o9) (gt o9))
def pX7_ask_0 (N R : Nat) (C : ty5) (F : Frm) (x1 : Int32) (x2 : Int32) (x3 : Int32) (h : HI) (g : HL) : GO Unit :=
  if x2 = 0 then
    some (.inl ((), F, h, g))
  else
    if (h 101 16) = 0 then
      gd (vin x1 1540) <|
      obi (ppX1_left N R F x2 h g) fun (y1 : Int32) (h2 : HI) (g3 : HL) =>
      obi (ppX1_first N R F x2 x3 h2 g3) fun (y4 : Int32) (h5 : HI) (g6 : HL) =>
      ogv (C.2 F (h 106 (ix x1)) y1 y4 h5 g6) fun (F9 : Frm) (h7 : HI) (g8 : HL) =>
      if (h7 101 16) = 0 then
        gd (vin x1 1540) <|
        obi (ppX1_right N R F9 x2 h7 g8) fun (y10 : Int32) (h11 : HI) (g12 : HL) =>
        obi (ppX1_second N R F9 x2 x3 h11 g12) fun (y13 : Int32) (h14 : HI) (g15 : HL) =>
        ogv (C.2 F9 (h7 107 (ix x1)) y10 y13 h14 g15) fun (F18 : Frm) (h16 : HI) (g17 : HL) =>
        some (.inl ((), F18, h16, g17))
      else
        some (.inl ((), F9, h7, g8))
    else
      some (.inl ((), F, h, g))
theorem jX7_ask_0 {D : DE} {f N R : Nat} (hf : 2 + 1 * R ≤ f) {C : ty5} (hC : ok5 D R f C) {o9 : GQ Unit} : ∀ (F : Frm) (_ : k_Fix F) (x1 : Int32) (x2 : Int32) (x3 : Int32) (h : HI) (g : HL), pX7_ask_0 N R C F x1 x2 x3 h g = some o9 → JX7_ask_0 D f (gqv o9) (gt o9) F h g x1 x2 x3 := by
  intro F hF x1 x2 x3 h g E
  unfold pX7_ask_0 at E
  refine ⟨fun c0 => ?_, fun c0 => ?_⟩
  · replace E := iteT c0 E
    exact (Option.some.inj E).symm
  · replace E := iteF c0 E
    refine ⟨fun c0 => ?_, fun c0 => ?_⟩
    · replace E := iteT c0 E
      obtain ⟨z0, E⟩ := gdE E; refine ⟨vinE z0, ?_⟩
      obtain ⟨y1, h2, g3, e0, E⟩ := obiE E
      refine Si.mono (sX1_left (N := N) (R := R) hF (by omega) e0) (fun y8 h8 g8 hq => ?_)
      obtain ⟨rfl, rfl, rfl⟩ := hq
      obtain ⟨y4, h5, g6, e0, E⟩ := obiE E
      refine Si.mono (sX1_first (N := N) (R := R) hF (by omega) e0) (fun y8 h8 g8 hq => ?_)
      obtain ⟨rfl, rfl, rfl⟩ := hq
      refine Gv.ob (fun o1 e0 => (hC.2 _ hF _ _ _ _ _ _ e0)) E (fun F9 h7 g8 hF E => ?_) (fun _ _ _ _ e => e)
      refine ⟨fun c0 => ?_, fun c0 => ?_⟩
      · replace E := iteF c0 E
        exact (Option.some.inj E).symm
      · replace E := iteT c0 E
        obtain ⟨z0, E⟩ := gdE E; refine ⟨vinE z0, ?_⟩
        obtain ⟨y10, h11, g12, e0, E⟩ := obiE E
        refine Si.mono (sX1_right (N := N) (R := R) hF (by omega) e0) (fun y8 h8 g8 hq => ?_)
        obtain ⟨rfl, rfl, rfl⟩ := hq
        obtain ⟨y13, h14, g15, e0, E⟩ := obiE E
        refine Si.mono (sX1_second (N := N) (R := R) hF (by omega) e0) (fun y8 h8 g8 hq => ?_)
        obtain ⟨rfl, rfl, rfl⟩ := hq
        refine Gv.ob (fun o1 e0 => (hC.2 _ hF _ _ _ _ _ _ e0)) E (fun F18 h16 g17 hF E => ?_) (fun _ _ _ _ e => e)
        exact (Option.some.inj E).symm
    · replace E := iteF c0 E
      exact (Option.some.inj E).symm
theorem sX7_ask_C {D : DE} {f N R : Nat} {C : ty5} {F : Frm} (hF : k_Fix F) (hf : 2 + 1 * R ≤ f) (hC : ok5 D R f C) {o9 : GQ Unit} {x1 : Int32} {x2 : Int32} {x3 : Int32} {h : HI} {g : HL} (E : pX7_ask_0 N R C F x1 x2 x3 h g = some o9) : Gv D (f + 1) mX7_ask [.ref (ad D 101), .int x1, .int x2, .int x3] F h g (gqv o9) (gt o9) := by
  exact wX7_ask (f := f) hF _ _ _ (jX7_ask_0 hf hC _ hF _ _ _ _ _ E)
def pX7_part_0 (N R : Nat) (C : ty5) (F : Frm) (x1 : Int32) (x2 : Int32) (x3 : Int32) (h : HI) (g : HL) : GO Unit :=
  if x3 = 0 then
    some (.inl ((), F, h, g))
  else
    ogi (ppX7_need N R F x1 h g) fun (y1 : Int32) (F4 : Frm) (h2 : HI) (g3 : HL) =>
    ogv (C.1 F4 y1 x2 x3 h2 g3) fun (F7 : Frm) (h5 : HI) (g6 : HL) =>
    some (.inl ((), F7, h5, g6))
theorem jX7_part_0 {D : DE} {f N R : Nat} (hf : 2 + 1 * R ≤ f) {C : ty5} (hC : ok5 D R f C) {o9 : GQ Unit} : ∀ (F : Frm) (_ : k_Fix F) (x1 : Int32) (x2 : Int32) (x3 : Int32) (h : HI) (g : HL), pX7_part_0 N R C F x1 x2 x3 h g = some o9 → JX7_part_0 D f (gqv o9) (gt o9) F h g x1 x2 x3 := by
  intro F hF x1 x2 x3 h g E
  unfold pX7_part_0 at E
  refine ⟨fun c0 => ?_, fun c0 => ?_⟩
  · replace E := iteT c0 E
    exact (Option.some.inj E).symm
  · replace E := iteF c0 E
    refine Gi.ob (fun o1 e0 => (sX7_need (N := N) (R := R) hF (by omega) e0)) E (fun y1 F4 h2 g3 hF E => ?_) (fun _ _ _ _ e => e)
    refine Gv.ob (fun o1 e0 => (hC.1 _ hF _ _ _ _ _ _ e0)) E (fun F7 h5 g6 hF E => ?_) (fun _ _ _ _ e => e)
    exact (Option.some.inj E).symm
theorem sX7_part_C {D : DE} {f N R : Nat} {C : ty5} {F : Frm} (hF : k_Fix F) (hf : 2 + 1 * R ≤ f) (hC : ok5 D R f C) {o9 : GQ Unit} {x1 : Int32} {x2 : Int32} {x3 : Int32} {h : HI} {g : HL} (E : pX7_part_0 N R C F x1 x2 x3 h g = some o9) : Gv D (f + 1) mX7_part [.ref (ad D 101), .int x1, .int x2, .int x3] F h g (gqv o9) (gt o9) := by
  exact wX7_part (f := f) hF _ _ _ (jX7_part_0 hf hC _ hF _ _ _ _ _ E)
def tie5 (N R : Nat) : Nat → ty5
  | 0 => ((fun _ _ _ _ _ _ => none), (fun _ _ _ _ _ _ => none))
  | n + 1 => ((fun F x1 x2 x3 h g => pX7_ask_0 N R (tie5 N R n) F x1 x2 x3 h g), (fun F x1 x2 x3 h g => pX7_part_0 N R (tie5 N R n) F x1 x2 x3 h g))
theorem tie5_ok {D : DE} {N R : Nat} : ∀ (n f : Nat), 2 + 1 * R + n ≤ f → ok5 D R f (tie5 N R n) := by
  intro n
  induction n with
  | zero =>
    intro f hf
    exact ⟨fun _ _ _ _ _ _ _ _ E => (by cases E), fun _ _ _ _ _ _ _ _ E => (by cases E)⟩
  | succ n ih =>
    intro f hf
    obtain ⟨f, rfl⟩ : ∃ f0, f = f0 + 1 := ⟨f - 1, by omega⟩
    have hC := ih f (by omega)
    exact ⟨fun F hF x1 x2 x3 h g o9 E => sX7_ask_C (N := N) (R := R) hF (by omega) hC E, fun F hF x1 x2 x3 h g o9 E => sX7_part_C (N := N) (R := R) hF (by omega) hC E⟩
abbrev ppX7_ask (N R : Nat) (F : Frm) (x1 : Int32) (x2 : Int32) (x3 : Int32) (h : HI) (g : HL) : GO Unit := (tie5 N R R).1 F x1 x2 x3 h g
theorem sX7_ask {D : DE} {f N R : Nat} {F : Frm} (hF : k_Fix F) (hf : 2 + 2 * R ≤ f) {o9 : GQ Unit} {x1 : Int32} {x2 : Int32} {x3 : Int32} {h : HI} {g : HL} (E : ppX7_ask N R F x1 x2 x3 h g = some o9) : Gv D f mX7_ask [.ref (ad D 101), .int x1, .int x2, .int x3] F h g (gqv o9) (gt o9) := (tie5_ok (N := N) R f (by omega)).1 _ hF _ _ _ _ _ _ E
abbrev ppX7_part (N R : Nat) (F : Frm) (x1 : Int32) (x2 : Int32) (x3 : Int32) (h : HI) (g : HL) : GO Unit := (tie5 N R R).2 F x1 x2 x3 h g
theorem sX7_part {D : DE} {f N R : Nat} {F : Frm} (hF : k_Fix F) (hf : 2 + 2 * R ≤ f) {o9 : GQ Unit} {x1 : Int32} {x2 : Int32} {x3 : Int32} {h : HI} {g : HL} (E : ppX7_part N R F x1 x2 x3 h g = some o9) : Gv D f mX7_part [.ref (ad D 101), .int x1, .int x2, .int x3] F h g (gqv o9) (gt o9) := (tie5_ok (N := N) R f (by omega)).2 _ hF _ _ _ _ _ _ E
def pX7_forget_0 (N R : Nat) (F : Frm) (h : HI) (g : HL) : Option (HI × HL) :=
  bnd (up2 h 101 4 0) fun (h1 : HI) =>
  bnd (up2 h1 101 7 0) fun (h2 : HI) =>
  bnd (up2 h2 101 9 0) fun (h3 : HI) =>
  bnd (up2 h3 101 10 0) fun (h4 : HI) =>
  bnd (up2 h4 101 11 0) fun (h5 : HI) =>
  bnd (up2 h5 101 13 0) fun (h6 : HI) =>
  bnd (up2 h6 101 14 0) fun (h7 : HI) =>
  bnd (up2 h7 101 15 0) fun (h8 : HI) =>
  bnd (up2 h8 101 16 0) fun (h9 : HI) =>
  bnd (up2 h9 101 19 0) fun (h10 : HI) =>
  some (h10, g)
theorem jX7_forget_0 {D : DE} {f N R : Nat} (hf : 0 ≤ f) {h9 : HI} {g9 : HL} : ∀ (F : Frm) (_ : k_Fix F) (h : HI) (g : HL), pX7_forget_0 N R F h g = some (h9, g9) → JX7_forget_0 D f (eqv h9 g9) F h g := by
  intro F hF h g E
  unfold pX7_forget_0 at E
  intro h1 e0; replace E := bndE e0 E
  intro h2 e0; replace E := bndE e0 E
  intro h3 e0; replace E := bndE e0 E
  intro h4 e0; replace E := bndE e0 E
  intro h5 e0; replace E := bndE e0 E
  intro h6 e0; replace E := bndE e0 E
  intro h7 e0; replace E := bndE e0 E
  intro h8 e0; replace E := bndE e0 E
  intro h9 e0; replace E := bndE e0 E
  intro h10 e0; replace E := bndE e0 E
  cases E; exact ⟨rfl, rfl⟩
abbrev ppX7_forget (N R : Nat) (F : Frm) (h : HI) (g : HL) : Option (HI × HL) := pX7_forget_0 N R F h g
theorem sX7_forget {D : DE} {f N R : Nat} {F : Frm} (hF : k_Fix F) (hf : 0 ≤ f) {h9 : HI} {g9 : HL} {h : HI} {g : HL} (E : ppX7_forget N R F h g = some (h9, g9)) : Sv D f mX7_forget [.ref (ad D 101)] F h g (eqv h9 g9) := by
  exact wX7_forget (f := f) hF (jX7_forget_0 hf _ hF _ _ E)
abbrev ty6 : Type := (Frm → Nat → Nat → Int32 → HI → HL → GO Int32)
def ok6 (D : DE) (R f : Nat) (C : ty6) : Prop := (∀ (F : Frm) (_ : k_Fix F) (x1 : Nat) (x2 : Nat) (x3 : Int32) (h : HI) (g : HL) (o9 : GQ Int32), C F x1 x2 x3 h g = some o9 → Gi D f mX7_input [.ref (ad D 101), .ref (ad D x1), .ref (ad D x2), .int x3] F h g (gqi o9) (gt o9))
def pX7_input_32 (N R : Nat) (C : ty6) (F : Frm) (x1 : Nat) (x2 : Nat) (x3 : Int32) (x4 : Int32) (s2 : Int32) (s3 : Int32) (h : HI) (g : HL) : GO Int32 :=
  ogi (ppX7_putn N R F s2 s3 h g) fun (y1 : Int32) (F4 : Frm) (h2 : HI) (g3 : HL) =>
  gd (vin y1 40) <|
  bnd (up2 h2 109 (ix y1) 0) fun (h5 : HI) =>
  gd (decide ((F4.2.1 x2).1 = 0)) <|
  bnd ((F4.2.1 x2).2) fun (m6 : Nat) =>
  gd (vin x4 m6) <|
  gd (vin y1 1540) <|
  bnd (up2 h5 105 (ix y1) (h5 x2 (ix x4))) fun (h7 : HI) =>
  gd (decide ((F4.2.1 x1).1 = 0)) <|
  bnd ((F4.2.1 x1).2) fun (m8 : Nat) =>
  gd (vin x4 m8) <|
  if (h7 x1 (ix x4)) = 2 then
    bnd (h7 101 7) fun (y9 : Int32) =>
    bnd (up2 h7 101 7 ((h7 101 7) + 1)) fun (h10 : HI) =>
    gd (vin y1 1540) <|
    bnd (up2 h10 105 (ix y1) y9) fun (h11 : HI) =>
    obi (ppX1_left N R F4 x3 h11 g3) fun (y12 : Int32) (h13 : HI) (g14 : HL) =>
    ogi (C F4 x1 x2 y12 h13 g14) fun (y15 : Int32) (F18 : Frm) (h16 : HI) (g17 : HL) =>
    gd (vin y9 1540) <|
    bnd (up2 h16 106 (ix y9) y15) fun (h19 : HI) =>
    obi (ppX1_right N R F18 x3 h19 g17) fun (y20 : Int32) (h21 : HI) (g22 : HL) =>
    ogi (C F18 x1 x2 y20 h21 g22) fun (y23 : Int32) (F26 : Frm) (h24 : HI) (g25 : HL) =>
    gd (vin y9 1540) <|
    bnd (up2 h24 107 (ix y9) y23) fun (h27 : HI) =>
    some (.inl (y1, F26, h27, g25))
  else
    some (.inl (y1, F4, h7, g3))
theorem jX7_input_32 {D : DE} {f N R : Nat} (hf : 0 ≤ f) {C : ty6} (hC : ok6 D R f C) {o9 : GQ Int32} : ∀ (F : Frm) (_ : k_Fix F) (x1 : Nat) (x2 : Nat) (x3 : Int32) (x4 : Int32) (s2 : Int32) (s3 : Int32) (h : HI) (g : HL), pX7_input_32 N R C F x1 x2 x3 x4 s2 s3 h g = some o9 → JX7_input_32 D f (gqi o9) (gt o9) F h g x1 x2 x3 x4 s2 s3 := by
  intro F hF x1 x2 x3 x4 s2 s3 h g E
  unfold pX7_input_32 at E
  refine Gi.ob (fun o1 e0 => (sX7_putn (N := N) (R := R) hF (by omega) e0)) E (fun y1 F4 h2 g3 hF E => ?_) (fun _ _ _ _ e => e)
  obtain ⟨z0, E⟩ := gdE E; refine ⟨vinE z0, ?_⟩
  intro h5 e0; replace E := bndE e0 E
  obtain ⟨z0, E⟩ := gdE E; replace E := bndE rfl E; refine ⟨_, shE (of_decide_eq_true z0), ?_⟩
  obtain ⟨z0, E⟩ := gdE E; refine ⟨vinE z0, ?_⟩
  obtain ⟨z0, E⟩ := gdE E; refine ⟨vinE z0, ?_⟩
  intro h7 e0; replace E := bndE e0 E
  obtain ⟨z0, E⟩ := gdE E; replace E := bndE rfl E; refine ⟨_, shE (of_decide_eq_true z0), ?_⟩
  obtain ⟨z0, E⟩ := gdE E; refine ⟨vinE z0, ?_⟩
  refine ⟨fun c0 => ?_, fun c0 => ?_⟩
  · replace E := iteF c0 E
    exact (Option.some.inj E).symm
  · replace E := iteT c0 E
    intro y9 e0; replace E := bndE e0 E
    intro h10 e0; replace E := bndE e0 E
    obtain ⟨z0, E⟩ := gdE E; refine ⟨vinE z0, ?_⟩
    intro h11 e0; replace E := bndE e0 E
    obtain ⟨y12, h13, g14, e0, E⟩ := obiE E
    refine Si.mono (sX1_left (N := N) (R := R) hF (by omega) e0) (fun y8 h8 g8 hq => ?_)
    obtain ⟨rfl, rfl, rfl⟩ := hq
    refine Gi.ob (fun o1 e0 => (hC _ hF _ _ _ _ _ _ e0)) E (fun y15 F18 h16 g17 hF E => ?_) (fun _ _ _ _ e => e)
    obtain ⟨z0, E⟩ := gdE E; refine ⟨vinE z0, ?_⟩
    intro h19 e0; replace E := bndE e0 E
    obtain ⟨y20, h21, g22, e0, E⟩ := obiE E
    refine Si.mono (sX1_right (N := N) (R := R) hF (by omega) e0) (fun y8 h8 g8 hq => ?_)
    obtain ⟨rfl, rfl, rfl⟩ := hq
    refine Gi.ob (fun o1 e0 => (hC _ hF _ _ _ _ _ _ e0)) E (fun y23 F26 h24 g25 hF E => ?_) (fun _ _ _ _ e => e)
    obtain ⟨z0, E⟩ := gdE E; refine ⟨vinE z0, ?_⟩
    intro h27 e0; replace E := bndE e0 E
    exact (Option.some.inj E).symm
def pX7_input_0 (N R : Nat) (C : ty6) (F : Frm) (x1 : Nat) (x2 : Nat) (x3 : Int32) (h : HI) (g : HL) : GO Int32 :=
  bnd (h 101 21) fun (y1 : Int32) =>
  bnd (up2 h 101 21 ((h 101 21) + 1)) fun (h2 : HI) =>
  gd (decide ((F.2.1 x1).1 = 0)) <|
  bnd ((F.2.1 x1).2) fun (m3 : Nat) =>
  gd (vin y1 m3) <|
  if (h2 x1 (ix y1)) = 1 then
    pX7_input_32 N R C F x1 x2 x3 y1 0 3 h2 g
  else
    pX7_input_32 N R C F x1 x2 x3 y1 0 2 h2 g
theorem jX7_input_0 {D : DE} {f N R : Nat} (hf : 0 ≤ f) {C : ty6} (hC : ok6 D R f C) {o9 : GQ Int32} : ∀ (F : Frm) (_ : k_Fix F) (x1 : Nat) (x2 : Nat) (x3 : Int32) (h : HI) (g : HL), pX7_input_0 N R C F x1 x2 x3 h g = some o9 → JX7_input_0 D f (gqi o9) (gt o9) F h g x1 x2 x3 := by
  intro F hF x1 x2 x3 h g E
  unfold pX7_input_0 at E
  intro y1 e0; replace E := bndE e0 E
  intro h2 e0; replace E := bndE e0 E
  obtain ⟨z0, E⟩ := gdE E; replace E := bndE rfl E; refine ⟨_, shE (of_decide_eq_true z0), ?_⟩
  obtain ⟨z0, E⟩ := gdE E; refine ⟨vinE z0, ?_⟩
  refine ⟨fun c0 => ?_, fun c0 => ?_⟩
  · replace E := iteF c0 E
    exact jX7_input_32 hf hC  _ hF _ _ _ _ _ _ _ _ E
  · replace E := iteT c0 E
    exact jX7_input_32 hf hC  _ hF _ _ _ _ _ _ _ _ E
theorem sX7_input_C {D : DE} {f N R : Nat} {C : ty6} {F : Frm} (hF : k_Fix F) (hf : 0 ≤ f) (hC : ok6 D R f C) {o9 : GQ Int32} {x1 : Nat} {x2 : Nat} {x3 : Int32} {h : HI} {g : HL} (E : pX7_input_0 N R C F x1 x2 x3 h g = some o9) : Gi D (f + 1) mX7_input [.ref (ad D 101), .ref (ad D x1), .ref (ad D x2), .int x3] F h g (gqi o9) (gt o9) := by
  exact wX7_input (f := f) hF _ _ _ (jX7_input_0 hf hC _ hF _ _ _ _ _ E)
def tie6 (N R : Nat) : Nat → ty6
  | 0 => ((fun _ _ _ _ _ _ => none))
  | n + 1 => ((fun F x1 x2 x3 h g => pX7_input_0 N R (tie6 N R n) F x1 x2 x3 h g))
theorem tie6_ok {D : DE} {N R : Nat} : ∀ (n f : Nat), 0 + n ≤ f → ok6 D R f (tie6 N R n) := by
  intro n
  induction n with
  | zero =>
    intro f hf
    exact fun _ _ _ _ _ _ _ _ E => (by cases E)
  | succ n ih =>
    intro f hf
    obtain ⟨f, rfl⟩ : ∃ f0, f = f0 + 1 := ⟨f - 1, by omega⟩
    have hC := ih f (by omega)
    exact fun F hF x1 x2 x3 h g o9 E => sX7_input_C (N := N) (R := R) hF (by omega) hC E
abbrev ppX7_input (N R : Nat) (F : Frm) (x1 : Nat) (x2 : Nat) (x3 : Int32) (h : HI) (g : HL) : GO Int32 := (tie6 N R R) F x1 x2 x3 h g
theorem sX7_input {D : DE} {f N R : Nat} {F : Frm} (hF : k_Fix F) (hf : 0 + 1 * R ≤ f) {o9 : GQ Int32} {x1 : Nat} {x2 : Nat} {x3 : Int32} {h : HI} {g : HL} (E : ppX7_input N R F x1 x2 x3 h g = some o9) : Gi D f mX7_input [.ref (ad D 101), .ref (ad D x1), .ref (ad D x2), .int x3] F h g (gqi o9) (gt o9) := (tie6_ok (N := N) R f (by omega)) _ hF _ _ _ _ _ _ E
def pX7_run_33 (N R : Nat) : Nat → Frm → Nat → Int32 → Nat → Nat → Int32 → HI → HL → GO Int32
  | 0, _, _, _, _, _, _, _, _ => none
  | n + 1, F, x1, x2, x4, x5, x6, h, g =>
    gd (decide (F.2.1 x1 = (18, 0))) <|
    if (h x1 1) ≤ x6 then
      bnd (up2 h 101 10 (h 101 4)) fun (h1 : HI) =>
      bnd (up2 h1 101 11 (h1 101 7)) fun (h2 : HI) =>
      ob1 (F.2.2 x1 6) fun (b3 : Nat) =>
      ogi (ppX7_work N R F b3 0 h2 g) fun (y4 : Int32) (F7 : Frm) (h5 : HI) (g6 : HL) =>
      bnd (up2 h5 101 17 y4) fun (h8 : HI) =>
      ogv (ppX7_ask N R F7 (h8 101 17) (h8 101 18) x2 h8 g6) fun (F11 : Frm) (h9 : HI) (g10 : HL) =>
      obv (ppX7_ends N R F11 1 h9 g10) fun (h12 : HI) (g13 : HL) =>
      some (.inl ((h12 101 16), F11, h12, g13))
    else
      ob1 (F.2.2 x1 5) fun (b14 : Nat) =>
      gd (decide ((F.2.1 b14).1 = 0)) <|
      bnd ((F.2.1 b14).2) fun (m15 : Nat) =>
      gd (vin x6 m15) <|
      ogi (ppX7_input N R F x4 x5 (h b14 (ix x6)) h g) fun (y16 : Int32) (F19 : Frm) (h17 : HI) (g18 : HL) =>
      gd (vin x6 24016) <|
      bnd (up2 h17 108 (ix x6) y16) fun (h20 : HI) =>
      bnd (x6 + 1) fun (y21 : Int32) =>
      (pX7_run_33 N R n) F19 x1 x2 x4 x5 y21 h20 g18
theorem lX7_run_33 {D : DE} {f N R : Nat} (hf : 2 + 2 * R ≤ f) {o9 : GQ Int32} : ∀ (n : Nat) (F : Frm) (_ : k_Fix F) (x1 : Nat) (x2 : Int32) (x4 : Nat) (x5 : Nat) (x6 : Int32) (h : HI) (g : HL), pX7_run_33 N R n F x1 x2 x4 x5 x6 h g = some o9 → V D mX7_run (f + 1) (gi (gqi o9) (gt o9)) 33 [(0, .ref (ad D 101)), (1, .ref (ad D x1)), (2, .int x2), (4, .ref (ad D x4)), (5, .ref (ad D x5)), (6, .int x6)] [] (F, h, g) := by
  intro n
  induction n with
  | zero => intro F hF x1 x2 x4 x5 x6 h g E; cases E
  | succ n hK33 =>
    intro F hF x1 x2 x4 x5 x6 h g E
    rw [pX7_run_33] at E
    refine bX7_run_33 (f := f) hF x1 x2 x4 x5 x6  ?_
    obtain ⟨z0, E⟩ := gdE E; refine ⟨of_decide_eq_true z0, ?_⟩
    refine ⟨fun c0 => ?_, fun c0 => ?_⟩
    · replace E := iteT c0 E
      intro h1 e0; replace E := bndE e0 E
      intro h2 e0; replace E := bndE e0 E
      obtain ⟨b3, z0, E⟩ := ob1E E; refine ⟨b3, z0, ?_⟩
      refine Gi.ob (fun o1 e0 => (sX7_work (N := N) (R := R) hF (by omega) e0)) E (fun y4 F7 h5 g6 hF E => ?_) (fun _ _ _ _ e => e)
      intro h8 e0; replace E := bndE e0 E
      refine Gv.ob (fun o1 e0 => (sX7_ask (N := N) (R := R) hF (by omega) e0)) E (fun F11 h9 g10 hF E => ?_) (fun _ _ _ _ e => e)
      obtain ⟨h12, g13, e0, E⟩ := obvE E
      refine Sv.mono (sX7_ends (N := N) (R := R) hF (by omega) e0) (fun h8 g8 hq => ?_)
      obtain ⟨rfl, rfl⟩ := hq
      exact (Option.some.inj E).symm
    · replace E := iteF c0 E
      obtain ⟨b14, z0, E⟩ := ob1E E; refine ⟨b14, z0, ?_⟩
      obtain ⟨z0, E⟩ := gdE E; replace E := bndE rfl E; refine ⟨_, shE (of_decide_eq_true z0), ?_⟩
      obtain ⟨z0, E⟩ := gdE E; refine ⟨vinE z0, ?_⟩
      refine Gi.ob (fun o1 e0 => (sX7_input (N := N) (R := R) hF (by omega) e0)) E (fun y16 F19 h17 g18 hF E => ?_) (fun _ _ _ _ e => e)
      obtain ⟨z0, E⟩ := gdE E; refine ⟨vinE z0, ?_⟩
      intro h20 e0; replace E := bndE e0 E
      intro y21 e0; replace E := bndE e0 E
      exact hK33 _ hF _ _ _ _ _ _ _ E
def pX7_run_0 (N R : Nat) (F : Frm) (x1 : Nat) (x2 : Int32) (x3 : Int32) (x4 : Nat) (x5 : Nat) (h : HI) (g : HL) : GO Int32 :=
  obv (ppX7_forget N R F h g) fun (h1 : HI) (g2 : HL) =>
  bnd (up2 h1 101 12 x3) fun (h3 : HI) =>
  gd (decide (F.2.1 x1 = (18, 0))) <|
  bnd (up2 h3 101 18 (h3 x1 3)) fun (h4 : HI) =>
  bnd (up2 h4 101 19 (h4 x1 1)) fun (h5 : HI) =>
  bnd (up2 h5 101 21 0) fun (h6 : HI) =>
  pX7_run_33 N R N F x1 x2 x4 x5 0 h6 g2
theorem jX7_run_0 {D : DE} {f N R : Nat} (hf : 2 + 2 * R ≤ f) {o9 : GQ Int32} : ∀ (F : Frm) (_ : k_Fix F) (x1 : Nat) (x2 : Int32) (x3 : Int32) (x4 : Nat) (x5 : Nat) (h : HI) (g : HL), pX7_run_0 N R F x1 x2 x3 x4 x5 h g = some o9 → JX7_run_0 D f (gqi o9) (gt o9) F h g x1 x2 x3 x4 x5 := by
  intro F hF x1 x2 x3 x4 x5 h g E
  unfold pX7_run_0 at E
  obtain ⟨h1, g2, e0, E⟩ := obvE E
  refine Sv.mono (sX7_forget (N := N) (R := R) hF (by omega) e0) (fun h8 g8 hq => ?_)
  obtain ⟨rfl, rfl⟩ := hq
  intro h3 e0; replace E := bndE e0 E
  obtain ⟨z0, E⟩ := gdE E; refine ⟨of_decide_eq_true z0, ?_⟩
  intro h4 e0; replace E := bndE e0 E
  intro h5 e0; replace E := bndE e0 E
  intro h6 e0; replace E := bndE e0 E
  exact lX7_run_33 hf  N _ hF _ _ _ _ _ _ _ E
abbrev ppX7_run (N R : Nat) (F : Frm) (x1 : Nat) (x2 : Int32) (x3 : Int32) (x4 : Nat) (x5 : Nat) (h : HI) (g : HL) : GO Int32 := pX7_run_0 N R F x1 x2 x3 x4 x5 h g
theorem sX7_run {D : DE} {f N R : Nat} {F : Frm} (hF : k_Fix F) (hf : 3 + 2 * R ≤ f) {o9 : GQ Int32} {x1 : Nat} {x2 : Int32} {x3 : Int32} {x4 : Nat} {x5 : Nat} {h : HI} {g : HL} (E : ppX7_run N R F x1 x2 x3 x4 x5 h g = some o9) : Gi D f mX7_run [.ref (ad D 101), .ref (ad D x1), .int x2, .int x3, .ref (ad D x4), .ref (ad D x5)] F h g (gqi o9) (gt o9) := by
  obtain ⟨f, rfl⟩ : ∃ f0, f = f0 + 1 := ⟨f - 1, by omega⟩
  have hf : 2 + 2 * R ≤ f := by omega
  exact wX7_run (f := f) hF _ _ _ _ _ (jX7_run_0 hf _ hF _ _ _ _ _ _ _ E)
def pX1_run_83 (N R : Nat) (F : Frm) (x2 : Int32) (x3 : Int32) (x4 : Nat) (s0 : Int32) (h : HI) (g : HL) : GO Int32 :=
  ogv (ppX1_fits N R F s0 h g) fun (F3 : Frm) (h1 : HI) (g2 : HL) =>
  bnd (up2 h1 0 13 0) fun (h4 : HI) =>
  ogi (ppX7_run N R F3 x4 x2 x3 113 114 h4 g2) fun (y5 : Int32) (F8 : Frm) (h6 : HI) (g7 : HL) =>
  some (.inl (y5, F8, h6, g7))
theorem jX1_run_83 {D : DE} {f N R : Nat} (hf : 7 + 2 * R ≤ f) {o9 : GQ Int32} : ∀ (F : Frm) (_ : k_Fix F) (x2 : Int32) (x3 : Int32) (x4 : Nat) (s0 : Int32) (h : HI) (g : HL), pX1_run_83 N R F x2 x3 x4 s0 h g = some o9 → JX1_run_83 D f (gqi o9) (gt o9) F h g x2 x3 x4 s0 := by
  intro F hF x2 x3 x4 s0 h g E
  unfold pX1_run_83 at E
  refine Gv.ob (fun o1 e0 => (sX1_fits (N := N) (R := R) hF (by omega) e0)) E (fun F3 h1 g2 hF E => ?_) (fun _ _ _ _ e => e)
  intro h4 e0; replace E := bndE e0 E
  refine Gi.ob (fun o1 e0 => (sX7_run (N := N) (R := R) hF (by omega) e0)) E (fun y5 F8 h6 g7 hF E => ?_) (fun _ _ _ _ e => e)
  exact (Option.some.inj E).symm
def pX1_run_82 (N R : Nat) (F : Frm) (x2 : Int32) (x3 : Int32) (x4 : Nat) (h : HI) (g : HL) : GO Int32 :=
  pX1_run_83 N R F x2 x3 x4 0 h g
theorem jX1_run_82 {D : DE} {f N R : Nat} (hf : 7 + 2 * R ≤ f) {o9 : GQ Int32} : ∀ (F : Frm) (_ : k_Fix F) (x2 : Int32) (x3 : Int32) (x4 : Nat) (h : HI) (g : HL), pX1_run_82 N R F x2 x3 x4 h g = some o9 → JX1_run_82 D f (gqi o9) (gt o9) F h g x2 x3 x4 := by
  intro F hF x2 x3 x4 h g E
  unfold pX1_run_82 at E
  exact jX1_run_83 hf  _ hF _ _ _ _ _ _ E
def pX1_run_44 (N R : Nat) (F : Frm) (x2 : Int32) (x3 : Int32) (x4 : Nat) (s0 : Int32) (h : HI) (g : HL) : GO Int32 :=
  ogv (ppX1_lies N R F s0 h g) fun (F3 : Frm) (h1 : HI) (g2 : HL) =>
  if x3 < 0 then
    pX1_run_82 N R F3 x2 x3 x4 h1 g2
  else
    if 20000 < x3 then
      pX1_run_82 N R F3 x2 x3 x4 h1 g2
    else
      obi (ppX7_fit N R F3 113 (h1 0 13) x4 h1 g2) fun (y4 : Int32) (h5 : HI) (g6 : HL) =>
      if y4 = 0 then
        pX1_run_82 N R F3 x2 x3 x4 h5 g6
      else
        pX1_run_83 N R F3 x2 x3 x4 1 h5 g6
theorem jX1_run_44 {D : DE} {f N R : Nat} (hf : 7 + 2 * R ≤ f) {o9 : GQ Int32} : ∀ (F : Frm) (_ : k_Fix F) (x2 : Int32) (x3 : Int32) (x4 : Nat) (s0 : Int32) (h : HI) (g : HL), pX1_run_44 N R F x2 x3 x4 s0 h g = some o9 → JX1_run_44 D f (gqi o9) (gt o9) F h g x2 x3 x4 s0 := by
  intro F hF x2 x3 x4 s0 h g E
  unfold pX1_run_44 at E
  refine Gv.ob (fun o1 e0 => (sX1_lies (N := N) (R := R) hF (by omega) e0)) E (fun F3 h1 g2 hF E => ?_) (fun _ _ _ _ e => e)
  refine ⟨fun c0 => ?_, fun c0 => ?_⟩
  · replace E := iteT c0 E
    exact jX1_run_82 hf  _ hF _ _ _ _ _ E
  · replace E := iteF c0 E
    refine ⟨fun c0 => ?_, fun c0 => ?_⟩
    · replace E := iteT c0 E
      exact jX1_run_82 hf  _ hF _ _ _ _ _ E
    · replace E := iteF c0 E
      obtain ⟨y4, h5, g6, e0, E⟩ := obiE E
      refine Si.mono (sX7_fit (N := N) (R := R) hF (by omega) e0) (fun y8 h8 g8 hq => ?_)
      obtain ⟨rfl, rfl, rfl⟩ := hq
      refine ⟨fun c0 => ?_, fun c0 => ?_⟩
      · replace E := iteT c0 E
        exact jX1_run_82 hf  _ hF _ _ _ _ _ E
      · replace E := iteF c0 E
        exact jX1_run_83 hf  _ hF _ _ _ _ _ _ E
def pX1_run_43 (N R : Nat) (F : Frm) (x2 : Int32) (x3 : Int32) (x4 : Nat) (h : HI) (g : HL) : GO Int32 :=
  pX1_run_44 N R F x2 x3 x4 0 h g
theorem jX1_run_43 {D : DE} {f N R : Nat} (hf : 7 + 2 * R ≤ f) {o9 : GQ Int32} : ∀ (F : Frm) (_ : k_Fix F) (x2 : Int32) (x3 : Int32) (x4 : Nat) (h : HI) (g : HL), pX1_run_43 N R F x2 x3 x4 h g = some o9 → JX1_run_43 D f (gqi o9) (gt o9) F h g x2 x3 x4 := by
  intro F hF x2 x3 x4 h g E
  unfold pX1_run_43 at E
  exact jX1_run_44 hf  _ hF _ _ _ _ _ _ E
def pX1_run_12 (N R : Nat) (F : Frm) (x1 : Int32) (x2 : Int32) (x3 : Int32) (s0 : Int32) (h : HI) (g : HL) : GO Int32 :=
  ogv (ppX1_may N R F s0 h g) fun (F3 : Frm) (h1 : HI) (g2 : HL) =>
  ogr (ppX1_functionAt N R F3 x1 h1 g2) fun (b4 : Nat) (F7 : Frm) (h5 : HI) (g6 : HL) =>
  if x2 < 1 then
    pX1_run_43 N R F7 x2 x3 b4 h5 g6
  else
    gd (decide (F7.2.1 b4 = (18, 0))) <|
    obi (ppX1_sizeOf N R F7 (h5 b4 3) h5 g6) fun (y8 : Int32) (h9 : HI) (g10 : HL) =>
    if y8 ≤ x2 then
      pX1_run_43 N R F7 x2 x3 b4 h9 g10
    else
      pX1_run_44 N R F7 x2 x3 b4 1 h9 g10
theorem jX1_run_12 {D : DE} {f N R : Nat} (hf : 7 + 2 * R ≤ f) {o9 : GQ Int32} : ∀ (F : Frm) (_ : k_Fix F) (x1 : Int32) (x2 : Int32) (x3 : Int32) (s0 : Int32) (h : HI) (g : HL), pX1_run_12 N R F x1 x2 x3 s0 h g = some o9 → JX1_run_12 D f (gqi o9) (gt o9) F h g x1 x2 x3 s0 := by
  intro F hF x1 x2 x3 s0 h g E
  unfold pX1_run_12 at E
  refine Gv.ob (fun o1 e0 => (sX1_may (N := N) (R := R) hF (by omega) e0)) E (fun F3 h1 g2 hF E => ?_) (fun _ _ _ _ e => e)
  refine Gr.ob (fun o1 e0 => (sX1_functionAt (N := N) (R := R) hF (by omega) e0)) E (fun b4 F7 h5 g6 hF E => ?_) (fun _ _ _ _ e => e)
  refine ⟨fun c0 => ?_, fun c0 => ?_⟩
  · replace E := iteT c0 E
    exact jX1_run_43 hf  _ hF _ _ _ _ _ E
  · replace E := iteF c0 E
    obtain ⟨z0, E⟩ := gdE E; refine ⟨of_decide_eq_true z0, ?_⟩
    obtain ⟨y8, h9, g10, e0, E⟩ := obiE E
    refine Si.mono (sX1_sizeOf (N := N) (R := R) hF (by omega) e0) (fun y8 h8 g8 hq => ?_)
    obtain ⟨rfl, rfl, rfl⟩ := hq
    refine ⟨fun c0 => ?_, fun c0 => ?_⟩
    · replace E := iteT c0 E
      exact jX1_run_43 hf  _ hF _ _ _ _ _ E
    · replace E := iteF c0 E
      exact jX1_run_44 hf  _ hF _ _ _ _ _ _ E
def pX1_run_0 (N R : Nat) (F : Frm) (x1 : Int32) (x2 : Int32) (x3 : Int32) (h : HI) (g : HL) : GO Int32 :=
  if (h 0 9) ≤ 0 then
    pX1_run_12 N R F x1 x2 x3 0 h g
  else
    pX1_run_12 N R F x1 x2 x3 1 h g
theorem jX1_run_0 {D : DE} {f N R : Nat} (hf : 7 + 2 * R ≤ f) {o9 : GQ Int32} : ∀ (F : Frm) (_ : k_Fix F) (x1 : Int32) (x2 : Int32) (x3 : Int32) (h : HI) (g : HL), pX1_run_0 N R F x1 x2 x3 h g = some o9 → JX1_run_0 D f (gqi o9) (gt o9) F h g x1 x2 x3 := by
  intro F hF x1 x2 x3 h g E
  unfold pX1_run_0 at E
  refine ⟨fun c0 => ?_, fun c0 => ?_⟩
  · replace E := iteT c0 E
    exact jX1_run_12 hf  _ hF _ _ _ _ _ _ E
  · replace E := iteF c0 E
    exact jX1_run_12 hf  _ hF _ _ _ _ _ _ E
abbrev ppX1_run (N R : Nat) (F : Frm) (x1 : Int32) (x2 : Int32) (x3 : Int32) (h : HI) (g : HL) : GO Int32 := pX1_run_0 N R F x1 x2 x3 h g
theorem sX1_run {D : DE} {f N R : Nat} {F : Frm} (hF : k_Fix F) (hf : 8 + 2 * R ≤ f) {o9 : GQ Int32} {x1 : Int32} {x2 : Int32} {x3 : Int32} {h : HI} {g : HL} (E : ppX1_run N R F x1 x2 x3 h g = some o9) : Gi D f mX1_run [.ref (ad D 0), .int x1, .int x2, .int x3] F h g (gqi o9) (gt o9) := by
  obtain ⟨f, rfl⟩ : ∃ f0, f = f0 + 1 := ⟨f - 1, by omega⟩
  have hf : 7 + 2 * R ≤ f := by omega
  exact wX1_run (f := f) hF _ _ _ (jX1_run_0 hf _ hF _ _ _ _ _ E)
def pX0_run_0 (N R : Nat) (F : Frm) (x1 : Int32) (x2 : Int32) (x3 : Int32) (h : HI) (g : HL) : GO Int32 :=
  ohi (ppX1_run N R F x1 x2 x3 h g) (fun e F1 h1 g1 =>
    if e = 0 then
      some (.inl (1, F1, h1, g1))
    else if e = 2 then
      some (.inl (2, F1, h1, g1))
    else if e = 1 then
      some (.inl (3, F1, h1, g1))
    else none) fun (y1 : Int32) (F4 : Frm) (h2 : HI) (g3 : HL) =>
  bnd (up2 g3 159 (ix 0) y1.toInt64) fun (g5 : HL) =>
  some (.inl (0, F4, h2, g5))
theorem jX0_run_0 {D : DE} {f N R : Nat} (hf : 8 + 2 * R ≤ f) {o9 : GQ Int32} : ∀ (F : Frm) (_ : k_Fix F) (x1 : Int32) (x2 : Int32) (x3 : Int32) (h : HI) (g : HL), pX0_run_0 N R F x1 x2 x3 h g = some o9 → JX0_run_0 D f (gqi o9) (gt o9) F h g x1 x2 x3 := by
  intro F hF x1 x2 x3 h g E
  unfold pX0_run_0 at E
  refine Gi.oh (fun o1 e0 => (sX1_run (N := N) (R := R) hF (by omega) e0)) E (fun y1 F4 h2 g3 hF E => ?_) (fun e F1 h1 g1 hF E => ?_)
  · skip
    intro g5 e0; replace E := bndE e0 E
    exact (Option.some.inj E).symm
  · skip
    by_cases c0 : e = 0
    · replace E := iteT c0 E
      refine Or.inl ⟨c0, ?_⟩
      exact (Option.some.inj E).symm
    replace E := iteF c0 E
    by_cases c1 : e = 2
    · replace E := iteT c1 E
      refine Or.inr (Or.inl ⟨c1, ?_⟩)
      exact (Option.some.inj E).symm
    replace E := iteF c1 E
    by_cases c2 : e = 1
    · replace E := iteT c2 E
      refine Or.inr (Or.inr (⟨c2, ?_⟩))
      exact (Option.some.inj E).symm
    replace E := iteF c2 E
    cases E
abbrev ppX0_run (N R : Nat) (F : Frm) (x1 : Int32) (x2 : Int32) (x3 : Int32) (h : HI) (g : HL) : GO Int32 := pX0_run_0 N R F x1 x2 x3 h g
theorem sX0_run {D : DE} {f N R : Nat} {F : Frm} (hF : k_Fix F) (hf : 9 + 2 * R ≤ f) {o9 : GQ Int32} {x1 : Int32} {x2 : Int32} {x3 : Int32} {h : HI} {g : HL} (E : ppX0_run N R F x1 x2 x3 h g = some o9) : Gi D f mX0_run [.ref (ad D 0), .int x1, .int x2, .int x3, .ref (ad D 159)] F h g (gqi o9) (gt o9) := by
  obtain ⟨f, rfl⟩ : ∃ f0, f = f0 + 1 := ⟨f - 1, by omega⟩
  have hf : 8 + 2 * R ≤ f := by omega
  exact wX0_run (f := f) hF _ _ _ (jX0_run_0 hf _ hF _ _ _ _ _ E)
def pX1_strict_0 (N R : Nat) (F : Frm) (x1 : Int32) (x2 : Int32) (h : HI) (g : HL) : GO Int32 :=
  ogi (ppX1_asks N R F x1 1 x2 h g) fun (y1 : Int32) (F4 : Frm) (h2 : HI) (g3 : HL) =>
  if y1 = 0 then
    some (.inl (0, F4, h2, g3))
  else
    some (.inl (1, F4, h2, g3))
theorem jX1_strict_0 {D : DE} {f N R : Nat} (hf : 9 ≤ f) {o9 : GQ Int32} : ∀ (F : Frm) (_ : k_Fix F) (x1 : Int32) (x2 : Int32) (h : HI) (g : HL), pX1_strict_0 N R F x1 x2 h g = some o9 → JX1_strict_0 D f (gqi o9) (gt o9) F h g x1 x2 := by
  intro F hF x1 x2 h g E
  unfold pX1_strict_0 at E
  refine Gi.ob (fun o1 e0 => (sX1_asks (N := N) (R := R) hF (by omega) e0)) E (fun y1 F4 h2 g3 hF E => ?_) (fun _ _ _ _ e => e)
  refine ⟨fun c0 => ?_, fun c0 => ?_⟩
  · replace E := iteT c0 E
    exact (Option.some.inj E).symm
  · replace E := iteF c0 E
    exact (Option.some.inj E).symm
abbrev ppX1_strict (N R : Nat) (F : Frm) (x1 : Int32) (x2 : Int32) (h : HI) (g : HL) : GO Int32 := pX1_strict_0 N R F x1 x2 h g
theorem sX1_strict {D : DE} {f N R : Nat} {F : Frm} (hF : k_Fix F) (hf : 10 ≤ f) {o9 : GQ Int32} {x1 : Int32} {x2 : Int32} {h : HI} {g : HL} (E : ppX1_strict N R F x1 x2 h g = some o9) : Gi D f mX1_strict [.ref (ad D 0), .int x1, .int x2] F h g (gqi o9) (gt o9) := by
  obtain ⟨f, rfl⟩ : ∃ f0, f = f0 + 1 := ⟨f - 1, by omega⟩
  have hf : 9 ≤ f := by omega
  exact wX1_strict (f := f) hF _ _ (jX1_strict_0 hf _ hF _ _ _ _ E)
def pX0_strict_0 (N R : Nat) (F : Frm) (x1 : Int32) (x2 : Int32) (h : HI) (g : HL) : GO Int32 :=
  ohi (ppX1_strict N R F x1 x2 h g) (fun e F1 h1 g1 =>
    if e = 0 then
      some (.inl (1, F1, h1, g1))
    else if e = 2 then
      some (.inl (2, F1, h1, g1))
    else none) fun (y1 : Int32) (F4 : Frm) (h2 : HI) (g3 : HL) =>
  if y1 = 0 then
    bnd (up2 g3 159 (ix 0) 0) fun (g5 : HL) =>
    some (.inl (0, F4, h2, g5))
  else
    bnd (up2 g3 159 (ix 0) 1) fun (g6 : HL) =>
    some (.inl (0, F4, h2, g6))
theorem jX0_strict_0 {D : DE} {f N R : Nat} (hf : 10 ≤ f) {o9 : GQ Int32} : ∀ (F : Frm) (_ : k_Fix F) (x1 : Int32) (x2 : Int32) (h : HI) (g : HL), pX0_strict_0 N R F x1 x2 h g = some o9 → JX0_strict_0 D f (gqi o9) (gt o9) F h g x1 x2 := by
  intro F hF x1 x2 h g E
  unfold pX0_strict_0 at E
  refine Gi.oh (fun o1 e0 => (sX1_strict (N := N) (R := R) hF (by omega) e0)) E (fun y1 F4 h2 g3 hF E => ?_) (fun e F1 h1 g1 hF E => ?_)
  · skip
    refine ⟨fun c0 => ?_, fun c0 => ?_⟩
    · replace E := iteT c0 E
      intro g5 e0; replace E := bndE e0 E
      exact (Option.some.inj E).symm
    · replace E := iteF c0 E
      intro g6 e0; replace E := bndE e0 E
      exact (Option.some.inj E).symm
  · skip
    by_cases c0 : e = 0
    · replace E := iteT c0 E
      refine Or.inl ⟨c0, ?_⟩
      exact (Option.some.inj E).symm
    replace E := iteF c0 E
    by_cases c1 : e = 2
    · replace E := iteT c1 E
      refine Or.inr (⟨c1, ?_⟩)
      exact (Option.some.inj E).symm
    replace E := iteF c1 E
    cases E
abbrev ppX0_strict (N R : Nat) (F : Frm) (x1 : Int32) (x2 : Int32) (h : HI) (g : HL) : GO Int32 := pX0_strict_0 N R F x1 x2 h g
theorem sX0_strict {D : DE} {f N R : Nat} {F : Frm} (hF : k_Fix F) (hf : 11 ≤ f) {o9 : GQ Int32} {x1 : Int32} {x2 : Int32} {h : HI} {g : HL} (E : ppX0_strict N R F x1 x2 h g = some o9) : Gi D f mX0_strict [.ref (ad D 0), .int x1, .int x2, .ref (ad D 159)] F h g (gqi o9) (gt o9) := by
  obtain ⟨f, rfl⟩ : ∃ f0, f = f0 + 1 := ⟨f - 1, by omega⟩
  have hf : 10 ≤ f := by omega
  exact wX0_strict (f := f) hF _ _ (jX0_strict_0 hf _ hF _ _ _ _ E)
def pX1_told_151 (N R : Nat) (K122 : Frm → Int32 → Int32 → HI → HL → GO Int32) (F : Frm) (x3 : Int32) (s0 : Int32) (s1 : Int32) (h : HI) (g : HL) : GO Int32 :=
  bnd (s0 + s1) fun (y1 : Int32) =>
  bnd (x3 + 1) fun (y2 : Int32) =>
  K122 F y1 y2 h g
theorem jX1_told_151 {D : DE} {f N R : Nat} (hf : 6 ≤ f) {K122 : Frm → Int32 → Int32 → HI → HL → GO Int32} {o9 : GQ Int32} (hK122 : ∀ (F : Frm) (_ : k_Fix F) (x2 : Int32) (x3 : Int32) (h : HI) (g : HL), K122 F x2 x3 h g = some o9 → V D mX1_told (f + 1) (gi (gqi o9) (gt o9)) 122 [(0, .ref (ad D 0)), (2, .int x2), (3, .int x3)] [] (F, h, g)) : ∀ (F : Frm) (_ : k_Fix F) (x3 : Int32) (s0 : Int32) (s1 : Int32) (h : HI) (g : HL), pX1_told_151 N R K122 F x3 s0 s1 h g = some o9 → JX1_told_151 D f (gqi o9) (gt o9) F h g x3 s0 s1 := by
  intro F hF x3 s0 s1 h g E
  unfold pX1_told_151 at E
  intro y1 e0; replace E := bndE e0 E
  intro y2 e0; replace E := bndE e0 E
  exact hK122 _ hF _ _ _ _ E
def pX1_told_122 (N R : Nat) : Nat → Frm → Int32 → Int32 → HI → HL → GO Int32
  | 0, _, _, _, _, _ => none
  | n + 1, F, x2, x3, h, g =>
    if (h 101 4) ≤ x3 then
      some (.inl (x2, F, h, g))
    else
      gd (vin x3 1540) <|
      if (h 104 (ix x3)) = 0 then
        pX1_told_151 N R (pX1_told_122 N R n) F x3 x2 1 h g
      else
        pX1_told_151 N R (pX1_told_122 N R n) F x3 x2 0 h g
theorem lX1_told_122 {D : DE} {f N R : Nat} (hf : 6 ≤ f) {o9 : GQ Int32} : ∀ (n : Nat) (F : Frm) (_ : k_Fix F) (x2 : Int32) (x3 : Int32) (h : HI) (g : HL), pX1_told_122 N R n F x2 x3 h g = some o9 → V D mX1_told (f + 1) (gi (gqi o9) (gt o9)) 122 [(0, .ref (ad D 0)), (2, .int x2), (3, .int x3)] [] (F, h, g) := by
  intro n
  induction n with
  | zero => intro F hF x2 x3 h g E; cases E
  | succ n hK122 =>
    intro F hF x2 x3 h g E
    rw [pX1_told_122] at E
    refine bX1_told_122 (f := f) hF x2 x3  ?_
    refine ⟨fun c0 => ?_, fun c0 => ?_⟩
    · replace E := iteT c0 E
      exact (Option.some.inj E).symm
    · replace E := iteF c0 E
      obtain ⟨z0, E⟩ := gdE E; refine ⟨vinE z0, ?_⟩
      refine ⟨fun c0 => ?_, fun c0 => ?_⟩
      · replace E := iteF c0 E
        exact jX1_told_151 hf hK122 _ hF _ _ _ _ _ E
      · replace E := iteT c0 E
        exact jX1_told_151 hf hK122 _ hF _ _ _ _ _ E
def pX1_told_15 (N R : Nat) (F : Frm) (x1 : Int32) (s0 : Int32) (h : HI) (g : HL) : GO Int32 :=
  ogv (ppX1_lies N R F s0 h g) fun (F3 : Frm) (h1 : HI) (g2 : HL) =>
  if x1.toInt < 0 ∨ 5 < x1.toInt then
    some (.inl ((h1 0 13), F3, h1, g2))
  else if x1 = 0 then
    some (.inl ((h1 101 13), F3, h1, g2))
  else if x1 = 1 then
    some (.inl (((h1 101 4) - (h1 101 10)), F3, h1, g2))
  else if x1 = 2 then
    some (.inl (((h1 101 7) - (h1 101 11)), F3, h1, g2))
  else if x1 = 3 then
    some (.inl ((h1 101 9), F3, h1, g2))
  else if x1 = 4 then
    some (.inl ((h1 101 15), F3, h1, g2))
  else
    bnd (h1 101 10) fun (y4 : Int32) =>
    pX1_told_122 N R N F3 0 y4 h1 g2
theorem jX1_told_15 {D : DE} {f N R : Nat} (hf : 6 ≤ f) {o9 : GQ Int32} : ∀ (F : Frm) (_ : k_Fix F) (x1 : Int32) (s0 : Int32) (h : HI) (g : HL), pX1_told_15 N R F x1 s0 h g = some o9 → JX1_told_15 D f (gqi o9) (gt o9) F h g x1 s0 := by
  intro F hF x1 s0 h g E
  unfold pX1_told_15 at E
  refine Gv.ob (fun o1 e0 => (sX1_lies (N := N) (R := R) hF (by omega) e0)) E (fun F3 h1 g2 hF E => ?_) (fun _ _ _ _ e => e)
  refine ⟨fun c0 => ?_, fun c0 => ?_, fun c0 => ?_, fun c0 => ?_, fun c0 => ?_, fun c0 => ?_, fun c0 => ?_⟩
  · replace E := iteT c0 E
    exact (Option.some.inj E).symm
  · replace E := iteF (by rw [c0]; decide) E
    replace E := iteT c0 E
    exact (Option.some.inj E).symm
  · replace E := iteF (by rw [c0]; decide) E
    replace E := iteF (by rw [c0]; decide) E
    replace E := iteT c0 E
    exact (Option.some.inj E).symm
  · replace E := iteF (by rw [c0]; decide) E
    replace E := iteF (by rw [c0]; decide) E
    replace E := iteF (by rw [c0]; decide) E
    replace E := iteT c0 E
    exact (Option.some.inj E).symm
  · replace E := iteF (by rw [c0]; decide) E
    replace E := iteF (by rw [c0]; decide) E
    replace E := iteF (by rw [c0]; decide) E
    replace E := iteF (by rw [c0]; decide) E
    replace E := iteT c0 E
    exact (Option.some.inj E).symm
  · replace E := iteF (by rw [c0]; decide) E
    replace E := iteF (by rw [c0]; decide) E
    replace E := iteF (by rw [c0]; decide) E
    replace E := iteF (by rw [c0]; decide) E
    replace E := iteF (by rw [c0]; decide) E
    replace E := iteT c0 E
    exact (Option.some.inj E).symm
  · replace E := iteF (by rw [c0]; decide) E
    replace E := iteF (by rw [c0]; decide) E
    replace E := iteF (by rw [c0]; decide) E
    replace E := iteF (by rw [c0]; decide) E
    replace E := iteF (by rw [c0]; decide) E
    replace E := iteF (by rw [c0]; decide) E
    intro y4 e0; replace E := bndE e0 E
    exact lX1_told_122 hf  N _ hF _ _ _ _ E
def pX1_told_14 (N R : Nat) (F : Frm) (x1 : Int32) (h : HI) (g : HL) : GO Int32 :=
  pX1_told_15 N R F x1 0 h g
theorem jX1_told_14 {D : DE} {f N R : Nat} (hf : 6 ≤ f) {o9 : GQ Int32} : ∀ (F : Frm) (_ : k_Fix F) (x1 : Int32) (h : HI) (g : HL), pX1_told_14 N R F x1 h g = some o9 → JX1_told_14 D f (gqi o9) (gt o9) F h g x1 := by
  intro F hF x1 h g E
  unfold pX1_told_14 at E
  exact jX1_told_15 hf  _ hF _ _ _ _ E
def pX1_told_0 (N R : Nat) (F : Frm) (x1 : Int32) (h : HI) (g : HL) : GO Int32 :=
  if x1 < 0 then
    pX1_told_14 N R F x1 h g
  else
    if 6 < x1 then
      pX1_told_14 N R F x1 h g
    else
      pX1_told_15 N R F x1 1 h g
theorem jX1_told_0 {D : DE} {f N R : Nat} (hf : 6 ≤ f) {o9 : GQ Int32} : ∀ (F : Frm) (_ : k_Fix F) (x1 : Int32) (h : HI) (g : HL), pX1_told_0 N R F x1 h g = some o9 → JX1_told_0 D f (gqi o9) (gt o9) F h g x1 := by
  intro F hF x1 h g E
  unfold pX1_told_0 at E
  refine ⟨fun c0 => ?_, fun c0 => ?_⟩
  · replace E := iteT c0 E
    exact jX1_told_14 hf  _ hF _ _ _ E
  · replace E := iteF c0 E
    refine ⟨fun c0 => ?_, fun c0 => ?_⟩
    · replace E := iteT c0 E
      exact jX1_told_14 hf  _ hF _ _ _ E
    · replace E := iteF c0 E
      exact jX1_told_15 hf  _ hF _ _ _ _ E
abbrev ppX1_told (N R : Nat) (F : Frm) (x1 : Int32) (h : HI) (g : HL) : GO Int32 := pX1_told_0 N R F x1 h g
theorem sX1_told {D : DE} {f N R : Nat} {F : Frm} (hF : k_Fix F) (hf : 7 ≤ f) {o9 : GQ Int32} {x1 : Int32} {h : HI} {g : HL} (E : ppX1_told N R F x1 h g = some o9) : Gi D f mX1_told [.ref (ad D 0), .int x1] F h g (gqi o9) (gt o9) := by
  obtain ⟨f, rfl⟩ : ∃ f0, f = f0 + 1 := ⟨f - 1, by omega⟩
  have hf : 6 ≤ f := by omega
  exact wX1_told (f := f) hF _ (jX1_told_0 hf _ hF _ _ _ E)
def pX0_told_0 (N R : Nat) (F : Frm) (x1 : Int32) (h : HI) (g : HL) : GO Int32 :=
  ohi (ppX1_told N R F x1 h g) (fun e F1 h1 g1 =>
    if e = 2 then
      some (.inl (1, F1, h1, g1))
    else none) fun (y1 : Int32) (F4 : Frm) (h2 : HI) (g3 : HL) =>
  bnd (up2 g3 159 (ix 0) y1.toInt64) fun (g5 : HL) =>
  some (.inl (0, F4, h2, g5))
theorem jX0_told_0 {D : DE} {f N R : Nat} (hf : 7 ≤ f) {o9 : GQ Int32} : ∀ (F : Frm) (_ : k_Fix F) (x1 : Int32) (h : HI) (g : HL), pX0_told_0 N R F x1 h g = some o9 → JX0_told_0 D f (gqi o9) (gt o9) F h g x1 := by
  intro F hF x1 h g E
  unfold pX0_told_0 at E
  refine Gi.oh (fun o1 e0 => (sX1_told (N := N) (R := R) hF (by omega) e0)) E (fun y1 F4 h2 g3 hF E => ?_) (fun e F1 h1 g1 hF E => ?_)
  · skip
    intro g5 e0; replace E := bndE e0 E
    exact (Option.some.inj E).symm
  · skip
    by_cases c0 : e = 2
    · replace E := iteT c0 E
      refine ⟨c0, ?_⟩
      exact (Option.some.inj E).symm
    replace E := iteF c0 E
    cases E
abbrev ppX0_told (N R : Nat) (F : Frm) (x1 : Int32) (h : HI) (g : HL) : GO Int32 := pX0_told_0 N R F x1 h g
theorem sX0_told {D : DE} {f N R : Nat} {F : Frm} (hF : k_Fix F) (hf : 8 ≤ f) {o9 : GQ Int32} {x1 : Int32} {h : HI} {g : HL} (E : ppX0_told N R F x1 h g = some o9) : Gi D f mX0_told [.ref (ad D 0), .int x1, .ref (ad D 159)] F h g (gqi o9) (gt o9) := by
  obtain ⟨f, rfl⟩ : ∃ f0, f = f0 + 1 := ⟨f - 1, by omega⟩
  have hf : 7 ≤ f := by omega
  exact wX0_told (f := f) hF _ (jX0_told_0 hf _ hF _ _ _ E)
def pX10_init_0 (N R : Nat) (F : Frm) (x0 : Nat) (x1 : Int32) (h : HI) (g : HL) : Option (HI × HL) :=
  gd (isEb F x0) <|
  bnd ((F.2.1 x0).1 - 10) fun (k1 : Nat) =>
  bnd (up2 h x0 0 x1) fun (h2 : HI) =>
  some (h2, g)
theorem jX10_init_0 {D : DE} {f N R : Nat} (hf : 0 ≤ f) {h9 : HI} {g9 : HL} : ∀ (F : Frm) (_ : k_Fix F) (x0 : Nat) (x1 : Int32) (h : HI) (g : HL), pX10_init_0 N R F x0 x1 h g = some (h9, g9) → JX10_init_0 D f (eqv h9 g9) F h g x0 x1 := by
  intro F hF x0 x1 h g E
  unfold pX10_init_0 at E
  obtain ⟨z0, E⟩ := gdE E; obtain ⟨k1, e1⟩ : ∃ k, k = (F.2.1 x0).1 - 10 := ⟨_, rfl⟩; replace E := bndE e1 E; have zEk1 : isE F x0 k1 := by rw [e1]; exact isEbE z0
  refine ⟨k1, zEk1, ?_⟩
  intro h2 e0; replace E := bndE e0 E
  cases E; exact ⟨rfl, rfl⟩
abbrev ppX10_init (N R : Nat) (F : Frm) (x0 : Nat) (x1 : Int32) (h : HI) (g : HL) : Option (HI × HL) := pX10_init_0 N R F x0 x1 h g
theorem sX10_init {D : DE} {f N R : Nat} {F : Frm} (hF : k_Fix F) (hf : 1 ≤ f) {h9 : HI} {g9 : HL} {x0 : Nat} {x1 : Int32} {h : HI} {g : HL} (E : ppX10_init N R F x0 x1 h g = some (h9, g9)) : Sv D f mX10_init [.ref (ad D x0), .int x1] F h g (eqv h9 g9) := by
  obtain ⟨f, rfl⟩ : ∃ f0, f = f0 + 1 := ⟨f - 1, by omega⟩
  have hf : 0 ≤ f := by omega
  exact wX10_init (f := f) hF _ _ (jX10_init_0 hf _ hF _ _ _ _ E)
def pX11_init_0 (N R : Nat) (F : Frm) (x0 : Nat) (x1 : Int32) (x2 : Int32) (x3 : Nat) (x4 : Nat) (h : HI) (g : HL) : GO Unit :=
  obv (ppX10_init N R F x0 x1 h g) fun (h1 : HI) (g2 : HL) =>
  gd (decide (F.2.1 x0 = (19, 0))) <|
  bnd (up2 h1 x0 2 x2) fun (h3 : HI) =>
  bnd (fwr F x0 3 (some x3)) fun (F4 : Frm) =>
  gd (decide (160 ≤ x0)) <|
  bnd (fwr F4 x0 4 (some x4)) fun (F5 : Frm) =>
  gd (decide (160 ≤ x0)) <|
  some (.inl ((), F5, h3, g2))
theorem jX11_init_0 {D : DE} {f N R : Nat} (hf : 1 ≤ f) {o9 : GQ Unit} : ∀ (F : Frm) (_ : k_Fix F) (x0 : Nat) (x1 : Int32) (x2 : Int32) (x3 : Nat) (x4 : Nat) (h : HI) (g : HL), pX11_init_0 N R F x0 x1 x2 x3 x4 h g = some o9 → JX11_init_0 D f (gqv o9) (gt o9) F h g x0 x1 x2 x3 x4 := by
  intro F hF x0 x1 x2 x3 x4 h g E
  unfold pX11_init_0 at E
  obtain ⟨h1, g2, e0, E⟩ := obvE E
  refine Sv.mono (sX10_init (N := N) (R := R) hF (by omega) e0) (fun h8 g8 hq => ?_)
  obtain ⟨rfl, rfl⟩ := hq
  obtain ⟨z0, E⟩ := gdE E; refine ⟨of_decide_eq_true z0, ?_⟩
  intro h3 e0; replace E := bndE e0 E
  intro F4 e0; replace E := bndE e0 E
  obtain ⟨z0, E⟩ := gdE E; refine ⟨of_decide_eq_true z0, ?_⟩
  replace hF : k_Fix F4 := by rw [e0]; exact k_Fix.wr hF (fx_okD (of_decide_eq_true z0)) _
  intro F5 e0; replace E := bndE e0 E
  obtain ⟨z0, E⟩ := gdE E; refine ⟨of_decide_eq_true z0, ?_⟩
  replace hF : k_Fix F5 := by rw [e0]; exact k_Fix.wr hF (fx_okD (of_decide_eq_true z0)) _
  exact (Option.some.inj E).symm
abbrev ppX11_init (N R : Nat) (F : Frm) (x0 : Nat) (x1 : Int32) (x2 : Int32) (x3 : Nat) (x4 : Nat) (h : HI) (g : HL) : GO Unit := pX11_init_0 N R F x0 x1 x2 x3 x4 h g
theorem sX11_init {D : DE} {f N R : Nat} {F : Frm} (hF : k_Fix F) (hf : 2 ≤ f) {o9 : GQ Unit} {x0 : Nat} {x1 : Int32} {x2 : Int32} {x3 : Nat} {x4 : Nat} {h : HI} {g : HL} (E : ppX11_init N R F x0 x1 x2 x3 x4 h g = some o9) : Gv D f mX11_init [.ref (ad D x0), .int x1, .int x2, .ref (ad D x3), .ref (ad D x4)] F h g (gqv o9) (gt o9) := by
  obtain ⟨f, rfl⟩ : ∃ f0, f = f0 + 1 := ⟨f - 1, by omega⟩
  have hf : 1 ≤ f := by omega
  exact wX11_init (f := f) hF _ _ _ _ _ (jX11_init_0 hf _ hF _ _ _ _ _ _ _ E)
def pX4_close_0 (N R : Nat) (F : Frm) (x1 : Int32) (h : HI) (g : HL) : Option (HI × HL) :=
  bnd (up2 h 7 5 ((h 7 5) - x1)) fun (h1 : HI) =>
  some (h1, g)
theorem jX4_close_0 {D : DE} {f N R : Nat} (hf : 0 ≤ f) {h9 : HI} {g9 : HL} : ∀ (F : Frm) (_ : k_Fix F) (x1 : Int32) (h : HI) (g : HL), pX4_close_0 N R F x1 h g = some (h9, g9) → JX4_close_0 D f (eqv h9 g9) F h g x1 := by
  intro F hF x1 h g E
  unfold pX4_close_0 at E
  intro h1 e0; replace E := bndE e0 E
  cases E; exact ⟨rfl, rfl⟩
abbrev ppX4_close (N R : Nat) (F : Frm) (x1 : Int32) (h : HI) (g : HL) : Option (HI × HL) := pX4_close_0 N R F x1 h g
theorem sX4_close {D : DE} {f N R : Nat} {F : Frm} (hF : k_Fix F) (hf : 0 ≤ f) {h9 : HI} {g9 : HL} {x1 : Int32} {h : HI} {g : HL} (E : ppX4_close N R F x1 h g = some (h9, g9)) : Sv D f mX4_close [.ref (ad D 7), .int x1] F h g (eqv h9 g9) := by
  exact wX4_close (f := f) hF _ (jX4_close_0 hf _ hF _ _ _ E)
def pX4_open_0 (N R : Nat) (F : Frm) (x1 : Int32) (h : HI) (g : HL) : Option (HI × HL) :=
  gd (vin (h 7 5) 17) <|
  bnd (up2 h 8 (ix (h 7 5)) x1) fun (h1 : HI) =>
  bnd (up2 h1 7 5 ((h1 7 5) + 1)) fun (h2 : HI) =>
  some (h2, g)
theorem jX4_open_0 {D : DE} {f N R : Nat} (hf : 0 ≤ f) {h9 : HI} {g9 : HL} : ∀ (F : Frm) (_ : k_Fix F) (x1 : Int32) (h : HI) (g : HL), pX4_open_0 N R F x1 h g = some (h9, g9) → JX4_open_0 D f (eqv h9 g9) F h g x1 := by
  intro F hF x1 h g E
  unfold pX4_open_0 at E
  obtain ⟨z0, E⟩ := gdE E; refine ⟨vinE z0, ?_⟩
  intro h1 e0; replace E := bndE e0 E
  intro h2 e0; replace E := bndE e0 E
  cases E; exact ⟨rfl, rfl⟩
abbrev ppX4_open (N R : Nat) (F : Frm) (x1 : Int32) (h : HI) (g : HL) : Option (HI × HL) := pX4_open_0 N R F x1 h g
theorem sX4_open {D : DE} {f N R : Nat} {F : Frm} (hF : k_Fix F) (hf : 0 ≤ f) {h9 : HI} {g9 : HL} {x1 : Int32} {h : HI} {g : HL} (E : ppX4_open N R F x1 h g = some (h9, g9)) : Sv D f mX4_open [.ref (ad D 7), .int x1] F h g (eqv h9 g9) := by
  exact wX4_open (f := f) hF _ (jX4_open_0 hf _ hF _ _ _ E)
def pX14_judge_0 (N R : Nat) (F : Frm) (x0 : Nat) (x2 : Int32) (h : HI) (g : HL) : GO Int32 :=
  some (.inl (0, F, h, g))
theorem jX14_judge_0 {D : DE} {f N R : Nat} (hf : 0 ≤ f) {o9 : GQ Int32} : ∀ (F : Frm) (_ : k_Fix F) (x0 : Nat) (x2 : Int32) (h : HI) (g : HL), pX14_judge_0 N R F x0 x2 h g = some o9 → JX14_judge_0 D f (gqi o9) (gt o9) F h g x0 x2 := by
  intro F hF x0 x2 h g E
  unfold pX14_judge_0 at E
  exact (Option.some.inj E).symm
abbrev ppX14_judge (N R : Nat) (F : Frm) (x0 : Nat) (x2 : Int32) (h : HI) (g : HL) : GO Int32 := pX14_judge_0 N R F x0 x2 h g
theorem sX14_judge {D : DE} {f N R : Nat} {F : Frm} (hF : k_Fix F) (hf : 0 ≤ f) {o9 : GQ Int32} {x0 : Nat} {x2 : Int32} {h : HI} {g : HL} (E : ppX14_judge N R F x0 x2 h g = some o9) : Gi D f mX14_judge [.ref (ad D x0), .ref (ad D 7), .int x2] F h g (gqi o9) (gt o9) := by
  exact wX14_judge (f := f) hF _ _ (jX14_judge_0 hf _ hF _ _ _ _ E)
def pX15_judge_0 (N R : Nat) (F : Frm) (x0 : Nat) (x2 : Int32) (h : HI) (g : HL) : GO Int32 :=
  gd (decide (F.2.1 x0 = (23, 0))) <|
  some (.inl ((h x0 1), F, h, g))
theorem jX15_judge_0 {D : DE} {f N R : Nat} (hf : 0 ≤ f) {o9 : GQ Int32} : ∀ (F : Frm) (_ : k_Fix F) (x0 : Nat) (x2 : Int32) (h : HI) (g : HL), pX15_judge_0 N R F x0 x2 h g = some o9 → JX15_judge_0 D f (gqi o9) (gt o9) F h g x0 x2 := by
  intro F hF x0 x2 h g E
  unfold pX15_judge_0 at E
  obtain ⟨z0, E⟩ := gdE E; refine ⟨of_decide_eq_true z0, ?_⟩
  exact (Option.some.inj E).symm
abbrev ppX15_judge (N R : Nat) (F : Frm) (x0 : Nat) (x2 : Int32) (h : HI) (g : HL) : GO Int32 := pX15_judge_0 N R F x0 x2 h g
theorem sX15_judge {D : DE} {f N R : Nat} {F : Frm} (hF : k_Fix F) (hf : 0 ≤ f) {o9 : GQ Int32} {x0 : Nat} {x2 : Int32} {h : HI} {g : HL} (E : ppX15_judge N R F x0 x2 h g = some o9) : Gi D f mX15_judge [.ref (ad D x0), .ref (ad D 7), .int x2] F h g (gqi o9) (gt o9) := by
  exact wX15_judge (f := f) hF _ _ (jX15_judge_0 hf _ hF _ _ _ _ E)
def pX1_pairOf_0 (N R : Nat) (F : Frm) (x0 : Int32) (x1 : Int32) (h : HI) (g : HL) : Option (Int32 × HI × HL) :=
  if 1 < x0 then
    some ((-1), h, g)
  else
    if x1 ≤ 1 then
      some (((1 + (2 * x0)) + x1), h, g)
    else
      some ((-1), h, g)
theorem jX1_pairOf_0 {D : DE} {f N R : Nat} (hf : 0 ≤ f) {y9 : Int32} {h9 : HI} {g9 : HL} : ∀ (F : Frm) (_ : k_Fix F) (x0 : Int32) (x1 : Int32) (h : HI) (g : HL), pX1_pairOf_0 N R F x0 x1 h g = some (y9, h9, g9) → JX1_pairOf_0 D f (eqi y9 h9 g9) F h g x0 x1 := by
  intro F hF x0 x1 h g E
  unfold pX1_pairOf_0 at E
  refine ⟨fun c0 => ?_, fun c0 => ?_⟩
  · replace E := iteT c0 E
    cases E; exact ⟨rfl, rfl, rfl⟩
  · replace E := iteF c0 E
    refine ⟨fun c0 => ?_, fun c0 => ?_⟩
    · replace E := iteT c0 E
      cases E; exact ⟨rfl, rfl, rfl⟩
    · replace E := iteF c0 E
      cases E; exact ⟨rfl, rfl, rfl⟩
abbrev ppX1_pairOf (N R : Nat) (F : Frm) (x0 : Int32) (x1 : Int32) (h : HI) (g : HL) : Option (Int32 × HI × HL) := pX1_pairOf_0 N R F x0 x1 h g
theorem sX1_pairOf {D : DE} {f N R : Nat} {F : Frm} (hF : k_Fix F) (hf : 0 ≤ f) {y9 : Int32} {h9 : HI} {g9 : HL} {x0 : Int32} {x1 : Int32} {h : HI} {g : HL} (E : ppX1_pairOf N R F x0 x1 h g = some (y9, h9, g9)) : Si D f mX1_pairOf [.int x0, .int x1] F h g (eqi y9 h9 g9) := by
  exact wX1_pairOf (f := f) hF _ _ (jX1_pairOf_0 hf _ hF _ _ _ _ E)
def pX2_same_75 (N R : Nat) (K24 : Frm → Int32 → Int32 → Int32 → Int32 → HI → HL → Option (Int32 × HI × HL)) (F : Frm) (x1 : Int32) (x2 : Int32) (x4 : Int32) (s0 : Int32) (h : HI) (g : HL) : Option (Int32 × HI × HL) :=
  bnd (x4 + 1) fun (y1 : Int32) =>
  K24 F x1 x2 s0 y1 h g
theorem jX2_same_75 {D : DE} {f N R : Nat} (hf : 0 ≤ f) {K24 : Frm → Int32 → Int32 → Int32 → Int32 → HI → HL → Option (Int32 × HI × HL)} {y9 : Int32} {h9 : HI} {g9 : HL} (hK24 : ∀ (F : Frm) (_ : k_Fix F) (x1 : Int32) (x2 : Int32) (x3 : Int32) (x4 : Int32) (h : HI) (g : HL), K24 F x1 x2 x3 x4 h g = some (y9, h9, g9) → V D mX2_same f (qi F (eqi y9 h9 g9)) 24 [(0, .ref (ad D 1)), (1, .int x1), (2, .int x2), (3, .int x3), (4, .int x4)] [] (F, h, g)) : ∀ (F : Frm) (_ : k_Fix F) (x1 : Int32) (x2 : Int32) (x4 : Int32) (s0 : Int32) (h : HI) (g : HL), pX2_same_75 N R K24 F x1 x2 x4 s0 h g = some (y9, h9, g9) → JX2_same_75 D f (eqi y9 h9 g9) F h g x1 x2 x4 s0 := by
  intro F hF x1 x2 x4 s0 h g E
  unfold pX2_same_75 at E
  intro y1 e0; replace E := bndE e0 E
  exact hK24 _ hF _ _ _ _ _ _ E
def pX2_same_24 (N R : Nat) : Nat → Frm → Int32 → Int32 → Int32 → Int32 → HI → HL → Option (Int32 × HI × HL)
  | 0, _, _, _, _, _, _, _ => none
  | n + 1, F, x1, x2, x3, x4, h, g =>
    gd (vin x1 1001) <|
    if (h 4 (ix x1)) ≤ x4 then
      gd (isBb x3) <|
      some (x3, h, g)
    else
      if x3 = 0 then
        gd (isBb x3) <|
        some (x3, h, g)
      else
        gd (vin x1 1001) <|
        gd (vin ((h 3 (ix x1)) + x4) 4000) <|
        gd (vin x2 1001) <|
        gd (vin ((h 3 (ix x2)) + x4) 4000) <|
        if (h 2 (ix ((h 3 (ix x1)) + x4))) = (h 2 (ix ((h 3 (ix x2)) + x4))) then
          pX2_same_75 N R (pX2_same_24 N R n) F x1 x2 x4 1 h g
        else
          pX2_same_75 N R (pX2_same_24 N R n) F x1 x2 x4 0 h g
theorem lX2_same_24 {D : DE} {f N R : Nat} (hf : 0 ≤ f) {y9 : Int32} {h9 : HI} {g9 : HL} : ∀ (n : Nat) (F : Frm) (_ : k_Fix F) (x1 : Int32) (x2 : Int32) (x3 : Int32) (x4 : Int32) (h : HI) (g : HL), pX2_same_24 N R n F x1 x2 x3 x4 h g = some (y9, h9, g9) → V D mX2_same f (qi F (eqi y9 h9 g9)) 24 [(0, .ref (ad D 1)), (1, .int x1), (2, .int x2), (3, .int x3), (4, .int x4)] [] (F, h, g) := by
  intro n
  induction n with
  | zero => intro F hF x1 x2 x3 x4 h g E; cases E
  | succ n hK24 =>
    intro F hF x1 x2 x3 x4 h g E
    rw [pX2_same_24] at E
    refine bX2_same_24 (f := f) hF x1 x2 x3 x4  ?_
    obtain ⟨z0, E⟩ := gdE E; refine ⟨vinE z0, ?_⟩
    refine ⟨fun c0 => ?_, fun c0 => ?_⟩
    · replace E := iteT c0 E
      obtain ⟨z0, E⟩ := gdE E; refine ⟨isBbE z0, ?_⟩
      cases E; exact ⟨rfl, rfl, rfl⟩
    · replace E := iteF c0 E
      refine ⟨fun c0 => ?_, fun c0 => ?_⟩
      · replace E := iteT c0 E
        obtain ⟨z0, E⟩ := gdE E; refine ⟨isBbE z0, ?_⟩
        cases E; exact ⟨rfl, rfl, rfl⟩
      · replace E := iteF c0 E
        obtain ⟨z0, E⟩ := gdE E; refine ⟨vinE z0, ?_⟩
        obtain ⟨z0, E⟩ := gdE E; refine ⟨vinE z0, ?_⟩
        obtain ⟨z0, E⟩ := gdE E; refine ⟨vinE z0, ?_⟩
        obtain ⟨z0, E⟩ := gdE E; refine ⟨vinE z0, ?_⟩
        refine ⟨fun c0 => ?_, fun c0 => ?_⟩
        · replace E := iteF c0 E
          exact jX2_same_75 hf hK24 _ hF _ _ _ _ _ _ E
        · replace E := iteT c0 E
          exact jX2_same_75 hf hK24 _ hF _ _ _ _ _ _ E
def pX2_same_20 (N R : Nat) (F : Frm) (x1 : Int32) (x2 : Int32) (s0 : Int32) (h : HI) (g : HL) : Option (Int32 × HI × HL) :=
  pX2_same_24 N R N F x1 x2 s0 0 h g
theorem jX2_same_20 {D : DE} {f N R : Nat} (hf : 0 ≤ f) {y9 : Int32} {h9 : HI} {g9 : HL} : ∀ (F : Frm) (_ : k_Fix F) (x1 : Int32) (x2 : Int32) (s0 : Int32) (h : HI) (g : HL), pX2_same_20 N R F x1 x2 s0 h g = some (y9, h9, g9) → JX2_same_20 D f (eqi y9 h9 g9) F h g x1 x2 s0 := by
  intro F hF x1 x2 s0 h g E
  unfold pX2_same_20 at E
  exact lX2_same_24 hf  N _ hF _ _ _ _ _ _ E
def pX2_same_0 (N R : Nat) (F : Frm) (x1 : Int32) (x2 : Int32) (h : HI) (g : HL) : Option (Int32 × HI × HL) :=
  gd (vin x1 1001) <|
  gd (vin x2 1001) <|
  if (h 4 (ix x1)) = (h 4 (ix x2)) then
    pX2_same_20 N R F x1 x2 1 h g
  else
    pX2_same_20 N R F x1 x2 0 h g
theorem jX2_same_0 {D : DE} {f N R : Nat} (hf : 0 ≤ f) {y9 : Int32} {h9 : HI} {g9 : HL} : ∀ (F : Frm) (_ : k_Fix F) (x1 : Int32) (x2 : Int32) (h : HI) (g : HL), pX2_same_0 N R F x1 x2 h g = some (y9, h9, g9) → JX2_same_0 D f (eqi y9 h9 g9) F h g x1 x2 := by
  intro F hF x1 x2 h g E
  unfold pX2_same_0 at E
  obtain ⟨z0, E⟩ := gdE E; refine ⟨vinE z0, ?_⟩
  obtain ⟨z0, E⟩ := gdE E; refine ⟨vinE z0, ?_⟩
  refine ⟨fun c0 => ?_, fun c0 => ?_⟩
  · replace E := iteF c0 E
    exact jX2_same_20 hf  _ hF _ _ _ _ _ E
  · replace E := iteT c0 E
    exact jX2_same_20 hf  _ hF _ _ _ _ _ E
abbrev ppX2_same (N R : Nat) (F : Frm) (x1 : Int32) (x2 : Int32) (h : HI) (g : HL) : Option (Int32 × HI × HL) := pX2_same_0 N R F x1 x2 h g
theorem sX2_same {D : DE} {f N R : Nat} {F : Frm} (hF : k_Fix F) (hf : 0 ≤ f) {y9 : Int32} {h9 : HI} {g9 : HL} {x1 : Int32} {x2 : Int32} {h : HI} {g : HL} (E : ppX2_same N R F x1 x2 h g = some (y9, h9, g9)) : Si D f mX2_same [.ref (ad D 1), .int x1, .int x2] F h g (eqi y9 h9 g9) := by
  exact wX2_same (f := f) hF _ _ (jX2_same_0 hf _ hF _ _ _ _ E)
def pX2_want_0 (N R : Nat) (F : Frm) (x1 : Int32) (x2 : Int32) (x3 : Int32) (h : HI) (g : HL) : GO Unit :=
  if x1 = 0 then
    bnd (up2 h 1 9 x2) fun (h1 : HI) =>
    bnd (up2 h1 1 10 x3) fun (h2 : HI) =>
    gd (decide (160 ≤ F.1.1)) <|
    some (.inr (0, fnx F 0, h2, g))
  else
    some (.inl ((), F, h, g))
theorem jX2_want_0 {D : DE} {f N R : Nat} (hf : 5 ≤ f) {o9 : GQ Unit} : ∀ (F : Frm) (_ : k_Fix F) (x1 : Int32) (x2 : Int32) (x3 : Int32) (h : HI) (g : HL), pX2_want_0 N R F x1 x2 x3 h g = some o9 → JX2_want_0 D f (gqv o9) (gt o9) F h g x1 x2 x3 := by
  intro F hF x1 x2 x3 h g E
  unfold pX2_want_0 at E
  refine ⟨fun c0 => ?_, fun c0 => ?_⟩
  · replace E := iteF c0 E
    exact (Option.some.inj E).symm
  · replace E := iteT c0 E
    intro h1 e0; replace E := bndE e0 E
    intro h2 e0; replace E := bndE e0 E
    obtain ⟨z0, E⟩ := gdE E; exact ⟨of_decide_eq_true z0, (Option.some.inj E).symm⟩
abbrev ppX2_want (N R : Nat) (F : Frm) (x1 : Int32) (x2 : Int32) (x3 : Int32) (h : HI) (g : HL) : GO Unit := pX2_want_0 N R F x1 x2 x3 h g
theorem sX2_want {D : DE} {f N R : Nat} {F : Frm} (hF : k_Fix F) (hf : 6 ≤ f) {o9 : GQ Unit} {x1 : Int32} {x2 : Int32} {x3 : Int32} {h : HI} {g : HL} (E : ppX2_want N R F x1 x2 x3 h g = some o9) : Gv D f mX2_want [.ref (ad D 1), .int x1, .int x2, .int x3] F h g (gqv o9) (gt o9) := by
  obtain ⟨f, rfl⟩ : ∃ f0, f = f0 + 1 := ⟨f - 1, by omega⟩
  have hf : 5 ≤ f := by omega
  exact wX2_want (f := f) hF _ _ _ (by omega) (jX2_want_0 hf _ hF _ _ _ _ _ E)
def pX4_want_0 (N R : Nat) (F : Frm) (x1 : Int32) (x2 : Int32) (x3 : Int32) (h : HI) (g : HL) : GO Unit :=
  gd (vin x3 1001) <|
  ogv (ppX2_want N R F x1 x2 (h 3 (ix x3)) h g) fun (F3 : Frm) (h1 : HI) (g2 : HL) =>
  some (.inl ((), F3, h1, g2))
theorem jX4_want_0 {D : DE} {f N R : Nat} (hf : 6 ≤ f) {o9 : GQ Unit} : ∀ (F : Frm) (_ : k_Fix F) (x1 : Int32) (x2 : Int32) (x3 : Int32) (h : HI) (g : HL), pX4_want_0 N R F x1 x2 x3 h g = some o9 → JX4_want_0 D f (gqv o9) (gt o9) F h g x1 x2 x3 := by
  intro F hF x1 x2 x3 h g E
  unfold pX4_want_0 at E
  obtain ⟨z0, E⟩ := gdE E; refine ⟨vinE z0, ?_⟩
  refine Gv.ob (fun o1 e0 => (sX2_want (N := N) (R := R) hF (by omega) e0)) E (fun F3 h1 g2 hF E => ?_) (fun _ _ _ _ e => e)
  exact (Option.some.inj E).symm
abbrev ppX4_want (N R : Nat) (F : Frm) (x1 : Int32) (x2 : Int32) (x3 : Int32) (h : HI) (g : HL) : GO Unit := pX4_want_0 N R F x1 x2 x3 h g
theorem sX4_want {D : DE} {f N R : Nat} {F : Frm} (hF : k_Fix F) (hf : 7 ≤ f) {o9 : GQ Unit} {x1 : Int32} {x2 : Int32} {x3 : Int32} {h : HI} {g : HL} (E : ppX4_want N R F x1 x2 x3 h g = some o9) : Gv D f mX4_want [.ref (ad D 7), .int x1, .int x2, .int x3] F h g (gqv o9) (gt o9) := by
  obtain ⟨f, rfl⟩ : ∃ f0, f = f0 + 1 := ⟨f - 1, by omega⟩
  have hf : 6 ≤ f := by omega
  exact wX4_want (f := f) hF _ _ _ (jX4_want_0 hf _ hF _ _ _ _ _ E)
def pX4_function_54 (N R : Nat) (F : Frm) (x1 : Int32) (x2 : Int32) (s1 : Int32) (h : HI) (g : HL) : GO Nat :=
  ogv (ppX4_want N R F s1 4 x1 h g) fun (F3 : Frm) (h1 : HI) (g2 : HL) =>
  gd (vin x2 12) <|
  ob1 (F3.2.2 6 (ix x2)) fun (b4 : Nat) =>
  some (.inl (b4, F3, h1, g2))
theorem jX4_function_54 {D : DE} {f N R : Nat} (hf : 7 ≤ f) {o9 : GQ Nat} : ∀ (F : Frm) (_ : k_Fix F) (x1 : Int32) (x2 : Int32) (s1 : Int32) (h : HI) (g : HL), pX4_function_54 N R F x1 x2 s1 h g = some o9 → JX4_function_54 D f (gqr o9) (gt o9) F h g x1 x2 s1 := by
  intro F hF x1 x2 s1 h g E
  unfold pX4_function_54 at E
  refine Gv.ob (fun o1 e0 => (sX4_want (N := N) (R := R) hF (by omega) e0)) E (fun F3 h1 g2 hF E => ?_) (fun _ _ _ _ e => e)
  obtain ⟨z0, E⟩ := gdE E; refine ⟨vinE z0, ?_⟩
  obtain ⟨b4, z0, E⟩ := ob1E E; refine ⟨b4, z0, ?_⟩
  exact (Option.some.inj E).symm
def pX4_function_37 (N R : Nat) (K4 : Frm → Int32 → Int32 → Int32 → HI → HL → GO Nat) (F : Frm) (x1 : Int32) (x3 : Int32) (s0 : Int32) (h : HI) (g : HL) : GO Nat :=
  bnd (x3 + 1) fun (y1 : Int32) =>
  K4 F x1 s0 y1 h g
theorem jX4_function_37 {D : DE} {f N R : Nat} (hf : 7 ≤ f) {K4 : Frm → Int32 → Int32 → Int32 → HI → HL → GO Nat} {o9 : GQ Nat} (hK4 : ∀ (F : Frm) (_ : k_Fix F) (x1 : Int32) (x2 : Int32) (x3 : Int32) (h : HI) (g : HL), K4 F x1 x2 x3 h g = some o9 → V D mX4_function (f + 1) (gr D (gqr o9) (gt o9)) 4 [(0, .ref (ad D 7)), (1, .int x1), (2, .int x2), (3, .int x3)] [] (F, h, g)) : ∀ (F : Frm) (_ : k_Fix F) (x1 : Int32) (x3 : Int32) (s0 : Int32) (h : HI) (g : HL), pX4_function_37 N R K4 F x1 x3 s0 h g = some o9 → JX4_function_37 D f (gqr o9) (gt o9) F h g x1 x3 s0 := by
  intro F hF x1 x3 s0 h g E
  unfold pX4_function_37 at E
  intro y1 e0; replace E := bndE e0 E
  exact hK4 _ hF _ _ _ _ _ E
def pX4_function_4 (N R : Nat) : Nat → Frm → Int32 → Int32 → Int32 → HI → HL → GO Nat
  | 0, _, _, _, _, _, _ => none
  | n + 1, F, x1, x2, x3, h, g =>
    if (h 7 2) ≤ x3 then
      if x2 < 0 then
        pX4_function_54 N R F x1 x2 0 h g
      else
        pX4_function_54 N R F x1 x2 1 h g
    else
      gd (vin x3 12) <|
      ob1 (F.2.2 6 (ix x3)) fun (b1 : Nat) =>
      gd (decide (F.2.1 b1 = (18, 0))) <|
      obi (ppX2_same N R F (h b1 0) x1 h g) fun (y2 : Int32) (h3 : HI) (g4 : HL) =>
      if y2 = 0 then
        pX4_function_37 N R (pX4_function_4 N R n) F x1 x3 x2 h3 g4
      else
        pX4_function_37 N R (pX4_function_4 N R n) F x1 x3 x3 h3 g4
theorem lX4_function_4 {D : DE} {f N R : Nat} (hf : 7 ≤ f) {o9 : GQ Nat} : ∀ (n : Nat) (F : Frm) (_ : k_Fix F) (x1 : Int32) (x2 : Int32) (x3 : Int32) (h : HI) (g : HL), pX4_function_4 N R n F x1 x2 x3 h g = some o9 → V D mX4_function (f + 1) (gr D (gqr o9) (gt o9)) 4 [(0, .ref (ad D 7)), (1, .int x1), (2, .int x2), (3, .int x3)] [] (F, h, g) := by
  intro n
  induction n with
  | zero => intro F hF x1 x2 x3 h g E; cases E
  | succ n hK4 =>
    intro F hF x1 x2 x3 h g E
    rw [pX4_function_4] at E
    refine bX4_function_4 (f := f) hF x1 x2 x3  ?_
    refine ⟨fun c0 => ?_, fun c0 => ?_⟩
    · replace E := iteT c0 E
      refine ⟨fun c0 => ?_, fun c0 => ?_⟩
      · replace E := iteT c0 E
        exact jX4_function_54 hf  _ hF _ _ _ _ _ E
      · replace E := iteF c0 E
        exact jX4_function_54 hf  _ hF _ _ _ _ _ E
    · replace E := iteF c0 E
      obtain ⟨z0, E⟩ := gdE E; refine ⟨vinE z0, ?_⟩
      obtain ⟨b1, z0, E⟩ := ob1E E; refine ⟨b1, z0, ?_⟩
      obtain ⟨z0, E⟩ := gdE E; refine ⟨of_decide_eq_true z0, ?_⟩
      obtain ⟨y2, h3, g4, e0, E⟩ := obiE E
      refine Si.mono (sX2_same (N := N) (R := R) hF (by omega) e0) (fun y8 h8 g8 hq => ?_)
      obtain ⟨rfl, rfl, rfl⟩ := hq
      refine ⟨fun c0 => ?_, fun c0 => ?_⟩
      · replace E := iteT c0 E
        exact jX4_function_37 hf hK4 _ hF _ _ _ _ _ E
      · replace E := iteF c0 E
        exact jX4_function_37 hf hK4 _ hF _ _ _ _ _ E
def pX4_function_0 (N R : Nat) (F : Frm) (x1 : Int32) (h : HI) (g : HL) : GO Nat :=
  pX4_function_4 N R N F x1 (-1) 0 h g
theorem jX4_function_0 {D : DE} {f N R : Nat} (hf : 7 ≤ f) {o9 : GQ Nat} : ∀ (F : Frm) (_ : k_Fix F) (x1 : Int32) (h : HI) (g : HL), pX4_function_0 N R F x1 h g = some o9 → JX4_function_0 D f (gqr o9) (gt o9) F h g x1 := by
  intro F hF x1 h g E
  unfold pX4_function_0 at E
  exact lX4_function_4 hf  N _ hF _ _ _ _ _ E
abbrev ppX4_function (N R : Nat) (F : Frm) (x1 : Int32) (h : HI) (g : HL) : GO Nat := pX4_function_0 N R F x1 h g
theorem sX4_function {D : DE} {f N R : Nat} {F : Frm} (hF : k_Fix F) (hf : 8 ≤ f) {o9 : GQ Nat} {x1 : Int32} {h : HI} {g : HL} (E : ppX4_function N R F x1 h g = some o9) : Gr D f mX4_function [.ref (ad D 7), .int x1] F h g (gqr o9) (gt o9) := by
  obtain ⟨f, rfl⟩ : ∃ f0, f = f0 + 1 := ⟨f - 1, by omega⟩
  have hf : 7 ≤ f := by omega
  exact wX4_function (f := f) hF _ (jX4_function_0 hf _ hF _ _ _ E)
def pX4_find_69 (N R : Nat) (F : Frm) (x1 : Int32) (x2 : Int32) (s1 : Int32) (h : HI) (g : HL) : GO Int32 :=
  ogv (ppX4_want N R F s1 4 x1 h g) fun (F3 : Frm) (h1 : HI) (g2 : HL) =>
  some (.inl (x2, F3, h1, g2))
theorem jX4_find_69 {D : DE} {f N R : Nat} (hf : 7 ≤ f) {o9 : GQ Int32} : ∀ (F : Frm) (_ : k_Fix F) (x1 : Int32) (x2 : Int32) (s1 : Int32) (h : HI) (g : HL), pX4_find_69 N R F x1 x2 s1 h g = some o9 → JX4_find_69 D f (gqi o9) (gt o9) F h g x1 x2 s1 := by
  intro F hF x1 x2 s1 h g E
  unfold pX4_find_69 at E
  refine Gv.ob (fun o1 e0 => (sX4_want (N := N) (R := R) hF (by omega) e0)) E (fun F3 h1 g2 hF E => ?_) (fun _ _ _ _ e => e)
  exact (Option.some.inj E).symm
def pX4_find_59 (N R : Nat) (F : Frm) (x1 : Int32) (x2 : Int32) (h : HI) (g : HL) : GO Int32 :=
  if x2 < 0 then
    pX4_find_69 N R F x1 x2 0 h g
  else
    pX4_find_69 N R F x1 x2 1 h g
theorem jX4_find_59 {D : DE} {f N R : Nat} (hf : 7 ≤ f) {o9 : GQ Int32} : ∀ (F : Frm) (_ : k_Fix F) (x1 : Int32) (x2 : Int32) (h : HI) (g : HL), pX4_find_59 N R F x1 x2 h g = some o9 → JX4_find_59 D f (gqi o9) (gt o9) F h g x1 x2 := by
  intro F hF x1 x2 h g E
  unfold pX4_find_59 at E
  refine ⟨fun c0 => ?_, fun c0 => ?_⟩
  · replace E := iteT c0 E
    exact jX4_find_69 hf  _ hF _ _ _ _ _ E
  · replace E := iteF c0 E
    exact jX4_find_69 hf  _ hF _ _ _ _ _ E
def pX4_find_52 (N R : Nat) (K9 : Frm → Int32 → Int32 → Int32 → HI → HL → GO Int32) (F : Frm) (x1 : Int32) (x3 : Int32) (s0 : Int32) (h : HI) (g : HL) : GO Int32 :=
  bnd (x3 + (-1)) fun (y1 : Int32) =>
  K9 F x1 s0 y1 h g
theorem jX4_find_52 {D : DE} {f N R : Nat} (hf : 7 ≤ f) {K9 : Frm → Int32 → Int32 → Int32 → HI → HL → GO Int32} {o9 : GQ Int32} (hK9 : ∀ (F : Frm) (_ : k_Fix F) (x1 : Int32) (x2 : Int32) (x3 : Int32) (h : HI) (g : HL), K9 F x1 x2 x3 h g = some o9 → V D mX4_find (f + 1) (gi (gqi o9) (gt o9)) 9 [(0, .ref (ad D 7)), (1, .int x1), (2, .int x2), (3, .int x3)] [] (F, h, g)) : ∀ (F : Frm) (_ : k_Fix F) (x1 : Int32) (x3 : Int32) (s0 : Int32) (h : HI) (g : HL), pX4_find_52 N R K9 F x1 x3 s0 h g = some o9 → JX4_find_52 D f (gqi o9) (gt o9) F h g x1 x3 s0 := by
  intro F hF x1 x3 s0 h g E
  unfold pX4_find_52 at E
  intro y1 e0; replace E := bndE e0 E
  exact hK9 _ hF _ _ _ _ _ E
def pX4_find_9 (N R : Nat) : Nat → Frm → Int32 → Int32 → Int32 → HI → HL → GO Int32
  | 0, _, _, _, _, _, _ => none
  | n + 1, F, x1, x2, x3, h, g =>
    if x3 < 0 then
      pX4_find_59 N R F x1 x2 h g
    else
      if 0 ≤ x2 then
        pX4_find_59 N R F x1 x2 h g
      else
        ob1 (F.2.2 7 3) fun (b1 : Nat) =>
        gd (decide (F.2.1 b1 = (18, 0))) <|
        ob1 (F.2.2 b1 4) fun (b2 : Nat) =>
        gd (vin x3 17) <|
        gd (decide ((F.2.1 b2).1 = 0)) <|
        bnd ((F.2.1 b2).2) fun (m3 : Nat) =>
        gd (vin (h 8 (ix x3)) m3) <|
        obi (ppX2_same N R F (h b2 (ix (h 8 (ix x3)))) x1 h g) fun (y4 : Int32) (h5 : HI) (g6 : HL) =>
        if y4 = 0 then
          pX4_find_52 N R (pX4_find_9 N R n) F x1 x3 (-1) h5 g6
        else
          gd (vin x3 17) <|
          pX4_find_52 N R (pX4_find_9 N R n) F x1 x3 (h5 8 (ix x3)) h5 g6
theorem lX4_find_9 {D : DE} {f N R : Nat} (hf : 7 ≤ f) {o9 : GQ Int32} : ∀ (n : Nat) (F : Frm) (_ : k_Fix F) (x1 : Int32) (x2 : Int32) (x3 : Int32) (h : HI) (g : HL), pX4_find_9 N R n F x1 x2 x3 h g = some o9 → V D mX4_find (f + 1) (gi (gqi o9) (gt o9)) 9 [(0, .ref (ad D 7)), (1, .int x1), (2, .int x2), (3, .int x3)] [] (F, h, g) := by
  intro n
  induction n with
  | zero => intro F hF x1 x2 x3 h g E; cases E
  | succ n hK9 =>
    intro F hF x1 x2 x3 h g E
    rw [pX4_find_9] at E
    refine bX4_find_9 (f := f) hF x1 x2 x3  ?_
    refine ⟨fun c0 => ?_, fun c0 => ?_⟩
    · replace E := iteT c0 E
      exact jX4_find_59 hf  _ hF _ _ _ _ E
    · replace E := iteF c0 E
      refine ⟨fun c0 => ?_, fun c0 => ?_⟩
      · replace E := iteT c0 E
        exact jX4_find_59 hf  _ hF _ _ _ _ E
      · replace E := iteF c0 E
        obtain ⟨b1, z0, E⟩ := ob1E E; refine ⟨b1, z0, ?_⟩
        obtain ⟨z0, E⟩ := gdE E; refine ⟨of_decide_eq_true z0, ?_⟩
        obtain ⟨b2, z0, E⟩ := ob1E E; refine ⟨b2, z0, ?_⟩
        obtain ⟨z0, E⟩ := gdE E; refine ⟨vinE z0, ?_⟩
        obtain ⟨z0, E⟩ := gdE E; replace E := bndE rfl E; refine ⟨_, shE (of_decide_eq_true z0), ?_⟩
        obtain ⟨z0, E⟩ := gdE E; refine ⟨vinE z0, ?_⟩
        obtain ⟨y4, h5, g6, e0, E⟩ := obiE E
        refine Si.mono (sX2_same (N := N) (R := R) hF (by omega) e0) (fun y8 h8 g8 hq => ?_)
        obtain ⟨rfl, rfl, rfl⟩ := hq
        refine ⟨fun c0 => ?_, fun c0 => ?_⟩
        · replace E := iteT c0 E
          exact jX4_find_52 hf hK9 _ hF _ _ _ _ _ E
        · replace E := iteF c0 E
          obtain ⟨z0, E⟩ := gdE E; refine ⟨vinE z0, ?_⟩
          exact jX4_find_52 hf hK9 _ hF _ _ _ _ _ E
def pX4_find_0 (N R : Nat) (F : Frm) (x1 : Int32) (h : HI) (g : HL) : GO Int32 :=
  bnd ((h 7 5) - 1) fun (y1 : Int32) =>
  pX4_find_9 N R N F x1 (-1) y1 h g
theorem jX4_find_0 {D : DE} {f N R : Nat} (hf : 7 ≤ f) {o9 : GQ Int32} : ∀ (F : Frm) (_ : k_Fix F) (x1 : Int32) (h : HI) (g : HL), pX4_find_0 N R F x1 h g = some o9 → JX4_find_0 D f (gqi o9) (gt o9) F h g x1 := by
  intro F hF x1 h g E
  unfold pX4_find_0 at E
  intro y1 e0; replace E := bndE e0 E
  exact lX4_find_9 hf  N _ hF _ _ _ _ _ E
abbrev ppX4_find (N R : Nat) (F : Frm) (x1 : Int32) (h : HI) (g : HL) : GO Int32 := pX4_find_0 N R F x1 h g
theorem sX4_find {D : DE} {f N R : Nat} {F : Frm} (hF : k_Fix F) (hf : 8 ≤ f) {o9 : GQ Int32} {x1 : Int32} {h : HI} {g : HL} (E : ppX4_find N R F x1 h g = some o9) : Gi D f mX4_find [.ref (ad D 7), .int x1] F h g (gqi o9) (gt o9) := by
  obtain ⟨f, rfl⟩ : ∃ f0, f = f0 + 1 := ⟨f - 1, by omega⟩
  have hf : 7 ≤ f := by omega
  exact wX4_find (f := f) hF _ (jX4_find_0 hf _ hF _ _ _ E)
def pX18_judge_0 (N R : Nat) (F : Frm) (x0 : Nat) (x2 : Int32) (h : HI) (g : HL) : GO Int32 :=
  gd (decide (F.2.1 x0 = (26, 0))) <|
  ogi (ppX4_find N R F (h x0 0) h g) fun (y1 : Int32) (F4 : Frm) (h2 : HI) (g3 : HL) =>
  gd (decide (F4.2.1 x0 = (26, 0))) <|
  bnd (up2 h2 x0 2 y1) fun (h5 : HI) =>
  ob1 (F4.2.2 7 3) fun (b6 : Nat) =>
  gd (decide (F4.2.1 b6 = (18, 0))) <|
  ob1 (F4.2.2 b6 5) fun (b7 : Nat) =>
  gd (decide ((F4.2.1 b7).1 = 0)) <|
  bnd ((F4.2.1 b7).2) fun (m8 : Nat) =>
  gd (vin (h5 x0 2) m8) <|
  some (.inl ((h5 b7 (ix (h5 x0 2))), F4, h5, g3))
theorem jX18_judge_0 {D : DE} {f N R : Nat} (hf : 8 ≤ f) {o9 : GQ Int32} : ∀ (F : Frm) (_ : k_Fix F) (x0 : Nat) (x2 : Int32) (h : HI) (g : HL), pX18_judge_0 N R F x0 x2 h g = some o9 → JX18_judge_0 D f (gqi o9) (gt o9) F h g x0 x2 := by
  intro F hF x0 x2 h g E
  unfold pX18_judge_0 at E
  obtain ⟨z0, E⟩ := gdE E; refine ⟨of_decide_eq_true z0, ?_⟩
  refine Gi.ob (fun o1 e0 => (sX4_find (N := N) (R := R) hF (by omega) e0)) E (fun y1 F4 h2 g3 hF E => ?_) (fun _ _ _ _ e => e)
  obtain ⟨z0, E⟩ := gdE E; refine ⟨of_decide_eq_true z0, ?_⟩
  intro h5 e0; replace E := bndE e0 E
  obtain ⟨b6, z0, E⟩ := ob1E E; refine ⟨b6, z0, ?_⟩
  obtain ⟨z0, E⟩ := gdE E; refine ⟨of_decide_eq_true z0, ?_⟩
  obtain ⟨b7, z0, E⟩ := ob1E E; refine ⟨b7, z0, ?_⟩
  obtain ⟨z0, E⟩ := gdE E; replace E := bndE rfl E; refine ⟨_, shE (of_decide_eq_true z0), ?_⟩
  obtain ⟨z0, E⟩ := gdE E; refine ⟨vinE z0, ?_⟩
  exact (Option.some.inj E).symm
abbrev ppX18_judge (N R : Nat) (F : Frm) (x0 : Nat) (x2 : Int32) (h : HI) (g : HL) : GO Int32 := pX18_judge_0 N R F x0 x2 h g
theorem sX18_judge {D : DE} {f N R : Nat} {F : Frm} (hF : k_Fix F) (hf : 9 ≤ f) {o9 : GQ Int32} {x0 : Nat} {x2 : Int32} {h : HI} {g : HL} (E : ppX18_judge N R F x0 x2 h g = some o9) : Gi D f mX18_judge [.ref (ad D x0), .ref (ad D 7), .int x2] F h g (gqi o9) (gt o9) := by
  obtain ⟨f, rfl⟩ : ∃ f0, f = f0 + 1 := ⟨f - 1, by omega⟩
  have hf : 8 ≤ f := by omega
  exact wX18_judge (f := f) hF _ _ (jX18_judge_0 hf _ hF _ _ _ _ E)
abbrev ty7 : Type := (Frm → Nat → Int32 → HI → HL → GO Int32) × (Frm → Nat → Int32 → HI → HL → GO Int32) × (Frm → Nat → Int32 → HI → HL → GO Int32) × (Frm → Nat → Int32 → HI → HL → GO Int32) × (Frm → Nat → Int32 → HI → HL → GO Int32) × (Frm → Nat → Int32 → HI → HL → GO Int32) × (Frm → Nat → Int32 → HI → HL → GO Int32)
def ok7 (D : DE) (R f : Nat) (C : ty7) : Prop := (∀ (F : Frm) (_ : k_Fix F) (x0 : Nat) (x2 : Int32) (h : HI) (g : HL) (o9 : GQ Int32), C.1 F x0 x2 h g = some o9 → Gi D f mX11_judge [.ref (ad D x0), .ref (ad D 7), .int x2] F h g (gqi o9) (gt o9)) ∧ (∀ (F : Frm) (_ : k_Fix F) (x0 : Nat) (x2 : Int32) (h : HI) (g : HL) (o9 : GQ Int32), C.2.1 F x0 x2 h g = some o9 → Gi D f mX12_judge [.ref (ad D x0), .ref (ad D 7), .int x2] F h g (gqi o9) (gt o9)) ∧ (∀ (F : Frm) (_ : k_Fix F) (x0 : Nat) (x2 : Int32) (h : HI) (g : HL) (o9 : GQ Int32), C.2.2.1 F x0 x2 h g = some o9 → Gi D f mX13_judge [.ref (ad D x0), .ref (ad D 7), .int x2] F h g (gqi o9) (gt o9)) ∧ (∀ (F : Frm) (_ : k_Fix F) (x0 : Nat) (x2 : Int32) (h : HI) (g : HL) (o9 : GQ Int32), C.2.2.2.1 F x0 x2 h g = some o9 → Gi D f mX16_judge [.ref (ad D x0), .ref (ad D 7), .int x2] F h g (gqi o9) (gt o9)) ∧ (∀ (F : Frm) (_ : k_Fix F) (x0 : Nat) (x2 : Int32) (h : HI) (g : HL) (o9 : GQ Int32), C.2.2.2.2.1 F x0 x2 h g = some o9 → Gi D f mX17_judge [.ref (ad D x0), .ref (ad D 7), .int x2] F h g (gqi o9) (gt o9)) ∧ (∀ (F : Frm) (_ : k_Fix F) (x0 : Nat) (x2 : Int32) (h : HI) (g : HL) (o9 : GQ Int32), C.2.2.2.2.2.1 F x0 x2 h g = some o9 → Gi D f mX19_judge [.ref (ad D x0), .ref (ad D 7), .int x2] F h g (gqi o9) (gt o9)) ∧ (∀ (F : Frm) (_ : k_Fix F) (x1 : Nat) (x2 : Int32) (h : HI) (g : HL) (o9 : GQ Int32), C.2.2.2.2.2.2 F x1 x2 h g = some o9 → Gi D f mX4_judge [.ref (ad D 7), .ref (ad D x1), .int x2] F h g (gqi o9) (gt o9))
def pv_judge (N R : Nat) (C : ty7) (k : Nat) (F : Frm) (x0 : Nat) (x2 : Int32) (h : HI) (g : HL) : GO Int32 := match k with
  | 9 => C.1 F x0 x2 h g
  | 10 => C.2.1 F x0 x2 h g
  | 11 => C.2.2.1 F x0 x2 h g
  | 12 => ppX14_judge N R F x0 x2 h g
  | 13 => ppX15_judge N R F x0 x2 h g
  | 14 => C.2.2.2.1 F x0 x2 h g
  | 15 => C.2.2.2.2.1 F x0 x2 h g
  | 16 => ppX18_judge N R F x0 x2 h g
  | 17 => C.2.2.2.2.2.1 F x0 x2 h g
  | _ => none
theorem sv_judge {D : DE} {f N R : Nat} {C : ty7} {F : Frm} (hF : k_Fix F) (hf : 9 ≤ f) (hC : ok7 D R f C) {o9 : GQ Int32} {k : Nat} {x0 : Nat} {x2 : Int32} {h : HI} {g : HL} (zE : isE F x0 k) (E : pv_judge N R C k F x0 x2 h g = some o9) : Gi D f (v_judge k) [.ref (ad D x0), .ref (ad D 7), .int x2] F h g (gqi o9) (gt o9) := by
  obtain ⟨-, h1, h2⟩ := zE
  rcases isE.cases h1 h2 with rfl | rfl | rfl | rfl | rfl | rfl | rfl | rfl | rfl
  · exact hC.1 _ hF _ _ _ _ _ E
  · exact hC.2.1 _ hF _ _ _ _ _ E
  · exact hC.2.2.1 _ hF _ _ _ _ _ E
  · exact sX14_judge (N := N) (R := R) hF (by omega) E
  · exact sX15_judge (N := N) (R := R) hF (by omega) E
  · exact hC.2.2.2.1 _ hF _ _ _ _ _ E
  · exact hC.2.2.2.2.1 _ hF _ _ _ _ _ E
  · exact sX18_judge (N := N) (R := R) hF (by omega) E
  · exact hC.2.2.2.2.2.1 _ hF _ _ _ _ _ E
def pX11_judge_0 (N R : Nat) (C : ty7) (F : Frm) (x0 : Nat) (x2 : Int32) (h : HI) (g : HL) : GO Int32 :=
  ob1 (F.2.2 7 3) fun (b1 : Nat) =>
  gd (decide (F.2.1 b1 = (18, 0))) <|
  ob1 (F.2.2 b1 5) fun (b2 : Nat) =>
  gd (decide (F.2.1 x0 = (19, 0))) <|
  ob1 (F.2.2 x0 3) fun (b3 : Nat) =>
  ogi (C.2.2.2.2.2.2 F b3 (-1) h g) fun (y4 : Int32) (F7 : Frm) (h5 : HI) (g6 : HL) =>
  gd (decide ((F7.2.1 b2).1 = 0)) <|
  bnd ((F7.2.1 b2).2) fun (m8 : Nat) =>
  gd (vin (h x0 2) m8) <|
  bnd (up2 h5 b2 (ix (h x0 2)) y4) fun (h9 : HI) =>
  gd (decide (F7.2.1 x0 = (19, 0))) <|
  obv (ppX4_open N R F7 (h9 x0 2) h9 g6) fun (h10 : HI) (g11 : HL) =>
  ob1 (F7.2.2 x0 4) fun (b12 : Nat) =>
  ogi (C.2.2.2.2.2.2 F7 b12 x2 h10 g11) fun (y13 : Int32) (F16 : Frm) (h14 : HI) (g15 : HL) =>
  obv (ppX4_close N R F16 1 h14 g15) fun (h17 : HI) (g18 : HL) =>
  some (.inl (y13, F16, h17, g18))
theorem jX11_judge_0 {D : DE} {f N R : Nat} (hf : 9 ≤ f) {C : ty7} (hC : ok7 D R f C) {o9 : GQ Int32} : ∀ (F : Frm) (_ : k_Fix F) (x0 : Nat) (x2 : Int32) (h : HI) (g : HL), pX11_judge_0 N R C F x0 x2 h g = some o9 → JX11_judge_0 D f (gqi o9) (gt o9) F h g x0 x2 := by
  intro F hF x0 x2 h g E
  unfold pX11_judge_0 at E
  obtain ⟨b1, z0, E⟩ := ob1E E; refine ⟨b1, z0, ?_⟩
  obtain ⟨z0, E⟩ := gdE E; refine ⟨of_decide_eq_true z0, ?_⟩
  obtain ⟨b2, z0, E⟩ := ob1E E; refine ⟨b2, z0, ?_⟩
  obtain ⟨z0, E⟩ := gdE E; refine ⟨of_decide_eq_true z0, ?_⟩
  obtain ⟨b3, z0, E⟩ := ob1E E; refine ⟨b3, z0, ?_⟩
  refine Gi.ob (fun o1 e0 => (hC.2.2.2.2.2.2 _ hF _ _ _ _ _ e0)) E (fun y4 F7 h5 g6 hF E => ?_) (fun _ _ _ _ e => e)
  obtain ⟨z0, E⟩ := gdE E; replace E := bndE rfl E; refine ⟨_, shE (of_decide_eq_true z0), ?_⟩
  obtain ⟨z0, E⟩ := gdE E; refine ⟨vinE z0, ?_⟩
  intro h9 e0; replace E := bndE e0 E
  obtain ⟨z0, E⟩ := gdE E; refine ⟨of_decide_eq_true z0, ?_⟩
  obtain ⟨h10, g11, e0, E⟩ := obvE E
  refine Sv.mono (sX4_open (N := N) (R := R) hF (by omega) e0) (fun h8 g8 hq => ?_)
  obtain ⟨rfl, rfl⟩ := hq
  obtain ⟨b12, z0, E⟩ := ob1E E; refine ⟨b12, z0, ?_⟩
  refine Gi.ob (fun o1 e0 => (hC.2.2.2.2.2.2 _ hF _ _ _ _ _ e0)) E (fun y13 F16 h14 g15 hF E => ?_) (fun _ _ _ _ e => e)
  obtain ⟨h17, g18, e0, E⟩ := obvE E
  refine Sv.mono (sX4_close (N := N) (R := R) hF (by omega) e0) (fun h8 g8 hq => ?_)
  obtain ⟨rfl, rfl⟩ := hq
  exact (Option.some.inj E).symm
theorem sX11_judge_C {D : DE} {f N R : Nat} {C : ty7} {F : Frm} (hF : k_Fix F) (hf : 9 ≤ f) (hC : ok7 D R f C) {o9 : GQ Int32} {x0 : Nat} {x2 : Int32} {h : HI} {g : HL} (E : pX11_judge_0 N R C F x0 x2 h g = some o9) : Gi D (f + 1) mX11_judge [.ref (ad D x0), .ref (ad D 7), .int x2] F h g (gqi o9) (gt o9) := by
  exact wX11_judge (f := f) hF _ _ (jX11_judge_0 hf hC _ hF _ _ _ _ E)
def pX12_judge_0 (N R : Nat) (C : ty7) (F : Frm) (x0 : Nat) (x2 : Int32) (h : HI) (g : HL) : GO Int32 :=
  gd (decide (F.2.1 x0 = (20, 0))) <|
  ob1 (F.2.2 x0 3) fun (b1 : Nat) =>
  ogi (C.2.2.2.2.2.2 F b1 (-2) h g) fun (y2 : Int32) (F5 : Frm) (h3 : HI) (g4 : HL) =>
  ob1 (F5.2.2 7 3) fun (b6 : Nat) =>
  gd (decide (F5.2.1 b6 = (18, 0))) <|
  ob1 (F5.2.2 b6 5) fun (b7 : Nat) =>
  gd (decide (F5.2.1 x0 = (20, 0))) <|
  obi (ppX1_left N R F5 y2 h3 g4) fun (y8 : Int32) (h9 : HI) (g10 : HL) =>
  gd (decide ((F5.2.1 b7).1 = 0)) <|
  bnd ((F5.2.1 b7).2) fun (m11 : Nat) =>
  gd (vin (h3 x0 2) m11) <|
  bnd (up2 h9 b7 (ix (h3 x0 2)) y8) fun (h12 : HI) =>
  ob1 (F5.2.2 7 3) fun (b13 : Nat) =>
  gd (decide (F5.2.1 b13 = (18, 0))) <|
  ob1 (F5.2.2 b13 5) fun (b14 : Nat) =>
  obi (ppX1_right N R F5 y2 h12 g10) fun (y15 : Int32) (h16 : HI) (g17 : HL) =>
  gd (decide ((F5.2.1 b14).1 = 0)) <|
  bnd ((F5.2.1 b14).2) fun (m18 : Nat) =>
  gd (vin ((h12 x0 2) + 1) m18) <|
  bnd (up2 h16 b14 (ix ((h12 x0 2) + 1)) y15) fun (h19 : HI) =>
  obv (ppX4_open N R F5 (h19 x0 2) h19 g17) fun (h20 : HI) (g21 : HL) =>
  obv (ppX4_open N R F5 ((h20 x0 2) + 1) h20 g21) fun (h22 : HI) (g23 : HL) =>
  ob1 (F5.2.2 x0 4) fun (b24 : Nat) =>
  ogi (C.2.2.2.2.2.2 F5 b24 x2 h22 g23) fun (y25 : Int32) (F28 : Frm) (h26 : HI) (g27 : HL) =>
  obv (ppX4_close N R F28 2 h26 g27) fun (h29 : HI) (g30 : HL) =>
  some (.inl (y25, F28, h29, g30))
theorem jX12_judge_0 {D : DE} {f N R : Nat} (hf : 9 ≤ f) {C : ty7} (hC : ok7 D R f C) {o9 : GQ Int32} : ∀ (F : Frm) (_ : k_Fix F) (x0 : Nat) (x2 : Int32) (h : HI) (g : HL), pX12_judge_0 N R C F x0 x2 h g = some o9 → JX12_judge_0 D f (gqi o9) (gt o9) F h g x0 x2 := by
  intro F hF x0 x2 h g E
  unfold pX12_judge_0 at E
  obtain ⟨z0, E⟩ := gdE E; refine ⟨of_decide_eq_true z0, ?_⟩
  obtain ⟨b1, z0, E⟩ := ob1E E; refine ⟨b1, z0, ?_⟩
  refine Gi.ob (fun o1 e0 => (hC.2.2.2.2.2.2 _ hF _ _ _ _ _ e0)) E (fun y2 F5 h3 g4 hF E => ?_) (fun _ _ _ _ e => e)
  obtain ⟨b6, z0, E⟩ := ob1E E; refine ⟨b6, z0, ?_⟩
  obtain ⟨z0, E⟩ := gdE E; refine ⟨of_decide_eq_true z0, ?_⟩
  obtain ⟨b7, z0, E⟩ := ob1E E; refine ⟨b7, z0, ?_⟩
  obtain ⟨z0, E⟩ := gdE E; refine ⟨of_decide_eq_true z0, ?_⟩
  obtain ⟨y8, h9, g10, e0, E⟩ := obiE E
  refine Si.mono (sX1_left (N := N) (R := R) hF (by omega) e0) (fun y8 h8 g8 hq => ?_)
  obtain ⟨rfl, rfl, rfl⟩ := hq
  obtain ⟨z0, E⟩ := gdE E; replace E := bndE rfl E; refine ⟨_, shE (of_decide_eq_true z0), ?_⟩
  obtain ⟨z0, E⟩ := gdE E; refine ⟨vinE z0, ?_⟩
  intro h12 e0; replace E := bndE e0 E
  obtain ⟨b13, z0, E⟩ := ob1E E; refine ⟨b13, z0, ?_⟩
  obtain ⟨z0, E⟩ := gdE E; refine ⟨of_decide_eq_true z0, ?_⟩
  obtain ⟨b14, z0, E⟩ := ob1E E; refine ⟨b14, z0, ?_⟩
  obtain ⟨y15, h16, g17, e0, E⟩ := obiE E
  refine Si.mono (sX1_right (N := N) (R := R) hF (by omega) e0) (fun y8 h8 g8 hq => ?_)
  obtain ⟨rfl, rfl, rfl⟩ := hq
  obtain ⟨z0, E⟩ := gdE E; replace E := bndE rfl E; refine ⟨_, shE (of_decide_eq_true z0), ?_⟩
  obtain ⟨z0, E⟩ := gdE E; refine ⟨vinE z0, ?_⟩
  intro h19 e0; replace E := bndE e0 E
  obtain ⟨h20, g21, e0, E⟩ := obvE E
  refine Sv.mono (sX4_open (N := N) (R := R) hF (by omega) e0) (fun h8 g8 hq => ?_)
  obtain ⟨rfl, rfl⟩ := hq
  obtain ⟨h22, g23, e0, E⟩ := obvE E
  refine Sv.mono (sX4_open (N := N) (R := R) hF (by omega) e0) (fun h8 g8 hq => ?_)
  obtain ⟨rfl, rfl⟩ := hq
  obtain ⟨b24, z0, E⟩ := ob1E E; refine ⟨b24, z0, ?_⟩
  refine Gi.ob (fun o1 e0 => (hC.2.2.2.2.2.2 _ hF _ _ _ _ _ e0)) E (fun y25 F28 h26 g27 hF E => ?_) (fun _ _ _ _ e => e)
  obtain ⟨h29, g30, e0, E⟩ := obvE E
  refine Sv.mono (sX4_close (N := N) (R := R) hF (by omega) e0) (fun h8 g8 hq => ?_)
  obtain ⟨rfl, rfl⟩ := hq
  exact (Option.some.inj E).symm
theorem sX12_judge_C {D : DE} {f N R : Nat} {C : ty7} {F : Frm} (hF : k_Fix F) (hf : 9 ≤ f) (hC : ok7 D R f C) {o9 : GQ Int32} {x0 : Nat} {x2 : Int32} {h : HI} {g : HL} (E : pX12_judge_0 N R C F x0 x2 h g = some o9) : Gi D (f + 1) mX12_judge [.ref (ad D x0), .ref (ad D 7), .int x2] F h g (gqi o9) (gt o9) := by
  exact wX12_judge (f := f) hF _ _ (jX12_judge_0 hf hC _ hF _ _ _ _ E)
def pX13_judge_0 (N R : Nat) (C : ty7) (F : Frm) (x0 : Nat) (x2 : Int32) (h : HI) (g : HL) : GO Int32 :=
  gd (decide (F.2.1 x0 = (21, 0))) <|
  ob1 (F.2.2 x0 2) fun (b1 : Nat) =>
  ogi (C.2.2.2.2.2.2 F b1 0 h g) fun (y2 : Int32) (F5 : Frm) (h3 : HI) (g4 : HL) =>
  gd (decide (F5.2.1 x0 = (21, 0))) <|
  ob1 (F5.2.2 x0 3) fun (b6 : Nat) =>
  ogi (C.2.2.2.2.2.2 F5 b6 x2 h3 g4) fun (y7 : Int32) (F10 : Frm) (h8 : HI) (g9 : HL) =>
  gd (decide (F10.2.1 x0 = (21, 0))) <|
  ob1 (F10.2.2 x0 4) fun (b11 : Nat) =>
  if 0 ≤ x2 then
    ogi (C.2.2.2.2.2.2 F10 b11 x2 h8 g9) fun (y12 : Int32) (F15 : Frm) (h13 : HI) (g14 : HL) =>
    some (.inl (y7, F15, h13, g14))
  else
    ogi (C.2.2.2.2.2.2 F10 b11 y7 h8 g9) fun (y16 : Int32) (F19 : Frm) (h17 : HI) (g18 : HL) =>
    some (.inl (y7, F19, h17, g18))
theorem jX13_judge_0 {D : DE} {f N R : Nat} (hf : 9 ≤ f) {C : ty7} (hC : ok7 D R f C) {o9 : GQ Int32} : ∀ (F : Frm) (_ : k_Fix F) (x0 : Nat) (x2 : Int32) (h : HI) (g : HL), pX13_judge_0 N R C F x0 x2 h g = some o9 → JX13_judge_0 D f (gqi o9) (gt o9) F h g x0 x2 := by
  intro F hF x0 x2 h g E
  unfold pX13_judge_0 at E
  obtain ⟨z0, E⟩ := gdE E; refine ⟨of_decide_eq_true z0, ?_⟩
  obtain ⟨b1, z0, E⟩ := ob1E E; refine ⟨b1, z0, ?_⟩
  refine Gi.ob (fun o1 e0 => (hC.2.2.2.2.2.2 _ hF _ _ _ _ _ e0)) E (fun y2 F5 h3 g4 hF E => ?_) (fun _ _ _ _ e => e)
  obtain ⟨z0, E⟩ := gdE E; refine ⟨of_decide_eq_true z0, ?_⟩
  obtain ⟨b6, z0, E⟩ := ob1E E; refine ⟨b6, z0, ?_⟩
  refine Gi.ob (fun o1 e0 => (hC.2.2.2.2.2.2 _ hF _ _ _ _ _ e0)) E (fun y7 F10 h8 g9 hF E => ?_) (fun _ _ _ _ e => e)
  obtain ⟨z0, E⟩ := gdE E; refine ⟨of_decide_eq_true z0, ?_⟩
  obtain ⟨b11, z0, E⟩ := ob1E E; refine ⟨b11, z0, ?_⟩
  refine ⟨fun c0 => ?_, fun c0 => ?_⟩
  · replace E := iteT c0 E
    refine Gi.ob (fun o1 e0 => (hC.2.2.2.2.2.2 _ hF _ _ _ _ _ e0)) E (fun y12 F15 h13 g14 hF E => ?_) (fun _ _ _ _ e => e)
    exact (Option.some.inj E).symm
  · replace E := iteF c0 E
    refine Gi.ob (fun o1 e0 => (hC.2.2.2.2.2.2 _ hF _ _ _ _ _ e0)) E (fun y16 F19 h17 g18 hF E => ?_) (fun _ _ _ _ e => e)
    exact (Option.some.inj E).symm
theorem sX13_judge_C {D : DE} {f N R : Nat} {C : ty7} {F : Frm} (hF : k_Fix F) (hf : 9 ≤ f) (hC : ok7 D R f C) {o9 : GQ Int32} {x0 : Nat} {x2 : Int32} {h : HI} {g : HL} (E : pX13_judge_0 N R C F x0 x2 h g = some o9) : Gi D (f + 1) mX13_judge [.ref (ad D x0), .ref (ad D 7), .int x2] F h g (gqi o9) (gt o9) := by
  exact wX13_judge (f := f) hF _ _ (jX13_judge_0 hf hC _ hF _ _ _ _ E)
def pX16_judge_38 (N R : Nat) (C : ty7) (F : Frm) (x3 : Int32) (s1 : Nat) (s2 : Int32) (h : HI) (g : HL) : GO Int32 :=
  ogi (C.2.2.2.2.2.2 F s1 s2 h g) fun (y1 : Int32) (F4 : Frm) (h2 : HI) (g3 : HL) =>
  obi (ppX1_pairOf N R F4 x3 y1 h2 g3) fun (y5 : Int32) (h6 : HI) (g7 : HL) =>
  some (.inl (y5, F4, h6, g7))
theorem jX16_judge_38 {D : DE} {f N R : Nat} (hf : 9 ≤ f) {C : ty7} (hC : ok7 D R f C) {o9 : GQ Int32} : ∀ (F : Frm) (_ : k_Fix F) (x3 : Int32) (s1 : Nat) (s2 : Int32) (h : HI) (g : HL), pX16_judge_38 N R C F x3 s1 s2 h g = some o9 → JX16_judge_38 D f (gqi o9) (gt o9) F h g x3 s1 s2 := by
  intro F hF x3 s1 s2 h g E
  unfold pX16_judge_38 at E
  refine Gi.ob (fun o1 e0 => (hC.2.2.2.2.2.2 _ hF _ _ _ _ _ e0)) E (fun y1 F4 h2 g3 hF E => ?_) (fun _ _ _ _ e => e)
  obtain ⟨y5, h6, g7, e0, E⟩ := obiE E
  refine Si.mono (sX1_pairOf (N := N) (R := R) hF (by omega) e0) (fun y8 h8 g8 hq => ?_)
  obtain ⟨rfl, rfl, rfl⟩ := hq
  exact (Option.some.inj E).symm
def pX16_judge_17 (N R : Nat) (C : ty7) (F : Frm) (x0 : Nat) (x2 : Int32) (s1 : Nat) (s2 : Int32) (h : HI) (g : HL) : GO Int32 :=
  ogi (C.2.2.2.2.2.2 F s1 s2 h g) fun (y1 : Int32) (F4 : Frm) (h2 : HI) (g3 : HL) =>
  gd (decide (F4.2.1 x0 = (24, 0))) <|
  ob1 (F4.2.2 x0 3) fun (b5 : Nat) =>
  if x2 ≤ 0 then
    pX16_judge_38 N R C F4 y1 b5 (-1) h2 g3
  else
    obi (ppX1_right N R F4 x2 h2 g3) fun (y6 : Int32) (h7 : HI) (g8 : HL) =>
    pX16_judge_38 N R C F4 y1 b5 y6 h7 g8
theorem jX16_judge_17 {D : DE} {f N R : Nat} (hf : 9 ≤ f) {C : ty7} (hC : ok7 D R f C) {o9 : GQ Int32} : ∀ (F : Frm) (_ : k_Fix F) (x0 : Nat) (x2 : Int32) (s1 : Nat) (s2 : Int32) (h : HI) (g : HL), pX16_judge_17 N R C F x0 x2 s1 s2 h g = some o9 → JX16_judge_17 D f (gqi o9) (gt o9) F h g x0 x2 s1 s2 := by
  intro F hF x0 x2 s1 s2 h g E
  unfold pX16_judge_17 at E
  refine Gi.ob (fun o1 e0 => (hC.2.2.2.2.2.2 _ hF _ _ _ _ _ e0)) E (fun y1 F4 h2 g3 hF E => ?_) (fun _ _ _ _ e => e)
  obtain ⟨z0, E⟩ := gdE E; refine ⟨of_decide_eq_true z0, ?_⟩
  obtain ⟨b5, z0, E⟩ := ob1E E; refine ⟨b5, z0, ?_⟩
  refine ⟨fun c0 => ?_, fun c0 => ?_⟩
  · replace E := iteT c0 E
    exact jX16_judge_38 hf hC  _ hF _ _ _ _ _ E
  · replace E := iteF c0 E
    obtain ⟨y6, h7, g8, e0, E⟩ := obiE E
    refine Si.mono (sX1_right (N := N) (R := R) hF (by omega) e0) (fun y8 h8 g8 hq => ?_)
    obtain ⟨rfl, rfl, rfl⟩ := hq
    exact jX16_judge_38 hf hC  _ hF _ _ _ _ _ E
def pX16_judge_0 (N R : Nat) (C : ty7) (F : Frm) (x0 : Nat) (x2 : Int32) (h : HI) (g : HL) : GO Int32 :=
  gd (decide (F.2.1 x0 = (24, 0))) <|
  ob1 (F.2.2 x0 2) fun (b1 : Nat) =>
  if x2 ≤ 0 then
    pX16_judge_17 N R C F x0 x2 b1 (-1) h g
  else
    obi (ppX1_left N R F x2 h g) fun (y2 : Int32) (h3 : HI) (g4 : HL) =>
    pX16_judge_17 N R C F x0 x2 b1 y2 h3 g4
theorem jX16_judge_0 {D : DE} {f N R : Nat} (hf : 9 ≤ f) {C : ty7} (hC : ok7 D R f C) {o9 : GQ Int32} : ∀ (F : Frm) (_ : k_Fix F) (x0 : Nat) (x2 : Int32) (h : HI) (g : HL), pX16_judge_0 N R C F x0 x2 h g = some o9 → JX16_judge_0 D f (gqi o9) (gt o9) F h g x0 x2 := by
  intro F hF x0 x2 h g E
  unfold pX16_judge_0 at E
  obtain ⟨z0, E⟩ := gdE E; refine ⟨of_decide_eq_true z0, ?_⟩
  obtain ⟨b1, z0, E⟩ := ob1E E; refine ⟨b1, z0, ?_⟩
  refine ⟨fun c0 => ?_, fun c0 => ?_⟩
  · replace E := iteT c0 E
    exact jX16_judge_17 hf hC  _ hF _ _ _ _ _ _ E
  · replace E := iteF c0 E
    obtain ⟨y2, h3, g4, e0, E⟩ := obiE E
    refine Si.mono (sX1_left (N := N) (R := R) hF (by omega) e0) (fun y8 h8 g8 hq => ?_)
    obtain ⟨rfl, rfl, rfl⟩ := hq
    exact jX16_judge_17 hf hC  _ hF _ _ _ _ _ _ E
theorem sX16_judge_C {D : DE} {f N R : Nat} {C : ty7} {F : Frm} (hF : k_Fix F) (hf : 9 ≤ f) (hC : ok7 D R f C) {o9 : GQ Int32} {x0 : Nat} {x2 : Int32} {h : HI} {g : HL} (E : pX16_judge_0 N R C F x0 x2 h g = some o9) : Gi D (f + 1) mX16_judge [.ref (ad D x0), .ref (ad D 7), .int x2] F h g (gqi o9) (gt o9) := by
  exact wX16_judge (f := f) hF _ _ (jX16_judge_0 hf hC _ hF _ _ _ _ E)
def pX17_judge_42 (N R : Nat) (C : ty7) : Nat → Frm → Nat → Int32 → HI → HL → GO Int32
  | 0, _, _, _, _, _ => none
  | n + 1, F, x0, x3, h, g =>
    gd (decide (F.2.1 x0 = (25, 0))) <|
    if (h x0 4) ≤ x3 then
      ob1 (F.2.2 x0 2) fun (b1 : Nat) =>
      gd (decide (F.2.1 b1 = (18, 0))) <|
      some (.inl ((h b1 3), F, h, g))
    else
      ob1 (F.2.2 x0 3) fun (b2 : Nat) =>
      gd (decide ((F.2.1 b2).1 = 5)) <|
      bnd ((F.2.1 b2).2) fun (m3 : Nat) =>
      gd (vin x3 m3) <|
      ob1 (F.2.2 b2 (ix x3)) fun (b4 : Nat) =>
      ob1 (F.2.2 x0 2) fun (b5 : Nat) =>
      gd (decide (F.2.1 b5 = (18, 0))) <|
      ob1 (F.2.2 b5 5) fun (b6 : Nat) =>
      gd (decide ((F.2.1 b6).1 = 0)) <|
      bnd ((F.2.1 b6).2) fun (m7 : Nat) =>
      gd (vin x3 m7) <|
      ogi (C.2.2.2.2.2.2 F b4 (h b6 (ix x3)) h g) fun (y8 : Int32) (F11 : Frm) (h9 : HI) (g10 : HL) =>
      bnd (x3 + 1) fun (y12 : Int32) =>
      (pX17_judge_42 N R C n) F11 x0 y12 h9 g10
theorem lX17_judge_42 {D : DE} {f N R : Nat} (hf : 9 ≤ f) {C : ty7} (hC : ok7 D R f C) {o9 : GQ Int32} : ∀ (n : Nat) (F : Frm) (_ : k_Fix F) (x0 : Nat) (x3 : Int32) (h : HI) (g : HL), pX17_judge_42 N R C n F x0 x3 h g = some o9 → V D mX17_judge (f + 1) (gi (gqi o9) (gt o9)) 42 [(0, .ref (ad D x0)), (1, .ref (ad D 7)), (3, .int x3)] [] (F, h, g) := by
  intro n
  induction n with
  | zero => intro F hF x0 x3 h g E; cases E
  | succ n hK42 =>
    intro F hF x0 x3 h g E
    rw [pX17_judge_42] at E
    refine bX17_judge_42 (f := f) hF x0 x3  ?_
    obtain ⟨z0, E⟩ := gdE E; refine ⟨of_decide_eq_true z0, ?_⟩
    refine ⟨fun c0 => ?_, fun c0 => ?_⟩
    · replace E := iteT c0 E
      obtain ⟨b1, z0, E⟩ := ob1E E; refine ⟨b1, z0, ?_⟩
      obtain ⟨z0, E⟩ := gdE E; refine ⟨of_decide_eq_true z0, ?_⟩
      exact (Option.some.inj E).symm
    · replace E := iteF c0 E
      obtain ⟨b2, z0, E⟩ := ob1E E; refine ⟨b2, z0, ?_⟩
      obtain ⟨z0, E⟩ := gdE E; replace E := bndE rfl E; refine ⟨_, shE (of_decide_eq_true z0), ?_⟩
      obtain ⟨z0, E⟩ := gdE E; refine ⟨vinE z0, ?_⟩
      obtain ⟨b4, z0, E⟩ := ob1E E; refine ⟨b4, z0, ?_⟩
      obtain ⟨b5, z0, E⟩ := ob1E E; refine ⟨b5, z0, ?_⟩
      obtain ⟨z0, E⟩ := gdE E; refine ⟨of_decide_eq_true z0, ?_⟩
      obtain ⟨b6, z0, E⟩ := ob1E E; refine ⟨b6, z0, ?_⟩
      obtain ⟨z0, E⟩ := gdE E; replace E := bndE rfl E; refine ⟨_, shE (of_decide_eq_true z0), ?_⟩
      obtain ⟨z0, E⟩ := gdE E; refine ⟨vinE z0, ?_⟩
      refine Gi.ob (fun o1 e0 => (hC.2.2.2.2.2.2 _ hF _ _ _ _ _ e0)) E (fun y8 F11 h9 g10 hF E => ?_) (fun _ _ _ _ e => e)
      intro y12 e0; replace E := bndE e0 E
      exact hK42 _ hF _ _ _ _ E
def pX17_judge_32 (N R : Nat) (C : ty7) (F : Frm) (x0 : Nat) (s1 : Int32) (h : HI) (g : HL) : GO Int32 :=
  gd (decide (F.2.1 x0 = (25, 0))) <|
  ogv (ppX4_want N R F s1 5 (h x0 0) h g) fun (F3 : Frm) (h1 : HI) (g2 : HL) =>
  pX17_judge_42 N R C N F3 x0 0 h1 g2
theorem jX17_judge_32 {D : DE} {f N R : Nat} (hf : 9 ≤ f) {C : ty7} (hC : ok7 D R f C) {o9 : GQ Int32} : ∀ (F : Frm) (_ : k_Fix F) (x0 : Nat) (s1 : Int32) (h : HI) (g : HL), pX17_judge_32 N R C F x0 s1 h g = some o9 → JX17_judge_32 D f (gqi o9) (gt o9) F h g x0 s1 := by
  intro F hF x0 s1 h g E
  unfold pX17_judge_32 at E
  obtain ⟨z0, E⟩ := gdE E; refine ⟨of_decide_eq_true z0, ?_⟩
  refine Gv.ob (fun o1 e0 => (sX4_want (N := N) (R := R) hF (by omega) e0)) E (fun F3 h1 g2 hF E => ?_) (fun _ _ _ _ e => e)
  exact lX17_judge_42 hf hC  N _ hF _ _ _ _ E
def pX17_judge_0 (N R : Nat) (C : ty7) (F : Frm) (x0 : Nat) (x2 : Int32) (h : HI) (g : HL) : GO Int32 :=
  gd (decide (F.2.1 x0 = (25, 0))) <|
  ogr (ppX4_function N R F (h x0 0) h g) fun (b1 : Nat) (F4 : Frm) (h2 : HI) (g3 : HL) =>
  gd (decide (F4.2.1 x0 = (25, 0))) <|
  bnd (fwr F4 x0 2 (some b1)) fun (F5 : Frm) =>
  gd (decide (160 ≤ x0)) <|
  ob1 (F5.2.2 x0 2) fun (b6 : Nat) =>
  gd (decide (F5.2.1 b6 = (18, 0))) <|
  if (h2 x0 4) = (h2 b6 1) then
    pX17_judge_32 N R C F5 x0 1 h2 g3
  else
    pX17_judge_32 N R C F5 x0 0 h2 g3
theorem jX17_judge_0 {D : DE} {f N R : Nat} (hf : 9 ≤ f) {C : ty7} (hC : ok7 D R f C) {o9 : GQ Int32} : ∀ (F : Frm) (_ : k_Fix F) (x0 : Nat) (x2 : Int32) (h : HI) (g : HL), pX17_judge_0 N R C F x0 x2 h g = some o9 → JX17_judge_0 D f (gqi o9) (gt o9) F h g x0 x2 := by
  intro F hF x0 x2 h g E
  unfold pX17_judge_0 at E
  obtain ⟨z0, E⟩ := gdE E; refine ⟨of_decide_eq_true z0, ?_⟩
  refine Gr.ob (fun o1 e0 => (sX4_function (N := N) (R := R) hF (by omega) e0)) E (fun b1 F4 h2 g3 hF E => ?_) (fun _ _ _ _ e => e)
  obtain ⟨z0, E⟩ := gdE E; refine ⟨of_decide_eq_true z0, ?_⟩
  intro F5 e0; replace E := bndE e0 E
  obtain ⟨z0, E⟩ := gdE E; refine ⟨of_decide_eq_true z0, ?_⟩
  replace hF : k_Fix F5 := by rw [e0]; exact k_Fix.wr hF (fx_okD (of_decide_eq_true z0)) _
  obtain ⟨b6, z0, E⟩ := ob1E E; refine ⟨b6, z0, ?_⟩
  obtain ⟨z0, E⟩ := gdE E; refine ⟨of_decide_eq_true z0, ?_⟩
  refine ⟨fun c0 => ?_, fun c0 => ?_⟩
  · replace E := iteF c0 E
    exact jX17_judge_32 hf hC  _ hF _ _ _ _ E
  · replace E := iteT c0 E
    exact jX17_judge_32 hf hC  _ hF _ _ _ _ E
theorem sX17_judge_C {D : DE} {f N R : Nat} {C : ty7} {F : Frm} (hF : k_Fix F) (hf : 9 ≤ f) (hC : ok7 D R f C) {o9 : GQ Int32} {x0 : Nat} {x2 : Int32} {h : HI} {g : HL} (E : pX17_judge_0 N R C F x0 x2 h g = some o9) : Gi D (f + 1) mX17_judge [.ref (ad D x0), .ref (ad D 7), .int x2] F h g (gqi o9) (gt o9) := by
  exact wX17_judge (f := f) hF _ _ (jX17_judge_0 hf hC _ hF _ _ _ _ E)
def pX19_judge_0 (N R : Nat) (C : ty7) (F : Frm) (x0 : Nat) (x2 : Int32) (h : HI) (g : HL) : GO Int32 :=
  gd (decide (F.2.1 x0 = (27, 0))) <|
  ob1 (F.2.2 x0 3) fun (b1 : Nat) =>
  ogi (C.2.2.2.2.2.2 F b1 0 h g) fun (y2 : Int32) (F5 : Frm) (h3 : HI) (g4 : HL) =>
  gd (decide (F5.2.1 x0 = (27, 0))) <|
  ob1 (F5.2.2 x0 4) fun (b6 : Nat) =>
  ogi (C.2.2.2.2.2.2 F5 b6 0 h3 g4) fun (y7 : Int32) (F10 : Frm) (h8 : HI) (g9 : HL) =>
  some (.inl (0, F10, h8, g9))
theorem jX19_judge_0 {D : DE} {f N R : Nat} (hf : 9 ≤ f) {C : ty7} (hC : ok7 D R f C) {o9 : GQ Int32} : ∀ (F : Frm) (_ : k_Fix F) (x0 : Nat) (x2 : Int32) (h : HI) (g : HL), pX19_judge_0 N R C F x0 x2 h g = some o9 → JX19_judge_0 D f (gqi o9) (gt o9) F h g x0 x2 := by
  intro F hF x0 x2 h g E
  unfold pX19_judge_0 at E
  obtain ⟨z0, E⟩ := gdE E; refine ⟨of_decide_eq_true z0, ?_⟩
  obtain ⟨b1, z0, E⟩ := ob1E E; refine ⟨b1, z0, ?_⟩
  refine Gi.ob (fun o1 e0 => (hC.2.2.2.2.2.2 _ hF _ _ _ _ _ e0)) E (fun y2 F5 h3 g4 hF E => ?_) (fun _ _ _ _ e => e)
  obtain ⟨z0, E⟩ := gdE E; refine ⟨of_decide_eq_true z0, ?_⟩
  obtain ⟨b6, z0, E⟩ := ob1E E; refine ⟨b6, z0, ?_⟩
  refine Gi.ob (fun o1 e0 => (hC.2.2.2.2.2.2 _ hF _ _ _ _ _ e0)) E (fun y7 F10 h8 g9 hF E => ?_) (fun _ _ _ _ e => e)
  exact (Option.some.inj E).symm
theorem sX19_judge_C {D : DE} {f N R : Nat} {C : ty7} {F : Frm} (hF : k_Fix F) (hf : 9 ≤ f) (hC : ok7 D R f C) {o9 : GQ Int32} {x0 : Nat} {x2 : Int32} {h : HI} {g : HL} (E : pX19_judge_0 N R C F x0 x2 h g = some o9) : Gi D (f + 1) mX19_judge [.ref (ad D x0), .ref (ad D 7), .int x2] F h g (gqi o9) (gt o9) := by
  exact wX19_judge (f := f) hF _ _ (jX19_judge_0 hf hC _ hF _ _ _ _ E)
def pX4_judge_50 (N R : Nat) (C : ty7) (F : Frm) (x1 : Nat) (s1 : Int32) (h : HI) (g : HL) : GO Int32 :=
  gd (isEb F x1) <|
  bnd ((F.2.1 x1).1 - 10) fun (k1 : Nat) =>
  ogv (ppX4_want N R F s1 5 (h x1 0) h g) fun (F4 : Frm) (h2 : HI) (g3 : HL) =>
  gd (isEb F4 x1) <|
  bnd ((F4.2.1 x1).1 - 10) fun (k5 : Nat) =>
  some (.inl ((h2 x1 1), F4, h2, g3))
theorem jX4_judge_50 {D : DE} {f N R : Nat} (hf : 9 ≤ f) {C : ty7} (hC : ok7 D R f C) {o9 : GQ Int32} : ∀ (F : Frm) (_ : k_Fix F) (x1 : Nat) (s1 : Int32) (h : HI) (g : HL), pX4_judge_50 N R C F x1 s1 h g = some o9 → JX4_judge_50 D f (gqi o9) (gt o9) F h g x1 s1 := by
  intro F hF x1 s1 h g E
  unfold pX4_judge_50 at E
  obtain ⟨z0, E⟩ := gdE E; obtain ⟨k1, e1⟩ : ∃ k, k = (F.2.1 x1).1 - 10 := ⟨_, rfl⟩; replace E := bndE e1 E; have zEk1 : isE F x1 k1 := by rw [e1]; exact isEbE z0
  refine ⟨k1, zEk1, ?_⟩
  refine Gv.ob (fun o1 e0 => (sX4_want (N := N) (R := R) hF (by omega) e0)) E (fun F4 h2 g3 hF E => ?_) (fun _ _ _ _ e => e)
  obtain ⟨z0, E⟩ := gdE E; obtain ⟨k5, e1⟩ : ∃ k, k = (F4.2.1 x1).1 - 10 := ⟨_, rfl⟩; replace E := bndE e1 E; have zEk5 : isE F4 x1 k5 := by rw [e1]; exact isEbE z0
  refine ⟨k5, zEk5, ?_⟩
  exact (Option.some.inj E).symm
def pX4_judge_49 (N R : Nat) (C : ty7) (F : Frm) (x1 : Nat) (h : HI) (g : HL) : GO Int32 :=
  pX4_judge_50 N R C F x1 0 h g
theorem jX4_judge_49 {D : DE} {f N R : Nat} (hf : 9 ≤ f) {C : ty7} (hC : ok7 D R f C) {o9 : GQ Int32} : ∀ (F : Frm) (_ : k_Fix F) (x1 : Nat) (h : HI) (g : HL), pX4_judge_49 N R C F x1 h g = some o9 → JX4_judge_49 D f (gqi o9) (gt o9) F h g x1 := by
  intro F hF x1 h g E
  unfold pX4_judge_49 at E
  exact jX4_judge_50 hf hC  _ hF _ _ _ _ E
def pX4_judge_45 (N R : Nat) (C : ty7) (F : Frm) (x1 : Nat) (h : HI) (g : HL) : GO Int32 :=
  pX4_judge_50 N R C F x1 1 h g
theorem jX4_judge_45 {D : DE} {f N R : Nat} (hf : 9 ≤ f) {C : ty7} (hC : ok7 D R f C) {o9 : GQ Int32} : ∀ (F : Frm) (_ : k_Fix F) (x1 : Nat) (h : HI) (g : HL), pX4_judge_45 N R C F x1 h g = some o9 → JX4_judge_45 D f (gqi o9) (gt o9) F h g x1 := by
  intro F hF x1 h g E
  unfold pX4_judge_45 at E
  exact jX4_judge_50 hf hC  _ hF _ _ _ _ E
def pX4_judge_0 (N R : Nat) (C : ty7) (F : Frm) (x1 : Nat) (x2 : Int32) (h : HI) (g : HL) : GO Int32 :=
  gd (isEb F x1) <|
  bnd ((F.2.1 x1).1 - 10) fun (k1 : Nat) =>
  ogi (pv_judge N R C k1 F x1 x2 h g) fun (y2 : Int32) (F5 : Frm) (h3 : HI) (g4 : HL) =>
  gd (isEb F5 x1) <|
  bnd ((F5.2.1 x1).1 - 10) fun (k6 : Nat) =>
  bnd (up2 h3 x1 1 y2) fun (h7 : HI) =>
  if (h7 x1 1) = (-1) then
    pX4_judge_49 N R C F5 x1 h7 g4
  else
    if x2 = (-1) then
      pX4_judge_45 N R C F5 x1 h7 g4
    else
      if x2 = (h7 x1 1) then
        pX4_judge_45 N R C F5 x1 h7 g4
      else
        if x2 = (-2) then
          if (h7 x1 1) ≤ 0 then
            pX4_judge_49 N R C F5 x1 h7 g4
          else
            pX4_judge_45 N R C F5 x1 h7 g4
        else
          pX4_judge_49 N R C F5 x1 h7 g4
theorem jX4_judge_0 {D : DE} {f N R : Nat} (hf : 9 ≤ f) {C : ty7} (hC : ok7 D R f C) {o9 : GQ Int32} : ∀ (F : Frm) (_ : k_Fix F) (x1 : Nat) (x2 : Int32) (h : HI) (g : HL), pX4_judge_0 N R C F x1 x2 h g = some o9 → JX4_judge_0 D f (gqi o9) (gt o9) F h g x1 x2 := by
  intro F hF x1 x2 h g E
  unfold pX4_judge_0 at E
  obtain ⟨z0, E⟩ := gdE E; obtain ⟨k1, e1⟩ : ∃ k, k = (F.2.1 x1).1 - 10 := ⟨_, rfl⟩; replace E := bndE e1 E; have zEk1 : isE F x1 k1 := by rw [e1]; exact isEbE z0
  refine ⟨k1, zEk1, ?_⟩
  refine Gi.ob (fun o1 e0 => (sv_judge (N := N) (R := R) hF (by omega) hC zEk1 e0)) E (fun y2 F5 h3 g4 hF E => ?_) (fun _ _ _ _ e => e)
  obtain ⟨z0, E⟩ := gdE E; obtain ⟨k6, e1⟩ : ∃ k, k = (F5.2.1 x1).1 - 10 := ⟨_, rfl⟩; replace E := bndE e1 E; have zEk6 : isE F5 x1 k6 := by rw [e1]; exact isEbE z0
  refine ⟨k6, zEk6, ?_⟩
  intro h7 e0; replace E := bndE e0 E
  refine ⟨fun c0 => ?_, fun c0 => ?_⟩
  · replace E := iteT c0 E
    exact jX4_judge_49 hf hC  _ hF _ _ _ E
  · replace E := iteF c0 E
    refine ⟨fun c0 => ?_, fun c0 => ?_⟩
    · replace E := iteT c0 E
      exact jX4_judge_45 hf hC  _ hF _ _ _ E
    · replace E := iteF c0 E
      refine ⟨fun c0 => ?_, fun c0 => ?_⟩
      · replace E := iteT c0 E
        exact jX4_judge_45 hf hC  _ hF _ _ _ E
      · replace E := iteF c0 E
        refine ⟨fun c0 => ?_, fun c0 => ?_⟩
        · replace E := iteF c0 E
          exact jX4_judge_49 hf hC  _ hF _ _ _ E
        · replace E := iteT c0 E
          refine ⟨fun c0 => ?_, fun c0 => ?_⟩
          · replace E := iteT c0 E
            exact jX4_judge_49 hf hC  _ hF _ _ _ E
          · replace E := iteF c0 E
            exact jX4_judge_45 hf hC  _ hF _ _ _ E
theorem sX4_judge_C {D : DE} {f N R : Nat} {C : ty7} {F : Frm} (hF : k_Fix F) (hf : 9 ≤ f) (hC : ok7 D R f C) {o9 : GQ Int32} {x1 : Nat} {x2 : Int32} {h : HI} {g : HL} (E : pX4_judge_0 N R C F x1 x2 h g = some o9) : Gi D (f + 1) mX4_judge [.ref (ad D 7), .ref (ad D x1), .int x2] F h g (gqi o9) (gt o9) := by
  exact wX4_judge (f := f) hF _ _ (jX4_judge_0 hf hC _ hF _ _ _ _ E)
def tie7 (N R : Nat) : Nat → ty7
  | 0 => ((fun _ _ _ _ _ => none), (fun _ _ _ _ _ => none), (fun _ _ _ _ _ => none), (fun _ _ _ _ _ => none), (fun _ _ _ _ _ => none), (fun _ _ _ _ _ => none), (fun _ _ _ _ _ => none))
  | n + 1 => ((fun F x0 x2 h g => pX11_judge_0 N R (tie7 N R n) F x0 x2 h g), (fun F x0 x2 h g => pX12_judge_0 N R (tie7 N R n) F x0 x2 h g), (fun F x0 x2 h g => pX13_judge_0 N R (tie7 N R n) F x0 x2 h g), (fun F x0 x2 h g => pX16_judge_0 N R (tie7 N R n) F x0 x2 h g), (fun F x0 x2 h g => pX17_judge_0 N R (tie7 N R n) F x0 x2 h g), (fun F x0 x2 h g => pX19_judge_0 N R (tie7 N R n) F x0 x2 h g), (fun F x1 x2 h g => pX4_judge_0 N R (tie7 N R n) F x1 x2 h g))
theorem tie7_ok {D : DE} {N R : Nat} : ∀ (n f : Nat), 9 + n ≤ f → ok7 D R f (tie7 N R n) := by
  intro n
  induction n with
  | zero =>
    intro f hf
    exact ⟨fun _ _ _ _ _ _ _ E => (by cases E), fun _ _ _ _ _ _ _ E => (by cases E), fun _ _ _ _ _ _ _ E => (by cases E), fun _ _ _ _ _ _ _ E => (by cases E), fun _ _ _ _ _ _ _ E => (by cases E), fun _ _ _ _ _ _ _ E => (by cases E), fun _ _ _ _ _ _ _ E => (by cases E)⟩
  | succ n ih =>
    intro f hf
    obtain ⟨f, rfl⟩ : ∃ f0, f = f0 + 1 := ⟨f - 1, by omega⟩
    have hC := ih f (by omega)
    exact ⟨fun F hF x0 x2 h g o9 E => sX11_judge_C (N := N) (R := R) hF (by omega) hC E, fun F hF x0 x2 h g o9 E => sX12_judge_C (N := N) (R := R) hF (by omega) hC E, fun F hF x0 x2 h g o9 E => sX13_judge_C (N := N) (R := R) hF (by omega) hC E, fun F hF x0 x2 h g o9 E => sX16_judge_C (N := N) (R := R) hF (by omega) hC E, fun F hF x0 x2 h g o9 E => sX17_judge_C (N := N) (R := R) hF (by omega) hC E, fun F hF x0 x2 h g o9 E => sX19_judge_C (N := N) (R := R) hF (by omega) hC E, fun F hF x1 x2 h g o9 E => sX4_judge_C (N := N) (R := R) hF (by omega) hC E⟩
abbrev ppX11_judge (N R : Nat) (F : Frm) (x0 : Nat) (x2 : Int32) (h : HI) (g : HL) : GO Int32 := (tie7 N R R).1 F x0 x2 h g
theorem sX11_judge {D : DE} {f N R : Nat} {F : Frm} (hF : k_Fix F) (hf : 9 + 1 * R ≤ f) {o9 : GQ Int32} {x0 : Nat} {x2 : Int32} {h : HI} {g : HL} (E : ppX11_judge N R F x0 x2 h g = some o9) : Gi D f mX11_judge [.ref (ad D x0), .ref (ad D 7), .int x2] F h g (gqi o9) (gt o9) := (tie7_ok (N := N) R f (by omega)).1 _ hF _ _ _ _ _ E
abbrev ppX12_judge (N R : Nat) (F : Frm) (x0 : Nat) (x2 : Int32) (h : HI) (g : HL) : GO Int32 := (tie7 N R R).2.1 F x0 x2 h g
theorem sX12_judge {D : DE} {f N R : Nat} {F : Frm} (hF : k_Fix F) (hf : 9 + 1 * R ≤ f) {o9 : GQ Int32} {x0 : Nat} {x2 : Int32} {h : HI} {g : HL} (E : ppX12_judge N R F x0 x2 h g = some o9) : Gi D f mX12_judge [.ref (ad D x0), .ref (ad D 7), .int x2] F h g (gqi o9) (gt o9) := (tie7_ok (N := N) R f (by omega)).2.1 _ hF _ _ _ _ _ E
abbrev ppX13_judge (N R : Nat) (F : Frm) (x0 : Nat) (x2 : Int32) (h : HI) (g : HL) : GO Int32 := (tie7 N R R).2.2.1 F x0 x2 h g
theorem sX13_judge {D : DE} {f N R : Nat} {F : Frm} (hF : k_Fix F) (hf : 9 + 1 * R ≤ f) {o9 : GQ Int32} {x0 : Nat} {x2 : Int32} {h : HI} {g : HL} (E : ppX13_judge N R F x0 x2 h g = some o9) : Gi D f mX13_judge [.ref (ad D x0), .ref (ad D 7), .int x2] F h g (gqi o9) (gt o9) := (tie7_ok (N := N) R f (by omega)).2.2.1 _ hF _ _ _ _ _ E
abbrev ppX16_judge (N R : Nat) (F : Frm) (x0 : Nat) (x2 : Int32) (h : HI) (g : HL) : GO Int32 := (tie7 N R R).2.2.2.1 F x0 x2 h g
theorem sX16_judge {D : DE} {f N R : Nat} {F : Frm} (hF : k_Fix F) (hf : 9 + 1 * R ≤ f) {o9 : GQ Int32} {x0 : Nat} {x2 : Int32} {h : HI} {g : HL} (E : ppX16_judge N R F x0 x2 h g = some o9) : Gi D f mX16_judge [.ref (ad D x0), .ref (ad D 7), .int x2] F h g (gqi o9) (gt o9) := (tie7_ok (N := N) R f (by omega)).2.2.2.1 _ hF _ _ _ _ _ E
abbrev ppX17_judge (N R : Nat) (F : Frm) (x0 : Nat) (x2 : Int32) (h : HI) (g : HL) : GO Int32 := (tie7 N R R).2.2.2.2.1 F x0 x2 h g
theorem sX17_judge {D : DE} {f N R : Nat} {F : Frm} (hF : k_Fix F) (hf : 9 + 1 * R ≤ f) {o9 : GQ Int32} {x0 : Nat} {x2 : Int32} {h : HI} {g : HL} (E : ppX17_judge N R F x0 x2 h g = some o9) : Gi D f mX17_judge [.ref (ad D x0), .ref (ad D 7), .int x2] F h g (gqi o9) (gt o9) := (tie7_ok (N := N) R f (by omega)).2.2.2.2.1 _ hF _ _ _ _ _ E
abbrev ppX19_judge (N R : Nat) (F : Frm) (x0 : Nat) (x2 : Int32) (h : HI) (g : HL) : GO Int32 := (tie7 N R R).2.2.2.2.2.1 F x0 x2 h g
theorem sX19_judge {D : DE} {f N R : Nat} {F : Frm} (hF : k_Fix F) (hf : 9 + 1 * R ≤ f) {o9 : GQ Int32} {x0 : Nat} {x2 : Int32} {h : HI} {g : HL} (E : ppX19_judge N R F x0 x2 h g = some o9) : Gi D f mX19_judge [.ref (ad D x0), .ref (ad D 7), .int x2] F h g (gqi o9) (gt o9) := (tie7_ok (N := N) R f (by omega)).2.2.2.2.2.1 _ hF _ _ _ _ _ E
abbrev ppX4_judge (N R : Nat) (F : Frm) (x1 : Nat) (x2 : Int32) (h : HI) (g : HL) : GO Int32 := (tie7 N R R).2.2.2.2.2.2 F x1 x2 h g
theorem sX4_judge {D : DE} {f N R : Nat} {F : Frm} (hF : k_Fix F) (hf : 9 + 1 * R ≤ f) {o9 : GQ Int32} {x1 : Nat} {x2 : Int32} {h : HI} {g : HL} (E : ppX4_judge N R F x1 x2 h g = some o9) : Gi D f mX4_judge [.ref (ad D 7), .ref (ad D x1), .int x2] F h g (gqi o9) (gt o9) := (tie7_ok (N := N) R f (by omega)).2.2.2.2.2.2 _ hF _ _ _ _ _ E
def pX12_init_0 (N R : Nat) (F : Frm) (x0 : Nat) (x1 : Int32) (x2 : Int32) (x3 : Nat) (x4 : Nat) (h : HI) (g : HL) : GO Unit :=
  obv (ppX10_init N R F x0 x1 h g) fun (h1 : HI) (g2 : HL) =>
  gd (decide (F.2.1 x0 = (20, 0))) <|
  bnd (up2 h1 x0 2 x2) fun (h3 : HI) =>
  bnd (fwr F x0 3 (some x3)) fun (F4 : Frm) =>
  gd (decide (160 ≤ x0)) <|
  bnd (fwr F4 x0 4 (some x4)) fun (F5 : Frm) =>
  gd (decide (160 ≤ x0)) <|
  some (.inl ((), F5, h3, g2))
theorem jX12_init_0 {D : DE} {f N R : Nat} (hf : 1 ≤ f) {o9 : GQ Unit} : ∀ (F : Frm) (_ : k_Fix F) (x0 : Nat) (x1 : Int32) (x2 : Int32) (x3 : Nat) (x4 : Nat) (h : HI) (g : HL), pX12_init_0 N R F x0 x1 x2 x3 x4 h g = some o9 → JX12_init_0 D f (gqv o9) (gt o9) F h g x0 x1 x2 x3 x4 := by
  intro F hF x0 x1 x2 x3 x4 h g E
  unfold pX12_init_0 at E
  obtain ⟨h1, g2, e0, E⟩ := obvE E
  refine Sv.mono (sX10_init (N := N) (R := R) hF (by omega) e0) (fun h8 g8 hq => ?_)
  obtain ⟨rfl, rfl⟩ := hq
  obtain ⟨z0, E⟩ := gdE E; refine ⟨of_decide_eq_true z0, ?_⟩
  intro h3 e0; replace E := bndE e0 E
  intro F4 e0; replace E := bndE e0 E
  obtain ⟨z0, E⟩ := gdE E; refine ⟨of_decide_eq_true z0, ?_⟩
  replace hF : k_Fix F4 := by rw [e0]; exact k_Fix.wr hF (fx_okD (of_decide_eq_true z0)) _
  intro F5 e0; replace E := bndE e0 E
  obtain ⟨z0, E⟩ := gdE E; refine ⟨of_decide_eq_true z0, ?_⟩
  replace hF : k_Fix F5 := by rw [e0]; exact k_Fix.wr hF (fx_okD (of_decide_eq_true z0)) _
  exact (Option.some.inj E).symm
abbrev ppX12_init (N R : Nat) (F : Frm) (x0 : Nat) (x1 : Int32) (x2 : Int32) (x3 : Nat) (x4 : Nat) (h : HI) (g : HL) : GO Unit := pX12_init_0 N R F x0 x1 x2 x3 x4 h g
theorem sX12_init {D : DE} {f N R : Nat} {F : Frm} (hF : k_Fix F) (hf : 2 ≤ f) {o9 : GQ Unit} {x0 : Nat} {x1 : Int32} {x2 : Int32} {x3 : Nat} {x4 : Nat} {h : HI} {g : HL} (E : ppX12_init N R F x0 x1 x2 x3 x4 h g = some o9) : Gv D f mX12_init [.ref (ad D x0), .int x1, .int x2, .ref (ad D x3), .ref (ad D x4)] F h g (gqv o9) (gt o9) := by
  obtain ⟨f, rfl⟩ : ∃ f0, f = f0 + 1 := ⟨f - 1, by omega⟩
  have hf : 1 ≤ f := by omega
  exact wX12_init (f := f) hF _ _ _ _ _ (jX12_init_0 hf _ hF _ _ _ _ _ _ _ E)
def pX13_init_0 (N R : Nat) (F : Frm) (x0 : Nat) (x1 : Int32) (x2 : Nat) (x3 : Nat) (x4 : Nat) (h : HI) (g : HL) : GO Unit :=
  obv (ppX10_init N R F x0 x1 h g) fun (h1 : HI) (g2 : HL) =>
  gd (decide (F.2.1 x0 = (21, 0))) <|
  bnd (fwr F x0 2 (some x2)) fun (F3 : Frm) =>
  gd (decide (160 ≤ x0)) <|
  bnd (fwr F3 x0 3 (some x3)) fun (F4 : Frm) =>
  gd (decide (160 ≤ x0)) <|
  bnd (fwr F4 x0 4 (some x4)) fun (F5 : Frm) =>
  gd (decide (160 ≤ x0)) <|
  some (.inl ((), F5, h1, g2))
theorem jX13_init_0 {D : DE} {f N R : Nat} (hf : 1 ≤ f) {o9 : GQ Unit} : ∀ (F : Frm) (_ : k_Fix F) (x0 : Nat) (x1 : Int32) (x2 : Nat) (x3 : Nat) (x4 : Nat) (h : HI) (g : HL), pX13_init_0 N R F x0 x1 x2 x3 x4 h g = some o9 → JX13_init_0 D f (gqv o9) (gt o9) F h g x0 x1 x2 x3 x4 := by
  intro F hF x0 x1 x2 x3 x4 h g E
  unfold pX13_init_0 at E
  obtain ⟨h1, g2, e0, E⟩ := obvE E
  refine Sv.mono (sX10_init (N := N) (R := R) hF (by omega) e0) (fun h8 g8 hq => ?_)
  obtain ⟨rfl, rfl⟩ := hq
  obtain ⟨z0, E⟩ := gdE E; refine ⟨of_decide_eq_true z0, ?_⟩
  intro F3 e0; replace E := bndE e0 E
  obtain ⟨z0, E⟩ := gdE E; refine ⟨of_decide_eq_true z0, ?_⟩
  replace hF : k_Fix F3 := by rw [e0]; exact k_Fix.wr hF (fx_okD (of_decide_eq_true z0)) _
  intro F4 e0; replace E := bndE e0 E
  obtain ⟨z0, E⟩ := gdE E; refine ⟨of_decide_eq_true z0, ?_⟩
  replace hF : k_Fix F4 := by rw [e0]; exact k_Fix.wr hF (fx_okD (of_decide_eq_true z0)) _
  intro F5 e0; replace E := bndE e0 E
  obtain ⟨z0, E⟩ := gdE E; refine ⟨of_decide_eq_true z0, ?_⟩
  replace hF : k_Fix F5 := by rw [e0]; exact k_Fix.wr hF (fx_okD (of_decide_eq_true z0)) _
  exact (Option.some.inj E).symm
abbrev ppX13_init (N R : Nat) (F : Frm) (x0 : Nat) (x1 : Int32) (x2 : Nat) (x3 : Nat) (x4 : Nat) (h : HI) (g : HL) : GO Unit := pX13_init_0 N R F x0 x1 x2 x3 x4 h g
theorem sX13_init {D : DE} {f N R : Nat} {F : Frm} (hF : k_Fix F) (hf : 2 ≤ f) {o9 : GQ Unit} {x0 : Nat} {x1 : Int32} {x2 : Nat} {x3 : Nat} {x4 : Nat} {h : HI} {g : HL} (E : ppX13_init N R F x0 x1 x2 x3 x4 h g = some o9) : Gv D f mX13_init [.ref (ad D x0), .int x1, .ref (ad D x2), .ref (ad D x3), .ref (ad D x4)] F h g (gqv o9) (gt o9) := by
  obtain ⟨f, rfl⟩ : ∃ f0, f = f0 + 1 := ⟨f - 1, by omega⟩
  have hf : 1 ≤ f := by omega
  exact wX13_init (f := f) hF _ _ _ _ _ (jX13_init_0 hf _ hF _ _ _ _ _ _ _ E)
def pX14_init_0 (N R : Nat) (F : Frm) (x0 : Nat) (x1 : Int32) (x2 : Int32) (h : HI) (g : HL) : Option (HI × HL) :=
  obv (ppX10_init N R F x0 x1 h g) fun (h1 : HI) (g2 : HL) =>
  gd (decide (F.2.1 x0 = (22, 0))) <|
  bnd (up2 h1 x0 2 x2) fun (h3 : HI) =>
  some (h3, g2)
theorem jX14_init_0 {D : DE} {f N R : Nat} (hf : 1 ≤ f) {h9 : HI} {g9 : HL} : ∀ (F : Frm) (_ : k_Fix F) (x0 : Nat) (x1 : Int32) (x2 : Int32) (h : HI) (g : HL), pX14_init_0 N R F x0 x1 x2 h g = some (h9, g9) → JX14_init_0 D f (eqv h9 g9) F h g x0 x1 x2 := by
  intro F hF x0 x1 x2 h g E
  unfold pX14_init_0 at E
  obtain ⟨h1, g2, e0, E⟩ := obvE E
  refine Sv.mono (sX10_init (N := N) (R := R) hF (by omega) e0) (fun h8 g8 hq => ?_)
  obtain ⟨rfl, rfl⟩ := hq
  obtain ⟨z0, E⟩ := gdE E; refine ⟨of_decide_eq_true z0, ?_⟩
  intro h3 e0; replace E := bndE e0 E
  cases E; exact ⟨rfl, rfl⟩
abbrev ppX14_init (N R : Nat) (F : Frm) (x0 : Nat) (x1 : Int32) (x2 : Int32) (h : HI) (g : HL) : Option (HI × HL) := pX14_init_0 N R F x0 x1 x2 h g
theorem sX14_init {D : DE} {f N R : Nat} {F : Frm} (hF : k_Fix F) (hf : 2 ≤ f) {h9 : HI} {g9 : HL} {x0 : Nat} {x1 : Int32} {x2 : Int32} {h : HI} {g : HL} (E : ppX14_init N R F x0 x1 x2 h g = some (h9, g9)) : Sv D f mX14_init [.ref (ad D x0), .int x1, .int x2] F h g (eqv h9 g9) := by
  obtain ⟨f, rfl⟩ : ∃ f0, f = f0 + 1 := ⟨f - 1, by omega⟩
  have hf : 1 ≤ f := by omega
  exact wX14_init (f := f) hF _ _ _ (jX14_init_0 hf _ hF _ _ _ _ _ E)
def pX15_init_0 (N R : Nat) (F : Frm) (x0 : Nat) (x1 : Int32) (x2 : Int32) (h : HI) (g : HL) : Option (HI × HL) :=
  obv (ppX10_init N R F x0 x1 h g) fun (h1 : HI) (g2 : HL) =>
  gd (decide (F.2.1 x0 = (23, 0))) <|
  bnd (up2 h1 x0 1 x2) fun (h3 : HI) =>
  some (h3, g2)
theorem jX15_init_0 {D : DE} {f N R : Nat} (hf : 1 ≤ f) {h9 : HI} {g9 : HL} : ∀ (F : Frm) (_ : k_Fix F) (x0 : Nat) (x1 : Int32) (x2 : Int32) (h : HI) (g : HL), pX15_init_0 N R F x0 x1 x2 h g = some (h9, g9) → JX15_init_0 D f (eqv h9 g9) F h g x0 x1 x2 := by
  intro F hF x0 x1 x2 h g E
  unfold pX15_init_0 at E
  obtain ⟨h1, g2, e0, E⟩ := obvE E
  refine Sv.mono (sX10_init (N := N) (R := R) hF (by omega) e0) (fun h8 g8 hq => ?_)
  obtain ⟨rfl, rfl⟩ := hq
  obtain ⟨z0, E⟩ := gdE E; refine ⟨of_decide_eq_true z0, ?_⟩
  intro h3 e0; replace E := bndE e0 E
  cases E; exact ⟨rfl, rfl⟩
abbrev ppX15_init (N R : Nat) (F : Frm) (x0 : Nat) (x1 : Int32) (x2 : Int32) (h : HI) (g : HL) : Option (HI × HL) := pX15_init_0 N R F x0 x1 x2 h g
theorem sX15_init {D : DE} {f N R : Nat} {F : Frm} (hF : k_Fix F) (hf : 2 ≤ f) {h9 : HI} {g9 : HL} {x0 : Nat} {x1 : Int32} {x2 : Int32} {h : HI} {g : HL} (E : ppX15_init N R F x0 x1 x2 h g = some (h9, g9)) : Sv D f mX15_init [.ref (ad D x0), .int x1, .int x2] F h g (eqv h9 g9) := by
  obtain ⟨f, rfl⟩ : ∃ f0, f = f0 + 1 := ⟨f - 1, by omega⟩
  have hf : 1 ≤ f := by omega
  exact wX15_init (f := f) hF _ _ _ (jX15_init_0 hf _ hF _ _ _ _ _ E)
def pX16_init_0 (N R : Nat) (F : Frm) (x0 : Nat) (x1 : Int32) (x2 : Nat) (x3 : Nat) (h : HI) (g : HL) : GO Unit :=
  obv (ppX10_init N R F x0 x1 h g) fun (h1 : HI) (g2 : HL) =>
  gd (decide (F.2.1 x0 = (24, 0))) <|
  bnd (fwr F x0 2 (some x2)) fun (F3 : Frm) =>
  gd (decide (160 ≤ x0)) <|
  bnd (fwr F3 x0 3 (some x3)) fun (F4 : Frm) =>
  gd (decide (160 ≤ x0)) <|
  some (.inl ((), F4, h1, g2))
theorem jX16_init_0 {D : DE} {f N R : Nat} (hf : 1 ≤ f) {o9 : GQ Unit} : ∀ (F : Frm) (_ : k_Fix F) (x0 : Nat) (x1 : Int32) (x2 : Nat) (x3 : Nat) (h : HI) (g : HL), pX16_init_0 N R F x0 x1 x2 x3 h g = some o9 → JX16_init_0 D f (gqv o9) (gt o9) F h g x0 x1 x2 x3 := by
  intro F hF x0 x1 x2 x3 h g E
  unfold pX16_init_0 at E
  obtain ⟨h1, g2, e0, E⟩ := obvE E
  refine Sv.mono (sX10_init (N := N) (R := R) hF (by omega) e0) (fun h8 g8 hq => ?_)
  obtain ⟨rfl, rfl⟩ := hq
  obtain ⟨z0, E⟩ := gdE E; refine ⟨of_decide_eq_true z0, ?_⟩
  intro F3 e0; replace E := bndE e0 E
  obtain ⟨z0, E⟩ := gdE E; refine ⟨of_decide_eq_true z0, ?_⟩
  replace hF : k_Fix F3 := by rw [e0]; exact k_Fix.wr hF (fx_okD (of_decide_eq_true z0)) _
  intro F4 e0; replace E := bndE e0 E
  obtain ⟨z0, E⟩ := gdE E; refine ⟨of_decide_eq_true z0, ?_⟩
  replace hF : k_Fix F4 := by rw [e0]; exact k_Fix.wr hF (fx_okD (of_decide_eq_true z0)) _
  exact (Option.some.inj E).symm
abbrev ppX16_init (N R : Nat) (F : Frm) (x0 : Nat) (x1 : Int32) (x2 : Nat) (x3 : Nat) (h : HI) (g : HL) : GO Unit := pX16_init_0 N R F x0 x1 x2 x3 h g
theorem sX16_init {D : DE} {f N R : Nat} {F : Frm} (hF : k_Fix F) (hf : 2 ≤ f) {o9 : GQ Unit} {x0 : Nat} {x1 : Int32} {x2 : Nat} {x3 : Nat} {h : HI} {g : HL} (E : ppX16_init N R F x0 x1 x2 x3 h g = some o9) : Gv D f mX16_init [.ref (ad D x0), .int x1, .ref (ad D x2), .ref (ad D x3)] F h g (gqv o9) (gt o9) := by
  obtain ⟨f, rfl⟩ : ∃ f0, f = f0 + 1 := ⟨f - 1, by omega⟩
  have hf : 1 ≤ f := by omega
  exact wX16_init (f := f) hF _ _ _ _ (jX16_init_0 hf _ hF _ _ _ _ _ _ E)
def pX17_init_0 (N R : Nat) (F : Frm) (x0 : Nat) (x1 : Int32) (h : HI) (g : HL) : GO Unit :=
  obv (ppX10_init N R F x0 x1 h g) fun (h1 : HI) (g2 : HL) =>
  gd (decide (160 ≤ F.1.1)) <|
  bnd (fnw F (5, 4) 4) fun (F3 : Frm) =>
  bnd (up1 h1 F.1.1 (fun _ => 0)) fun (h4 : HI) =>
  bnd (up1 g2 F.1.1 (fun _ => 0)) fun (g5 : HL) =>
  gd (decide (F3.2.1 x0 = (25, 0))) <|
  bnd (fwr F3 x0 3 (some F.1.1)) fun (F6 : Frm) =>
  gd (decide (160 ≤ x0)) <|
  some (.inl ((), F6, h4, g5))
theorem jX17_init_0 {D : DE} {f N R : Nat} (hf : 1 ≤ f) {o9 : GQ Unit} : ∀ (F : Frm) (_ : k_Fix F) (x0 : Nat) (x1 : Int32) (h : HI) (g : HL), pX17_init_0 N R F x0 x1 h g = some o9 → JX17_init_0 D f (gqv o9) (gt o9) F h g x0 x1 := by
  intro F hF x0 x1 h g E
  unfold pX17_init_0 at E
  obtain ⟨h1, g2, e0, E⟩ := obvE E
  refine Sv.mono (sX10_init (N := N) (R := R) hF (by omega) e0) (fun h8 g8 hq => ?_)
  obtain ⟨rfl, rfl⟩ := hq
  obtain ⟨z0, E⟩ := gdE E; refine ⟨of_decide_eq_true z0, ?_⟩; intro F3 h4 g5 e1 e2 e3; replace E := bndE e1 E; replace E := bndE e2 E; replace E := bndE e3 E
  replace hF : k_Fix F3 := by rw [e1]; exact k_Fix.new hF (of_decide_eq_true z0) _ _
  obtain ⟨z0, E⟩ := gdE E; refine ⟨of_decide_eq_true z0, ?_⟩
  intro F6 e0; replace E := bndE e0 E
  obtain ⟨z0, E⟩ := gdE E; refine ⟨of_decide_eq_true z0, ?_⟩
  replace hF : k_Fix F6 := by rw [e0]; exact k_Fix.wr hF (fx_okD (of_decide_eq_true z0)) _
  exact (Option.some.inj E).symm
abbrev ppX17_init (N R : Nat) (F : Frm) (x0 : Nat) (x1 : Int32) (h : HI) (g : HL) : GO Unit := pX17_init_0 N R F x0 x1 h g
theorem sX17_init {D : DE} {f N R : Nat} {F : Frm} (hF : k_Fix F) (hf : 2 ≤ f) {o9 : GQ Unit} {x0 : Nat} {x1 : Int32} {h : HI} {g : HL} (E : ppX17_init N R F x0 x1 h g = some o9) : Gv D f mX17_init [.ref (ad D x0), .int x1] F h g (gqv o9) (gt o9) := by
  obtain ⟨f, rfl⟩ : ∃ f0, f = f0 + 1 := ⟨f - 1, by omega⟩
  have hf : 1 ≤ f := by omega
  exact wX17_init (f := f) hF _ _ (jX17_init_0 hf _ hF _ _ _ _ E)
def pX18_init_0 (N R : Nat) (F : Frm) (x0 : Nat) (x1 : Int32) (h : HI) (g : HL) : Option (HI × HL) :=
  obv (ppX10_init N R F x0 x1 h g) fun (h1 : HI) (g2 : HL) =>
  some (h1, g2)
theorem jX18_init_0 {D : DE} {f N R : Nat} (hf : 1 ≤ f) {h9 : HI} {g9 : HL} : ∀ (F : Frm) (_ : k_Fix F) (x0 : Nat) (x1 : Int32) (h : HI) (g : HL), pX18_init_0 N R F x0 x1 h g = some (h9, g9) → JX18_init_0 D f (eqv h9 g9) F h g x0 x1 := by
  intro F hF x0 x1 h g E
  unfold pX18_init_0 at E
  obtain ⟨h1, g2, e0, E⟩ := obvE E
  refine Sv.mono (sX10_init (N := N) (R := R) hF (by omega) e0) (fun h8 g8 hq => ?_)
  obtain ⟨rfl, rfl⟩ := hq
  cases E; exact ⟨rfl, rfl⟩
abbrev ppX18_init (N R : Nat) (F : Frm) (x0 : Nat) (x1 : Int32) (h : HI) (g : HL) : Option (HI × HL) := pX18_init_0 N R F x0 x1 h g
theorem sX18_init {D : DE} {f N R : Nat} {F : Frm} (hF : k_Fix F) (hf : 2 ≤ f) {h9 : HI} {g9 : HL} {x0 : Nat} {x1 : Int32} {h : HI} {g : HL} (E : ppX18_init N R F x0 x1 h g = some (h9, g9)) : Sv D f mX18_init [.ref (ad D x0), .int x1] F h g (eqv h9 g9) := by
  obtain ⟨f, rfl⟩ : ∃ f0, f = f0 + 1 := ⟨f - 1, by omega⟩
  have hf : 1 ≤ f := by omega
  exact wX18_init (f := f) hF _ _ (jX18_init_0 hf _ hF _ _ _ _ E)
def pX19_init_0 (N R : Nat) (F : Frm) (x0 : Nat) (x1 : Int32) (x2 : Nat) (x3 : Nat) (h : HI) (g : HL) : GO Unit :=
  gd (isEb F x2) <|
  bnd ((F.2.1 x2).1 - 10) fun (k1 : Nat) =>
  obv (ppX10_init N R F x0 (h x2 0) h g) fun (h2 : HI) (g3 : HL) =>
  gd (decide (F.2.1 x0 = (27, 0))) <|
  bnd (up2 h2 x0 2 x1) fun (h4 : HI) =>
  bnd (fwr F x0 3 (some x2)) fun (F5 : Frm) =>
  gd (decide (160 ≤ x0)) <|
  bnd (fwr F5 x0 4 (some x3)) fun (F6 : Frm) =>
  gd (decide (160 ≤ x0)) <|
  some (.inl ((), F6, h4, g3))
theorem jX19_init_0 {D : DE} {f N R : Nat} (hf : 1 ≤ f) {o9 : GQ Unit} : ∀ (F : Frm) (_ : k_Fix F) (x0 : Nat) (x1 : Int32) (x2 : Nat) (x3 : Nat) (h : HI) (g : HL), pX19_init_0 N R F x0 x1 x2 x3 h g = some o9 → JX19_init_0 D f (gqv o9) (gt o9) F h g x0 x1 x2 x3 := by
  intro F hF x0 x1 x2 x3 h g E
  unfold pX19_init_0 at E
  obtain ⟨z0, E⟩ := gdE E; obtain ⟨k1, e1⟩ : ∃ k, k = (F.2.1 x2).1 - 10 := ⟨_, rfl⟩; replace E := bndE e1 E; have zEk1 : isE F x2 k1 := by rw [e1]; exact isEbE z0
  refine ⟨k1, zEk1, ?_⟩
  obtain ⟨h2, g3, e0, E⟩ := obvE E
  refine Sv.mono (sX10_init (N := N) (R := R) hF (by omega) e0) (fun h8 g8 hq => ?_)
  obtain ⟨rfl, rfl⟩ := hq
  obtain ⟨z0, E⟩ := gdE E; refine ⟨of_decide_eq_true z0, ?_⟩
  intro h4 e0; replace E := bndE e0 E
  intro F5 e0; replace E := bndE e0 E
  obtain ⟨z0, E⟩ := gdE E; refine ⟨of_decide_eq_true z0, ?_⟩
  replace hF : k_Fix F5 := by rw [e0]; exact k_Fix.wr hF (fx_okD (of_decide_eq_true z0)) _
  replace zEk1 : isE F5 x2 k1 := by rw [e0]; exact zEk1
  intro F6 e0; replace E := bndE e0 E
  obtain ⟨z0, E⟩ := gdE E; refine ⟨of_decide_eq_true z0, ?_⟩
  replace hF : k_Fix F6 := by rw [e0]; exact k_Fix.wr hF (fx_okD (of_decide_eq_true z0)) _
  replace zEk1 : isE F6 x2 k1 := by rw [e0]; exact zEk1
  exact (Option.some.inj E).symm
abbrev ppX19_init (N R : Nat) (F : Frm) (x0 : Nat) (x1 : Int32) (x2 : Nat) (x3 : Nat) (h : HI) (g : HL) : GO Unit := pX19_init_0 N R F x0 x1 x2 x3 h g
theorem sX19_init {D : DE} {f N R : Nat} {F : Frm} (hF : k_Fix F) (hf : 2 ≤ f) {o9 : GQ Unit} {x0 : Nat} {x1 : Int32} {x2 : Nat} {x3 : Nat} {h : HI} {g : HL} (E : ppX19_init N R F x0 x1 x2 x3 h g = some o9) : Gv D f mX19_init [.ref (ad D x0), .int x1, .ref (ad D x2), .ref (ad D x3)] F h g (gqv o9) (gt o9) := by
  obtain ⟨f, rfl⟩ : ∃ f0, f = f0 + 1 := ⟨f - 1, by omega⟩
  have hf : 1 ≤ f := by omega
  exact wX19_init (f := f) hF _ _ _ _ (jX19_init_0 hf _ hF _ _ _ _ _ _ E)
def pX1_place_0 (N R : Nat) (F : Frm) (h : HI) (g : HL) : Option (Int32 × HI × HL) :=
  some ((h 0 7), h, g)
theorem jX1_place_0 {D : DE} {f N R : Nat} (hf : 0 ≤ f) {y9 : Int32} {h9 : HI} {g9 : HL} : ∀ (F : Frm) (_ : k_Fix F) (h : HI) (g : HL), pX1_place_0 N R F h g = some (y9, h9, g9) → JX1_place_0 D f (eqi y9 h9 g9) F h g := by
  intro F hF h g E
  unfold pX1_place_0 at E
  cases E; exact ⟨rfl, rfl, rfl⟩
abbrev ppX1_place (N R : Nat) (F : Frm) (h : HI) (g : HL) : Option (Int32 × HI × HL) := pX1_place_0 N R F h g
theorem sX1_place {D : DE} {f N R : Nat} {F : Frm} (hF : k_Fix F) (hf : 0 ≤ f) {y9 : Int32} {h9 : HI} {g9 : HL} {h : HI} {g : HL} (E : ppX1_place N R F h g = some (y9, h9, g9)) : Si D f mX1_place [.ref (ad D 0)] F h g (eqi y9 h9 g9) := by
  exact wX1_place (f := f) hF (jX1_place_0 hf _ hF _ _ E)
def pX2_byteAt_0 (N R : Nat) (F : Frm) (x1 : Int32) (h : HI) (g : HL) : Option (Int32 × HI × HL) :=
  if (h 1 1) ≤ x1 then
    some ((-1), h, g)
  else
    gd (vin x1 4000) <|
    some (((h 2 (ix x1)) &&& 255), h, g)
theorem jX2_byteAt_0 {D : DE} {f N R : Nat} (hf : 0 ≤ f) {y9 : Int32} {h9 : HI} {g9 : HL} : ∀ (F : Frm) (_ : k_Fix F) (x1 : Int32) (h : HI) (g : HL), pX2_byteAt_0 N R F x1 h g = some (y9, h9, g9) → JX2_byteAt_0 D f (eqi y9 h9 g9) F h g x1 := by
  intro F hF x1 h g E
  unfold pX2_byteAt_0 at E
  refine ⟨fun c0 => ?_, fun c0 => ?_⟩
  · replace E := iteT c0 E
    cases E; exact ⟨rfl, rfl, rfl⟩
  · replace E := iteF c0 E
    obtain ⟨z0, E⟩ := gdE E; refine ⟨vinE z0, ?_⟩
    cases E; exact ⟨rfl, rfl, rfl⟩
abbrev ppX2_byteAt (N R : Nat) (F : Frm) (x1 : Int32) (h : HI) (g : HL) : Option (Int32 × HI × HL) := pX2_byteAt_0 N R F x1 h g
theorem sX2_byteAt {D : DE} {f N R : Nat} {F : Frm} (hF : k_Fix F) (hf : 0 ≤ f) {y9 : Int32} {h9 : HI} {g9 : HL} {x1 : Int32} {h : HI} {g : HL} (E : ppX2_byteAt N R F x1 h g = some (y9, h9, g9)) : Si D f mX2_byteAt [.ref (ad D 1), .int x1] F h g (eqi y9 h9 g9) := by
  exact wX2_byteAt (f := f) hF _ (jX2_byteAt_0 hf _ hF _ _ _ E)
def pX2_isDigit_0 (N R : Nat) (F : Frm) (x0 : Int32) (h : HI) (g : HL) : Option (Int32 × HI × HL) :=
  if x0 < 48 then
    some (0, h, g)
  else
    if 57 < x0 then
      some (0, h, g)
    else
      some (1, h, g)
theorem jX2_isDigit_0 {D : DE} {f N R : Nat} (hf : 0 ≤ f) {y9 : Int32} {h9 : HI} {g9 : HL} : ∀ (F : Frm) (_ : k_Fix F) (x0 : Int32) (h : HI) (g : HL), pX2_isDigit_0 N R F x0 h g = some (y9, h9, g9) → JX2_isDigit_0 D f (eqi y9 h9 g9) F h g x0 := by
  intro F hF x0 h g E
  unfold pX2_isDigit_0 at E
  refine ⟨fun c0 => ?_, fun c0 => ?_⟩
  · replace E := iteT c0 E
    cases E; exact ⟨rfl, rfl, rfl⟩
  · replace E := iteF c0 E
    refine ⟨fun c0 => ?_, fun c0 => ?_⟩
    · replace E := iteT c0 E
      cases E; exact ⟨rfl, rfl, rfl⟩
    · replace E := iteF c0 E
      cases E; exact ⟨rfl, rfl, rfl⟩
abbrev ppX2_isDigit (N R : Nat) (F : Frm) (x0 : Int32) (h : HI) (g : HL) : Option (Int32 × HI × HL) := pX2_isDigit_0 N R F x0 h g
theorem sX2_isDigit {D : DE} {f N R : Nat} {F : Frm} (hF : k_Fix F) (hf : 0 ≤ f) {y9 : Int32} {h9 : HI} {g9 : HL} {x0 : Int32} {h : HI} {g : HL} (E : ppX2_isDigit N R F x0 h g = some (y9, h9, g9)) : Si D f mX2_isDigit [.int x0] F h g (eqi y9 h9 g9) := by
  exact wX2_isDigit (f := f) hF _ (jX2_isDigit_0 hf _ hF _ _ _ E)
def pX2_isLetter_0 (N R : Nat) (F : Frm) (x0 : Int32) (h : HI) (g : HL) : Option (Int32 × HI × HL) :=
  if x0 < 97 then
    some (0, h, g)
  else
    if 122 < x0 then
      some (0, h, g)
    else
      some (1, h, g)
theorem jX2_isLetter_0 {D : DE} {f N R : Nat} (hf : 0 ≤ f) {y9 : Int32} {h9 : HI} {g9 : HL} : ∀ (F : Frm) (_ : k_Fix F) (x0 : Int32) (h : HI) (g : HL), pX2_isLetter_0 N R F x0 h g = some (y9, h9, g9) → JX2_isLetter_0 D f (eqi y9 h9 g9) F h g x0 := by
  intro F hF x0 h g E
  unfold pX2_isLetter_0 at E
  refine ⟨fun c0 => ?_, fun c0 => ?_⟩
  · replace E := iteT c0 E
    cases E; exact ⟨rfl, rfl, rfl⟩
  · replace E := iteF c0 E
    refine ⟨fun c0 => ?_, fun c0 => ?_⟩
    · replace E := iteT c0 E
      cases E; exact ⟨rfl, rfl, rfl⟩
    · replace E := iteF c0 E
      cases E; exact ⟨rfl, rfl, rfl⟩
abbrev ppX2_isLetter (N R : Nat) (F : Frm) (x0 : Int32) (h : HI) (g : HL) : Option (Int32 × HI × HL) := pX2_isLetter_0 N R F x0 h g
theorem sX2_isLetter {D : DE} {f N R : Nat} {F : Frm} (hF : k_Fix F) (hf : 0 ≤ f) {y9 : Int32} {h9 : HI} {g9 : HL} {x0 : Int32} {h : HI} {g : HL} (E : ppX2_isLetter N R F x0 h g = some (y9, h9, g9)) : Si D f mX2_isLetter [.int x0] F h g (eqi y9 h9 g9) := by
  exact wX2_isLetter (f := f) hF _ (jX2_isLetter_0 hf _ hF _ _ _ E)
def pX2_wordOf_110 (N R : Nat) (K7 : Frm → Int32 → Int32 → Int32 → Int32 → HI → HL → Option (Int32 × HI × HL)) (F : Frm) (x1 : Int32) (x2 : Int32) (x3 : Int32) (x4 : Int32) (h : HI) (g : HL) : Option (Int32 × HI × HL) :=
  bnd (x4 + 1) fun (y1 : Int32) =>
  K7 F x1 x2 x3 y1 h g
theorem jX2_wordOf_110 {D : DE} {f N R : Nat} (hf : 4 ≤ f) {K7 : Frm → Int32 → Int32 → Int32 → Int32 → HI → HL → Option (Int32 × HI × HL)} {y9 : Int32} {h9 : HI} {g9 : HL} (hK7 : ∀ (F : Frm) (_ : k_Fix F) (x1 : Int32) (x2 : Int32) (x3 : Int32) (x4 : Int32) (h : HI) (g : HL), K7 F x1 x2 x3 x4 h g = some (y9, h9, g9) → V D mX2_wordOf (f + 1) (qi F (eqi y9 h9 g9)) 7 [(0, .ref (ad D 1)), (1, .int x1), (2, .int x2), (3, .int x3), (4, .int x4)] [] (F, h, g)) : ∀ (F : Frm) (_ : k_Fix F) (x1 : Int32) (x2 : Int32) (x3 : Int32) (x4 : Int32) (h : HI) (g : HL), pX2_wordOf_110 N R K7 F x1 x2 x3 x4 h g = some (y9, h9, g9) → JX2_wordOf_110 D f (eqi y9 h9 g9) F h g x1 x2 x3 x4 := by
  intro F hF x1 x2 x3 x4 h g E
  unfold pX2_wordOf_110 at E
  intro y1 e0; replace E := bndE e0 E
  exact hK7 _ hF _ _ _ _ _ _ E
def pX2_wordOf_95 (N R : Nat) (K7 : Frm → Int32 → Int32 → Int32 → Int32 → HI → HL → Option (Int32 × HI × HL)) (F : Frm) (x1 : Int32) (x2 : Int32) (x4 : Int32) (x5 : Int32) (h : HI) (g : HL) : Option (Int32 × HI × HL) :=
  if x5 = 0 then
    bnd (x2 + 1) fun (y1 : Int32) =>
    bnd (x4 + 1) fun (y2 : Int32) =>
    pX2_wordOf_110 N R K7 F x1 y1 y2 x4 h g
  else
    some (x2, h, g)
theorem jX2_wordOf_95 {D : DE} {f N R : Nat} (hf : 4 ≤ f) {K7 : Frm → Int32 → Int32 → Int32 → Int32 → HI → HL → Option (Int32 × HI × HL)} {y9 : Int32} {h9 : HI} {g9 : HL} (hK7 : ∀ (F : Frm) (_ : k_Fix F) (x1 : Int32) (x2 : Int32) (x3 : Int32) (x4 : Int32) (h : HI) (g : HL), K7 F x1 x2 x3 x4 h g = some (y9, h9, g9) → V D mX2_wordOf (f + 1) (qi F (eqi y9 h9 g9)) 7 [(0, .ref (ad D 1)), (1, .int x1), (2, .int x2), (3, .int x3), (4, .int x4)] [] (F, h, g)) : ∀ (F : Frm) (_ : k_Fix F) (x1 : Int32) (x2 : Int32) (x4 : Int32) (x5 : Int32) (h : HI) (g : HL), pX2_wordOf_95 N R K7 F x1 x2 x4 x5 h g = some (y9, h9, g9) → JX2_wordOf_95 D f (eqi y9 h9 g9) F h g x1 x2 x4 x5 := by
  intro F hF x1 x2 x4 x5 h g E
  unfold pX2_wordOf_95 at E
  refine ⟨fun c0 => ?_, fun c0 => ?_⟩
  · replace E := iteT c0 E
    intro y1 e0; replace E := bndE e0 E
    intro y2 e0; replace E := bndE e0 E
    exact jX2_wordOf_110 hf hK7 _ hF _ _ _ _ _ _ E
  · replace E := iteF c0 E
    cases E; exact ⟨rfl, rfl, rfl⟩
def pX2_wordOf_87 (N R : Nat) (K7 : Frm → Int32 → Int32 → Int32 → Int32 → HI → HL → Option (Int32 × HI × HL)) (K47 : Frm → Int32 → Int32 → Int32 → Int32 → Int32 → Int32 → HI → HL → Option (Int32 × HI × HL)) (F : Frm) (x1 : Int32) (x2 : Int32) (x3 : Int32) (x4 : Int32) (x6 : Int32) (s0 : Int32) (h : HI) (g : HL) : Option (Int32 × HI × HL) :=
  bnd (x6 + 1) fun (y1 : Int32) =>
  K47 F x1 x2 x3 x4 s0 y1 h g
theorem jX2_wordOf_87 {D : DE} {f N R : Nat} (hf : 4 ≤ f) {K7 : Frm → Int32 → Int32 → Int32 → Int32 → HI → HL → Option (Int32 × HI × HL)} {K47 : Frm → Int32 → Int32 → Int32 → Int32 → Int32 → Int32 → HI → HL → Option (Int32 × HI × HL)} {y9 : Int32} {h9 : HI} {g9 : HL} (hK7 : ∀ (F : Frm) (_ : k_Fix F) (x1 : Int32) (x2 : Int32) (x3 : Int32) (x4 : Int32) (h : HI) (g : HL), K7 F x1 x2 x3 x4 h g = some (y9, h9, g9) → V D mX2_wordOf (f + 1) (qi F (eqi y9 h9 g9)) 7 [(0, .ref (ad D 1)), (1, .int x1), (2, .int x2), (3, .int x3), (4, .int x4)] [] (F, h, g)) (hK47 : ∀ (F : Frm) (_ : k_Fix F) (x1 : Int32) (x2 : Int32) (x3 : Int32) (x4 : Int32) (x5 : Int32) (x6 : Int32) (h : HI) (g : HL), K47 F x1 x2 x3 x4 x5 x6 h g = some (y9, h9, g9) → V D mX2_wordOf (f + 1) (qi F (eqi y9 h9 g9)) 47 [(0, .ref (ad D 1)), (1, .int x1), (2, .int x2), (3, .int x3), (4, .int x4), (5, .int x5), (6, .int x6)] [] (F, h, g)) : ∀ (F : Frm) (_ : k_Fix F) (x1 : Int32) (x2 : Int32) (x3 : Int32) (x4 : Int32) (x6 : Int32) (s0 : Int32) (h : HI) (g : HL), pX2_wordOf_87 N R K7 K47 F x1 x2 x3 x4 x6 s0 h g = some (y9, h9, g9) → JX2_wordOf_87 D f (eqi y9 h9 g9) F h g x1 x2 x3 x4 x6 s0 := by
  intro F hF x1 x2 x3 x4 x6 s0 h g E
  unfold pX2_wordOf_87 at E
  intro y1 e0; replace E := bndE e0 E
  exact hK47 _ hF _ _ _ _ _ _ _ _ E
def pX2_wordOf_47 (N R : Nat) (K7 : Frm → Int32 → Int32 → Int32 → Int32 → HI → HL → Option (Int32 × HI × HL)) : Nat → Frm → Int32 → Int32 → Int32 → Int32 → Int32 → Int32 → HI → HL → Option (Int32 × HI × HL)
  | 0, _, _, _, _, _, _, _, _, _ => none
  | n + 1, F, x1, x2, x3, x4, x5, x6, h, g =>
    if x1 ≤ x6 then
      pX2_wordOf_95 N R K7 F x1 x2 x4 x5 h g
    else
      if x5 = 0 then
        pX2_wordOf_95 N R K7 F x1 x2 x4 x5 h g
      else
        gd (vin ((h 1 8) + x6) 4000) <|
        obi (ppJ5_charAt N R F (x3 + x6) h g) fun (y1 : Int32) (h2 : HI) (g3 : HL) =>
        if (h 2 (ix ((h 1 8) + x6))) = y1 then
          pX2_wordOf_87 N R K7 (pX2_wordOf_47 N R K7 n) F x1 x2 x3 x4 x6 1 h2 g3
        else
          pX2_wordOf_87 N R K7 (pX2_wordOf_47 N R K7 n) F x1 x2 x3 x4 x6 0 h2 g3
theorem lX2_wordOf_47 {D : DE} {f N R : Nat} (hf : 4 ≤ f) {K7 : Frm → Int32 → Int32 → Int32 → Int32 → HI → HL → Option (Int32 × HI × HL)} {y9 : Int32} {h9 : HI} {g9 : HL} (hK7 : ∀ (F : Frm) (_ : k_Fix F) (x1 : Int32) (x2 : Int32) (x3 : Int32) (x4 : Int32) (h : HI) (g : HL), K7 F x1 x2 x3 x4 h g = some (y9, h9, g9) → V D mX2_wordOf (f + 1) (qi F (eqi y9 h9 g9)) 7 [(0, .ref (ad D 1)), (1, .int x1), (2, .int x2), (3, .int x3), (4, .int x4)] [] (F, h, g)) : ∀ (n : Nat) (F : Frm) (_ : k_Fix F) (x1 : Int32) (x2 : Int32) (x3 : Int32) (x4 : Int32) (x5 : Int32) (x6 : Int32) (h : HI) (g : HL), pX2_wordOf_47 N R K7 n F x1 x2 x3 x4 x5 x6 h g = some (y9, h9, g9) → V D mX2_wordOf (f + 1) (qi F (eqi y9 h9 g9)) 47 [(0, .ref (ad D 1)), (1, .int x1), (2, .int x2), (3, .int x3), (4, .int x4), (5, .int x5), (6, .int x6)] [] (F, h, g) := by
  intro n
  induction n with
  | zero => intro F hF x1 x2 x3 x4 x5 x6 h g E; cases E
  | succ n hK47 =>
    intro F hF x1 x2 x3 x4 x5 x6 h g E
    rw [pX2_wordOf_47] at E
    refine bX2_wordOf_47 (f := f) hF x1 x2 x3 x4 x5 x6  ?_
    refine ⟨fun c0 => ?_, fun c0 => ?_⟩
    · replace E := iteT c0 E
      exact jX2_wordOf_95 hf hK7 _ hF _ _ _ _ _ _ E
    · replace E := iteF c0 E
      refine ⟨fun c0 => ?_, fun c0 => ?_⟩
      · replace E := iteT c0 E
        exact jX2_wordOf_95 hf hK7 _ hF _ _ _ _ _ _ E
      · replace E := iteF c0 E
        obtain ⟨z0, E⟩ := gdE E; refine ⟨vinE z0, ?_⟩
        obtain ⟨y1, h2, g3, e0, E⟩ := obiE E
        refine Si.mono (sJ5_charAt (N := N) (R := R) hF (by omega) e0) (fun y8 h8 g8 hq => ?_)
        obtain ⟨rfl, rfl, rfl⟩ := hq
        refine ⟨fun c0 => ?_, fun c0 => ?_⟩
        · replace E := iteF c0 E
          exact jX2_wordOf_87 hf hK7 hK47 _ hF _ _ _ _ _ _ _ _ E
        · replace E := iteT c0 E
          exact jX2_wordOf_87 hf hK7 hK47 _ hF _ _ _ _ _ _ _ _ E
def pX2_wordOf_42 (N R : Nat) (K7 : Frm → Int32 → Int32 → Int32 → Int32 → HI → HL → Option (Int32 × HI × HL)) (F : Frm) (x1 : Int32) (x2 : Int32) (x3 : Int32) (x4 : Int32) (s0 : Int32) (h : HI) (g : HL) : Option (Int32 × HI × HL) :=
  pX2_wordOf_47 N R K7 N F x1 x2 x3 x4 s0 0 h g
theorem jX2_wordOf_42 {D : DE} {f N R : Nat} (hf : 4 ≤ f) {K7 : Frm → Int32 → Int32 → Int32 → Int32 → HI → HL → Option (Int32 × HI × HL)} {y9 : Int32} {h9 : HI} {g9 : HL} (hK7 : ∀ (F : Frm) (_ : k_Fix F) (x1 : Int32) (x2 : Int32) (x3 : Int32) (x4 : Int32) (h : HI) (g : HL), K7 F x1 x2 x3 x4 h g = some (y9, h9, g9) → V D mX2_wordOf (f + 1) (qi F (eqi y9 h9 g9)) 7 [(0, .ref (ad D 1)), (1, .int x1), (2, .int x2), (3, .int x3), (4, .int x4)] [] (F, h, g)) : ∀ (F : Frm) (_ : k_Fix F) (x1 : Int32) (x2 : Int32) (x3 : Int32) (x4 : Int32) (s0 : Int32) (h : HI) (g : HL), pX2_wordOf_42 N R K7 F x1 x2 x3 x4 s0 h g = some (y9, h9, g9) → JX2_wordOf_42 D f (eqi y9 h9 g9) F h g x1 x2 x3 x4 s0 := by
  intro F hF x1 x2 x3 x4 s0 h g E
  unfold pX2_wordOf_42 at E
  exact lX2_wordOf_47 hf hK7 N _ hF _ _ _ _ _ _ _ _ E
def pX2_wordOf_7 (N R : Nat) : Nat → Frm → Int32 → Int32 → Int32 → Int32 → HI → HL → Option (Int32 × HI × HL)
  | 0, _, _, _, _, _, _, _ => none
  | n + 1, F, x1, x2, x3, x4, h, g =>
    obi (ppJ5_length N R F h g) fun (y1 : Int32) (h2 : HI) (g3 : HL) =>
    if y1 ≤ x4 then
      some ((-1), h2, g3)
    else
      obi (ppJ5_charAt N R F x4 h2 g3) fun (y4 : Int32) (h5 : HI) (g6 : HL) =>
      if y4 = 32 then
        if (x4 - x3) = x1 then
          pX2_wordOf_42 N R (pX2_wordOf_7 N R n) F x1 x2 x3 x4 1 h5 g6
        else
          pX2_wordOf_42 N R (pX2_wordOf_7 N R n) F x1 x2 x3 x4 0 h5 g6
      else
        pX2_wordOf_110 N R (pX2_wordOf_7 N R n) F x1 x2 x3 x4 h5 g6
theorem lX2_wordOf_7 {D : DE} {f N R : Nat} (hf : 4 ≤ f) {y9 : Int32} {h9 : HI} {g9 : HL} : ∀ (n : Nat) (F : Frm) (_ : k_Fix F) (x1 : Int32) (x2 : Int32) (x3 : Int32) (x4 : Int32) (h : HI) (g : HL), pX2_wordOf_7 N R n F x1 x2 x3 x4 h g = some (y9, h9, g9) → V D mX2_wordOf (f + 1) (qi F (eqi y9 h9 g9)) 7 [(0, .ref (ad D 1)), (1, .int x1), (2, .int x2), (3, .int x3), (4, .int x4)] [] (F, h, g) := by
  intro n
  induction n with
  | zero => intro F hF x1 x2 x3 x4 h g E; cases E
  | succ n hK7 =>
    intro F hF x1 x2 x3 x4 h g E
    rw [pX2_wordOf_7] at E
    refine bX2_wordOf_7 (f := f) hF x1 x2 x3 x4  ?_
    obtain ⟨y1, h2, g3, e0, E⟩ := obiE E
    refine Si.mono (sJ5_length (N := N) (R := R) hF (by omega) e0) (fun y8 h8 g8 hq => ?_)
    obtain ⟨rfl, rfl, rfl⟩ := hq
    refine ⟨fun c0 => ?_, fun c0 => ?_⟩
    · replace E := iteT c0 E
      cases E; exact ⟨rfl, rfl, rfl⟩
    · replace E := iteF c0 E
      obtain ⟨y4, h5, g6, e0, E⟩ := obiE E
      refine Si.mono (sJ5_charAt (N := N) (R := R) hF (by omega) e0) (fun y8 h8 g8 hq => ?_)
      obtain ⟨rfl, rfl, rfl⟩ := hq
      refine ⟨fun c0 => ?_, fun c0 => ?_⟩
      · replace E := iteF c0 E
        exact jX2_wordOf_110 hf hK7 _ hF _ _ _ _ _ _ E
      · replace E := iteT c0 E
        refine ⟨fun c0 => ?_, fun c0 => ?_⟩
        · replace E := iteF c0 E
          exact jX2_wordOf_42 hf hK7 _ hF _ _ _ _ _ _ _ E
        · replace E := iteT c0 E
          exact jX2_wordOf_42 hf hK7 _ hF _ _ _ _ _ _ _ E
def pX2_wordOf_0 (N R : Nat) (F : Frm) (x1 : Int32) (h : HI) (g : HL) : Option (Int32 × HI × HL) :=
  pX2_wordOf_7 N R N F x1 0 0 0 h g
theorem jX2_wordOf_0 {D : DE} {f N R : Nat} (hf : 4 ≤ f) {y9 : Int32} {h9 : HI} {g9 : HL} : ∀ (F : Frm) (_ : k_Fix F) (x1 : Int32) (h : HI) (g : HL), pX2_wordOf_0 N R F x1 h g = some (y9, h9, g9) → JX2_wordOf_0 D f (eqi y9 h9 g9) F h g x1 := by
  intro F hF x1 h g E
  unfold pX2_wordOf_0 at E
  exact lX2_wordOf_7 hf  N _ hF _ _ _ _ _ _ E
abbrev ppX2_wordOf (N R : Nat) (F : Frm) (x1 : Int32) (h : HI) (g : HL) : Option (Int32 × HI × HL) := pX2_wordOf_0 N R F x1 h g
theorem sX2_wordOf {D : DE} {f N R : Nat} {F : Frm} (hF : k_Fix F) (hf : 5 ≤ f) {y9 : Int32} {h9 : HI} {g9 : HL} {x1 : Int32} {h : HI} {g : HL} (E : ppX2_wordOf N R F x1 h g = some (y9, h9, g9)) : Si D f mX2_wordOf [.ref (ad D 1), .int x1] F h g (eqi y9 h9 g9) := by
  obtain ⟨f, rfl⟩ : ∃ f0, f = f0 + 1 := ⟨f - 1, by omega⟩
  have hf : 4 ≤ f := by omega
  exact wX2_wordOf (f := f) hF _ (jX2_wordOf_0 hf _ hF _ _ _ E)
def pX2_word_135 (N R : Nat) (F : Frm) (x2 : Int32) (h : HI) (g : HL) : Option (HI × HL) :=
  obi (ppX2_byteAt N R F (h 1 8) h g) fun (y1 : Int32) (h2 : HI) (g3 : HL) =>
  obi (ppX2_isLetter N R F y1 h2 g3) fun (y4 : Int32) (h5 : HI) (g6 : HL) =>
  if y4 = 0 then
    some (h5, g6)
  else
    if 8 < x2 then
      some (h5, g6)
    else
      obi (ppX2_wordOf N R F x2 h5 g6) fun (y7 : Int32) (h8 : HI) (g9 : HL) =>
      bnd (up2 h8 1 6 y7) fun (h10 : HI) =>
      if 0 ≤ (h10 1 6) then
        bnd (up2 h10 1 5 2) fun (h11 : HI) =>
        some (h11, g9)
      else
        bnd (up2 h10 1 5 3) fun (h12 : HI) =>
        some (h12, g9)
theorem jX2_word_135 {D : DE} {f N R : Nat} (hf : 5 ≤ f) {h9 : HI} {g9 : HL} : ∀ (F : Frm) (_ : k_Fix F) (x2 : Int32) (h : HI) (g : HL), pX2_word_135 N R F x2 h g = some (h9, g9) → JX2_word_135 D f (eqv h9 g9) F h g x2 := by
  intro F hF x2 h g E
  unfold pX2_word_135 at E
  obtain ⟨y1, h2, g3, e0, E⟩ := obiE E
  refine Si.mono (sX2_byteAt (N := N) (R := R) hF (by omega) e0) (fun y8 h8 g8 hq => ?_)
  obtain ⟨rfl, rfl, rfl⟩ := hq
  obtain ⟨y4, h5, g6, e0, E⟩ := obiE E
  refine Si.mono (sX2_isLetter (N := N) (R := R) hF (by omega) e0) (fun y8 h8 g8 hq => ?_)
  obtain ⟨rfl, rfl, rfl⟩ := hq
  refine ⟨fun c0 => ?_, fun c0 => ?_⟩
  · replace E := iteT c0 E
    cases E; exact ⟨rfl, rfl⟩
  · replace E := iteF c0 E
    refine ⟨fun c0 => ?_, fun c0 => ?_⟩
    · replace E := iteT c0 E
      cases E; exact ⟨rfl, rfl⟩
    · replace E := iteF c0 E
      obtain ⟨y7, h8, g9, e0, E⟩ := obiE E
      refine Si.mono (sX2_wordOf (N := N) (R := R) hF (by omega) e0) (fun y8 h8 g8 hq => ?_)
      obtain ⟨rfl, rfl, rfl⟩ := hq
      intro h10 e0; replace E := bndE e0 E
      refine ⟨fun c0 => ?_, fun c0 => ?_⟩
      · replace E := iteT c0 E
        intro h11 e0; replace E := bndE e0 E
        cases E; exact ⟨rfl, rfl⟩
      · replace E := iteF c0 E
        intro h12 e0; replace E := bndE e0 E
        cases E; exact ⟨rfl, rfl⟩
def pX2_word_97 (N R : Nat) : Nat → Frm → Int32 → HI → HL → Option (HI × HL)
  | 0, _, _, _, _ => none
  | n + 1, F, x3, h, g =>
    if (h 1 7) ≤ x3 then
      some (h, g)
    else
      gd (vin x3 4000) <|
      bnd (up2 h 1 6 (((10 * (h 1 6)) + (h 2 (ix x3))) - 48)) fun (h1 : HI) =>
      bnd (x3 + 1) fun (y2 : Int32) =>
      (pX2_word_97 N R n) F y2 h1 g
theorem lX2_word_97 {D : DE} {f N R : Nat} (hf : 5 ≤ f) {h9 : HI} {g9 : HL} : ∀ (n : Nat) (F : Frm) (_ : k_Fix F) (x3 : Int32) (h : HI) (g : HL), pX2_word_97 N R n F x3 h g = some (h9, g9) → V D mX2_word (f + 1) (qv F (eqv h9 g9)) 97 [(0, .ref (ad D 1)), (3, .int x3)] [] (F, h, g) := by
  intro n
  induction n with
  | zero => intro F hF x3 h g E; cases E
  | succ n hK97 =>
    intro F hF x3 h g E
    rw [pX2_word_97] at E
    refine bX2_word_97 (f := f) hF x3  ?_
    refine ⟨fun c0 => ?_, fun c0 => ?_⟩
    · replace E := iteT c0 E
      cases E; exact ⟨rfl, rfl⟩
    · replace E := iteF c0 E
      obtain ⟨z0, E⟩ := gdE E; refine ⟨vinE z0, ?_⟩
      intro h1 e0; replace E := bndE e0 E
      intro y2 e0; replace E := bndE e0 E
      exact hK97 _ hF _ _ _ E
def pX2_word_30 (N R : Nat) (K2 : Frm → Int32 → HI → HL → Option (HI × HL)) (F : Frm) (x1 : Int32) (h : HI) (g : HL) : Option (HI × HL) :=
  obi (ppX2_byteAt N R F (h 1 7) h g) fun (y1 : Int32) (h2 : HI) (g3 : HL) =>
  obi (ppX2_isDigit N R F y1 h2 g3) fun (y4 : Int32) (h5 : HI) (g6 : HL) =>
  bnd (x1 &&& y4) fun (y7 : Int32) =>
  bnd (up2 h5 1 7 ((h5 1 7) + 1)) fun (h8 : HI) =>
  K2 F y7 h8 g6
theorem jX2_word_30 {D : DE} {f N R : Nat} (hf : 5 ≤ f) {K2 : Frm → Int32 → HI → HL → Option (HI × HL)} {h9 : HI} {g9 : HL} (hK2 : ∀ (F : Frm) (_ : k_Fix F) (x1 : Int32) (h : HI) (g : HL), K2 F x1 h g = some (h9, g9) → V D mX2_word (f + 1) (qv F (eqv h9 g9)) 2 [(0, .ref (ad D 1)), (1, .int x1)] [] (F, h, g)) : ∀ (F : Frm) (_ : k_Fix F) (x1 : Int32) (h : HI) (g : HL), pX2_word_30 N R K2 F x1 h g = some (h9, g9) → JX2_word_30 D f (eqv h9 g9) F h g x1 := by
  intro F hF x1 h g E
  unfold pX2_word_30 at E
  obtain ⟨y1, h2, g3, e0, E⟩ := obiE E
  refine Si.mono (sX2_byteAt (N := N) (R := R) hF (by omega) e0) (fun y8 h8 g8 hq => ?_)
  obtain ⟨rfl, rfl, rfl⟩ := hq
  obtain ⟨y4, h5, g6, e0, E⟩ := obiE E
  refine Si.mono (sX2_isDigit (N := N) (R := R) hF (by omega) e0) (fun y8 h8 g8 hq => ?_)
  obtain ⟨rfl, rfl, rfl⟩ := hq
  intro y7 e0; replace E := bndE e0 E
  intro h8 e0; replace E := bndE e0 E
  exact hK2 _ hF _ _ _ E
def pX2_word_2 (N R : Nat) : Nat → Frm → Int32 → HI → HL → Option (HI × HL)
  | 0, _, _, _, _ => none
  | n + 1, F, x1, h, g =>
    obi (ppX2_byteAt N R F (h 1 7) h g) fun (y1 : Int32) (h2 : HI) (g3 : HL) =>
    obi (ppX2_isLetter N R F y1 h2 g3) fun (y4 : Int32) (h5 : HI) (g6 : HL) =>
    if y4 = 0 then
      obi (ppX2_byteAt N R F (h5 1 7) h5 g6) fun (y7 : Int32) (h8 : HI) (g9 : HL) =>
      obi (ppX2_isDigit N R F y7 h8 g9) fun (y10 : Int32) (h11 : HI) (g12 : HL) =>
      if y10 = 0 then
        bnd ((h11 1 7) - (h11 1 8)) fun (y13 : Int32) =>
        bnd (up2 h11 1 5 0) fun (h14 : HI) =>
        if x1 = 0 then
          pX2_word_135 N R F y13 h14 g12
        else
          if 9 < y13 then
            pX2_word_135 N R F y13 h14 g12
          else
            bnd (up2 h14 1 5 4) fun (h15 : HI) =>
            bnd (up2 h15 1 6 0) fun (h16 : HI) =>
            bnd (h16 1 8) fun (y17 : Int32) =>
            pX2_word_97 N R N F y17 h16 g12
      else
        pX2_word_30 N R (pX2_word_2 N R n) F x1 h11 g12
    else
      pX2_word_30 N R (pX2_word_2 N R n) F x1 h5 g6
theorem lX2_word_2 {D : DE} {f N R : Nat} (hf : 5 ≤ f) {h9 : HI} {g9 : HL} : ∀ (n : Nat) (F : Frm) (_ : k_Fix F) (x1 : Int32) (h : HI) (g : HL), pX2_word_2 N R n F x1 h g = some (h9, g9) → V D mX2_word (f + 1) (qv F (eqv h9 g9)) 2 [(0, .ref (ad D 1)), (1, .int x1)] [] (F, h, g) := by
  intro n
  induction n with
  | zero => intro F hF x1 h g E; cases E
  | succ n hK2 =>
    intro F hF x1 h g E
    rw [pX2_word_2] at E
    refine bX2_word_2 (f := f) hF x1  ?_
    obtain ⟨y1, h2, g3, e0, E⟩ := obiE E
    refine Si.mono (sX2_byteAt (N := N) (R := R) hF (by omega) e0) (fun y8 h8 g8 hq => ?_)
    obtain ⟨rfl, rfl, rfl⟩ := hq
    obtain ⟨y4, h5, g6, e0, E⟩ := obiE E
    refine Si.mono (sX2_isLetter (N := N) (R := R) hF (by omega) e0) (fun y8 h8 g8 hq => ?_)
    obtain ⟨rfl, rfl, rfl⟩ := hq
    refine ⟨fun c0 => ?_, fun c0 => ?_⟩
    · replace E := iteF c0 E
      exact jX2_word_30 hf hK2 _ hF _ _ _ E
    · replace E := iteT c0 E
      obtain ⟨y7, h8, g9, e0, E⟩ := obiE E
      refine Si.mono (sX2_byteAt (N := N) (R := R) hF (by omega) e0) (fun y8 h8 g8 hq => ?_)
      obtain ⟨rfl, rfl, rfl⟩ := hq
      obtain ⟨y10, h11, g12, e0, E⟩ := obiE E
      refine Si.mono (sX2_isDigit (N := N) (R := R) hF (by omega) e0) (fun y8 h8 g8 hq => ?_)
      obtain ⟨rfl, rfl, rfl⟩ := hq
      refine ⟨fun c0 => ?_, fun c0 => ?_⟩
      · replace E := iteT c0 E
        intro y13 e0; replace E := bndE e0 E
        intro h14 e0; replace E := bndE e0 E
        refine ⟨fun c0 => ?_, fun c0 => ?_⟩
        · replace E := iteT c0 E
          exact jX2_word_135 hf  _ hF _ _ _ E
        · replace E := iteF c0 E
          refine ⟨fun c0 => ?_, fun c0 => ?_⟩
          · replace E := iteT c0 E
            exact jX2_word_135 hf  _ hF _ _ _ E
          · replace E := iteF c0 E
            intro h15 e0; replace E := bndE e0 E
            intro h16 e0; replace E := bndE e0 E
            intro y17 e0; replace E := bndE e0 E
            exact lX2_word_97 hf  N _ hF _ _ _ E
      · replace E := iteF c0 E
        exact jX2_word_30 hf hK2 _ hF _ _ _ E
def pX2_word_0 (N R : Nat) (F : Frm) (h : HI) (g : HL) : Option (HI × HL) :=
  pX2_word_2 N R N F 1 h g
theorem jX2_word_0 {D : DE} {f N R : Nat} (hf : 5 ≤ f) {h9 : HI} {g9 : HL} : ∀ (F : Frm) (_ : k_Fix F) (h : HI) (g : HL), pX2_word_0 N R F h g = some (h9, g9) → JX2_word_0 D f (eqv h9 g9) F h g := by
  intro F hF h g E
  unfold pX2_word_0 at E
  exact lX2_word_2 hf  N _ hF _ _ _ E
abbrev ppX2_word (N R : Nat) (F : Frm) (h : HI) (g : HL) : Option (HI × HL) := pX2_word_0 N R F h g
theorem sX2_word {D : DE} {f N R : Nat} {F : Frm} (hF : k_Fix F) (hf : 6 ≤ f) {h9 : HI} {g9 : HL} {h : HI} {g : HL} (E : ppX2_word N R F h g = some (h9, g9)) : Sv D f mX2_word [.ref (ad D 1)] F h g (eqv h9 g9) := by
  obtain ⟨f, rfl⟩ : ∃ f0, f = f0 + 1 := ⟨f - 1, by omega⟩
  have hf : 5 ≤ f := by omega
  exact wX2_word (f := f) hF (jX2_word_0 hf _ hF _ _ E)
def pX2_next_177 (N R : Nat) (F : Frm) (h : HI) (g : HL) : Option (HI × HL) :=
  gd (vin (h 1 4) 1001) <|
  bnd (up2 h 3 (ix (h 1 4)) (h 1 8)) fun (h1 : HI) =>
  gd (vin (h1 1 4) 1001) <|
  bnd (up2 h1 4 (ix (h1 1 4)) ((h1 1 7) - (h1 1 8))) fun (h2 : HI) =>
  bnd (up2 h2 1 4 ((h2 1 4) + 1)) fun (h3 : HI) =>
  some (h3, g)
theorem jX2_next_177 {D : DE} {f N R : Nat} (hf : 6 ≤ f) {h9 : HI} {g9 : HL} : ∀ (F : Frm) (_ : k_Fix F) (h : HI) (g : HL), pX2_next_177 N R F h g = some (h9, g9) → JX2_next_177 D f (eqv h9 g9) F h g := by
  intro F hF h g E
  unfold pX2_next_177 at E
  obtain ⟨z0, E⟩ := gdE E; refine ⟨vinE z0, ?_⟩
  intro h1 e0; replace E := bndE e0 E
  obtain ⟨z0, E⟩ := gdE E; refine ⟨vinE z0, ?_⟩
  intro h2 e0; replace E := bndE e0 E
  intro h3 e0; replace E := bndE e0 E
  cases E; exact ⟨rfl, rfl⟩
def pX2_next_173 (N R : Nat) (F : Frm) (s1 : Int32) (s2 : Int32) (h : HI) (g : HL) : Option (HI × HL) :=
  bnd (up2 h 1 7 (s1 + s2)) fun (h1 : HI) =>
  pX2_next_177 N R F h1 g
theorem jX2_next_173 {D : DE} {f N R : Nat} (hf : 6 ≤ f) {h9 : HI} {g9 : HL} : ∀ (F : Frm) (_ : k_Fix F) (s1 : Int32) (s2 : Int32) (h : HI) (g : HL), pX2_next_173 N R F s1 s2 h g = some (h9, g9) → JX2_next_173 D f (eqv h9 g9) F h g s1 s2 := by
  intro F hF s1 s2 h g E
  unfold pX2_next_173 at E
  intro h1 e0; replace E := bndE e0 E
  exact jX2_next_177 hf  _ hF _ _ E
def pX2_next_151 (N R : Nat) (F : Frm) (s1 : Int32) (h : HI) (g : HL) : Option (HI × HL) :=
  bnd (up2 h 1 5 s1) fun (h1 : HI) =>
  if (h1 1 6) = 10 then
    pX2_next_173 N R F (h1 1 7) 2 h1 g
  else
    pX2_next_173 N R F (h1 1 7) 1 h1 g
theorem jX2_next_151 {D : DE} {f N R : Nat} (hf : 6 ≤ f) {h9 : HI} {g9 : HL} : ∀ (F : Frm) (_ : k_Fix F) (s1 : Int32) (h : HI) (g : HL), pX2_next_151 N R F s1 h g = some (h9, g9) → JX2_next_151 D f (eqv h9 g9) F h g s1 := by
  intro F hF s1 h g E
  unfold pX2_next_151 at E
  intro h1 e0; replace E := bndE e0 E
  refine ⟨fun c0 => ?_, fun c0 => ?_⟩
  · replace E := iteF c0 E
    exact jX2_next_173 hf  _ hF _ _ _ _ E
  · replace E := iteT c0 E
    exact jX2_next_173 hf  _ hF _ _ _ _ E
def pX2_next_135 (N R : Nat) (F : Frm) (s1 : Int32) (h : HI) (g : HL) : Option (HI × HL) :=
  bnd (up2 h 1 6 s1) fun (h1 : HI) =>
  if 0 ≤ (h1 1 6) then
    pX2_next_151 N R F 5 h1 g
  else
    pX2_next_151 N R F 0 h1 g
theorem jX2_next_135 {D : DE} {f N R : Nat} (hf : 6 ≤ f) {h9 : HI} {g9 : HL} : ∀ (F : Frm) (_ : k_Fix F) (s1 : Int32) (h : HI) (g : HL), pX2_next_135 N R F s1 h g = some (h9, g9) → JX2_next_135 D f (eqv h9 g9) F h g s1 := by
  intro F hF s1 h g E
  unfold pX2_next_135 at E
  intro h1 e0; replace E := bndE e0 E
  refine ⟨fun c0 => ?_, fun c0 => ?_⟩
  · replace E := iteT c0 E
    exact jX2_next_151 hf  _ hF _ _ _ E
  · replace E := iteF c0 E
    exact jX2_next_151 hf  _ hF _ _ _ E
def pX2_next_117 (N R : Nat) (F : Frm) (x1 : Int32) (h : HI) (g : HL) : Option (HI × HL) :=
  if 128 ≤ x1 then
    pX2_next_135 N R F (-1) h g
  else
    obi (ppJ5_indexOf N R F ((x1.toUInt32 % 65536).toInt32) h g) fun (y1 : Int32) (h2 : HI) (g3 : HL) =>
    pX2_next_135 N R F y1 h2 g3
theorem jX2_next_117 {D : DE} {f N R : Nat} (hf : 6 ≤ f) {h9 : HI} {g9 : HL} : ∀ (F : Frm) (_ : k_Fix F) (x1 : Int32) (h : HI) (g : HL), pX2_next_117 N R F x1 h g = some (h9, g9) → JX2_next_117 D f (eqv h9 g9) F h g x1 := by
  intro F hF x1 h g E
  unfold pX2_next_117 at E
  refine ⟨fun c0 => ?_, fun c0 => ?_⟩
  · replace E := iteT c0 E
    exact jX2_next_135 hf  _ hF _ _ _ E
  · replace E := iteF c0 E
    obtain ⟨y1, h2, g3, e0, E⟩ := obiE E
    refine Si.mono (sJ5_indexOf (N := N) (R := R) hF (by omega) e0) (fun y8 h8 g8 hq => ?_)
    obtain ⟨rfl, rfl, rfl⟩ := hq
    exact jX2_next_135 hf  _ hF _ _ _ E
def pX2_next_83 (N R : Nat) (F : Frm) (h : HI) (g : HL) : Option (HI × HL) :=
  obv (ppX2_word N R F h g) fun (h1 : HI) (g2 : HL) =>
  pX2_next_177 N R F h1 g2
theorem jX2_next_83 {D : DE} {f N R : Nat} (hf : 6 ≤ f) {h9 : HI} {g9 : HL} : ∀ (F : Frm) (_ : k_Fix F) (h : HI) (g : HL), pX2_next_83 N R F h g = some (h9, g9) → JX2_next_83 D f (eqv h9 g9) F h g := by
  intro F hF h g E
  unfold pX2_next_83 at E
  obtain ⟨h1, g2, e0, E⟩ := obvE E
  refine Sv.mono (sX2_word (N := N) (R := R) hF (by omega) e0) (fun h8 g8 hq => ?_)
  obtain ⟨rfl, rfl⟩ := hq
  exact jX2_next_177 hf  _ hF _ _ E
def pX2_next_26 (N R : Nat) (K0 : Frm → HI → HL → Option (HI × HL)) (F : Frm) (h : HI) (g : HL) : Option (HI × HL) :=
  bnd (up2 h 1 7 ((h 1 7) + 1)) fun (h1 : HI) =>
  K0 F h1 g
theorem jX2_next_26 {D : DE} {f N R : Nat} (hf : 6 ≤ f) {K0 : Frm → HI → HL → Option (HI × HL)} {h9 : HI} {g9 : HL} (hK0 : ∀ (F : Frm) (_ : k_Fix F) (h : HI) (g : HL), K0 F h g = some (h9, g9) → V D mX2_next (f + 1) (qv F (eqv h9 g9)) 0 [(0, .ref (ad D 1))] [] (F, h, g)) : ∀ (F : Frm) (_ : k_Fix F) (h : HI) (g : HL), pX2_next_26 N R K0 F h g = some (h9, g9) → JX2_next_26 D f (eqv h9 g9) F h g := by
  intro F hF h g E
  unfold pX2_next_26 at E
  intro h1 e0; replace E := bndE e0 E
  exact hK0 _ hF _ _ E
def pX2_next_0 (N R : Nat) : Nat → Frm → HI → HL → Option (HI × HL)
  | 0, _, _, _ => none
  | n + 1, F, h, g =>
    obi (ppX2_byteAt N R F (h 1 7) h g) fun (y1 : Int32) (h2 : HI) (g3 : HL) =>
    if y1 = 32 then
      pX2_next_26 N R (pX2_next_0 N R n) F h2 g3
    else
      obi (ppX2_byteAt N R F (h2 1 7) h2 g3) fun (y4 : Int32) (h5 : HI) (g6 : HL) =>
      if y4 = 10 then
        pX2_next_26 N R (pX2_next_0 N R n) F h5 g6
      else
        bnd (up2 h5 1 8 (h5 1 7)) fun (h7 : HI) =>
        obi (ppX2_byteAt N R F (h7 1 7) h7 g6) fun (y8 : Int32) (h9 : HI) (g10 : HL) =>
        if y8 = (-1) then
          bnd (up2 h9 1 5 1) fun (h20 : HI) =>
          pX2_next_177 N R F h20 g10
        else
          obi (ppX2_isLetter N R F y8 h9 g10) fun (y11 : Int32) (h12 : HI) (g13 : HL) =>
          if y11 = 0 then
            obi (ppX2_isDigit N R F y8 h12 g13) fun (y14 : Int32) (h15 : HI) (g16 : HL) =>
            if y14 = 0 then
              if y8 = 61 then
                obi (ppX2_byteAt N R F ((h15 1 7) + 1) h15 g16) fun (y17 : Int32) (h18 : HI) (g19 : HL) =>
                if y17 = 61 then
                  pX2_next_135 N R F 10 h18 g19
                else
                  pX2_next_117 N R F y8 h18 g19
              else
                pX2_next_117 N R F y8 h15 g16
            else
              pX2_next_83 N R F h15 g16
          else
            pX2_next_83 N R F h12 g13
theorem lX2_next_0 {D : DE} {f N R : Nat} (hf : 6 ≤ f) {h9 : HI} {g9 : HL} : ∀ (n : Nat) (F : Frm) (_ : k_Fix F) (h : HI) (g : HL), pX2_next_0 N R n F h g = some (h9, g9) → V D mX2_next (f + 1) (qv F (eqv h9 g9)) 0 [(0, .ref (ad D 1))] [] (F, h, g) := by
  intro n
  induction n with
  | zero => intro F hF h g E; cases E
  | succ n hK0 =>
    intro F hF h g E
    rw [pX2_next_0] at E
    refine bX2_next_0 (f := f) hF  ?_
    obtain ⟨y1, h2, g3, e0, E⟩ := obiE E
    refine Si.mono (sX2_byteAt (N := N) (R := R) hF (by omega) e0) (fun y8 h8 g8 hq => ?_)
    obtain ⟨rfl, rfl, rfl⟩ := hq
    refine ⟨fun c0 => ?_, fun c0 => ?_⟩
    · replace E := iteT c0 E
      exact jX2_next_26 hf hK0 _ hF _ _ E
    · replace E := iteF c0 E
      obtain ⟨y4, h5, g6, e0, E⟩ := obiE E
      refine Si.mono (sX2_byteAt (N := N) (R := R) hF (by omega) e0) (fun y8 h8 g8 hq => ?_)
      obtain ⟨rfl, rfl, rfl⟩ := hq
      refine ⟨fun c0 => ?_, fun c0 => ?_⟩
      · replace E := iteF c0 E
        intro h7 e0; replace E := bndE e0 E
        obtain ⟨y8, h9, g10, e0, E⟩ := obiE E
        refine Si.mono (sX2_byteAt (N := N) (R := R) hF (by omega) e0) (fun y8 h8 g8 hq => ?_)
        obtain ⟨rfl, rfl, rfl⟩ := hq
        refine ⟨fun c0 => ?_, fun c0 => ?_⟩
        · replace E := iteF c0 E
          obtain ⟨y11, h12, g13, e0, E⟩ := obiE E
          refine Si.mono (sX2_isLetter (N := N) (R := R) hF (by omega) e0) (fun y8 h8 g8 hq => ?_)
          obtain ⟨rfl, rfl, rfl⟩ := hq
          refine ⟨fun c0 => ?_, fun c0 => ?_⟩
          · replace E := iteF c0 E
            exact jX2_next_83 hf  _ hF _ _ E
          · replace E := iteT c0 E
            obtain ⟨y14, h15, g16, e0, E⟩ := obiE E
            refine Si.mono (sX2_isDigit (N := N) (R := R) hF (by omega) e0) (fun y8 h8 g8 hq => ?_)
            obtain ⟨rfl, rfl, rfl⟩ := hq
            refine ⟨fun c0 => ?_, fun c0 => ?_⟩
            · replace E := iteT c0 E
              refine ⟨fun c0 => ?_, fun c0 => ?_⟩
              · replace E := iteF c0 E
                exact jX2_next_117 hf  _ hF _ _ _ E
              · replace E := iteT c0 E
                obtain ⟨y17, h18, g19, e0, E⟩ := obiE E
                refine Si.mono (sX2_byteAt (N := N) (R := R) hF (by omega) e0) (fun y8 h8 g8 hq => ?_)
                obtain ⟨rfl, rfl, rfl⟩ := hq
                refine ⟨fun c0 => ?_, fun c0 => ?_⟩
                · replace E := iteF c0 E
                  exact jX2_next_117 hf  _ hF _ _ _ E
                · replace E := iteT c0 E
                  exact jX2_next_135 hf  _ hF _ _ _ E
            · replace E := iteF c0 E
              exact jX2_next_83 hf  _ hF _ _ E
        · replace E := iteT c0 E
          intro h20 e0; replace E := bndE e0 E
          exact jX2_next_177 hf  _ hF _ _ E
      · replace E := iteT c0 E
        exact jX2_next_26 hf hK0 _ hF _ _ E
abbrev ppX2_next (N R : Nat) (F : Frm) (h : HI) (g : HL) : Option (HI × HL) := pX2_next_0 N R N F h g
theorem sX2_next {D : DE} {f N R : Nat} {F : Frm} (hF : k_Fix F) (hf : 7 ≤ f) {h9 : HI} {g9 : HL} {h : HI} {g : HL} (E : ppX2_next N R F h g = some (h9, g9)) : Sv D f mX2_next [.ref (ad D 1)] F h g (eqv h9 g9) := by
  obtain ⟨f, rfl⟩ : ∃ f0, f = f0 + 1 := ⟨f - 1, by omega⟩
  have hf : 6 ≤ f := by omega
  exact Cl.ofV (by decide) (Nat.le_of_ble_eq_true rfl) rfl (lX2_next_0 hf N _ hF _ _ E)
def pX2_begin_0 (N R : Nat) (F : Frm) (h : HI) (g : HL) : Option (HI × HL) :=
  bnd (up2 h 1 7 0) fun (h1 : HI) =>
  bnd (up2 h1 1 4 0) fun (h2 : HI) =>
  bnd (up2 h2 1 9 0) fun (h3 : HI) =>
  bnd (up2 h3 1 10 (-1)) fun (h4 : HI) =>
  obv (ppX2_next N R F h4 g) fun (h5 : HI) (g6 : HL) =>
  some (h5, g6)
theorem jX2_begin_0 {D : DE} {f N R : Nat} (hf : 7 ≤ f) {h9 : HI} {g9 : HL} : ∀ (F : Frm) (_ : k_Fix F) (h : HI) (g : HL), pX2_begin_0 N R F h g = some (h9, g9) → JX2_begin_0 D f (eqv h9 g9) F h g := by
  intro F hF h g E
  unfold pX2_begin_0 at E
  intro h1 e0; replace E := bndE e0 E
  intro h2 e0; replace E := bndE e0 E
  intro h3 e0; replace E := bndE e0 E
  intro h4 e0; replace E := bndE e0 E
  obtain ⟨h5, g6, e0, E⟩ := obvE E
  refine Sv.mono (sX2_next (N := N) (R := R) hF (by omega) e0) (fun h8 g8 hq => ?_)
  obtain ⟨rfl, rfl⟩ := hq
  cases E; exact ⟨rfl, rfl⟩
abbrev ppX2_begin (N R : Nat) (F : Frm) (h : HI) (g : HL) : Option (HI × HL) := pX2_begin_0 N R F h g
theorem sX2_begin {D : DE} {f N R : Nat} {F : Frm} (hF : k_Fix F) (hf : 8 ≤ f) {h9 : HI} {g9 : HL} {h : HI} {g : HL} (E : ppX2_begin N R F h g = some (h9, g9)) : Sv D f mX2_begin [.ref (ad D 1)] F h g (eqv h9 g9) := by
  obtain ⟨f, rfl⟩ : ∃ f0, f = f0 + 1 := ⟨f - 1, by omega⟩
  have hf : 7 ≤ f := by omega
  exact wX2_begin (f := f) hF (jX2_begin_0 hf _ hF _ _ E)
def pX2_isSign_0 (N R : Nat) (F : Frm) (x1 : Int32) (h : HI) (g : HL) : Option (Int32 × HI × HL) :=
  if (h 1 5) = 5 then
    if (h 1 6) = x1 then
      some (1, h, g)
    else
      some (0, h, g)
  else
    some (0, h, g)
theorem jX2_isSign_0 {D : DE} {f N R : Nat} (hf : 0 ≤ f) {y9 : Int32} {h9 : HI} {g9 : HL} : ∀ (F : Frm) (_ : k_Fix F) (x1 : Int32) (h : HI) (g : HL), pX2_isSign_0 N R F x1 h g = some (y9, h9, g9) → JX2_isSign_0 D f (eqi y9 h9 g9) F h g x1 := by
  intro F hF x1 h g E
  unfold pX2_isSign_0 at E
  refine ⟨fun c0 => ?_, fun c0 => ?_⟩
  · replace E := iteF c0 E
    cases E; exact ⟨rfl, rfl, rfl⟩
  · replace E := iteT c0 E
    refine ⟨fun c0 => ?_, fun c0 => ?_⟩
    · replace E := iteF c0 E
      cases E; exact ⟨rfl, rfl, rfl⟩
    · replace E := iteT c0 E
      cases E; exact ⟨rfl, rfl, rfl⟩
abbrev ppX2_isSign (N R : Nat) (F : Frm) (x1 : Int32) (h : HI) (g : HL) : Option (Int32 × HI × HL) := pX2_isSign_0 N R F x1 h g
theorem sX2_isSign {D : DE} {f N R : Nat} {F : Frm} (hF : k_Fix F) (hf : 0 ≤ f) {y9 : Int32} {h9 : HI} {g9 : HL} {x1 : Int32} {h : HI} {g : HL} (E : ppX2_isSign N R F x1 h g = some (y9, h9, g9)) : Si D f mX2_isSign [.ref (ad D 1), .int x1] F h g (eqi y9 h9 g9) := by
  exact wX2_isSign (f := f) hF _ (jX2_isSign_0 hf _ hF _ _ _ E)
def pX2_room_16 (N R : Nat) (F : Frm) (s1 : Int32) (h : HI) (g : HL) : GO Unit :=
  ogv (ppX2_want N R F s1 6 (h 1 8) h g) fun (F3 : Frm) (h1 : HI) (g2 : HL) =>
  some (.inl ((), F3, h1, g2))
theorem jX2_room_16 {D : DE} {f N R : Nat} (hf : 6 ≤ f) {o9 : GQ Unit} : ∀ (F : Frm) (_ : k_Fix F) (s1 : Int32) (h : HI) (g : HL), pX2_room_16 N R F s1 h g = some o9 → JX2_room_16 D f (gqv o9) (gt o9) F h g s1 := by
  intro F hF s1 h g E
  unfold pX2_room_16 at E
  refine Gv.ob (fun o1 e0 => (sX2_want (N := N) (R := R) hF (by omega) e0)) E (fun F3 h1 g2 hF E => ?_) (fun _ _ _ _ e => e)
  exact (Option.some.inj E).symm
def pX2_room_0 (N R : Nat) (F : Frm) (h : HI) (g : HL) : GO Unit :=
  if 1000 < (h 1 4) then
    pX2_room_16 N R F 0 h g
  else
    pX2_room_16 N R F 1 h g
theorem jX2_room_0 {D : DE} {f N R : Nat} (hf : 6 ≤ f) {o9 : GQ Unit} : ∀ (F : Frm) (_ : k_Fix F) (h : HI) (g : HL), pX2_room_0 N R F h g = some o9 → JX2_room_0 D f (gqv o9) (gt o9) F h g := by
  intro F hF h g E
  unfold pX2_room_0 at E
  refine ⟨fun c0 => ?_, fun c0 => ?_⟩
  · replace E := iteT c0 E
    exact jX2_room_16 hf  _ hF _ _ _ E
  · replace E := iteF c0 E
    exact jX2_room_16 hf  _ hF _ _ _ E
abbrev ppX2_room (N R : Nat) (F : Frm) (h : HI) (g : HL) : GO Unit := pX2_room_0 N R F h g
theorem sX2_room {D : DE} {f N R : Nat} {F : Frm} (hF : k_Fix F) (hf : 7 ≤ f) {o9 : GQ Unit} {h : HI} {g : HL} (E : ppX2_room N R F h g = some o9) : Gv D f mX2_room [.ref (ad D 1)] F h g (gqv o9) (gt o9) := by
  obtain ⟨f, rfl⟩ : ∃ f0, f = f0 + 1 := ⟨f - 1, by omega⟩
  have hf : 6 ≤ f := by omega
  exact wX2_room (f := f) hF (jX2_room_0 hf _ hF _ _ E)
def pX2_stands_13 (N R : Nat) (F : Frm) (x1 : Int32) (s1 : Int32) (h : HI) (g : HL) : GO Unit :=
  ogv (ppX2_want N R F s1 1 (h 1 8) h g) fun (F3 : Frm) (h1 : HI) (g2 : HL) =>
  ogv (ppX2_want N R F3 x1 2 (h1 1 8) h1 g2) fun (F6 : Frm) (h4 : HI) (g5 : HL) =>
  some (.inl ((), F6, h4, g5))
theorem jX2_stands_13 {D : DE} {f N R : Nat} (hf : 6 ≤ f) {o9 : GQ Unit} : ∀ (F : Frm) (_ : k_Fix F) (x1 : Int32) (s1 : Int32) (h : HI) (g : HL), pX2_stands_13 N R F x1 s1 h g = some o9 → JX2_stands_13 D f (gqv o9) (gt o9) F h g x1 s1 := by
  intro F hF x1 s1 h g E
  unfold pX2_stands_13 at E
  refine Gv.ob (fun o1 e0 => (sX2_want (N := N) (R := R) hF (by omega) e0)) E (fun F3 h1 g2 hF E => ?_) (fun _ _ _ _ e => e)
  refine Gv.ob (fun o1 e0 => (sX2_want (N := N) (R := R) hF (by omega) e0)) E (fun F6 h4 g5 hF E => ?_) (fun _ _ _ _ e => e)
  exact (Option.some.inj E).symm
def pX2_stands_0 (N R : Nat) (F : Frm) (x1 : Int32) (h : HI) (g : HL) : GO Unit :=
  if (h 1 5) = 0 then
    pX2_stands_13 N R F x1 0 h g
  else
    pX2_stands_13 N R F x1 1 h g
theorem jX2_stands_0 {D : DE} {f N R : Nat} (hf : 6 ≤ f) {o9 : GQ Unit} : ∀ (F : Frm) (_ : k_Fix F) (x1 : Int32) (h : HI) (g : HL), pX2_stands_0 N R F x1 h g = some o9 → JX2_stands_0 D f (gqv o9) (gt o9) F h g x1 := by
  intro F hF x1 h g E
  unfold pX2_stands_0 at E
  refine ⟨fun c0 => ?_, fun c0 => ?_⟩
  · replace E := iteT c0 E
    exact jX2_stands_13 hf  _ hF _ _ _ _ E
  · replace E := iteF c0 E
    exact jX2_stands_13 hf  _ hF _ _ _ _ E
abbrev ppX2_stands (N R : Nat) (F : Frm) (x1 : Int32) (h : HI) (g : HL) : GO Unit := pX2_stands_0 N R F x1 h g
theorem sX2_stands {D : DE} {f N R : Nat} {F : Frm} (hF : k_Fix F) (hf : 7 ≤ f) {o9 : GQ Unit} {x1 : Int32} {h : HI} {g : HL} (E : ppX2_stands N R F x1 h g = some o9) : Gv D f mX2_stands [.ref (ad D 1), .int x1] F h g (gqv o9) (gt o9) := by
  obtain ⟨f, rfl⟩ : ∃ f0, f = f0 + 1 := ⟨f - 1, by omega⟩
  have hf : 6 ≤ f := by omega
  exact wX2_stands (f := f) hF _ (jX2_stands_0 hf _ hF _ _ _ E)
def pX2_sign_0 (N R : Nat) (F : Frm) (x1 : Int32) (h : HI) (g : HL) : GO Unit :=
  obi (ppX2_isSign N R F x1 h g) fun (y1 : Int32) (h2 : HI) (g3 : HL) =>
  ogv (ppX2_stands N R F y1 h2 g3) fun (F6 : Frm) (h4 : HI) (g5 : HL) =>
  ogv (ppX2_room N R F6 h4 g5) fun (F9 : Frm) (h7 : HI) (g8 : HL) =>
  obv (ppX2_next N R F9 h7 g8) fun (h10 : HI) (g11 : HL) =>
  some (.inl ((), F9, h10, g11))
theorem jX2_sign_0 {D : DE} {f N R : Nat} (hf : 7 ≤ f) {o9 : GQ Unit} : ∀ (F : Frm) (_ : k_Fix F) (x1 : Int32) (h : HI) (g : HL), pX2_sign_0 N R F x1 h g = some o9 → JX2_sign_0 D f (gqv o9) (gt o9) F h g x1 := by
  intro F hF x1 h g E
  unfold pX2_sign_0 at E
  obtain ⟨y1, h2, g3, e0, E⟩ := obiE E
  refine Si.mono (sX2_isSign (N := N) (R := R) hF (by omega) e0) (fun y8 h8 g8 hq => ?_)
  obtain ⟨rfl, rfl, rfl⟩ := hq
  refine Gv.ob (fun o1 e0 => (sX2_stands (N := N) (R := R) hF (by omega) e0)) E (fun F6 h4 g5 hF E => ?_) (fun _ _ _ _ e => e)
  refine Gv.ob (fun o1 e0 => (sX2_room (N := N) (R := R) hF (by omega) e0)) E (fun F9 h7 g8 hF E => ?_) (fun _ _ _ _ e => e)
  obtain ⟨h10, g11, e0, E⟩ := obvE E
  refine Sv.mono (sX2_next (N := N) (R := R) hF (by omega) e0) (fun h8 g8 hq => ?_)
  obtain ⟨rfl, rfl⟩ := hq
  exact (Option.some.inj E).symm
abbrev ppX2_sign (N R : Nat) (F : Frm) (x1 : Int32) (h : HI) (g : HL) : GO Unit := pX2_sign_0 N R F x1 h g
theorem sX2_sign {D : DE} {f N R : Nat} {F : Frm} (hF : k_Fix F) (hf : 8 ≤ f) {o9 : GQ Unit} {x1 : Int32} {h : HI} {g : HL} (E : ppX2_sign N R F x1 h g = some o9) : Gv D f mX2_sign [.ref (ad D 1), .int x1] F h g (gqv o9) (gt o9) := by
  obtain ⟨f, rfl⟩ : ∃ f0, f = f0 + 1 := ⟨f - 1, by omega⟩
  have hf : 7 ≤ f := by omega
  exact wX2_sign (f := f) hF _ (jX2_sign_0 hf _ hF _ _ _ E)
def pX2_token_0 (N R : Nat) (F : Frm) (h : HI) (g : HL) : Option (Int32 × HI × HL) :=
  some (((h 1 4) - 1), h, g)
theorem jX2_token_0 {D : DE} {f N R : Nat} (hf : 0 ≤ f) {y9 : Int32} {h9 : HI} {g9 : HL} : ∀ (F : Frm) (_ : k_Fix F) (h : HI) (g : HL), pX2_token_0 N R F h g = some (y9, h9, g9) → JX2_token_0 D f (eqi y9 h9 g9) F h g := by
  intro F hF h g E
  unfold pX2_token_0 at E
  cases E; exact ⟨rfl, rfl, rfl⟩
abbrev ppX2_token (N R : Nat) (F : Frm) (h : HI) (g : HL) : Option (Int32 × HI × HL) := pX2_token_0 N R F h g
theorem sX2_token {D : DE} {f N R : Nat} {F : Frm} (hF : k_Fix F) (hf : 0 ≤ f) {y9 : Int32} {h9 : HI} {g9 : HL} {h : HI} {g : HL} (E : ppX2_token N R F h g = some (y9, h9, g9)) : Si D f mX2_token [.ref (ad D 1)] F h g (eqi y9 h9 g9) := by
  exact wX2_token (f := f) hF (jX2_token_0 hf _ hF _ _ E)
def pX2_isWord_0 (N R : Nat) (F : Frm) (x1 : Int32) (h : HI) (g : HL) : Option (Int32 × HI × HL) :=
  if (h 1 5) = 2 then
    if (h 1 6) = x1 then
      some (1, h, g)
    else
      some (0, h, g)
  else
    some (0, h, g)
theorem jX2_isWord_0 {D : DE} {f N R : Nat} (hf : 0 ≤ f) {y9 : Int32} {h9 : HI} {g9 : HL} : ∀ (F : Frm) (_ : k_Fix F) (x1 : Int32) (h : HI) (g : HL), pX2_isWord_0 N R F x1 h g = some (y9, h9, g9) → JX2_isWord_0 D f (eqi y9 h9 g9) F h g x1 := by
  intro F hF x1 h g E
  unfold pX2_isWord_0 at E
  refine ⟨fun c0 => ?_, fun c0 => ?_⟩
  · replace E := iteF c0 E
    cases E; exact ⟨rfl, rfl, rfl⟩
  · replace E := iteT c0 E
    refine ⟨fun c0 => ?_, fun c0 => ?_⟩
    · replace E := iteF c0 E
      cases E; exact ⟨rfl, rfl, rfl⟩
    · replace E := iteT c0 E
      cases E; exact ⟨rfl, rfl, rfl⟩
abbrev ppX2_isWord (N R : Nat) (F : Frm) (x1 : Int32) (h : HI) (g : HL) : Option (Int32 × HI × HL) := pX2_isWord_0 N R F x1 h g
theorem sX2_isWord {D : DE} {f N R : Nat} {F : Frm} (hF : k_Fix F) (hf : 0 ≤ f) {y9 : Int32} {h9 : HI} {g9 : HL} {x1 : Int32} {h : HI} {g : HL} (E : ppX2_isWord N R F x1 h g = some (y9, h9, g9)) : Si D f mX2_isWord [.ref (ad D 1), .int x1] F h g (eqi y9 h9 g9) := by
  exact wX2_isWord (f := f) hF _ (jX2_isWord_0 hf _ hF _ _ _ E)
def pX3_begins_0 (N R : Nat) (F : Frm) (h : HI) (g : HL) : Option (Int32 × HI × HL) :=
  if (h 1 5) = 4 then
    some (1, h, g)
  else
    if (h 1 5) = 3 then
      some (1, h, g)
    else
      obi (ppX2_isSign N R F 0 h g) fun (y1 : Int32) (h2 : HI) (g3 : HL) =>
      if y1 = 0 then
        obi (ppX2_isWord N R F 8 h2 g3) fun (y4 : Int32) (h5 : HI) (g6 : HL) =>
        if y4 = 0 then
          some (0, h5, g6)
        else
          some (1, h5, g6)
      else
        some (1, h2, g3)
theorem jX3_begins_0 {D : DE} {f N R : Nat} (hf : 0 ≤ f) {y9 : Int32} {h9 : HI} {g9 : HL} : ∀ (F : Frm) (_ : k_Fix F) (h : HI) (g : HL), pX3_begins_0 N R F h g = some (y9, h9, g9) → JX3_begins_0 D f (eqi y9 h9 g9) F h g := by
  intro F hF h g E
  unfold pX3_begins_0 at E
  refine ⟨fun c0 => ?_, fun c0 => ?_⟩
  · replace E := iteT c0 E
    cases E; exact ⟨rfl, rfl, rfl⟩
  · replace E := iteF c0 E
    refine ⟨fun c0 => ?_, fun c0 => ?_⟩
    · replace E := iteT c0 E
      cases E; exact ⟨rfl, rfl, rfl⟩
    · replace E := iteF c0 E
      obtain ⟨y1, h2, g3, e0, E⟩ := obiE E
      refine Si.mono (sX2_isSign (N := N) (R := R) hF (by omega) e0) (fun y8 h8 g8 hq => ?_)
      obtain ⟨rfl, rfl, rfl⟩ := hq
      refine ⟨fun c0 => ?_, fun c0 => ?_⟩
      · replace E := iteF c0 E
        cases E; exact ⟨rfl, rfl, rfl⟩
      · replace E := iteT c0 E
        obtain ⟨y4, h5, g6, e0, E⟩ := obiE E
        refine Si.mono (sX2_isWord (N := N) (R := R) hF (by omega) e0) (fun y8 h8 g8 hq => ?_)
        obtain ⟨rfl, rfl, rfl⟩ := hq
        refine ⟨fun c0 => ?_, fun c0 => ?_⟩
        · replace E := iteT c0 E
          cases E; exact ⟨rfl, rfl, rfl⟩
        · replace E := iteF c0 E
          cases E; exact ⟨rfl, rfl, rfl⟩
abbrev ppX3_begins (N R : Nat) (F : Frm) (h : HI) (g : HL) : Option (Int32 × HI × HL) := pX3_begins_0 N R F h g
theorem sX3_begins {D : DE} {f N R : Nat} {F : Frm} (hF : k_Fix F) (hf : 1 ≤ f) {y9 : Int32} {h9 : HI} {g9 : HL} {h : HI} {g : HL} (E : ppX3_begins N R F h g = some (y9, h9, g9)) : Si D f mX3_begins [.ref (ad D 5)] F h g (eqi y9 h9 g9) := by
  obtain ⟨f, rfl⟩ : ∃ f0, f = f0 + 1 := ⟨f - 1, by omega⟩
  have hf : 0 ≤ f := by omega
  exact wX3_begins (f := f) hF (jX3_begins_0 hf _ hF _ _ E)
def pX2_word_2_0 (N R : Nat) (F : Frm) (x1 : Int32) (h : HI) (g : HL) : GO Unit :=
  obi (ppX2_isWord N R F x1 h g) fun (y1 : Int32) (h2 : HI) (g3 : HL) =>
  ogv (ppX2_stands N R F y1 h2 g3) fun (F6 : Frm) (h4 : HI) (g5 : HL) =>
  ogv (ppX2_room N R F6 h4 g5) fun (F9 : Frm) (h7 : HI) (g8 : HL) =>
  obv (ppX2_next N R F9 h7 g8) fun (h10 : HI) (g11 : HL) =>
  some (.inl ((), F9, h10, g11))
theorem jX2_word_2_0 {D : DE} {f N R : Nat} (hf : 7 ≤ f) {o9 : GQ Unit} : ∀ (F : Frm) (_ : k_Fix F) (x1 : Int32) (h : HI) (g : HL), pX2_word_2_0 N R F x1 h g = some o9 → JX2_word_2_0 D f (gqv o9) (gt o9) F h g x1 := by
  intro F hF x1 h g E
  unfold pX2_word_2_0 at E
  obtain ⟨y1, h2, g3, e0, E⟩ := obiE E
  refine Si.mono (sX2_isWord (N := N) (R := R) hF (by omega) e0) (fun y8 h8 g8 hq => ?_)
  obtain ⟨rfl, rfl, rfl⟩ := hq
  refine Gv.ob (fun o1 e0 => (sX2_stands (N := N) (R := R) hF (by omega) e0)) E (fun F6 h4 g5 hF E => ?_) (fun _ _ _ _ e => e)
  refine Gv.ob (fun o1 e0 => (sX2_room (N := N) (R := R) hF (by omega) e0)) E (fun F9 h7 g8 hF E => ?_) (fun _ _ _ _ e => e)
  obtain ⟨h10, g11, e0, E⟩ := obvE E
  refine Sv.mono (sX2_next (N := N) (R := R) hF (by omega) e0) (fun h8 g8 hq => ?_)
  obtain ⟨rfl, rfl⟩ := hq
  exact (Option.some.inj E).symm
abbrev ppX2_word_2 (N R : Nat) (F : Frm) (x1 : Int32) (h : HI) (g : HL) : GO Unit := pX2_word_2_0 N R F x1 h g
theorem sX2_word_2 {D : DE} {f N R : Nat} {F : Frm} (hF : k_Fix F) (hf : 8 ≤ f) {o9 : GQ Unit} {x1 : Int32} {h : HI} {g : HL} (E : ppX2_word_2 N R F x1 h g = some o9) : Gv D f mX2_word_2 [.ref (ad D 1), .int x1] F h g (gqv o9) (gt o9) := by
  obtain ⟨f, rfl⟩ : ∃ f0, f = f0 + 1 := ⟨f - 1, by omega⟩
  have hf : 7 ≤ f := by omega
  exact wX2_word_2 (f := f) hF _ (jX2_word_2_0 hf _ hF _ _ _ E)
abbrev ty8 : Type := (Frm → Int32 → HI → HL → GO Int32)
def ok8 (D : DE) (R f : Nat) (C : ty8) : Prop := (∀ (F : Frm) (_ : k_Fix F) (x1 : Int32) (h : HI) (g : HL) (o9 : GQ Int32), C F x1 h g = some o9 → Gi D f mX3_type [.ref (ad D 5), .int x1] F h g (gqi o9) (gt o9))
def pX3_type_69 (N R : Nat) (C : ty8) (F : Frm) (x1 : Int32) (s1 : Int32) (h : HI) (g : HL) : GO Int32 :=
  ogv (ppX2_want N R F s1 6 (h 1 8) h g) fun (F3 : Frm) (h1 : HI) (g2 : HL) =>
  ogv (ppX2_sign N R F3 0 h1 g2) fun (F6 : Frm) (h4 : HI) (g5 : HL) =>
  ogi (C F6 (x1 + 1) h4 g5) fun (y7 : Int32) (F10 : Frm) (h8 : HI) (g9 : HL) =>
  ogv (ppX2_sign N R F10 2 h8 g9) fun (F13 : Frm) (h11 : HI) (g12 : HL) =>
  ogi (C F13 (x1 + 1) h11 g12) fun (y14 : Int32) (F17 : Frm) (h15 : HI) (g16 : HL) =>
  ogv (ppX2_sign N R F17 1 h15 g16) fun (F20 : Frm) (h18 : HI) (g19 : HL) =>
  obi (ppX1_pairOf N R F20 y7 y14 h18 g19) fun (y21 : Int32) (h22 : HI) (g23 : HL) =>
  some (.inl (y21, F20, h22, g23))
theorem jX3_type_69 {D : DE} {f N R : Nat} (hf : 8 ≤ f) {C : ty8} (hC : ok8 D R f C) {o9 : GQ Int32} : ∀ (F : Frm) (_ : k_Fix F) (x1 : Int32) (s1 : Int32) (h : HI) (g : HL), pX3_type_69 N R C F x1 s1 h g = some o9 → JX3_type_69 D f (gqi o9) (gt o9) F h g x1 s1 := by
  intro F hF x1 s1 h g E
  unfold pX3_type_69 at E
  refine Gv.ob (fun o1 e0 => (sX2_want (N := N) (R := R) hF (by omega) e0)) E (fun F3 h1 g2 hF E => ?_) (fun _ _ _ _ e => e)
  refine Gv.ob (fun o1 e0 => (sX2_sign (N := N) (R := R) hF (by omega) e0)) E (fun F6 h4 g5 hF E => ?_) (fun _ _ _ _ e => e)
  refine Gi.ob (fun o1 e0 => (hC _ hF _ _ _ _ e0)) E (fun y7 F10 h8 g9 hF E => ?_) (fun _ _ _ _ e => e)
  refine Gv.ob (fun o1 e0 => (sX2_sign (N := N) (R := R) hF (by omega) e0)) E (fun F13 h11 g12 hF E => ?_) (fun _ _ _ _ e => e)
  refine Gi.ob (fun o1 e0 => (hC _ hF _ _ _ _ e0)) E (fun y14 F17 h15 g16 hF E => ?_) (fun _ _ _ _ e => e)
  refine Gv.ob (fun o1 e0 => (sX2_sign (N := N) (R := R) hF (by omega) e0)) E (fun F20 h18 g19 hF E => ?_) (fun _ _ _ _ e => e)
  obtain ⟨y21, h22, g23, e0, E⟩ := obiE E
  refine Si.mono (sX1_pairOf (N := N) (R := R) hF (by omega) e0) (fun y8 h8 g8 hq => ?_)
  obtain ⟨rfl, rfl, rfl⟩ := hq
  exact (Option.some.inj E).symm
def pX3_type_31 (N R : Nat) (C : ty8) (F : Frm) (x1 : Int32) (s1 : Int32) (h : HI) (g : HL) : GO Int32 :=
  ogv (ppX2_stands N R F s1 h g) fun (F3 : Frm) (h1 : HI) (g2 : HL) =>
  obi (ppX2_isWord N R F3 0 h1 g2) fun (y4 : Int32) (h5 : HI) (g6 : HL) =>
  if y4 = 0 then
    if 2 ≤ x1 then
      pX3_type_69 N R C F3 x1 0 h5 g6
    else
      pX3_type_69 N R C F3 x1 1 h5 g6
  else
    ogv (ppX2_word_2 N R F3 0 h5 g6) fun (F9 : Frm) (h7 : HI) (g8 : HL) =>
    some (.inl (0, F9, h7, g8))
theorem jX3_type_31 {D : DE} {f N R : Nat} (hf : 8 ≤ f) {C : ty8} (hC : ok8 D R f C) {o9 : GQ Int32} : ∀ (F : Frm) (_ : k_Fix F) (x1 : Int32) (s1 : Int32) (h : HI) (g : HL), pX3_type_31 N R C F x1 s1 h g = some o9 → JX3_type_31 D f (gqi o9) (gt o9) F h g x1 s1 := by
  intro F hF x1 s1 h g E
  unfold pX3_type_31 at E
  refine Gv.ob (fun o1 e0 => (sX2_stands (N := N) (R := R) hF (by omega) e0)) E (fun F3 h1 g2 hF E => ?_) (fun _ _ _ _ e => e)
  obtain ⟨y4, h5, g6, e0, E⟩ := obiE E
  refine Si.mono (sX2_isWord (N := N) (R := R) hF (by omega) e0) (fun y8 h8 g8 hq => ?_)
  obtain ⟨rfl, rfl, rfl⟩ := hq
  refine ⟨fun c0 => ?_, fun c0 => ?_⟩
  · replace E := iteT c0 E
    refine ⟨fun c0 => ?_, fun c0 => ?_⟩
    · replace E := iteT c0 E
      exact jX3_type_69 hf hC  _ hF _ _ _ _ E
    · replace E := iteF c0 E
      exact jX3_type_69 hf hC  _ hF _ _ _ _ E
  · replace E := iteF c0 E
    refine Gv.ob (fun o1 e0 => (sX2_word_2 (N := N) (R := R) hF (by omega) e0)) E (fun F9 h7 g8 hF E => ?_) (fun _ _ _ _ e => e)
    exact (Option.some.inj E).symm
def pX3_type_26 (N R : Nat) (C : ty8) (F : Frm) (x1 : Int32) (h : HI) (g : HL) : GO Int32 :=
  pX3_type_31 N R C F x1 1 h g
theorem jX3_type_26 {D : DE} {f N R : Nat} (hf : 8 ≤ f) {C : ty8} (hC : ok8 D R f C) {o9 : GQ Int32} : ∀ (F : Frm) (_ : k_Fix F) (x1 : Int32) (h : HI) (g : HL), pX3_type_26 N R C F x1 h g = some o9 → JX3_type_26 D f (gqi o9) (gt o9) F h g x1 := by
  intro F hF x1 h g E
  unfold pX3_type_26 at E
  exact jX3_type_31 hf hC  _ hF _ _ _ _ E
def pX3_type_0 (N R : Nat) (C : ty8) (F : Frm) (x1 : Int32) (h : HI) (g : HL) : GO Int32 :=
  obi (ppX2_isWord N R F 0 h g) fun (y1 : Int32) (h2 : HI) (g3 : HL) =>
  if y1 = 0 then
    obi (ppX2_isSign N R F 0 h2 g3) fun (y4 : Int32) (h5 : HI) (g6 : HL) =>
    if y4 = 0 then
      pX3_type_31 N R C F x1 0 h5 g6
    else
      pX3_type_26 N R C F x1 h5 g6
  else
    pX3_type_26 N R C F x1 h2 g3
theorem jX3_type_0 {D : DE} {f N R : Nat} (hf : 8 ≤ f) {C : ty8} (hC : ok8 D R f C) {o9 : GQ Int32} : ∀ (F : Frm) (_ : k_Fix F) (x1 : Int32) (h : HI) (g : HL), pX3_type_0 N R C F x1 h g = some o9 → JX3_type_0 D f (gqi o9) (gt o9) F h g x1 := by
  intro F hF x1 h g E
  unfold pX3_type_0 at E
  obtain ⟨y1, h2, g3, e0, E⟩ := obiE E
  refine Si.mono (sX2_isWord (N := N) (R := R) hF (by omega) e0) (fun y8 h8 g8 hq => ?_)
  obtain ⟨rfl, rfl, rfl⟩ := hq
  refine ⟨fun c0 => ?_, fun c0 => ?_⟩
  · replace E := iteF c0 E
    exact jX3_type_26 hf hC  _ hF _ _ _ E
  · replace E := iteT c0 E
    obtain ⟨y4, h5, g6, e0, E⟩ := obiE E
    refine Si.mono (sX2_isSign (N := N) (R := R) hF (by omega) e0) (fun y8 h8 g8 hq => ?_)
    obtain ⟨rfl, rfl, rfl⟩ := hq
    refine ⟨fun c0 => ?_, fun c0 => ?_⟩
    · replace E := iteT c0 E
      exact jX3_type_31 hf hC  _ hF _ _ _ _ E
    · replace E := iteF c0 E
      exact jX3_type_26 hf hC  _ hF _ _ _ E
theorem sX3_type_C {D : DE} {f N R : Nat} {C : ty8} {F : Frm} (hF : k_Fix F) (hf : 8 ≤ f) (hC : ok8 D R f C) {o9 : GQ Int32} {x1 : Int32} {h : HI} {g : HL} (E : pX3_type_0 N R C F x1 h g = some o9) : Gi D (f + 1) mX3_type [.ref (ad D 5), .int x1] F h g (gqi o9) (gt o9) := by
  exact wX3_type (f := f) hF _ (jX3_type_0 hf hC _ hF _ _ _ E)
def tie8 (N R : Nat) : Nat → ty8
  | 0 => ((fun _ _ _ _ => none))
  | n + 1 => ((fun F x1 h g => pX3_type_0 N R (tie8 N R n) F x1 h g))
theorem tie8_ok {D : DE} {N R : Nat} : ∀ (n f : Nat), 8 + n ≤ f → ok8 D R f (tie8 N R n) := by
  intro n
  induction n with
  | zero =>
    intro f hf
    exact fun _ _ _ _ _ _ E => (by cases E)
  | succ n ih =>
    intro f hf
    obtain ⟨f, rfl⟩ : ∃ f0, f = f0 + 1 := ⟨f - 1, by omega⟩
    have hC := ih f (by omega)
    exact fun F hF x1 h g o9 E => sX3_type_C (N := N) (R := R) hF (by omega) hC E
abbrev ppX3_type (N R : Nat) (F : Frm) (x1 : Int32) (h : HI) (g : HL) : GO Int32 := (tie8 N R R) F x1 h g
theorem sX3_type {D : DE} {f N R : Nat} {F : Frm} (hF : k_Fix F) (hf : 8 + 1 * R ≤ f) {o9 : GQ Int32} {x1 : Int32} {h : HI} {g : HL} (E : ppX3_type N R F x1 h g = some o9) : Gi D f mX3_type [.ref (ad D 5), .int x1] F h g (gqi o9) (gt o9) := (tie8_ok (N := N) R f (by omega)) _ hF _ _ _ _ E
def pX3_name_0 (N R : Nat) (F : Frm) (h : HI) (g : HL) : GO Int32 :=
  obi (ppX2_token N R F h g) fun (y1 : Int32) (h2 : HI) (g3 : HL) =>
  ogv (ppX2_room N R F h2 g3) fun (F6 : Frm) (h4 : HI) (g5 : HL) =>
  obv (ppX2_next N R F6 h4 g5) fun (h7 : HI) (g8 : HL) =>
  some (.inl (y1, F6, h7, g8))
theorem jX3_name_0 {D : DE} {f N R : Nat} (hf : 7 ≤ f) {o9 : GQ Int32} : ∀ (F : Frm) (_ : k_Fix F) (h : HI) (g : HL), pX3_name_0 N R F h g = some o9 → JX3_name_0 D f (gqi o9) (gt o9) F h g := by
  intro F hF h g E
  unfold pX3_name_0 at E
  obtain ⟨y1, h2, g3, e0, E⟩ := obiE E
  refine Si.mono (sX2_token (N := N) (R := R) hF (by omega) e0) (fun y8 h8 g8 hq => ?_)
  obtain ⟨rfl, rfl, rfl⟩ := hq
  refine Gv.ob (fun o1 e0 => (sX2_room (N := N) (R := R) hF (by omega) e0)) E (fun F6 h4 g5 hF E => ?_) (fun _ _ _ _ e => e)
  obtain ⟨h7, g8, e0, E⟩ := obvE E
  refine Sv.mono (sX2_next (N := N) (R := R) hF (by omega) e0) (fun h8 g8 hq => ?_)
  obtain ⟨rfl, rfl⟩ := hq
  exact (Option.some.inj E).symm
abbrev ppX3_name (N R : Nat) (F : Frm) (h : HI) (g : HL) : GO Int32 := pX3_name_0 N R F h g
theorem sX3_name {D : DE} {f N R : Nat} {F : Frm} (hF : k_Fix F) (hf : 8 ≤ f) {o9 : GQ Int32} {h : HI} {g : HL} (E : ppX3_name N R F h g = some o9) : Gi D f mX3_name [.ref (ad D 5)] F h g (gqi o9) (gt o9) := by
  obtain ⟨f, rfl⟩ : ∃ f0, f = f0 + 1 := ⟨f - 1, by omega⟩
  have hf : 7 ≤ f := by omega
  exact wX3_name (f := f) hF (jX3_name_0 hf _ hF _ _ E)
def pX3_slot_21 (N R : Nat) (F : Frm) (s1 : Int32) (h : HI) (g : HL) : GO Int32 :=
  ogv (ppX2_want N R F s1 6 (h 1 8) h g) fun (F3 : Frm) (h1 : HI) (g2 : HL) =>
  ob1 (F3.2.2 5 3) fun (b4 : Nat) =>
  gd (decide (F3.2.1 b4 = (18, 0))) <|
  ob1 (F3.2.2 b4 4) fun (b5 : Nat) =>
  ob1 (F3.2.2 5 3) fun (b6 : Nat) =>
  gd (decide (F3.2.1 b6 = (18, 0))) <|
  ogi (ppX3_name N R F3 h1 g2) fun (y7 : Int32) (F10 : Frm) (h8 : HI) (g9 : HL) =>
  gd (decide ((F10.2.1 b5).1 = 0)) <|
  bnd ((F10.2.1 b5).2) fun (m11 : Nat) =>
  gd (vin (h1 b6 2) m11) <|
  bnd (up2 h8 b5 (ix (h1 b6 2)) y7) fun (h12 : HI) =>
  ob1 (F10.2.2 5 3) fun (b13 : Nat) =>
  gd (decide (F10.2.1 b13 = (18, 0))) <|
  bnd (up2 h12 b13 2 ((h12 b13 2) + 1)) fun (h14 : HI) =>
  ob1 (F10.2.2 5 3) fun (b15 : Nat) =>
  gd (decide (F10.2.1 b15 = (18, 0))) <|
  some (.inl (((h14 b15 2) - 1), F10, h14, g9))
theorem jX3_slot_21 {D : DE} {f N R : Nat} (hf : 8 ≤ f) {o9 : GQ Int32} : ∀ (F : Frm) (_ : k_Fix F) (s1 : Int32) (h : HI) (g : HL), pX3_slot_21 N R F s1 h g = some o9 → JX3_slot_21 D f (gqi o9) (gt o9) F h g s1 := by
  intro F hF s1 h g E
  unfold pX3_slot_21 at E
  refine Gv.ob (fun o1 e0 => (sX2_want (N := N) (R := R) hF (by omega) e0)) E (fun F3 h1 g2 hF E => ?_) (fun _ _ _ _ e => e)
  obtain ⟨b4, z0, E⟩ := ob1E E; refine ⟨b4, z0, ?_⟩
  obtain ⟨z0, E⟩ := gdE E; refine ⟨of_decide_eq_true z0, ?_⟩
  obtain ⟨b5, z0, E⟩ := ob1E E; refine ⟨b5, z0, ?_⟩
  obtain ⟨b6, z0, E⟩ := ob1E E; refine ⟨b6, z0, ?_⟩
  obtain ⟨z0, E⟩ := gdE E; refine ⟨of_decide_eq_true z0, ?_⟩
  refine Gi.ob (fun o1 e0 => (sX3_name (N := N) (R := R) hF (by omega) e0)) E (fun y7 F10 h8 g9 hF E => ?_) (fun _ _ _ _ e => e)
  obtain ⟨z0, E⟩ := gdE E; replace E := bndE rfl E; refine ⟨_, shE (of_decide_eq_true z0), ?_⟩
  obtain ⟨z0, E⟩ := gdE E; refine ⟨vinE z0, ?_⟩
  intro h12 e0; replace E := bndE e0 E
  obtain ⟨b13, z0, E⟩ := ob1E E; refine ⟨b13, z0, ?_⟩
  obtain ⟨z0, E⟩ := gdE E; refine ⟨of_decide_eq_true z0, ?_⟩
  intro h14 e0; replace E := bndE e0 E
  obtain ⟨b15, z0, E⟩ := ob1E E; refine ⟨b15, z0, ?_⟩
  obtain ⟨z0, E⟩ := gdE E; refine ⟨of_decide_eq_true z0, ?_⟩
  exact (Option.some.inj E).symm
def pX3_slot_0 (N R : Nat) (F : Frm) (h : HI) (g : HL) : GO Int32 :=
  ob1 (F.2.2 5 3) fun (b1 : Nat) =>
  gd (decide (F.2.1 b1 = (18, 0))) <|
  if 16 ≤ (h b1 2) then
    pX3_slot_21 N R F 0 h g
  else
    pX3_slot_21 N R F 1 h g
theorem jX3_slot_0 {D : DE} {f N R : Nat} (hf : 8 ≤ f) {o9 : GQ Int32} : ∀ (F : Frm) (_ : k_Fix F) (h : HI) (g : HL), pX3_slot_0 N R F h g = some o9 → JX3_slot_0 D f (gqi o9) (gt o9) F h g := by
  intro F hF h g E
  unfold pX3_slot_0 at E
  obtain ⟨b1, z0, E⟩ := ob1E E; refine ⟨b1, z0, ?_⟩
  obtain ⟨z0, E⟩ := gdE E; refine ⟨of_decide_eq_true z0, ?_⟩
  refine ⟨fun c0 => ?_, fun c0 => ?_⟩
  · replace E := iteT c0 E
    exact jX3_slot_21 hf  _ hF _ _ _ E
  · replace E := iteF c0 E
    exact jX3_slot_21 hf  _ hF _ _ _ E
abbrev ppX3_slot (N R : Nat) (F : Frm) (h : HI) (g : HL) : GO Int32 := pX3_slot_0 N R F h g
theorem sX3_slot {D : DE} {f N R : Nat} {F : Frm} (hF : k_Fix F) (hf : 9 ≤ f) {o9 : GQ Int32} {h : HI} {g : HL} (E : ppX3_slot N R F h g = some o9) : Gi D f mX3_slot [.ref (ad D 5)] F h g (gqi o9) (gt o9) := by
  obtain ⟨f, rfl⟩ : ∃ f0, f = f0 + 1 := ⟨f - 1, by omega⟩
  have hf : 8 ≤ f := by omega
  exact wX3_slot (f := f) hF (jX3_slot_0 hf _ hF _ _ E)
abbrev ty9 : Type := (Frm → Nat → HI → HL → GO Unit) × (Frm → HI → HL → GO Nat) × (Frm → Int32 → HI → HL → GO Nat) × (Frm → Int32 → HI → HL → GO Nat) × (Frm → HI → HL → GO Nat) × (Frm → HI → HL → GO Nat) × (Frm → HI → HL → GO Nat) × (Frm → HI → HL → GO Nat) × (Frm → HI → HL → GO Nat) × (Frm → HI → HL → GO Nat) × (Frm → HI → HL → GO Nat)
def ok9 (D : DE) (R f : Nat) (C : ty9) : Prop := (∀ (F : Frm) (_ : k_Fix F) (x1 : Nat) (h : HI) (g : HL) (o9 : GQ Unit), C.1 F x1 h g = some o9 → Gv D f mX3_argument [.ref (ad D 5), .ref (ad D x1)] F h g (gqv o9) (gt o9)) ∧ (∀ (F : Frm) (_ : k_Fix F) (h : HI) (g : HL) (o9 : GQ Nat), C.2.1 F h g = some o9 → Gr D f mX3_atom [.ref (ad D 5)] F h g (gqr o9) (gt o9)) ∧ (∀ (F : Frm) (_ : k_Fix F) (x1 : Int32) (h : HI) (g : HL) (o9 : GQ Nat), C.2.2.1 F x1 h g = some o9 → Gr D f mX3_brackets [.ref (ad D 5), .int x1] F h g (gqr o9) (gt o9)) ∧ (∀ (F : Frm) (_ : k_Fix F) (x1 : Int32) (h : HI) (g : HL) (o9 : GQ Nat), C.2.2.2.1 F x1 h g = some o9 → Gr D f mX3_call [.ref (ad D 5), .int x1] F h g (gqr o9) (gt o9)) ∧ (∀ (F : Frm) (_ : k_Fix F) (h : HI) (g : HL) (o9 : GQ Nat), C.2.2.2.2.1 F h g = some o9 → Gr D f mX3_compared [.ref (ad D 5)] F h g (gqr o9) (gt o9)) ∧ (∀ (F : Frm) (_ : k_Fix F) (h : HI) (g : HL) (o9 : GQ Nat), C.2.2.2.2.2.1 F h g = some o9 → Gr D f mX3_expression [.ref (ad D 5)] F h g (gqr o9) (gt o9)) ∧ (∀ (F : Frm) (_ : k_Fix F) (h : HI) (g : HL) (o9 : GQ Nat), C.2.2.2.2.2.2.1 F h g = some o9 → Gr D f mX3_let [.ref (ad D 5)] F h g (gqr o9) (gt o9)) ∧ (∀ (F : Frm) (_ : k_Fix F) (h : HI) (g : HL) (o9 : GQ Nat), C.2.2.2.2.2.2.2.1 F h g = some o9 → Gr D f mX3_ofCase [.ref (ad D 5)] F h g (gqr o9) (gt o9)) ∧ (∀ (F : Frm) (_ : k_Fix F) (h : HI) (g : HL) (o9 : GQ Nat), C.2.2.2.2.2.2.2.2.1 F h g = some o9 → Gr D f mX3_ofIf [.ref (ad D 5)] F h g (gqr o9) (gt o9)) ∧ (∀ (F : Frm) (_ : k_Fix F) (h : HI) (g : HL) (o9 : GQ Nat), C.2.2.2.2.2.2.2.2.2.1 F h g = some o9 → Gr D f mX3_product [.ref (ad D 5)] F h g (gqr o9) (gt o9)) ∧ (∀ (F : Frm) (_ : k_Fix F) (h : HI) (g : HL) (o9 : GQ Nat), C.2.2.2.2.2.2.2.2.2.2 F h g = some o9 → Gr D f mX3_sum [.ref (ad D 5)] F h g (gqr o9) (gt o9))
def pX3_argument_23 (N R : Nat) (C : ty9) (F : Frm) (x1 : Nat) (h : HI) (g : HL) : GO Unit :=
  gd (decide (F.2.1 x1 = (25, 0))) <|
  bnd (up2 h x1 4 ((h x1 4) + 1)) fun (h1 : HI) =>
  some (.inl ((), F, h1, g))
theorem jX3_argument_23 {D : DE} {f N R : Nat} (hf : 9 + 1 * R ≤ f) {C : ty9} (hC : ok9 D R f C) {o9 : GQ Unit} : ∀ (F : Frm) (_ : k_Fix F) (x1 : Nat) (h : HI) (g : HL), pX3_argument_23 N R C F x1 h g = some o9 → JX3_argument_23 D f (gqv o9) (gt o9) F h g x1 := by
  intro F hF x1 h g E
  unfold pX3_argument_23 at E
  obtain ⟨z0, E⟩ := gdE E; refine ⟨of_decide_eq_true z0, ?_⟩
  intro h1 e0; replace E := bndE e0 E
  exact (Option.some.inj E).symm
def pX3_argument_0 (N R : Nat) (C : ty9) (F : Frm) (x1 : Nat) (h : HI) (g : HL) : GO Unit :=
  ogr (C.2.2.2.2.2.1 F h g) fun (b1 : Nat) (F4 : Frm) (h2 : HI) (g3 : HL) =>
  gd (decide (F4.2.1 x1 = (25, 0))) <|
  if 4 ≤ (h2 x1 4) then
    pX3_argument_23 N R C F4 x1 h2 g3
  else
    ob1 (F4.2.2 x1 3) fun (b5 : Nat) =>
    gd (decide ((F4.2.1 b5).1 = 5)) <|
    bnd ((F4.2.1 b5).2) fun (m6 : Nat) =>
    gd (vin (h2 x1 4) m6) <|
    gd (isEb F4 b1) <|
    bnd ((F4.2.1 b1).1 - 10) fun (k8 : Nat) =>
    bnd (fwr F4 b5 (ix (h2 x1 4)) (some b1)) fun (F7 : Frm) =>
    gd (decide (160 ≤ b5)) <|
    pX3_argument_23 N R C F7 x1 h2 g3
theorem jX3_argument_0 {D : DE} {f N R : Nat} (hf : 9 + 1 * R ≤ f) {C : ty9} (hC : ok9 D R f C) {o9 : GQ Unit} : ∀ (F : Frm) (_ : k_Fix F) (x1 : Nat) (h : HI) (g : HL), pX3_argument_0 N R C F x1 h g = some o9 → JX3_argument_0 D f (gqv o9) (gt o9) F h g x1 := by
  intro F hF x1 h g E
  unfold pX3_argument_0 at E
  refine Gr.ob (fun o1 e0 => (hC.2.2.2.2.2.1 _ hF _ _ _ e0)) E (fun b1 F4 h2 g3 hF E => ?_) (fun _ _ _ _ e => e)
  obtain ⟨z0, E⟩ := gdE E; refine ⟨of_decide_eq_true z0, ?_⟩
  refine ⟨fun c0 => ?_, fun c0 => ?_⟩
  · replace E := iteT c0 E
    exact jX3_argument_23 hf hC  _ hF _ _ _ E
  · replace E := iteF c0 E
    obtain ⟨b5, z0, E⟩ := ob1E E; refine ⟨b5, z0, ?_⟩
    obtain ⟨z0, E⟩ := gdE E; replace E := bndE rfl E; refine ⟨_, shE (of_decide_eq_true z0), ?_⟩
    obtain ⟨z0, E⟩ := gdE E; refine ⟨vinE z0, ?_⟩
    obtain ⟨z0, E⟩ := gdE E; obtain ⟨k8, e1⟩ : ∃ k, k = (F4.2.1 b1).1 - 10 := ⟨_, rfl⟩; replace E := bndE e1 E; have zEk8 : isE F4 b1 k8 := by rw [e1]; exact isEbE z0
    refine ⟨k8, zEk8, ?_⟩
    intro F7 e0; replace E := bndE e0 E
    obtain ⟨z0, E⟩ := gdE E; refine ⟨of_decide_eq_true z0, ?_⟩
    replace hF : k_Fix F7 := by rw [e0]; exact k_Fix.wr hF (fx_okD (of_decide_eq_true z0)) _
    replace zEk8 : isE F7 b1 k8 := by rw [e0]; exact zEk8
    exact jX3_argument_23 hf hC  _ hF _ _ _ E
theorem sX3_argument_C {D : DE} {f N R : Nat} {C : ty9} {F : Frm} (hF : k_Fix F) (hf : 9 + 1 * R ≤ f) (hC : ok9 D R f C) {o9 : GQ Unit} {x1 : Nat} {h : HI} {g : HL} (E : pX3_argument_0 N R C F x1 h g = some o9) : Gv D (f + 1) mX3_argument [.ref (ad D 5), .ref (ad D x1)] F h g (gqv o9) (gt o9) := by
  exact wX3_argument (f := f) hF _ (jX3_argument_0 hf hC _ hF _ _ _ E)
def pX3_atom_0 (N R : Nat) (C : ty9) (F : Frm) (h : HI) (g : HL) : GO Nat :=
  obi (ppX3_begins N R F h g) fun (y1 : Int32) (h2 : HI) (g3 : HL) =>
  ogv (ppX2_stands N R F y1 h2 g3) fun (F6 : Frm) (h4 : HI) (g5 : HL) =>
  ogv (ppX2_room N R F6 h4 g5) fun (F9 : Frm) (h7 : HI) (g8 : HL) =>
  obi (ppX2_token N R F9 h7 g8) fun (y10 : Int32) (h11 : HI) (g12 : HL) =>
  if (h11 1 5) = 4 then
    gd (decide (160 ≤ F9.1.1)) <|
    bnd (fnw F9 (22, 0) 3) fun (F50 : Frm) =>
    bnd (up1 h11 F9.1.1 (fun _ => 0)) fun (h51 : HI) =>
    bnd (up1 g12 F9.1.1 (fun _ => 0)) fun (g52 : HL) =>
    obv (ppX14_init N R F50 F9.1.1 y10 (h51 1 6) h51 g52) fun (h53 : HI) (g54 : HL) =>
    obv (ppX2_next N R F50 h53 g54) fun (h55 : HI) (g56 : HL) =>
    some (.inl (F9.1.1, F50, h55, g56))
  else
    obi (ppX2_isWord N R F9 8 h11 g12) fun (y13 : Int32) (h14 : HI) (g15 : HL) =>
    if y13 = 0 then
      obi (ppX2_isSign N R F9 0 h14 g15) fun (y16 : Int32) (h17 : HI) (g18 : HL) =>
      if y16 = 0 then
        obv (ppX2_next N R F9 h17 g18) fun (h19 : HI) (g20 : HL) =>
        obi (ppX2_isSign N R F9 0 h19 g20) fun (y21 : Int32) (h22 : HI) (g23 : HL) =>
        if y21 = 0 then
          gd (decide (160 ≤ F9.1.1)) <|
          bnd (fnw F9 (26, 0) 3) fun (F24 : Frm) =>
          bnd (up1 h22 F9.1.1 (fun _ => 0)) fun (h25 : HI) =>
          bnd (up1 g23 F9.1.1 (fun _ => 0)) fun (g26 : HL) =>
          obv (ppX18_init N R F24 F9.1.1 y10 h25 g26) fun (h27 : HI) (g28 : HL) =>
          some (.inl (F9.1.1, F24, h27, g28))
        else
          ogr (C.2.2.2.1 F9 y10 h22 g23) fun (b29 : Nat) (F32 : Frm) (h30 : HI) (g31 : HL) =>
          some (.inl (b29, F32, h30, g31))
      else
        obv (ppX2_next N R F9 h17 g18) fun (h33 : HI) (g34 : HL) =>
        ogr (C.2.2.1 F9 y10 h33 g34) fun (b35 : Nat) (F38 : Frm) (h36 : HI) (g37 : HL) =>
        some (.inl (b35, F38, h36, g37))
    else
      obv (ppX2_next N R F9 h14 g15) fun (h39 : HI) (g40 : HL) =>
      gd (decide (160 ≤ F9.1.1)) <|
      bnd (fnw F9 (23, 0) 2) fun (F41 : Frm) =>
      bnd (up1 h39 F9.1.1 (fun _ => 0)) fun (h42 : HI) =>
      bnd (up1 g40 F9.1.1 (fun _ => 0)) fun (g43 : HL) =>
      ogi (ppX3_type N R F41 0 h42 g43) fun (y44 : Int32) (F47 : Frm) (h45 : HI) (g46 : HL) =>
      obv (ppX15_init N R F47 F9.1.1 y10 y44 h45 g46) fun (h48 : HI) (g49 : HL) =>
      some (.inl (F9.1.1, F47, h48, g49))
theorem jX3_atom_0 {D : DE} {f N R : Nat} (hf : 9 + 1 * R ≤ f) {C : ty9} (hC : ok9 D R f C) {o9 : GQ Nat} : ∀ (F : Frm) (_ : k_Fix F) (h : HI) (g : HL), pX3_atom_0 N R C F h g = some o9 → JX3_atom_0 D f (gqr o9) (gt o9) F h g := by
  intro F hF h g E
  unfold pX3_atom_0 at E
  obtain ⟨y1, h2, g3, e0, E⟩ := obiE E
  refine Si.mono (sX3_begins (N := N) (R := R) hF (by omega) e0) (fun y8 h8 g8 hq => ?_)
  obtain ⟨rfl, rfl, rfl⟩ := hq
  refine Gv.ob (fun o1 e0 => (sX2_stands (N := N) (R := R) hF (by omega) e0)) E (fun F6 h4 g5 hF E => ?_) (fun _ _ _ _ e => e)
  refine Gv.ob (fun o1 e0 => (sX2_room (N := N) (R := R) hF (by omega) e0)) E (fun F9 h7 g8 hF E => ?_) (fun _ _ _ _ e => e)
  obtain ⟨y10, h11, g12, e0, E⟩ := obiE E
  refine Si.mono (sX2_token (N := N) (R := R) hF (by omega) e0) (fun y8 h8 g8 hq => ?_)
  obtain ⟨rfl, rfl, rfl⟩ := hq
  refine ⟨fun c0 => ?_, fun c0 => ?_⟩
  · replace E := iteF c0 E
    obtain ⟨y13, h14, g15, e0, E⟩ := obiE E
    refine Si.mono (sX2_isWord (N := N) (R := R) hF (by omega) e0) (fun y8 h8 g8 hq => ?_)
    obtain ⟨rfl, rfl, rfl⟩ := hq
    refine ⟨fun c0 => ?_, fun c0 => ?_⟩
    · replace E := iteT c0 E
      obtain ⟨y16, h17, g18, e0, E⟩ := obiE E
      refine Si.mono (sX2_isSign (N := N) (R := R) hF (by omega) e0) (fun y8 h8 g8 hq => ?_)
      obtain ⟨rfl, rfl, rfl⟩ := hq
      refine ⟨fun c0 => ?_, fun c0 => ?_⟩
      · replace E := iteT c0 E
        obtain ⟨h19, g20, e0, E⟩ := obvE E
        refine Sv.mono (sX2_next (N := N) (R := R) hF (by omega) e0) (fun h8 g8 hq => ?_)
        obtain ⟨rfl, rfl⟩ := hq
        obtain ⟨y21, h22, g23, e0, E⟩ := obiE E
        refine Si.mono (sX2_isSign (N := N) (R := R) hF (by omega) e0) (fun y8 h8 g8 hq => ?_)
        obtain ⟨rfl, rfl, rfl⟩ := hq
        refine ⟨fun c0 => ?_, fun c0 => ?_⟩
        · replace E := iteT c0 E
          obtain ⟨z0, E⟩ := gdE E; refine ⟨of_decide_eq_true z0, ?_⟩; intro F24 h25 g26 e1 e2 e3; replace E := bndE e1 E; replace E := bndE e2 E; replace E := bndE e3 E
          replace hF : k_Fix F24 := by rw [e1]; exact k_Fix.new hF (of_decide_eq_true z0) _ _
          obtain ⟨h27, g28, e0, E⟩ := obvE E
          refine Sv.mono (sX18_init (N := N) (R := R) hF (by omega) e0) (fun h8 g8 hq => ?_)
          obtain ⟨rfl, rfl⟩ := hq
          exact (Option.some.inj E).symm
        · replace E := iteF c0 E
          refine Gr.ob (fun o1 e0 => (hC.2.2.2.1 _ hF _ _ _ _ e0)) E (fun b29 F32 h30 g31 hF E => ?_) (fun _ _ _ _ e => e)
          exact (Option.some.inj E).symm
      · replace E := iteF c0 E
        obtain ⟨h33, g34, e0, E⟩ := obvE E
        refine Sv.mono (sX2_next (N := N) (R := R) hF (by omega) e0) (fun h8 g8 hq => ?_)
        obtain ⟨rfl, rfl⟩ := hq
        refine Gr.ob (fun o1 e0 => (hC.2.2.1 _ hF _ _ _ _ e0)) E (fun b35 F38 h36 g37 hF E => ?_) (fun _ _ _ _ e => e)
        exact (Option.some.inj E).symm
    · replace E := iteF c0 E
      obtain ⟨h39, g40, e0, E⟩ := obvE E
      refine Sv.mono (sX2_next (N := N) (R := R) hF (by omega) e0) (fun h8 g8 hq => ?_)
      obtain ⟨rfl, rfl⟩ := hq
      obtain ⟨z0, E⟩ := gdE E; refine ⟨of_decide_eq_true z0, ?_⟩; intro F41 h42 g43 e1 e2 e3; replace E := bndE e1 E; replace E := bndE e2 E; replace E := bndE e3 E
      replace hF : k_Fix F41 := by rw [e1]; exact k_Fix.new hF (of_decide_eq_true z0) _ _
      refine Gi.ob (fun o1 e0 => (sX3_type (N := N) (R := R) hF (by omega) e0)) E (fun y44 F47 h45 g46 hF E => ?_) (fun _ _ _ _ e => e)
      obtain ⟨h48, g49, e0, E⟩ := obvE E
      refine Sv.mono (sX15_init (N := N) (R := R) hF (by omega) e0) (fun h8 g8 hq => ?_)
      obtain ⟨rfl, rfl⟩ := hq
      exact (Option.some.inj E).symm
  · replace E := iteT c0 E
    obtain ⟨z0, E⟩ := gdE E; refine ⟨of_decide_eq_true z0, ?_⟩; intro F50 h51 g52 e1 e2 e3; replace E := bndE e1 E; replace E := bndE e2 E; replace E := bndE e3 E
    replace hF : k_Fix F50 := by rw [e1]; exact k_Fix.new hF (of_decide_eq_true z0) _ _
    obtain ⟨h53, g54, e0, E⟩ := obvE E
    refine Sv.mono (sX14_init (N := N) (R := R) hF (by omega) e0) (fun h8 g8 hq => ?_)
    obtain ⟨rfl, rfl⟩ := hq
    obtain ⟨h55, g56, e0, E⟩ := obvE E
    refine Sv.mono (sX2_next (N := N) (R := R) hF (by omega) e0) (fun h8 g8 hq => ?_)
    obtain ⟨rfl, rfl⟩ := hq
    exact (Option.some.inj E).symm
theorem sX3_atom_C {D : DE} {f N R : Nat} {C : ty9} {F : Frm} (hF : k_Fix F) (hf : 9 + 1 * R ≤ f) (hC : ok9 D R f C) {o9 : GQ Nat} {h : HI} {g : HL} (E : pX3_atom_0 N R C F h g = some o9) : Gr D (f + 1) mX3_atom [.ref (ad D 5)] F h g (gqr o9) (gt o9) := by
  exact wX3_atom (f := f) hF (jX3_atom_0 hf hC _ hF _ _ E)
def pX3_brackets_38 (N R : Nat) (C : ty9) (F : Frm) (x2 : Nat) (h : HI) (g : HL) : GO Nat :=
  ogv (ppX2_sign N R F 1 h g) fun (F3 : Frm) (h1 : HI) (g2 : HL) =>
  some (.inl (x2, F3, h1, g2))
theorem jX3_brackets_38 {D : DE} {f N R : Nat} (hf : 9 + 1 * R ≤ f) {C : ty9} (hC : ok9 D R f C) {o9 : GQ Nat} : ∀ (F : Frm) (_ : k_Fix F) (x2 : Nat) (h : HI) (g : HL), pX3_brackets_38 N R C F x2 h g = some o9 → JX3_brackets_38 D f (gqr o9) (gt o9) F h g x2 := by
  intro F hF x2 h g E
  unfold pX3_brackets_38 at E
  refine Gv.ob (fun o1 e0 => (sX2_sign (N := N) (R := R) hF (by omega) e0)) E (fun F3 h1 g2 hF E => ?_) (fun _ _ _ _ e => e)
  exact (Option.some.inj E).symm
def pX3_brackets_0 (N R : Nat) (C : ty9) (F : Frm) (x1 : Int32) (h : HI) (g : HL) : GO Nat :=
  ogr (C.2.2.2.2.2.1 F h g) fun (b1 : Nat) (F4 : Frm) (h2 : HI) (g3 : HL) =>
  obi (ppX2_isSign N R F4 2 h2 g3) fun (y5 : Int32) (h6 : HI) (g7 : HL) =>
  if y5 = 0 then
    pX3_brackets_38 N R C F4 b1 h6 g7
  else
    ogv (ppX2_sign N R F4 2 h6 g7) fun (F10 : Frm) (h8 : HI) (g9 : HL) =>
    gd (decide (160 ≤ F10.1.1)) <|
    bnd (fnw F10 (24, 0) 4) fun (F11 : Frm) =>
    bnd (up1 h8 F10.1.1 (fun _ => 0)) fun (h12 : HI) =>
    bnd (up1 g9 F10.1.1 (fun _ => 0)) fun (g13 : HL) =>
    ogr (C.2.2.2.2.2.1 F11 h12 g13) fun (b14 : Nat) (F17 : Frm) (h15 : HI) (g16 : HL) =>
    ogv (ppX16_init N R F17 F10.1.1 x1 b1 b14 h15 g16) fun (F20 : Frm) (h18 : HI) (g19 : HL) =>
    pX3_brackets_38 N R C F20 F10.1.1 h18 g19
theorem jX3_brackets_0 {D : DE} {f N R : Nat} (hf : 9 + 1 * R ≤ f) {C : ty9} (hC : ok9 D R f C) {o9 : GQ Nat} : ∀ (F : Frm) (_ : k_Fix F) (x1 : Int32) (h : HI) (g : HL), pX3_brackets_0 N R C F x1 h g = some o9 → JX3_brackets_0 D f (gqr o9) (gt o9) F h g x1 := by
  intro F hF x1 h g E
  unfold pX3_brackets_0 at E
  refine Gr.ob (fun o1 e0 => (hC.2.2.2.2.2.1 _ hF _ _ _ e0)) E (fun b1 F4 h2 g3 hF E => ?_) (fun _ _ _ _ e => e)
  obtain ⟨y5, h6, g7, e0, E⟩ := obiE E
  refine Si.mono (sX2_isSign (N := N) (R := R) hF (by omega) e0) (fun y8 h8 g8 hq => ?_)
  obtain ⟨rfl, rfl, rfl⟩ := hq
  refine ⟨fun c0 => ?_, fun c0 => ?_⟩
  · replace E := iteT c0 E
    exact jX3_brackets_38 hf hC  _ hF _ _ _ E
  · replace E := iteF c0 E
    refine Gv.ob (fun o1 e0 => (sX2_sign (N := N) (R := R) hF (by omega) e0)) E (fun F10 h8 g9 hF E => ?_) (fun _ _ _ _ e => e)
    obtain ⟨z0, E⟩ := gdE E; refine ⟨of_decide_eq_true z0, ?_⟩; intro F11 h12 g13 e1 e2 e3; replace E := bndE e1 E; replace E := bndE e2 E; replace E := bndE e3 E
    replace hF : k_Fix F11 := by rw [e1]; exact k_Fix.new hF (of_decide_eq_true z0) _ _
    refine Gr.ob (fun o1 e0 => (hC.2.2.2.2.2.1 _ hF _ _ _ e0)) E (fun b14 F17 h15 g16 hF E => ?_) (fun _ _ _ _ e => e)
    refine Gv.ob (fun o1 e0 => (sX16_init (N := N) (R := R) hF (by omega) e0)) E (fun F20 h18 g19 hF E => ?_) (fun _ _ _ _ e => e)
    exact jX3_brackets_38 hf hC  _ hF _ _ _ E
theorem sX3_brackets_C {D : DE} {f N R : Nat} {C : ty9} {F : Frm} (hF : k_Fix F) (hf : 9 + 1 * R ≤ f) (hC : ok9 D R f C) {o9 : GQ Nat} {x1 : Int32} {h : HI} {g : HL} (E : pX3_brackets_0 N R C F x1 h g = some o9) : Gr D (f + 1) mX3_brackets [.ref (ad D 5), .int x1] F h g (gqr o9) (gt o9) := by
  exact wX3_brackets (f := f) hF _ (jX3_brackets_0 hf hC _ hF _ _ _ E)
def pX3_call_60 (N R : Nat) (C : ty9) (F : Frm) (x2 : Nat) (h : HI) (g : HL) : GO Nat :=
  ogv (ppX2_sign N R F 1 h g) fun (F3 : Frm) (h1 : HI) (g2 : HL) =>
  some (.inl (x2, F3, h1, g2))
theorem jX3_call_60 {D : DE} {f N R : Nat} (hf : 9 + 1 * R ≤ f) {C : ty9} (hC : ok9 D R f C) {o9 : GQ Nat} : ∀ (F : Frm) (_ : k_Fix F) (x2 : Nat) (h : HI) (g : HL), pX3_call_60 N R C F x2 h g = some o9 → JX3_call_60 D f (gqr o9) (gt o9) F h g x2 := by
  intro F hF x2 h g E
  unfold pX3_call_60 at E
  refine Gv.ob (fun o1 e0 => (sX2_sign (N := N) (R := R) hF (by omega) e0)) E (fun F3 h1 g2 hF E => ?_) (fun _ _ _ _ e => e)
  exact (Option.some.inj E).symm
def pX3_call_33 (N R : Nat) (C : ty9) : Nat → Frm → Nat → HI → HL → GO Nat
  | 0, _, _, _, _ => none
  | n + 1, F, x2, h, g =>
    obi (ppX2_isSign N R F 2 h g) fun (y1 : Int32) (h2 : HI) (g3 : HL) =>
    if y1 = 0 then
      pX3_call_60 N R C F x2 h2 g3
    else
      ogv (ppX2_sign N R F 2 h2 g3) fun (F6 : Frm) (h4 : HI) (g5 : HL) =>
      ogv (C.1 F6 x2 h4 g5) fun (F9 : Frm) (h7 : HI) (g8 : HL) =>
      (pX3_call_33 N R C n) F9 x2 h7 g8
theorem lX3_call_33 {D : DE} {f N R : Nat} (hf : 9 + 1 * R ≤ f) {C : ty9} (hC : ok9 D R f C) {o9 : GQ Nat} : ∀ (n : Nat) (F : Frm) (_ : k_Fix F) (x2 : Nat) (h : HI) (g : HL), pX3_call_33 N R C n F x2 h g = some o9 → V D mX3_call (f + 1) (gr D (gqr o9) (gt o9)) 33 [(0, .ref (ad D 5)), (2, .ref (ad D x2))] [] (F, h, g) := by
  intro n
  induction n with
  | zero => intro F hF x2 h g E; cases E
  | succ n hK33 =>
    intro F hF x2 h g E
    rw [pX3_call_33] at E
    refine bX3_call_33 (f := f) hF x2  ?_
    obtain ⟨y1, h2, g3, e0, E⟩ := obiE E
    refine Si.mono (sX2_isSign (N := N) (R := R) hF (by omega) e0) (fun y8 h8 g8 hq => ?_)
    obtain ⟨rfl, rfl, rfl⟩ := hq
    refine ⟨fun c0 => ?_, fun c0 => ?_⟩
    · replace E := iteT c0 E
      exact jX3_call_60 hf hC  _ hF _ _ _ E
    · replace E := iteF c0 E
      refine Gv.ob (fun o1 e0 => (sX2_sign (N := N) (R := R) hF (by omega) e0)) E (fun F6 h4 g5 hF E => ?_) (fun _ _ _ _ e => e)
      refine Gv.ob (fun o1 e0 => (hC.1 _ hF _ _ _ _ e0)) E (fun F9 h7 g8 hF E => ?_) (fun _ _ _ _ e => e)
      exact hK33 _ hF _ _ _ E
def pX3_call_0 (N R : Nat) (C : ty9) (F : Frm) (x1 : Int32) (h : HI) (g : HL) : GO Nat :=
  gd (decide (160 ≤ F.1.1)) <|
  bnd (fnw F (25, 0) 5) fun (F1 : Frm) =>
  bnd (up1 h F.1.1 (fun _ => 0)) fun (h2 : HI) =>
  bnd (up1 g F.1.1 (fun _ => 0)) fun (g3 : HL) =>
  ogv (ppX17_init N R F1 F.1.1 x1 h2 g3) fun (F6 : Frm) (h4 : HI) (g5 : HL) =>
  ogv (ppX2_sign N R F6 0 h4 g5) fun (F9 : Frm) (h7 : HI) (g8 : HL) =>
  obi (ppX2_isSign N R F9 1 h7 g8) fun (y10 : Int32) (h11 : HI) (g12 : HL) =>
  if y10 = 0 then
    ogv (C.1 F9 F.1.1 h11 g12) fun (F15 : Frm) (h13 : HI) (g14 : HL) =>
    pX3_call_33 N R C N F15 F.1.1 h13 g14
  else
    pX3_call_60 N R C F9 F.1.1 h11 g12
theorem jX3_call_0 {D : DE} {f N R : Nat} (hf : 9 + 1 * R ≤ f) {C : ty9} (hC : ok9 D R f C) {o9 : GQ Nat} : ∀ (F : Frm) (_ : k_Fix F) (x1 : Int32) (h : HI) (g : HL), pX3_call_0 N R C F x1 h g = some o9 → JX3_call_0 D f (gqr o9) (gt o9) F h g x1 := by
  intro F hF x1 h g E
  unfold pX3_call_0 at E
  obtain ⟨z0, E⟩ := gdE E; refine ⟨of_decide_eq_true z0, ?_⟩; intro F1 h2 g3 e1 e2 e3; replace E := bndE e1 E; replace E := bndE e2 E; replace E := bndE e3 E
  replace hF : k_Fix F1 := by rw [e1]; exact k_Fix.new hF (of_decide_eq_true z0) _ _
  refine Gv.ob (fun o1 e0 => (sX17_init (N := N) (R := R) hF (by omega) e0)) E (fun F6 h4 g5 hF E => ?_) (fun _ _ _ _ e => e)
  refine Gv.ob (fun o1 e0 => (sX2_sign (N := N) (R := R) hF (by omega) e0)) E (fun F9 h7 g8 hF E => ?_) (fun _ _ _ _ e => e)
  obtain ⟨y10, h11, g12, e0, E⟩ := obiE E
  refine Si.mono (sX2_isSign (N := N) (R := R) hF (by omega) e0) (fun y8 h8 g8 hq => ?_)
  obtain ⟨rfl, rfl, rfl⟩ := hq
  refine ⟨fun c0 => ?_, fun c0 => ?_⟩
  · replace E := iteF c0 E
    exact jX3_call_60 hf hC  _ hF _ _ _ E
  · replace E := iteT c0 E
    refine Gv.ob (fun o1 e0 => (hC.1 _ hF _ _ _ _ e0)) E (fun F15 h13 g14 hF E => ?_) (fun _ _ _ _ e => e)
    exact lX3_call_33 hf hC  N _ hF _ _ _ E
theorem sX3_call_C {D : DE} {f N R : Nat} {C : ty9} {F : Frm} (hF : k_Fix F) (hf : 9 + 1 * R ≤ f) (hC : ok9 D R f C) {o9 : GQ Nat} {x1 : Int32} {h : HI} {g : HL} (E : pX3_call_0 N R C F x1 h g = some o9) : Gr D (f + 1) mX3_call [.ref (ad D 5), .int x1] F h g (gqr o9) (gt o9) := by
  exact wX3_call (f := f) hF _ (jX3_call_0 hf hC _ hF _ _ _ E)
def pX3_compared_29 (N R : Nat) (C : ty9) (F : Frm) (x1 : Nat) (h : HI) (g : HL) : GO Nat :=
  bnd (h 1 6) fun (y1 : Int32) =>
  ogv (ppX2_sign N R F y1 h g) fun (F4 : Frm) (h2 : HI) (g3 : HL) =>
  gd (decide (160 ≤ F4.1.1)) <|
  bnd (fnw F4 (27, 0) 5) fun (F5 : Frm) =>
  bnd (up1 h2 F4.1.1 (fun _ => 0)) fun (h6 : HI) =>
  bnd (up1 g3 F4.1.1 (fun _ => 0)) fun (g7 : HL) =>
  ogr (C.2.2.2.2.2.2.2.2.2.2 F5 h6 g7) fun (b8 : Nat) (F11 : Frm) (h9 : HI) (g10 : HL) =>
  ogv (ppX19_init N R F11 F4.1.1 y1 x1 b8 h9 g10) fun (F14 : Frm) (h12 : HI) (g13 : HL) =>
  some (.inl (F4.1.1, F14, h12, g13))
theorem jX3_compared_29 {D : DE} {f N R : Nat} (hf : 9 + 1 * R ≤ f) {C : ty9} (hC : ok9 D R f C) {o9 : GQ Nat} : ∀ (F : Frm) (_ : k_Fix F) (x1 : Nat) (h : HI) (g : HL), pX3_compared_29 N R C F x1 h g = some o9 → JX3_compared_29 D f (gqr o9) (gt o9) F h g x1 := by
  intro F hF x1 h g E
  unfold pX3_compared_29 at E
  intro y1 e0; replace E := bndE e0 E
  refine Gv.ob (fun o1 e0 => (sX2_sign (N := N) (R := R) hF (by omega) e0)) E (fun F4 h2 g3 hF E => ?_) (fun _ _ _ _ e => e)
  obtain ⟨z0, E⟩ := gdE E; refine ⟨of_decide_eq_true z0, ?_⟩; intro F5 h6 g7 e1 e2 e3; replace E := bndE e1 E; replace E := bndE e2 E; replace E := bndE e3 E
  replace hF : k_Fix F5 := by rw [e1]; exact k_Fix.new hF (of_decide_eq_true z0) _ _
  refine Gr.ob (fun o1 e0 => (hC.2.2.2.2.2.2.2.2.2.2 _ hF _ _ _ e0)) E (fun b8 F11 h9 g10 hF E => ?_) (fun _ _ _ _ e => e)
  refine Gv.ob (fun o1 e0 => (sX19_init (N := N) (R := R) hF (by omega) e0)) E (fun F14 h12 g13 hF E => ?_) (fun _ _ _ _ e => e)
  exact (Option.some.inj E).symm
def pX3_compared_0 (N R : Nat) (C : ty9) (F : Frm) (h : HI) (g : HL) : GO Nat :=
  ogr (C.2.2.2.2.2.2.2.2.2.2 F h g) fun (b1 : Nat) (F4 : Frm) (h2 : HI) (g3 : HL) =>
  obi (ppX2_isSign N R F4 9 h2 g3) fun (y5 : Int32) (h6 : HI) (g7 : HL) =>
  if y5 = 0 then
    obi (ppX2_isSign N R F4 10 h6 g7) fun (y8 : Int32) (h9 : HI) (g10 : HL) =>
    if y8 = 0 then
      some (.inl (b1, F4, h9, g10))
    else
      pX3_compared_29 N R C F4 b1 h9 g10
  else
    pX3_compared_29 N R C F4 b1 h6 g7
theorem jX3_compared_0 {D : DE} {f N R : Nat} (hf : 9 + 1 * R ≤ f) {C : ty9} (hC : ok9 D R f C) {o9 : GQ Nat} : ∀ (F : Frm) (_ : k_Fix F) (h : HI) (g : HL), pX3_compared_0 N R C F h g = some o9 → JX3_compared_0 D f (gqr o9) (gt o9) F h g := by
  intro F hF h g E
  unfold pX3_compared_0 at E
  refine Gr.ob (fun o1 e0 => (hC.2.2.2.2.2.2.2.2.2.2 _ hF _ _ _ e0)) E (fun b1 F4 h2 g3 hF E => ?_) (fun _ _ _ _ e => e)
  obtain ⟨y5, h6, g7, e0, E⟩ := obiE E
  refine Si.mono (sX2_isSign (N := N) (R := R) hF (by omega) e0) (fun y8 h8 g8 hq => ?_)
  obtain ⟨rfl, rfl, rfl⟩ := hq
  refine ⟨fun c0 => ?_, fun c0 => ?_⟩
  · replace E := iteF c0 E
    exact jX3_compared_29 hf hC  _ hF _ _ _ E
  · replace E := iteT c0 E
    obtain ⟨y8, h9, g10, e0, E⟩ := obiE E
    refine Si.mono (sX2_isSign (N := N) (R := R) hF (by omega) e0) (fun y8 h8 g8 hq => ?_)
    obtain ⟨rfl, rfl, rfl⟩ := hq
    refine ⟨fun c0 => ?_, fun c0 => ?_⟩
    · replace E := iteT c0 E
      exact (Option.some.inj E).symm
    · replace E := iteF c0 E
      exact jX3_compared_29 hf hC  _ hF _ _ _ E
theorem sX3_compared_C {D : DE} {f N R : Nat} {C : ty9} {F : Frm} (hF : k_Fix F) (hf : 9 + 1 * R ≤ f) (hC : ok9 D R f C) {o9 : GQ Nat} {h : HI} {g : HL} (E : pX3_compared_0 N R C F h g = some o9) : Gr D (f + 1) mX3_compared [.ref (ad D 5)] F h g (gqr o9) (gt o9) := by
  exact wX3_compared (f := f) hF (jX3_compared_0 hf hC _ hF _ _ E)
def pX3_expression_152 (N R : Nat) (C : ty9) (F : Frm) (s0 : Nat) (h : HI) (g : HL) : GO Nat :=
  bnd (up2 h 5 4 ((h 5 4) - 1)) fun (h1 : HI) =>
  some (.inl (s0, F, h1, g))
theorem jX3_expression_152 {D : DE} {f N R : Nat} (hf : 9 + 1 * R ≤ f) {C : ty9} (hC : ok9 D R f C) {o9 : GQ Nat} : ∀ (F : Frm) (_ : k_Fix F) (s0 : Nat) (h : HI) (g : HL), pX3_expression_152 N R C F s0 h g = some o9 → JX3_expression_152 D f (gqr o9) (gt o9) F h g s0 := by
  intro F hF s0 h g E
  unfold pX3_expression_152 at E
  intro h1 e0; replace E := bndE e0 E
  exact (Option.some.inj E).symm
def pX3_expression_71 (N R : Nat) (C : ty9) (F : Frm) (s1 : Int32) (h : HI) (g : HL) : GO Nat :=
  ogv (ppX2_want N R F s1 6 (h 1 8) h g) fun (F3 : Frm) (h1 : HI) (g2 : HL) =>
  bnd (up2 h1 5 4 ((h1 5 4) + 1)) fun (h4 : HI) =>
  obi (ppX2_isWord N R F3 4 h4 g2) fun (y5 : Int32) (h6 : HI) (g7 : HL) =>
  if y5 = 0 then
    obi (ppX2_isWord N R F3 6 h6 g7) fun (y8 : Int32) (h9 : HI) (g10 : HL) =>
    if y8 = 0 then
      obi (ppX2_isWord N R F3 1 h9 g10) fun (y11 : Int32) (h12 : HI) (g13 : HL) =>
      if y11 = 0 then
        ogr (C.2.2.2.2.1 F3 h12 g13) fun (b14 : Nat) (F17 : Frm) (h15 : HI) (g16 : HL) =>
        pX3_expression_152 N R C F17 b14 h15 g16
      else
        ogr (C.2.2.2.2.2.2.2.2.1 F3 h12 g13) fun (b18 : Nat) (F21 : Frm) (h19 : HI) (g20 : HL) =>
        pX3_expression_152 N R C F21 b18 h19 g20
    else
      ogr (C.2.2.2.2.2.2.2.1 F3 h9 g10) fun (b22 : Nat) (F25 : Frm) (h23 : HI) (g24 : HL) =>
      pX3_expression_152 N R C F25 b22 h23 g24
  else
    ogr (C.2.2.2.2.2.2.1 F3 h6 g7) fun (b26 : Nat) (F29 : Frm) (h27 : HI) (g28 : HL) =>
    pX3_expression_152 N R C F29 b26 h27 g28
theorem jX3_expression_71 {D : DE} {f N R : Nat} (hf : 9 + 1 * R ≤ f) {C : ty9} (hC : ok9 D R f C) {o9 : GQ Nat} : ∀ (F : Frm) (_ : k_Fix F) (s1 : Int32) (h : HI) (g : HL), pX3_expression_71 N R C F s1 h g = some o9 → JX3_expression_71 D f (gqr o9) (gt o9) F h g s1 := by
  intro F hF s1 h g E
  unfold pX3_expression_71 at E
  refine Gv.ob (fun o1 e0 => (sX2_want (N := N) (R := R) hF (by omega) e0)) E (fun F3 h1 g2 hF E => ?_) (fun _ _ _ _ e => e)
  intro h4 e0; replace E := bndE e0 E
  obtain ⟨y5, h6, g7, e0, E⟩ := obiE E
  refine Si.mono (sX2_isWord (N := N) (R := R) hF (by omega) e0) (fun y8 h8 g8 hq => ?_)
  obtain ⟨rfl, rfl, rfl⟩ := hq
  refine ⟨fun c0 => ?_, fun c0 => ?_⟩
  · replace E := iteT c0 E
    obtain ⟨y8, h9, g10, e0, E⟩ := obiE E
    refine Si.mono (sX2_isWord (N := N) (R := R) hF (by omega) e0) (fun y8 h8 g8 hq => ?_)
    obtain ⟨rfl, rfl, rfl⟩ := hq
    refine ⟨fun c0 => ?_, fun c0 => ?_⟩
    · replace E := iteT c0 E
      obtain ⟨y11, h12, g13, e0, E⟩ := obiE E
      refine Si.mono (sX2_isWord (N := N) (R := R) hF (by omega) e0) (fun y8 h8 g8 hq => ?_)
      obtain ⟨rfl, rfl, rfl⟩ := hq
      refine ⟨fun c0 => ?_, fun c0 => ?_⟩
      · replace E := iteT c0 E
        refine Gr.ob (fun o1 e0 => (hC.2.2.2.2.1 _ hF _ _ _ e0)) E (fun b14 F17 h15 g16 hF E => ?_) (fun _ _ _ _ e => e)
        exact jX3_expression_152 hf hC  _ hF _ _ _ E
      · replace E := iteF c0 E
        refine Gr.ob (fun o1 e0 => (hC.2.2.2.2.2.2.2.2.1 _ hF _ _ _ e0)) E (fun b18 F21 h19 g20 hF E => ?_) (fun _ _ _ _ e => e)
        exact jX3_expression_152 hf hC  _ hF _ _ _ E
    · replace E := iteF c0 E
      refine Gr.ob (fun o1 e0 => (hC.2.2.2.2.2.2.2.1 _ hF _ _ _ e0)) E (fun b22 F25 h23 g24 hF E => ?_) (fun _ _ _ _ e => e)
      exact jX3_expression_152 hf hC  _ hF _ _ _ E
  · replace E := iteF c0 E
    refine Gr.ob (fun o1 e0 => (hC.2.2.2.2.2.2.1 _ hF _ _ _ e0)) E (fun b26 F29 h27 g28 hF E => ?_) (fun _ _ _ _ e => e)
    exact jX3_expression_152 hf hC  _ hF _ _ _ E
def pX3_expression_50 (N R : Nat) (C : ty9) (F : Frm) (s1 : Int32) (h : HI) (g : HL) : GO Nat :=
  ogv (ppX2_stands N R F s1 h g) fun (F3 : Frm) (h1 : HI) (g2 : HL) =>
  if 20 ≤ (h1 5 4) then
    pX3_expression_71 N R C F3 0 h1 g2
  else
    pX3_expression_71 N R C F3 1 h1 g2
theorem jX3_expression_50 {D : DE} {f N R : Nat} (hf : 9 + 1 * R ≤ f) {C : ty9} (hC : ok9 D R f C) {o9 : GQ Nat} : ∀ (F : Frm) (_ : k_Fix F) (s1 : Int32) (h : HI) (g : HL), pX3_expression_50 N R C F s1 h g = some o9 → JX3_expression_50 D f (gqr o9) (gt o9) F h g s1 := by
  intro F hF s1 h g E
  unfold pX3_expression_50 at E
  refine Gv.ob (fun o1 e0 => (sX2_stands (N := N) (R := R) hF (by omega) e0)) E (fun F3 h1 g2 hF E => ?_) (fun _ _ _ _ e => e)
  refine ⟨fun c0 => ?_, fun c0 => ?_⟩
  · replace E := iteT c0 E
    exact jX3_expression_71 hf hC  _ hF _ _ _ E
  · replace E := iteF c0 E
    exact jX3_expression_71 hf hC  _ hF _ _ _ E
def pX3_expression_45 (N R : Nat) (C : ty9) (F : Frm) (h : HI) (g : HL) : GO Nat :=
  pX3_expression_50 N R C F 1 h g
theorem jX3_expression_45 {D : DE} {f N R : Nat} (hf : 9 + 1 * R ≤ f) {C : ty9} (hC : ok9 D R f C) {o9 : GQ Nat} : ∀ (F : Frm) (_ : k_Fix F) (h : HI) (g : HL), pX3_expression_45 N R C F h g = some o9 → JX3_expression_45 D f (gqr o9) (gt o9) F h g := by
  intro F hF h g E
  unfold pX3_expression_45 at E
  exact jX3_expression_50 hf hC  _ hF _ _ _ E
def pX3_expression_0 (N R : Nat) (C : ty9) (F : Frm) (h : HI) (g : HL) : GO Nat :=
  obi (ppX3_begins N R F h g) fun (y1 : Int32) (h2 : HI) (g3 : HL) =>
  if y1 = 0 then
    obi (ppX2_isWord N R F 4 h2 g3) fun (y4 : Int32) (h5 : HI) (g6 : HL) =>
    if y4 = 0 then
      obi (ppX2_isWord N R F 6 h5 g6) fun (y7 : Int32) (h8 : HI) (g9 : HL) =>
      if y7 = 0 then
        obi (ppX2_isWord N R F 1 h8 g9) fun (y10 : Int32) (h11 : HI) (g12 : HL) =>
        if y10 = 0 then
          pX3_expression_50 N R C F 0 h11 g12
        else
          pX3_expression_45 N R C F h11 g12
      else
        pX3_expression_45 N R C F h8 g9
    else
      pX3_expression_45 N R C F h5 g6
  else
    pX3_expression_45 N R C F h2 g3
theorem jX3_expression_0 {D : DE} {f N R : Nat} (hf : 9 + 1 * R ≤ f) {C : ty9} (hC : ok9 D R f C) {o9 : GQ Nat} : ∀ (F : Frm) (_ : k_Fix F) (h : HI) (g : HL), pX3_expression_0 N R C F h g = some o9 → JX3_expression_0 D f (gqr o9) (gt o9) F h g := by
  intro F hF h g E
  unfold pX3_expression_0 at E
  obtain ⟨y1, h2, g3, e0, E⟩ := obiE E
  refine Si.mono (sX3_begins (N := N) (R := R) hF (by omega) e0) (fun y8 h8 g8 hq => ?_)
  obtain ⟨rfl, rfl, rfl⟩ := hq
  refine ⟨fun c0 => ?_, fun c0 => ?_⟩
  · replace E := iteF c0 E
    exact jX3_expression_45 hf hC  _ hF _ _ E
  · replace E := iteT c0 E
    obtain ⟨y4, h5, g6, e0, E⟩ := obiE E
    refine Si.mono (sX2_isWord (N := N) (R := R) hF (by omega) e0) (fun y8 h8 g8 hq => ?_)
    obtain ⟨rfl, rfl, rfl⟩ := hq
    refine ⟨fun c0 => ?_, fun c0 => ?_⟩
    · replace E := iteF c0 E
      exact jX3_expression_45 hf hC  _ hF _ _ E
    · replace E := iteT c0 E
      obtain ⟨y7, h8, g9, e0, E⟩ := obiE E
      refine Si.mono (sX2_isWord (N := N) (R := R) hF (by omega) e0) (fun y8 h8 g8 hq => ?_)
      obtain ⟨rfl, rfl, rfl⟩ := hq
      refine ⟨fun c0 => ?_, fun c0 => ?_⟩
      · replace E := iteF c0 E
        exact jX3_expression_45 hf hC  _ hF _ _ E
      · replace E := iteT c0 E
        obtain ⟨y10, h11, g12, e0, E⟩ := obiE E
        refine Si.mono (sX2_isWord (N := N) (R := R) hF (by omega) e0) (fun y8 h8 g8 hq => ?_)
        obtain ⟨rfl, rfl, rfl⟩ := hq
        refine ⟨fun c0 => ?_, fun c0 => ?_⟩
        · replace E := iteT c0 E
          exact jX3_expression_50 hf hC  _ hF _ _ _ E
        · replace E := iteF c0 E
          exact jX3_expression_45 hf hC  _ hF _ _ E
theorem sX3_expression_C {D : DE} {f N R : Nat} {C : ty9} {F : Frm} (hF : k_Fix F) (hf : 9 + 1 * R ≤ f) (hC : ok9 D R f C) {o9 : GQ Nat} {h : HI} {g : HL} (E : pX3_expression_0 N R C F h g = some o9) : Gr D (f + 1) mX3_expression [.ref (ad D 5)] F h g (gqr o9) (gt o9) := by
  exact wX3_expression (f := f) hF (jX3_expression_0 hf hC _ hF _ _ E)
def pX3_let_36 (N R : Nat) (C : ty9) (F : Frm) (x1 : Int32) (s1 : Int32) (h : HI) (g : HL) : GO Nat :=
  ogv (ppX2_stands N R F s1 h g) fun (F3 : Frm) (h1 : HI) (g2 : HL) =>
  ogi (ppX3_slot N R F3 h1 g2) fun (y4 : Int32) (F7 : Frm) (h5 : HI) (g6 : HL) =>
  ogv (ppX2_sign N R F7 5 h5 g6) fun (F10 : Frm) (h8 : HI) (g9 : HL) =>
  ogr (C.2.2.2.2.2.1 F10 h8 g9) fun (b11 : Nat) (F14 : Frm) (h12 : HI) (g13 : HL) =>
  ogv (ppX2_word_2 N R F14 5 h12 g13) fun (F17 : Frm) (h15 : HI) (g16 : HL) =>
  gd (decide (160 ≤ F17.1.1)) <|
  bnd (fnw F17 (19, 0) 5) fun (F18 : Frm) =>
  bnd (up1 h15 F17.1.1 (fun _ => 0)) fun (h19 : HI) =>
  bnd (up1 g16 F17.1.1 (fun _ => 0)) fun (g20 : HL) =>
  ogr (C.2.2.2.2.2.1 F18 h19 g20) fun (b21 : Nat) (F24 : Frm) (h22 : HI) (g23 : HL) =>
  ogv (ppX11_init N R F24 F17.1.1 x1 y4 b11 b21 h22 g23) fun (F27 : Frm) (h25 : HI) (g26 : HL) =>
  some (.inl (F17.1.1, F27, h25, g26))
theorem jX3_let_36 {D : DE} {f N R : Nat} (hf : 9 + 1 * R ≤ f) {C : ty9} (hC : ok9 D R f C) {o9 : GQ Nat} : ∀ (F : Frm) (_ : k_Fix F) (x1 : Int32) (s1 : Int32) (h : HI) (g : HL), pX3_let_36 N R C F x1 s1 h g = some o9 → JX3_let_36 D f (gqr o9) (gt o9) F h g x1 s1 := by
  intro F hF x1 s1 h g E
  unfold pX3_let_36 at E
  refine Gv.ob (fun o1 e0 => (sX2_stands (N := N) (R := R) hF (by omega) e0)) E (fun F3 h1 g2 hF E => ?_) (fun _ _ _ _ e => e)
  refine Gi.ob (fun o1 e0 => (sX3_slot (N := N) (R := R) hF (by omega) e0)) E (fun y4 F7 h5 g6 hF E => ?_) (fun _ _ _ _ e => e)
  refine Gv.ob (fun o1 e0 => (sX2_sign (N := N) (R := R) hF (by omega) e0)) E (fun F10 h8 g9 hF E => ?_) (fun _ _ _ _ e => e)
  refine Gr.ob (fun o1 e0 => (hC.2.2.2.2.2.1 _ hF _ _ _ e0)) E (fun b11 F14 h12 g13 hF E => ?_) (fun _ _ _ _ e => e)
  refine Gv.ob (fun o1 e0 => (sX2_word_2 (N := N) (R := R) hF (by omega) e0)) E (fun F17 h15 g16 hF E => ?_) (fun _ _ _ _ e => e)
  obtain ⟨z0, E⟩ := gdE E; refine ⟨of_decide_eq_true z0, ?_⟩; intro F18 h19 g20 e1 e2 e3; replace E := bndE e1 E; replace E := bndE e2 E; replace E := bndE e3 E
  replace hF : k_Fix F18 := by rw [e1]; exact k_Fix.new hF (of_decide_eq_true z0) _ _
  refine Gr.ob (fun o1 e0 => (hC.2.2.2.2.2.1 _ hF _ _ _ e0)) E (fun b21 F24 h22 g23 hF E => ?_) (fun _ _ _ _ e => e)
  refine Gv.ob (fun o1 e0 => (sX11_init (N := N) (R := R) hF (by omega) e0)) E (fun F27 h25 g26 hF E => ?_) (fun _ _ _ _ e => e)
  exact (Option.some.inj E).symm
def pX3_let_0 (N R : Nat) (C : ty9) (F : Frm) (h : HI) (g : HL) : GO Nat :=
  obi (ppX2_token N R F h g) fun (y1 : Int32) (h2 : HI) (g3 : HL) =>
  ogv (ppX2_word_2 N R F 4 h2 g3) fun (F6 : Frm) (h4 : HI) (g5 : HL) =>
  if (h4 1 5) = 3 then
    pX3_let_36 N R C F6 y1 1 h4 g5
  else
    pX3_let_36 N R C F6 y1 0 h4 g5
theorem jX3_let_0 {D : DE} {f N R : Nat} (hf : 9 + 1 * R ≤ f) {C : ty9} (hC : ok9 D R f C) {o9 : GQ Nat} : ∀ (F : Frm) (_ : k_Fix F) (h : HI) (g : HL), pX3_let_0 N R C F h g = some o9 → JX3_let_0 D f (gqr o9) (gt o9) F h g := by
  intro F hF h g E
  unfold pX3_let_0 at E
  obtain ⟨y1, h2, g3, e0, E⟩ := obiE E
  refine Si.mono (sX2_token (N := N) (R := R) hF (by omega) e0) (fun y8 h8 g8 hq => ?_)
  obtain ⟨rfl, rfl, rfl⟩ := hq
  refine Gv.ob (fun o1 e0 => (sX2_word_2 (N := N) (R := R) hF (by omega) e0)) E (fun F6 h4 g5 hF E => ?_) (fun _ _ _ _ e => e)
  refine ⟨fun c0 => ?_, fun c0 => ?_⟩
  · replace E := iteF c0 E
    exact jX3_let_36 hf hC  _ hF _ _ _ _ E
  · replace E := iteT c0 E
    exact jX3_let_36 hf hC  _ hF _ _ _ _ E
theorem sX3_let_C {D : DE} {f N R : Nat} {C : ty9} {F : Frm} (hF : k_Fix F) (hf : 9 + 1 * R ≤ f) (hC : ok9 D R f C) {o9 : GQ Nat} {h : HI} {g : HL} (E : pX3_let_0 N R C F h g = some o9) : Gr D (f + 1) mX3_let [.ref (ad D 5)] F h g (gqr o9) (gt o9) := by
  exact wX3_let (f := f) hF (jX3_let_0 hf hC _ hF _ _ E)
def pX3_ofCase_133 (N R : Nat) (C : ty9) (F : Frm) (x1 : Int32) (x2 : Nat) (x3 : Int32) (s1 : Int32) (h : HI) (g : HL) : GO Nat :=
  ogv (ppX2_want N R F s1 3 (h 1 8) h g) fun (F3 : Frm) (h1 : HI) (g2 : HL) =>
  ogi (ppX3_slot N R F3 h1 g2) fun (y4 : Int32) (F7 : Frm) (h5 : HI) (g6 : HL) =>
  ogv (ppX2_sign N R F7 1 h5 g6) fun (F10 : Frm) (h8 : HI) (g9 : HL) =>
  ogv (ppX2_word_2 N R F10 5 h8 g9) fun (F13 : Frm) (h11 : HI) (g12 : HL) =>
  gd (decide (160 ≤ F13.1.1)) <|
  bnd (fnw F13 (20, 0) 5) fun (F14 : Frm) =>
  bnd (up1 h11 F13.1.1 (fun _ => 0)) fun (h15 : HI) =>
  bnd (up1 g12 F13.1.1 (fun _ => 0)) fun (g16 : HL) =>
  ogr (C.2.2.2.2.2.1 F14 h15 g16) fun (b17 : Nat) (F20 : Frm) (h18 : HI) (g19 : HL) =>
  ogv (ppX12_init N R F20 F13.1.1 x1 x3 x2 b17 h18 g19) fun (F23 : Frm) (h21 : HI) (g22 : HL) =>
  some (.inl (F13.1.1, F23, h21, g22))
theorem jX3_ofCase_133 {D : DE} {f N R : Nat} (hf : 9 + 1 * R ≤ f) {C : ty9} (hC : ok9 D R f C) {o9 : GQ Nat} : ∀ (F : Frm) (_ : k_Fix F) (x1 : Int32) (x2 : Nat) (x3 : Int32) (s1 : Int32) (h : HI) (g : HL), pX3_ofCase_133 N R C F x1 x2 x3 s1 h g = some o9 → JX3_ofCase_133 D f (gqr o9) (gt o9) F h g x1 x2 x3 s1 := by
  intro F hF x1 x2 x3 s1 h g E
  unfold pX3_ofCase_133 at E
  refine Gv.ob (fun o1 e0 => (sX2_want (N := N) (R := R) hF (by omega) e0)) E (fun F3 h1 g2 hF E => ?_) (fun _ _ _ _ e => e)
  refine Gi.ob (fun o1 e0 => (sX3_slot (N := N) (R := R) hF (by omega) e0)) E (fun y4 F7 h5 g6 hF E => ?_) (fun _ _ _ _ e => e)
  refine Gv.ob (fun o1 e0 => (sX2_sign (N := N) (R := R) hF (by omega) e0)) E (fun F10 h8 g9 hF E => ?_) (fun _ _ _ _ e => e)
  refine Gv.ob (fun o1 e0 => (sX2_word_2 (N := N) (R := R) hF (by omega) e0)) E (fun F13 h11 g12 hF E => ?_) (fun _ _ _ _ e => e)
  obtain ⟨z0, E⟩ := gdE E; refine ⟨of_decide_eq_true z0, ?_⟩; intro F14 h15 g16 e1 e2 e3; replace E := bndE e1 E; replace E := bndE e2 E; replace E := bndE e3 E
  replace hF : k_Fix F14 := by rw [e1]; exact k_Fix.new hF (of_decide_eq_true z0) _ _
  refine Gr.ob (fun o1 e0 => (hC.2.2.2.2.2.1 _ hF _ _ _ e0)) E (fun b17 F20 h18 g19 hF E => ?_) (fun _ _ _ _ e => e)
  refine Gv.ob (fun o1 e0 => (sX12_init (N := N) (R := R) hF (by omega) e0)) E (fun F23 h21 g22 hF E => ?_) (fun _ _ _ _ e => e)
  exact (Option.some.inj E).symm
def pX3_ofCase_95 (N R : Nat) (C : ty9) (F : Frm) (x1 : Int32) (x2 : Nat) (x3 : Int32) (s1 : Int32) (h : HI) (g : HL) : GO Nat :=
  ogv (ppX2_stands N R F s1 h g) fun (F3 : Frm) (h1 : HI) (g2 : HL) =>
  ob1 (F3.2.2 5 3) fun (b4 : Nat) =>
  gd (decide (F3.2.1 b4 = (18, 0))) <|
  ob1 (F3.2.2 b4 4) fun (b5 : Nat) =>
  gd (decide ((F3.2.1 b5).1 = 0)) <|
  bnd ((F3.2.1 b5).2) fun (m6 : Nat) =>
  gd (vin x3 m6) <|
  obi (ppX2_token N R F3 h1 g2) fun (y7 : Int32) (h8 : HI) (g9 : HL) =>
  obi (ppX2_same N R F3 (h1 b5 (ix x3)) y7 h8 g9) fun (y10 : Int32) (h11 : HI) (g12 : HL) =>
  if y10 = 0 then
    pX3_ofCase_133 N R C F3 x1 x2 x3 1 h11 g12
  else
    pX3_ofCase_133 N R C F3 x1 x2 x3 0 h11 g12
theorem jX3_ofCase_95 {D : DE} {f N R : Nat} (hf : 9 + 1 * R ≤ f) {C : ty9} (hC : ok9 D R f C) {o9 : GQ Nat} : ∀ (F : Frm) (_ : k_Fix F) (x1 : Int32) (x2 : Nat) (x3 : Int32) (s1 : Int32) (h : HI) (g : HL), pX3_ofCase_95 N R C F x1 x2 x3 s1 h g = some o9 → JX3_ofCase_95 D f (gqr o9) (gt o9) F h g x1 x2 x3 s1 := by
  intro F hF x1 x2 x3 s1 h g E
  unfold pX3_ofCase_95 at E
  refine Gv.ob (fun o1 e0 => (sX2_stands (N := N) (R := R) hF (by omega) e0)) E (fun F3 h1 g2 hF E => ?_) (fun _ _ _ _ e => e)
  obtain ⟨b4, z0, E⟩ := ob1E E; refine ⟨b4, z0, ?_⟩
  obtain ⟨z0, E⟩ := gdE E; refine ⟨of_decide_eq_true z0, ?_⟩
  obtain ⟨b5, z0, E⟩ := ob1E E; refine ⟨b5, z0, ?_⟩
  obtain ⟨z0, E⟩ := gdE E; replace E := bndE rfl E; refine ⟨_, shE (of_decide_eq_true z0), ?_⟩
  obtain ⟨z0, E⟩ := gdE E; refine ⟨vinE z0, ?_⟩
  obtain ⟨y7, h8, g9, e0, E⟩ := obiE E
  refine Si.mono (sX2_token (N := N) (R := R) hF (by omega) e0) (fun y8 h8 g8 hq => ?_)
  obtain ⟨rfl, rfl, rfl⟩ := hq
  obtain ⟨y10, h11, g12, e0, E⟩ := obiE E
  refine Si.mono (sX2_same (N := N) (R := R) hF (by omega) e0) (fun y8 h8 g8 hq => ?_)
  obtain ⟨rfl, rfl, rfl⟩ := hq
  refine ⟨fun c0 => ?_, fun c0 => ?_⟩
  · replace E := iteF c0 E
    exact jX3_ofCase_133 hf hC  _ hF _ _ _ _ _ _ E
  · replace E := iteT c0 E
    exact jX3_ofCase_133 hf hC  _ hF _ _ _ _ _ _ E
def pX3_ofCase_59 (N R : Nat) (C : ty9) (F : Frm) (x1 : Int32) (x2 : Nat) (s1 : Int32) (h : HI) (g : HL) : GO Nat :=
  ogv (ppX2_stands N R F s1 h g) fun (F3 : Frm) (h1 : HI) (g2 : HL) =>
  ogi (ppX3_slot N R F3 h1 g2) fun (y4 : Int32) (F7 : Frm) (h5 : HI) (g6 : HL) =>
  ogv (ppX2_sign N R F7 2 h5 g6) fun (F10 : Frm) (h8 : HI) (g9 : HL) =>
  if (h8 1 5) = 3 then
    pX3_ofCase_95 N R C F10 x1 x2 y4 1 h8 g9
  else
    pX3_ofCase_95 N R C F10 x1 x2 y4 0 h8 g9
theorem jX3_ofCase_59 {D : DE} {f N R : Nat} (hf : 9 + 1 * R ≤ f) {C : ty9} (hC : ok9 D R f C) {o9 : GQ Nat} : ∀ (F : Frm) (_ : k_Fix F) (x1 : Int32) (x2 : Nat) (s1 : Int32) (h : HI) (g : HL), pX3_ofCase_59 N R C F x1 x2 s1 h g = some o9 → JX3_ofCase_59 D f (gqr o9) (gt o9) F h g x1 x2 s1 := by
  intro F hF x1 x2 s1 h g E
  unfold pX3_ofCase_59 at E
  refine Gv.ob (fun o1 e0 => (sX2_stands (N := N) (R := R) hF (by omega) e0)) E (fun F3 h1 g2 hF E => ?_) (fun _ _ _ _ e => e)
  refine Gi.ob (fun o1 e0 => (sX3_slot (N := N) (R := R) hF (by omega) e0)) E (fun y4 F7 h5 g6 hF E => ?_) (fun _ _ _ _ e => e)
  refine Gv.ob (fun o1 e0 => (sX2_sign (N := N) (R := R) hF (by omega) e0)) E (fun F10 h8 g9 hF E => ?_) (fun _ _ _ _ e => e)
  refine ⟨fun c0 => ?_, fun c0 => ?_⟩
  · replace E := iteF c0 E
    exact jX3_ofCase_95 hf hC  _ hF _ _ _ _ _ _ E
  · replace E := iteT c0 E
    exact jX3_ofCase_95 hf hC  _ hF _ _ _ _ _ _ E
def pX3_ofCase_0 (N R : Nat) (C : ty9) (F : Frm) (h : HI) (g : HL) : GO Nat :=
  obi (ppX2_token N R F h g) fun (y1 : Int32) (h2 : HI) (g3 : HL) =>
  ogv (ppX2_word_2 N R F 6 h2 g3) fun (F6 : Frm) (h4 : HI) (g5 : HL) =>
  ogr (C.2.2.2.2.2.1 F6 h4 g5) fun (b7 : Nat) (F10 : Frm) (h8 : HI) (g9 : HL) =>
  ogv (ppX2_word_2 N R F10 7 h8 g9) fun (F13 : Frm) (h11 : HI) (g12 : HL) =>
  ogv (ppX2_sign N R F13 0 h11 g12) fun (F16 : Frm) (h14 : HI) (g15 : HL) =>
  if (h14 1 5) = 3 then
    pX3_ofCase_59 N R C F16 y1 b7 1 h14 g15
  else
    pX3_ofCase_59 N R C F16 y1 b7 0 h14 g15
theorem jX3_ofCase_0 {D : DE} {f N R : Nat} (hf : 9 + 1 * R ≤ f) {C : ty9} (hC : ok9 D R f C) {o9 : GQ Nat} : ∀ (F : Frm) (_ : k_Fix F) (h : HI) (g : HL), pX3_ofCase_0 N R C F h g = some o9 → JX3_ofCase_0 D f (gqr o9) (gt o9) F h g := by
  intro F hF h g E
  unfold pX3_ofCase_0 at E
  obtain ⟨y1, h2, g3, e0, E⟩ := obiE E
  refine Si.mono (sX2_token (N := N) (R := R) hF (by omega) e0) (fun y8 h8 g8 hq => ?_)
  obtain ⟨rfl, rfl, rfl⟩ := hq
  refine Gv.ob (fun o1 e0 => (sX2_word_2 (N := N) (R := R) hF (by omega) e0)) E (fun F6 h4 g5 hF E => ?_) (fun _ _ _ _ e => e)
  refine Gr.ob (fun o1 e0 => (hC.2.2.2.2.2.1 _ hF _ _ _ e0)) E (fun b7 F10 h8 g9 hF E => ?_) (fun _ _ _ _ e => e)
  refine Gv.ob (fun o1 e0 => (sX2_word_2 (N := N) (R := R) hF (by omega) e0)) E (fun F13 h11 g12 hF E => ?_) (fun _ _ _ _ e => e)
  refine Gv.ob (fun o1 e0 => (sX2_sign (N := N) (R := R) hF (by omega) e0)) E (fun F16 h14 g15 hF E => ?_) (fun _ _ _ _ e => e)
  refine ⟨fun c0 => ?_, fun c0 => ?_⟩
  · replace E := iteF c0 E
    exact jX3_ofCase_59 hf hC  _ hF _ _ _ _ _ E
  · replace E := iteT c0 E
    exact jX3_ofCase_59 hf hC  _ hF _ _ _ _ _ E
theorem sX3_ofCase_C {D : DE} {f N R : Nat} {C : ty9} {F : Frm} (hF : k_Fix F) (hf : 9 + 1 * R ≤ f) (hC : ok9 D R f C) {o9 : GQ Nat} {h : HI} {g : HL} (E : pX3_ofCase_0 N R C F h g = some o9) : Gr D (f + 1) mX3_ofCase [.ref (ad D 5)] F h g (gqr o9) (gt o9) := by
  exact wX3_ofCase (f := f) hF (jX3_ofCase_0 hf hC _ hF _ _ E)
def pX3_ofIf_0 (N R : Nat) (C : ty9) (F : Frm) (h : HI) (g : HL) : GO Nat :=
  obi (ppX2_token N R F h g) fun (y1 : Int32) (h2 : HI) (g3 : HL) =>
  ogv (ppX2_word_2 N R F 1 h2 g3) fun (F6 : Frm) (h4 : HI) (g5 : HL) =>
  ogr (C.2.2.2.2.2.1 F6 h4 g5) fun (b7 : Nat) (F10 : Frm) (h8 : HI) (g9 : HL) =>
  ogv (ppX2_word_2 N R F10 2 h8 g9) fun (F13 : Frm) (h11 : HI) (g12 : HL) =>
  ogr (C.2.2.2.2.2.1 F13 h11 g12) fun (b14 : Nat) (F17 : Frm) (h15 : HI) (g16 : HL) =>
  ogv (ppX2_word_2 N R F17 3 h15 g16) fun (F20 : Frm) (h18 : HI) (g19 : HL) =>
  gd (decide (160 ≤ F20.1.1)) <|
  bnd (fnw F20 (21, 0) 5) fun (F21 : Frm) =>
  bnd (up1 h18 F20.1.1 (fun _ => 0)) fun (h22 : HI) =>
  bnd (up1 g19 F20.1.1 (fun _ => 0)) fun (g23 : HL) =>
  ogr (C.2.2.2.2.2.1 F21 h22 g23) fun (b24 : Nat) (F27 : Frm) (h25 : HI) (g26 : HL) =>
  ogv (ppX13_init N R F27 F20.1.1 y1 b7 b14 b24 h25 g26) fun (F30 : Frm) (h28 : HI) (g29 : HL) =>
  some (.inl (F20.1.1, F30, h28, g29))
theorem jX3_ofIf_0 {D : DE} {f N R : Nat} (hf : 9 + 1 * R ≤ f) {C : ty9} (hC : ok9 D R f C) {o9 : GQ Nat} : ∀ (F : Frm) (_ : k_Fix F) (h : HI) (g : HL), pX3_ofIf_0 N R C F h g = some o9 → JX3_ofIf_0 D f (gqr o9) (gt o9) F h g := by
  intro F hF h g E
  unfold pX3_ofIf_0 at E
  obtain ⟨y1, h2, g3, e0, E⟩ := obiE E
  refine Si.mono (sX2_token (N := N) (R := R) hF (by omega) e0) (fun y8 h8 g8 hq => ?_)
  obtain ⟨rfl, rfl, rfl⟩ := hq
  refine Gv.ob (fun o1 e0 => (sX2_word_2 (N := N) (R := R) hF (by omega) e0)) E (fun F6 h4 g5 hF E => ?_) (fun _ _ _ _ e => e)
  refine Gr.ob (fun o1 e0 => (hC.2.2.2.2.2.1 _ hF _ _ _ e0)) E (fun b7 F10 h8 g9 hF E => ?_) (fun _ _ _ _ e => e)
  refine Gv.ob (fun o1 e0 => (sX2_word_2 (N := N) (R := R) hF (by omega) e0)) E (fun F13 h11 g12 hF E => ?_) (fun _ _ _ _ e => e)
  refine Gr.ob (fun o1 e0 => (hC.2.2.2.2.2.1 _ hF _ _ _ e0)) E (fun b14 F17 h15 g16 hF E => ?_) (fun _ _ _ _ e => e)
  refine Gv.ob (fun o1 e0 => (sX2_word_2 (N := N) (R := R) hF (by omega) e0)) E (fun F20 h18 g19 hF E => ?_) (fun _ _ _ _ e => e)
  obtain ⟨z0, E⟩ := gdE E; refine ⟨of_decide_eq_true z0, ?_⟩; intro F21 h22 g23 e1 e2 e3; replace E := bndE e1 E; replace E := bndE e2 E; replace E := bndE e3 E
  replace hF : k_Fix F21 := by rw [e1]; exact k_Fix.new hF (of_decide_eq_true z0) _ _
  refine Gr.ob (fun o1 e0 => (hC.2.2.2.2.2.1 _ hF _ _ _ e0)) E (fun b24 F27 h25 g26 hF E => ?_) (fun _ _ _ _ e => e)
  refine Gv.ob (fun o1 e0 => (sX13_init (N := N) (R := R) hF (by omega) e0)) E (fun F30 h28 g29 hF E => ?_) (fun _ _ _ _ e => e)
  exact (Option.some.inj E).symm
theorem sX3_ofIf_C {D : DE} {f N R : Nat} {C : ty9} {F : Frm} (hF : k_Fix F) (hf : 9 + 1 * R ≤ f) (hC : ok9 D R f C) {o9 : GQ Nat} {h : HI} {g : HL} (E : pX3_ofIf_0 N R C F h g = some o9) : Gr D (f + 1) mX3_ofIf [.ref (ad D 5)] F h g (gqr o9) (gt o9) := by
  exact wX3_ofIf (f := f) hF (jX3_ofIf_0 hf hC _ hF _ _ E)
def pX3_product_0 (N R : Nat) (C : ty9) (F : Frm) (h : HI) (g : HL) : GO Nat :=
  ogr (C.2.1 F h g) fun (b1 : Nat) (F4 : Frm) (h2 : HI) (g3 : HL) =>
  obi (ppX2_isSign N R F4 8 h2 g3) fun (y5 : Int32) (h6 : HI) (g7 : HL) =>
  if y5 = 0 then
    some (.inl (b1, F4, h6, g7))
  else
    ogv (ppX2_sign N R F4 8 h6 g7) fun (F10 : Frm) (h8 : HI) (g9 : HL) =>
    gd (decide (160 ≤ F10.1.1)) <|
    bnd (fnw F10 (27, 0) 5) fun (F11 : Frm) =>
    bnd (up1 h8 F10.1.1 (fun _ => 0)) fun (h12 : HI) =>
    bnd (up1 g9 F10.1.1 (fun _ => 0)) fun (g13 : HL) =>
    ogr (C.2.1 F11 h12 g13) fun (b14 : Nat) (F17 : Frm) (h15 : HI) (g16 : HL) =>
    ogv (ppX19_init N R F17 F10.1.1 8 b1 b14 h15 g16) fun (F20 : Frm) (h18 : HI) (g19 : HL) =>
    some (.inl (F10.1.1, F20, h18, g19))
theorem jX3_product_0 {D : DE} {f N R : Nat} (hf : 9 + 1 * R ≤ f) {C : ty9} (hC : ok9 D R f C) {o9 : GQ Nat} : ∀ (F : Frm) (_ : k_Fix F) (h : HI) (g : HL), pX3_product_0 N R C F h g = some o9 → JX3_product_0 D f (gqr o9) (gt o9) F h g := by
  intro F hF h g E
  unfold pX3_product_0 at E
  refine Gr.ob (fun o1 e0 => (hC.2.1 _ hF _ _ _ e0)) E (fun b1 F4 h2 g3 hF E => ?_) (fun _ _ _ _ e => e)
  obtain ⟨y5, h6, g7, e0, E⟩ := obiE E
  refine Si.mono (sX2_isSign (N := N) (R := R) hF (by omega) e0) (fun y8 h8 g8 hq => ?_)
  obtain ⟨rfl, rfl, rfl⟩ := hq
  refine ⟨fun c0 => ?_, fun c0 => ?_⟩
  · replace E := iteT c0 E
    exact (Option.some.inj E).symm
  · replace E := iteF c0 E
    refine Gv.ob (fun o1 e0 => (sX2_sign (N := N) (R := R) hF (by omega) e0)) E (fun F10 h8 g9 hF E => ?_) (fun _ _ _ _ e => e)
    obtain ⟨z0, E⟩ := gdE E; refine ⟨of_decide_eq_true z0, ?_⟩; intro F11 h12 g13 e1 e2 e3; replace E := bndE e1 E; replace E := bndE e2 E; replace E := bndE e3 E
    replace hF : k_Fix F11 := by rw [e1]; exact k_Fix.new hF (of_decide_eq_true z0) _ _
    refine Gr.ob (fun o1 e0 => (hC.2.1 _ hF _ _ _ e0)) E (fun b14 F17 h15 g16 hF E => ?_) (fun _ _ _ _ e => e)
    refine Gv.ob (fun o1 e0 => (sX19_init (N := N) (R := R) hF (by omega) e0)) E (fun F20 h18 g19 hF E => ?_) (fun _ _ _ _ e => e)
    exact (Option.some.inj E).symm
theorem sX3_product_C {D : DE} {f N R : Nat} {C : ty9} {F : Frm} (hF : k_Fix F) (hf : 9 + 1 * R ≤ f) (hC : ok9 D R f C) {o9 : GQ Nat} {h : HI} {g : HL} (E : pX3_product_0 N R C F h g = some o9) : Gr D (f + 1) mX3_product [.ref (ad D 5)] F h g (gqr o9) (gt o9) := by
  exact wX3_product (f := f) hF (jX3_product_0 hf hC _ hF _ _ E)
def pX3_sum_29 (N R : Nat) (C : ty9) (F : Frm) (x1 : Nat) (h : HI) (g : HL) : GO Nat :=
  bnd (h 1 6) fun (y1 : Int32) =>
  ogv (ppX2_sign N R F y1 h g) fun (F4 : Frm) (h2 : HI) (g3 : HL) =>
  gd (decide (160 ≤ F4.1.1)) <|
  bnd (fnw F4 (27, 0) 5) fun (F5 : Frm) =>
  bnd (up1 h2 F4.1.1 (fun _ => 0)) fun (h6 : HI) =>
  bnd (up1 g3 F4.1.1 (fun _ => 0)) fun (g7 : HL) =>
  ogr (C.2.2.2.2.2.2.2.2.2.1 F5 h6 g7) fun (b8 : Nat) (F11 : Frm) (h9 : HI) (g10 : HL) =>
  ogv (ppX19_init N R F11 F4.1.1 y1 x1 b8 h9 g10) fun (F14 : Frm) (h12 : HI) (g13 : HL) =>
  some (.inl (F4.1.1, F14, h12, g13))
theorem jX3_sum_29 {D : DE} {f N R : Nat} (hf : 9 + 1 * R ≤ f) {C : ty9} (hC : ok9 D R f C) {o9 : GQ Nat} : ∀ (F : Frm) (_ : k_Fix F) (x1 : Nat) (h : HI) (g : HL), pX3_sum_29 N R C F x1 h g = some o9 → JX3_sum_29 D f (gqr o9) (gt o9) F h g x1 := by
  intro F hF x1 h g E
  unfold pX3_sum_29 at E
  intro y1 e0; replace E := bndE e0 E
  refine Gv.ob (fun o1 e0 => (sX2_sign (N := N) (R := R) hF (by omega) e0)) E (fun F4 h2 g3 hF E => ?_) (fun _ _ _ _ e => e)
  obtain ⟨z0, E⟩ := gdE E; refine ⟨of_decide_eq_true z0, ?_⟩; intro F5 h6 g7 e1 e2 e3; replace E := bndE e1 E; replace E := bndE e2 E; replace E := bndE e3 E
  replace hF : k_Fix F5 := by rw [e1]; exact k_Fix.new hF (of_decide_eq_true z0) _ _
  refine Gr.ob (fun o1 e0 => (hC.2.2.2.2.2.2.2.2.2.1 _ hF _ _ _ e0)) E (fun b8 F11 h9 g10 hF E => ?_) (fun _ _ _ _ e => e)
  refine Gv.ob (fun o1 e0 => (sX19_init (N := N) (R := R) hF (by omega) e0)) E (fun F14 h12 g13 hF E => ?_) (fun _ _ _ _ e => e)
  exact (Option.some.inj E).symm
def pX3_sum_0 (N R : Nat) (C : ty9) (F : Frm) (h : HI) (g : HL) : GO Nat :=
  ogr (C.2.2.2.2.2.2.2.2.2.1 F h g) fun (b1 : Nat) (F4 : Frm) (h2 : HI) (g3 : HL) =>
  obi (ppX2_isSign N R F4 6 h2 g3) fun (y5 : Int32) (h6 : HI) (g7 : HL) =>
  if y5 = 0 then
    obi (ppX2_isSign N R F4 7 h6 g7) fun (y8 : Int32) (h9 : HI) (g10 : HL) =>
    if y8 = 0 then
      some (.inl (b1, F4, h9, g10))
    else
      pX3_sum_29 N R C F4 b1 h9 g10
  else
    pX3_sum_29 N R C F4 b1 h6 g7
theorem jX3_sum_0 {D : DE} {f N R : Nat} (hf : 9 + 1 * R ≤ f) {C : ty9} (hC : ok9 D R f C) {o9 : GQ Nat} : ∀ (F : Frm) (_ : k_Fix F) (h : HI) (g : HL), pX3_sum_0 N R C F h g = some o9 → JX3_sum_0 D f (gqr o9) (gt o9) F h g := by
  intro F hF h g E
  unfold pX3_sum_0 at E
  refine Gr.ob (fun o1 e0 => (hC.2.2.2.2.2.2.2.2.2.1 _ hF _ _ _ e0)) E (fun b1 F4 h2 g3 hF E => ?_) (fun _ _ _ _ e => e)
  obtain ⟨y5, h6, g7, e0, E⟩ := obiE E
  refine Si.mono (sX2_isSign (N := N) (R := R) hF (by omega) e0) (fun y8 h8 g8 hq => ?_)
  obtain ⟨rfl, rfl, rfl⟩ := hq
  refine ⟨fun c0 => ?_, fun c0 => ?_⟩
  · replace E := iteF c0 E
    exact jX3_sum_29 hf hC  _ hF _ _ _ E
  · replace E := iteT c0 E
    obtain ⟨y8, h9, g10, e0, E⟩ := obiE E
    refine Si.mono (sX2_isSign (N := N) (R := R) hF (by omega) e0) (fun y8 h8 g8 hq => ?_)
    obtain ⟨rfl, rfl, rfl⟩ := hq
    refine ⟨fun c0 => ?_, fun c0 => ?_⟩
    · replace E := iteT c0 E
      exact (Option.some.inj E).symm
    · replace E := iteF c0 E
      exact jX3_sum_29 hf hC  _ hF _ _ _ E
theorem sX3_sum_C {D : DE} {f N R : Nat} {C : ty9} {F : Frm} (hF : k_Fix F) (hf : 9 + 1 * R ≤ f) (hC : ok9 D R f C) {o9 : GQ Nat} {h : HI} {g : HL} (E : pX3_sum_0 N R C F h g = some o9) : Gr D (f + 1) mX3_sum [.ref (ad D 5)] F h g (gqr o9) (gt o9) := by
  exact wX3_sum (f := f) hF (jX3_sum_0 hf hC _ hF _ _ E)
def tie9 (N R : Nat) : Nat → ty9
  | 0 => ((fun _ _ _ _ => none), (fun _ _ _ => none), (fun _ _ _ _ => none), (fun _ _ _ _ => none), (fun _ _ _ => none), (fun _ _ _ => none), (fun _ _ _ => none), (fun _ _ _ => none), (fun _ _ _ => none), (fun _ _ _ => none), (fun _ _ _ => none))
  | n + 1 => ((fun F x1 h g => pX3_argument_0 N R (tie9 N R n) F x1 h g), (fun F h g => pX3_atom_0 N R (tie9 N R n) F h g), (fun F x1 h g => pX3_brackets_0 N R (tie9 N R n) F x1 h g), (fun F x1 h g => pX3_call_0 N R (tie9 N R n) F x1 h g), (fun F h g => pX3_compared_0 N R (tie9 N R n) F h g), (fun F h g => pX3_expression_0 N R (tie9 N R n) F h g), (fun F h g => pX3_let_0 N R (tie9 N R n) F h g), (fun F h g => pX3_ofCase_0 N R (tie9 N R n) F h g), (fun F h g => pX3_ofIf_0 N R (tie9 N R n) F h g), (fun F h g => pX3_product_0 N R (tie9 N R n) F h g), (fun F h g => pX3_sum_0 N R (tie9 N R n) F h g))
theorem tie9_ok {D : DE} {N R : Nat} : ∀ (n f : Nat), 9 + 1 * R + n ≤ f → ok9 D R f (tie9 N R n) := by
  intro n
  induction n with
  | zero =>
    intro f hf
    exact ⟨fun _ _ _ _ _ _ E => (by cases E), fun _ _ _ _ _ E => (by cases E), fun _ _ _ _ _ _ E => (by cases E), fun _ _ _ _ _ _ E => (by cases E), fun _ _ _ _ _ E => (by cases E), fun _ _ _ _ _ E => (by cases E), fun _ _ _ _ _ E => (by cases E), fun _ _ _ _ _ E => (by cases E), fun _ _ _ _ _ E => (by cases E), fun _ _ _ _ _ E => (by cases E), fun _ _ _ _ _ E => (by cases E)⟩
  | succ n ih =>
    intro f hf
    obtain ⟨f, rfl⟩ : ∃ f0, f = f0 + 1 := ⟨f - 1, by omega⟩
    have hC := ih f (by omega)
    exact ⟨fun F hF x1 h g o9 E => sX3_argument_C (N := N) (R := R) hF (by omega) hC E, fun F hF h g o9 E => sX3_atom_C (N := N) (R := R) hF (by omega) hC E, fun F hF x1 h g o9 E => sX3_brackets_C (N := N) (R := R) hF (by omega) hC E, fun F hF x1 h g o9 E => sX3_call_C (N := N) (R := R) hF (by omega) hC E, fun F hF h g o9 E => sX3_compared_C (N := N) (R := R) hF (by omega) hC E, fun F hF h g o9 E => sX3_expression_C (N := N) (R := R) hF (by omega) hC E, fun F hF h g o9 E => sX3_let_C (N := N) (R := R) hF (by omega) hC E, fun F hF h g o9 E => sX3_ofCase_C (N := N) (R := R) hF (by omega) hC E, fun F hF h g o9 E => sX3_ofIf_C (N := N) (R := R) hF (by omega) hC E, fun F hF h g o9 E => sX3_product_C (N := N) (R := R) hF (by omega) hC E, fun F hF h g o9 E => sX3_sum_C (N := N) (R := R) hF (by omega) hC E⟩
abbrev ppX3_argument (N R : Nat) (F : Frm) (x1 : Nat) (h : HI) (g : HL) : GO Unit := (tie9 N R R).1 F x1 h g
theorem sX3_argument {D : DE} {f N R : Nat} {F : Frm} (hF : k_Fix F) (hf : 9 + 2 * R ≤ f) {o9 : GQ Unit} {x1 : Nat} {h : HI} {g : HL} (E : ppX3_argument N R F x1 h g = some o9) : Gv D f mX3_argument [.ref (ad D 5), .ref (ad D x1)] F h g (gqv o9) (gt o9) := (tie9_ok (N := N) R f (by omega)).1 _ hF _ _ _ _ E
abbrev ppX3_atom (N R : Nat) (F : Frm) (h : HI) (g : HL) : GO Nat := (tie9 N R R).2.1 F h g
theorem sX3_atom {D : DE} {f N R : Nat} {F : Frm} (hF : k_Fix F) (hf : 9 + 2 * R ≤ f) {o9 : GQ Nat} {h : HI} {g : HL} (E : ppX3_atom N R F h g = some o9) : Gr D f mX3_atom [.ref (ad D 5)] F h g (gqr o9) (gt o9) := (tie9_ok (N := N) R f (by omega)).2.1 _ hF _ _ _ E
abbrev ppX3_brackets (N R : Nat) (F : Frm) (x1 : Int32) (h : HI) (g : HL) : GO Nat := (tie9 N R R).2.2.1 F x1 h g
theorem sX3_brackets {D : DE} {f N R : Nat} {F : Frm} (hF : k_Fix F) (hf : 9 + 2 * R ≤ f) {o9 : GQ Nat} {x1 : Int32} {h : HI} {g : HL} (E : ppX3_brackets N R F x1 h g = some o9) : Gr D f mX3_brackets [.ref (ad D 5), .int x1] F h g (gqr o9) (gt o9) := (tie9_ok (N := N) R f (by omega)).2.2.1 _ hF _ _ _ _ E
abbrev ppX3_call (N R : Nat) (F : Frm) (x1 : Int32) (h : HI) (g : HL) : GO Nat := (tie9 N R R).2.2.2.1 F x1 h g
theorem sX3_call {D : DE} {f N R : Nat} {F : Frm} (hF : k_Fix F) (hf : 9 + 2 * R ≤ f) {o9 : GQ Nat} {x1 : Int32} {h : HI} {g : HL} (E : ppX3_call N R F x1 h g = some o9) : Gr D f mX3_call [.ref (ad D 5), .int x1] F h g (gqr o9) (gt o9) := (tie9_ok (N := N) R f (by omega)).2.2.2.1 _ hF _ _ _ _ E
abbrev ppX3_compared (N R : Nat) (F : Frm) (h : HI) (g : HL) : GO Nat := (tie9 N R R).2.2.2.2.1 F h g
theorem sX3_compared {D : DE} {f N R : Nat} {F : Frm} (hF : k_Fix F) (hf : 9 + 2 * R ≤ f) {o9 : GQ Nat} {h : HI} {g : HL} (E : ppX3_compared N R F h g = some o9) : Gr D f mX3_compared [.ref (ad D 5)] F h g (gqr o9) (gt o9) := (tie9_ok (N := N) R f (by omega)).2.2.2.2.1 _ hF _ _ _ E
abbrev ppX3_expression (N R : Nat) (F : Frm) (h : HI) (g : HL) : GO Nat := (tie9 N R R).2.2.2.2.2.1 F h g
theorem sX3_expression {D : DE} {f N R : Nat} {F : Frm} (hF : k_Fix F) (hf : 9 + 2 * R ≤ f) {o9 : GQ Nat} {h : HI} {g : HL} (E : ppX3_expression N R F h g = some o9) : Gr D f mX3_expression [.ref (ad D 5)] F h g (gqr o9) (gt o9) := (tie9_ok (N := N) R f (by omega)).2.2.2.2.2.1 _ hF _ _ _ E
abbrev ppX3_let (N R : Nat) (F : Frm) (h : HI) (g : HL) : GO Nat := (tie9 N R R).2.2.2.2.2.2.1 F h g
theorem sX3_let {D : DE} {f N R : Nat} {F : Frm} (hF : k_Fix F) (hf : 9 + 2 * R ≤ f) {o9 : GQ Nat} {h : HI} {g : HL} (E : ppX3_let N R F h g = some o9) : Gr D f mX3_let [.ref (ad D 5)] F h g (gqr o9) (gt o9) := (tie9_ok (N := N) R f (by omega)).2.2.2.2.2.2.1 _ hF _ _ _ E
abbrev ppX3_ofCase (N R : Nat) (F : Frm) (h : HI) (g : HL) : GO Nat := (tie9 N R R).2.2.2.2.2.2.2.1 F h g
theorem sX3_ofCase {D : DE} {f N R : Nat} {F : Frm} (hF : k_Fix F) (hf : 9 + 2 * R ≤ f) {o9 : GQ Nat} {h : HI} {g : HL} (E : ppX3_ofCase N R F h g = some o9) : Gr D f mX3_ofCase [.ref (ad D 5)] F h g (gqr o9) (gt o9) := (tie9_ok (N := N) R f (by omega)).2.2.2.2.2.2.2.1 _ hF _ _ _ E
abbrev ppX3_ofIf (N R : Nat) (F : Frm) (h : HI) (g : HL) : GO Nat := (tie9 N R R).2.2.2.2.2.2.2.2.1 F h g
theorem sX3_ofIf {D : DE} {f N R : Nat} {F : Frm} (hF : k_Fix F) (hf : 9 + 2 * R ≤ f) {o9 : GQ Nat} {h : HI} {g : HL} (E : ppX3_ofIf N R F h g = some o9) : Gr D f mX3_ofIf [.ref (ad D 5)] F h g (gqr o9) (gt o9) := (tie9_ok (N := N) R f (by omega)).2.2.2.2.2.2.2.2.1 _ hF _ _ _ E
abbrev ppX3_product (N R : Nat) (F : Frm) (h : HI) (g : HL) : GO Nat := (tie9 N R R).2.2.2.2.2.2.2.2.2.1 F h g
theorem sX3_product {D : DE} {f N R : Nat} {F : Frm} (hF : k_Fix F) (hf : 9 + 2 * R ≤ f) {o9 : GQ Nat} {h : HI} {g : HL} (E : ppX3_product N R F h g = some o9) : Gr D f mX3_product [.ref (ad D 5)] F h g (gqr o9) (gt o9) := (tie9_ok (N := N) R f (by omega)).2.2.2.2.2.2.2.2.2.1 _ hF _ _ _ E
abbrev ppX3_sum (N R : Nat) (F : Frm) (h : HI) (g : HL) : GO Nat := (tie9 N R R).2.2.2.2.2.2.2.2.2.2 F h g
theorem sX3_sum {D : DE} {f N R : Nat} {F : Frm} (hF : k_Fix F) (hf : 9 + 2 * R ≤ f) {o9 : GQ Nat} {h : HI} {g : HL} (E : ppX3_sum N R F h g = some o9) : Gr D f mX3_sum [.ref (ad D 5)] F h g (gqr o9) (gt o9) := (tie9_ok (N := N) R f (by omega)).2.2.2.2.2.2.2.2.2.2 _ hF _ _ _ E
def pX3_param_108 (N R : Nat) (F : Frm) (s1 : Int32) (h : HI) (g : HL) : GO Unit :=
  ogv (ppX2_want N R F s1 6 (h 1 8) h g) fun (F3 : Frm) (h1 : HI) (g2 : HL) =>
  ogi (ppX3_slot N R F3 h1 g2) fun (y4 : Int32) (F7 : Frm) (h5 : HI) (g6 : HL) =>
  ob1 (F7.2.2 5 3) fun (b8 : Nat) =>
  gd (decide (F7.2.1 b8 = (18, 0))) <|
  bnd (up2 h5 b8 1 ((h5 b8 1) + 1)) fun (h9 : HI) =>
  ogv (ppX2_sign N R F7 4 h9 g6) fun (F12 : Frm) (h10 : HI) (g11 : HL) =>
  ob1 (F12.2.2 5 3) fun (b13 : Nat) =>
  gd (decide (F12.2.1 b13 = (18, 0))) <|
  ob1 (F12.2.2 b13 5) fun (b14 : Nat) =>
  ogi (ppX3_type N R F12 0 h10 g11) fun (y15 : Int32) (F18 : Frm) (h16 : HI) (g17 : HL) =>
  gd (decide ((F18.2.1 b14).1 = 0)) <|
  bnd ((F18.2.1 b14).2) fun (m19 : Nat) =>
  gd (vin y4 m19) <|
  bnd (up2 h16 b14 (ix y4) y15) fun (h20 : HI) =>
  some (.inl ((), F18, h20, g17))
theorem jX3_param_108 {D : DE} {f N R : Nat} (hf : 9 + 1 * R ≤ f) {o9 : GQ Unit} : ∀ (F : Frm) (_ : k_Fix F) (s1 : Int32) (h : HI) (g : HL), pX3_param_108 N R F s1 h g = some o9 → JX3_param_108 D f (gqv o9) (gt o9) F h g s1 := by
  intro F hF s1 h g E
  unfold pX3_param_108 at E
  refine Gv.ob (fun o1 e0 => (sX2_want (N := N) (R := R) hF (by omega) e0)) E (fun F3 h1 g2 hF E => ?_) (fun _ _ _ _ e => e)
  refine Gi.ob (fun o1 e0 => (sX3_slot (N := N) (R := R) hF (by omega) e0)) E (fun y4 F7 h5 g6 hF E => ?_) (fun _ _ _ _ e => e)
  obtain ⟨b8, z0, E⟩ := ob1E E; refine ⟨b8, z0, ?_⟩
  obtain ⟨z0, E⟩ := gdE E; refine ⟨of_decide_eq_true z0, ?_⟩
  intro h9 e0; replace E := bndE e0 E
  refine Gv.ob (fun o1 e0 => (sX2_sign (N := N) (R := R) hF (by omega) e0)) E (fun F12 h10 g11 hF E => ?_) (fun _ _ _ _ e => e)
  obtain ⟨b13, z0, E⟩ := ob1E E; refine ⟨b13, z0, ?_⟩
  obtain ⟨z0, E⟩ := gdE E; refine ⟨of_decide_eq_true z0, ?_⟩
  obtain ⟨b14, z0, E⟩ := ob1E E; refine ⟨b14, z0, ?_⟩
  refine Gi.ob (fun o1 e0 => (sX3_type (N := N) (R := R) hF (by omega) e0)) E (fun y15 F18 h16 g17 hF E => ?_) (fun _ _ _ _ e => e)
  obtain ⟨z0, E⟩ := gdE E; replace E := bndE rfl E; refine ⟨_, shE (of_decide_eq_true z0), ?_⟩
  obtain ⟨z0, E⟩ := gdE E; refine ⟨vinE z0, ?_⟩
  intro h20 e0; replace E := bndE e0 E
  exact (Option.some.inj E).symm
def pX3_param_71 (N R : Nat) (K25 : Frm → Int32 → HI → HL → GO Unit) (F : Frm) (x1 : Int32) (s1 : Int32) (h : HI) (g : HL) : GO Unit :=
  ogv (ppX2_want N R F s1 3 (h 1 8) h g) fun (F3 : Frm) (h1 : HI) (g2 : HL) =>
  bnd (x1 + 1) fun (y4 : Int32) =>
  K25 F3 y4 h1 g2
theorem jX3_param_71 {D : DE} {f N R : Nat} (hf : 9 + 1 * R ≤ f) {K25 : Frm → Int32 → HI → HL → GO Unit} {o9 : GQ Unit} (hK25 : ∀ (F : Frm) (_ : k_Fix F) (x1 : Int32) (h : HI) (g : HL), K25 F x1 h g = some o9 → V D mX3_param (f + 1) (gv (gqv o9) (gt o9)) 25 [(0, .ref (ad D 5)), (1, .int x1)] [] (F, h, g)) : ∀ (F : Frm) (_ : k_Fix F) (x1 : Int32) (s1 : Int32) (h : HI) (g : HL), pX3_param_71 N R K25 F x1 s1 h g = some o9 → JX3_param_71 D f (gqv o9) (gt o9) F h g x1 s1 := by
  intro F hF x1 s1 h g E
  unfold pX3_param_71 at E
  refine Gv.ob (fun o1 e0 => (sX2_want (N := N) (R := R) hF (by omega) e0)) E (fun F3 h1 g2 hF E => ?_) (fun _ _ _ _ e => e)
  intro y4 e0; replace E := bndE e0 E
  exact hK25 _ hF _ _ _ E
def pX3_param_25 (N R : Nat) : Nat → Frm → Int32 → HI → HL → GO Unit
  | 0, _, _, _, _ => none
  | n + 1, F, x1, h, g =>
    ob1 (F.2.2 5 3) fun (b1 : Nat) =>
    gd (decide (F.2.1 b1 = (18, 0))) <|
    if (h b1 2) ≤ x1 then
      ob1 (F.2.2 5 3) fun (b2 : Nat) =>
      gd (decide (F.2.1 b2 = (18, 0))) <|
      if 4 ≤ (h b2 1) then
        pX3_param_108 N R F 0 h g
      else
        pX3_param_108 N R F 1 h g
    else
      ob1 (F.2.2 5 3) fun (b3 : Nat) =>
      gd (decide (F.2.1 b3 = (18, 0))) <|
      ob1 (F.2.2 b3 4) fun (b4 : Nat) =>
      gd (decide ((F.2.1 b4).1 = 0)) <|
      bnd ((F.2.1 b4).2) fun (m5 : Nat) =>
      gd (vin x1 m5) <|
      obi (ppX2_token N R F h g) fun (y6 : Int32) (h7 : HI) (g8 : HL) =>
      obi (ppX2_same N R F (h b4 (ix x1)) y6 h7 g8) fun (y9 : Int32) (h10 : HI) (g11 : HL) =>
      if y9 = 0 then
        pX3_param_71 N R (pX3_param_25 N R n) F x1 1 h10 g11
      else
        pX3_param_71 N R (pX3_param_25 N R n) F x1 0 h10 g11
theorem lX3_param_25 {D : DE} {f N R : Nat} (hf : 9 + 1 * R ≤ f) {o9 : GQ Unit} : ∀ (n : Nat) (F : Frm) (_ : k_Fix F) (x1 : Int32) (h : HI) (g : HL), pX3_param_25 N R n F x1 h g = some o9 → V D mX3_param (f + 1) (gv (gqv o9) (gt o9)) 25 [(0, .ref (ad D 5)), (1, .int x1)] [] (F, h, g) := by
  intro n
  induction n with
  | zero => intro F hF x1 h g E; cases E
  | succ n hK25 =>
    intro F hF x1 h g E
    rw [pX3_param_25] at E
    refine bX3_param_25 (f := f) hF x1  ?_
    obtain ⟨b1, z0, E⟩ := ob1E E; refine ⟨b1, z0, ?_⟩
    obtain ⟨z0, E⟩ := gdE E; refine ⟨of_decide_eq_true z0, ?_⟩
    refine ⟨fun c0 => ?_, fun c0 => ?_⟩
    · replace E := iteT c0 E
      obtain ⟨b2, z0, E⟩ := ob1E E; refine ⟨b2, z0, ?_⟩
      obtain ⟨z0, E⟩ := gdE E; refine ⟨of_decide_eq_true z0, ?_⟩
      refine ⟨fun c0 => ?_, fun c0 => ?_⟩
      · replace E := iteT c0 E
        exact jX3_param_108 hf  _ hF _ _ _ E
      · replace E := iteF c0 E
        exact jX3_param_108 hf  _ hF _ _ _ E
    · replace E := iteF c0 E
      obtain ⟨b3, z0, E⟩ := ob1E E; refine ⟨b3, z0, ?_⟩
      obtain ⟨z0, E⟩ := gdE E; refine ⟨of_decide_eq_true z0, ?_⟩
      obtain ⟨b4, z0, E⟩ := ob1E E; refine ⟨b4, z0, ?_⟩
      obtain ⟨z0, E⟩ := gdE E; replace E := bndE rfl E; refine ⟨_, shE (of_decide_eq_true z0), ?_⟩
      obtain ⟨z0, E⟩ := gdE E; refine ⟨vinE z0, ?_⟩
      obtain ⟨y6, h7, g8, e0, E⟩ := obiE E
      refine Si.mono (sX2_token (N := N) (R := R) hF (by omega) e0) (fun y8 h8 g8 hq => ?_)
      obtain ⟨rfl, rfl, rfl⟩ := hq
      obtain ⟨y9, h10, g11, e0, E⟩ := obiE E
      refine Si.mono (sX2_same (N := N) (R := R) hF (by omega) e0) (fun y8 h8 g8 hq => ?_)
      obtain ⟨rfl, rfl, rfl⟩ := hq
      refine ⟨fun c0 => ?_, fun c0 => ?_⟩
      · replace E := iteF c0 E
        exact jX3_param_71 hf hK25 _ hF _ _ _ _ E
      · replace E := iteT c0 E
        exact jX3_param_71 hf hK25 _ hF _ _ _ _ E
def pX3_param_20 (N R : Nat) (F : Frm) (s1 : Int32) (h : HI) (g : HL) : GO Unit :=
  ogv (ppX2_stands N R F s1 h g) fun (F3 : Frm) (h1 : HI) (g2 : HL) =>
  pX3_param_25 N R N F3 0 h1 g2
theorem jX3_param_20 {D : DE} {f N R : Nat} (hf : 9 + 1 * R ≤ f) {o9 : GQ Unit} : ∀ (F : Frm) (_ : k_Fix F) (s1 : Int32) (h : HI) (g : HL), pX3_param_20 N R F s1 h g = some o9 → JX3_param_20 D f (gqv o9) (gt o9) F h g s1 := by
  intro F hF s1 h g E
  unfold pX3_param_20 at E
  refine Gv.ob (fun o1 e0 => (sX2_stands (N := N) (R := R) hF (by omega) e0)) E (fun F3 h1 g2 hF E => ?_) (fun _ _ _ _ e => e)
  exact lX3_param_25 hf  N _ hF _ _ _ E
def pX3_param_0 (N R : Nat) (F : Frm) (h : HI) (g : HL) : GO Unit :=
  if (h 1 5) = 3 then
    pX3_param_20 N R F 1 h g
  else
    pX3_param_20 N R F 0 h g
theorem jX3_param_0 {D : DE} {f N R : Nat} (hf : 9 + 1 * R ≤ f) {o9 : GQ Unit} : ∀ (F : Frm) (_ : k_Fix F) (h : HI) (g : HL), pX3_param_0 N R F h g = some o9 → JX3_param_0 D f (gqv o9) (gt o9) F h g := by
  intro F hF h g E
  unfold pX3_param_0 at E
  refine ⟨fun c0 => ?_, fun c0 => ?_⟩
  · replace E := iteF c0 E
    exact jX3_param_20 hf  _ hF _ _ _ E
  · replace E := iteT c0 E
    exact jX3_param_20 hf  _ hF _ _ _ E
abbrev ppX3_param (N R : Nat) (F : Frm) (h : HI) (g : HL) : GO Unit := pX3_param_0 N R F h g
theorem sX3_param {D : DE} {f N R : Nat} {F : Frm} (hF : k_Fix F) (hf : 10 + 1 * R ≤ f) {o9 : GQ Unit} {h : HI} {g : HL} (E : ppX3_param N R F h g = some o9) : Gv D f mX3_param [.ref (ad D 5)] F h g (gqv o9) (gt o9) := by
  obtain ⟨f, rfl⟩ : ∃ f0, f = f0 + 1 := ⟨f - 1, by omega⟩
  have hf : 9 + 1 * R ≤ f := by omega
  exact wX3_param (f := f) hF (jX3_param_0 hf _ hF _ _ E)
def pX9_init_0 (N R : Nat) (F : Frm) (x0 : Nat) (h : HI) (g : HL) : GO Unit :=
  gd (decide (160 ≤ F.1.1)) <|
  bnd (fnw F (0, 16) 16) fun (F1 : Frm) =>
  bnd (up1 h F.1.1 (fun _ => 0)) fun (h2 : HI) =>
  bnd (up1 g F.1.1 (fun _ => 0)) fun (g3 : HL) =>
  gd (decide (F1.2.1 x0 = (18, 0))) <|
  bnd (fwr F1 x0 4 (some F.1.1)) fun (F4 : Frm) =>
  gd (decide (160 ≤ x0)) <|
  gd (decide (160 ≤ F4.1.1)) <|
  bnd (fnw F4 (0, 16) 16) fun (F5 : Frm) =>
  bnd (up1 h2 F4.1.1 (fun _ => 0)) fun (h6 : HI) =>
  bnd (up1 g3 F4.1.1 (fun _ => 0)) fun (g7 : HL) =>
  gd (decide (F5.2.1 x0 = (18, 0))) <|
  bnd (fwr F5 x0 5 (some F4.1.1)) fun (F8 : Frm) =>
  gd (decide (160 ≤ x0)) <|
  gd (decide (160 ≤ F8.1.1)) <|
  bnd (fnw F8 (2, 26) 26) fun (F9 : Frm) =>
  bnd (up1 h6 F8.1.1 (fun _ => 0)) fun (h10 : HI) =>
  bnd (up1 g7 F8.1.1 (fun _ => 0)) fun (g11 : HL) =>
  gd (decide (F9.2.1 x0 = (18, 0))) <|
  bnd (fwr F9 x0 7 (some F8.1.1)) fun (F12 : Frm) =>
  gd (decide (160 ≤ x0)) <|
  gd (decide (160 ≤ F12.1.1)) <|
  bnd (fnw F12 (0, 104) 104) fun (F13 : Frm) =>
  bnd (up1 h10 F12.1.1 (fun _ => 0)) fun (h14 : HI) =>
  bnd (up1 g11 F12.1.1 (fun _ => 0)) fun (g15 : HL) =>
  gd (decide (F13.2.1 x0 = (18, 0))) <|
  bnd (fwr F13 x0 8 (some F12.1.1)) fun (F16 : Frm) =>
  gd (decide (160 ≤ x0)) <|
  some (.inl ((), F16, h14, g15))
theorem jX9_init_0 {D : DE} {f N R : Nat} (hf : 0 ≤ f) {o9 : GQ Unit} : ∀ (F : Frm) (_ : k_Fix F) (x0 : Nat) (h : HI) (g : HL), pX9_init_0 N R F x0 h g = some o9 → JX9_init_0 D f (gqv o9) (gt o9) F h g x0 := by
  intro F hF x0 h g E
  unfold pX9_init_0 at E
  obtain ⟨z0, E⟩ := gdE E; refine ⟨of_decide_eq_true z0, ?_⟩; intro F1 h2 g3 e1 e2 e3; replace E := bndE e1 E; replace E := bndE e2 E; replace E := bndE e3 E
  replace hF : k_Fix F1 := by rw [e1]; exact k_Fix.new hF (of_decide_eq_true z0) _ _
  obtain ⟨z0, E⟩ := gdE E; refine ⟨of_decide_eq_true z0, ?_⟩
  intro F4 e0; replace E := bndE e0 E
  obtain ⟨z0, E⟩ := gdE E; refine ⟨of_decide_eq_true z0, ?_⟩
  replace hF : k_Fix F4 := by rw [e0]; exact k_Fix.wr hF (fx_okD (of_decide_eq_true z0)) _
  obtain ⟨z0, E⟩ := gdE E; refine ⟨of_decide_eq_true z0, ?_⟩; intro F5 h6 g7 e1 e2 e3; replace E := bndE e1 E; replace E := bndE e2 E; replace E := bndE e3 E
  replace hF : k_Fix F5 := by rw [e1]; exact k_Fix.new hF (of_decide_eq_true z0) _ _
  obtain ⟨z0, E⟩ := gdE E; refine ⟨of_decide_eq_true z0, ?_⟩
  intro F8 e0; replace E := bndE e0 E
  obtain ⟨z0, E⟩ := gdE E; refine ⟨of_decide_eq_true z0, ?_⟩
  replace hF : k_Fix F8 := by rw [e0]; exact k_Fix.wr hF (fx_okD (of_decide_eq_true z0)) _
  obtain ⟨z0, E⟩ := gdE E; refine ⟨of_decide_eq_true z0, ?_⟩; intro F9 h10 g11 e1 e2 e3; replace E := bndE e1 E; replace E := bndE e2 E; replace E := bndE e3 E
  replace hF : k_Fix F9 := by rw [e1]; exact k_Fix.new hF (of_decide_eq_true z0) _ _
  obtain ⟨z0, E⟩ := gdE E; refine ⟨of_decide_eq_true z0, ?_⟩
  intro F12 e0; replace E := bndE e0 E
  obtain ⟨z0, E⟩ := gdE E; refine ⟨of_decide_eq_true z0, ?_⟩
  replace hF : k_Fix F12 := by rw [e0]; exact k_Fix.wr hF (fx_okD (of_decide_eq_true z0)) _
  obtain ⟨z0, E⟩ := gdE E; refine ⟨of_decide_eq_true z0, ?_⟩; intro F13 h14 g15 e1 e2 e3; replace E := bndE e1 E; replace E := bndE e2 E; replace E := bndE e3 E
  replace hF : k_Fix F13 := by rw [e1]; exact k_Fix.new hF (of_decide_eq_true z0) _ _
  obtain ⟨z0, E⟩ := gdE E; refine ⟨of_decide_eq_true z0, ?_⟩
  intro F16 e0; replace E := bndE e0 E
  obtain ⟨z0, E⟩ := gdE E; refine ⟨of_decide_eq_true z0, ?_⟩
  replace hF : k_Fix F16 := by rw [e0]; exact k_Fix.wr hF (fx_okD (of_decide_eq_true z0)) _
  exact (Option.some.inj E).symm
abbrev ppX9_init (N R : Nat) (F : Frm) (x0 : Nat) (h : HI) (g : HL) : GO Unit := pX9_init_0 N R F x0 h g
theorem sX9_init {D : DE} {f N R : Nat} {F : Frm} (hF : k_Fix F) (hf : 1 ≤ f) {o9 : GQ Unit} {x0 : Nat} {h : HI} {g : HL} (E : ppX9_init N R F x0 h g = some o9) : Gv D f mX9_init [.ref (ad D x0)] F h g (gqv o9) (gt o9) := by
  obtain ⟨f, rfl⟩ : ∃ f0, f = f0 + 1 := ⟨f - 1, by omega⟩
  have hf : 0 ≤ f := by omega
  exact wX9_init (f := f) hF _ (jX9_init_0 hf _ hF _ _ _ E)
def pX3_function_209 (N R : Nat) (F : Frm) (h : HI) (g : HL) : GO Unit :=
  ogv (ppX2_sign N R F 1 h g) fun (F3 : Frm) (h1 : HI) (g2 : HL) =>
  ogv (ppX2_sign N R F3 4 h1 g2) fun (F6 : Frm) (h4 : HI) (g5 : HL) =>
  ob1 (F6.2.2 5 3) fun (b7 : Nat) =>
  ogi (ppX3_type N R F6 0 h4 g5) fun (y8 : Int32) (F11 : Frm) (h9 : HI) (g10 : HL) =>
  gd (decide (F11.2.1 b7 = (18, 0))) <|
  bnd (up2 h9 b7 3 y8) fun (h12 : HI) =>
  ogv (ppX2_sign N R F11 5 h12 g10) fun (F15 : Frm) (h13 : HI) (g14 : HL) =>
  bnd (up2 h13 5 4 0) fun (h16 : HI) =>
  ob1 (F15.2.2 5 3) fun (b17 : Nat) =>
  ogr (ppX3_expression N R F15 h16 g14) fun (b18 : Nat) (F21 : Frm) (h19 : HI) (g20 : HL) =>
  gd (decide (F21.2.1 b17 = (18, 0))) <|
  bnd (fwr F21 b17 6 (some b18)) fun (F22 : Frm) =>
  gd (decide (160 ≤ b17)) <|
  ogv (ppX2_sign N R F22 3 h19 g20) fun (F25 : Frm) (h23 : HI) (g24 : HL) =>
  some (.inl ((), F25, h23, g24))
theorem jX3_function_209 {D : DE} {f N R : Nat} (hf : 10 + 2 * R ≤ f) {o9 : GQ Unit} : ∀ (F : Frm) (_ : k_Fix F) (h : HI) (g : HL), pX3_function_209 N R F h g = some o9 → JX3_function_209 D f (gqv o9) (gt o9) F h g := by
  intro F hF h g E
  unfold pX3_function_209 at E
  refine Gv.ob (fun o1 e0 => (sX2_sign (N := N) (R := R) hF (by omega) e0)) E (fun F3 h1 g2 hF E => ?_) (fun _ _ _ _ e => e)
  refine Gv.ob (fun o1 e0 => (sX2_sign (N := N) (R := R) hF (by omega) e0)) E (fun F6 h4 g5 hF E => ?_) (fun _ _ _ _ e => e)
  obtain ⟨b7, z0, E⟩ := ob1E E; refine ⟨b7, z0, ?_⟩
  refine Gi.ob (fun o1 e0 => (sX3_type (N := N) (R := R) hF (by omega) e0)) E (fun y8 F11 h9 g10 hF E => ?_) (fun _ _ _ _ e => e)
  obtain ⟨z0, E⟩ := gdE E; refine ⟨of_decide_eq_true z0, ?_⟩
  intro h12 e0; replace E := bndE e0 E
  refine Gv.ob (fun o1 e0 => (sX2_sign (N := N) (R := R) hF (by omega) e0)) E (fun F15 h13 g14 hF E => ?_) (fun _ _ _ _ e => e)
  intro h16 e0; replace E := bndE e0 E
  obtain ⟨b17, z0, E⟩ := ob1E E; refine ⟨b17, z0, ?_⟩
  refine Gr.ob (fun o1 e0 => (sX3_expression (N := N) (R := R) hF (by omega) e0)) E (fun b18 F21 h19 g20 hF E => ?_) (fun _ _ _ _ e => e)
  obtain ⟨z0, E⟩ := gdE E; refine ⟨of_decide_eq_true z0, ?_⟩
  intro F22 e0; replace E := bndE e0 E
  obtain ⟨z0, E⟩ := gdE E; refine ⟨of_decide_eq_true z0, ?_⟩
  replace hF : k_Fix F22 := by rw [e0]; exact k_Fix.wr hF (fx_okD (of_decide_eq_true z0)) _
  refine Gv.ob (fun o1 e0 => (sX2_sign (N := N) (R := R) hF (by omega) e0)) E (fun F25 h23 g24 hF E => ?_) (fun _ _ _ _ e => e)
  exact (Option.some.inj E).symm
def pX3_function_183 (N R : Nat) : Nat → Frm → HI → HL → GO Unit
  | 0, _, _, _ => none
  | n + 1, F, h, g =>
    obi (ppX2_isSign N R F 2 h g) fun (y1 : Int32) (h2 : HI) (g3 : HL) =>
    if y1 = 0 then
      pX3_function_209 N R F h2 g3
    else
      ogv (ppX2_sign N R F 2 h2 g3) fun (F6 : Frm) (h4 : HI) (g5 : HL) =>
      ogv (ppX3_param N R F6 h4 g5) fun (F9 : Frm) (h7 : HI) (g8 : HL) =>
      (pX3_function_183 N R n) F9 h7 g8
theorem lX3_function_183 {D : DE} {f N R : Nat} (hf : 10 + 2 * R ≤ f) {o9 : GQ Unit} : ∀ (n : Nat) (F : Frm) (_ : k_Fix F) (h : HI) (g : HL), pX3_function_183 N R n F h g = some o9 → V D mX3_function (f + 1) (gv (gqv o9) (gt o9)) 183 [(0, .ref (ad D 5))] [] (F, h, g) := by
  intro n
  induction n with
  | zero => intro F hF h g E; cases E
  | succ n hK183 =>
    intro F hF h g E
    rw [pX3_function_183] at E
    refine bX3_function_183 (f := f) hF  ?_
    obtain ⟨y1, h2, g3, e0, E⟩ := obiE E
    refine Si.mono (sX2_isSign (N := N) (R := R) hF (by omega) e0) (fun y8 h8 g8 hq => ?_)
    obtain ⟨rfl, rfl, rfl⟩ := hq
    refine ⟨fun c0 => ?_, fun c0 => ?_⟩
    · replace E := iteT c0 E
      exact jX3_function_209 hf  _ hF _ _ E
    · replace E := iteF c0 E
      refine Gv.ob (fun o1 e0 => (sX2_sign (N := N) (R := R) hF (by omega) e0)) E (fun F6 h4 g5 hF E => ?_) (fun _ _ _ _ e => e)
      refine Gv.ob (fun o1 e0 => (sX3_param (N := N) (R := R) hF (by omega) e0)) E (fun F9 h7 g8 hF E => ?_) (fun _ _ _ _ e => e)
      exact hK183 _ hF _ _ E
def pX3_function_103 (N R : Nat) (F : Frm) (s1 : Int32) (h : HI) (g : HL) : GO Unit :=
  ogv (ppX2_want N R F s1 6 (h 1 8) h g) fun (F3 : Frm) (h1 : HI) (g2 : HL) =>
  gd (decide (160 ≤ F3.1.1)) <|
  bnd (fnw F3 (18, 0) 9) fun (F4 : Frm) =>
  bnd (up1 h1 F3.1.1 (fun _ => 0)) fun (h5 : HI) =>
  bnd (up1 g2 F3.1.1 (fun _ => 0)) fun (g6 : HL) =>
  ogv (ppX9_init N R F4 F3.1.1 h5 g6) fun (F9 : Frm) (h7 : HI) (g8 : HL) =>
  bnd (fwr F9 5 3 (some F3.1.1)) fun (F10 : Frm) =>
  ob1 (F10.2.2 5 3) fun (b11 : Nat) =>
  ogi (ppX3_name N R F10 h7 g8) fun (y12 : Int32) (F15 : Frm) (h13 : HI) (g14 : HL) =>
  gd (decide (F15.2.1 b11 = (18, 0))) <|
  bnd (up2 h13 b11 0 y12) fun (h16 : HI) =>
  ob1 (F15.2.2 5 3) fun (b17 : Nat) =>
  gd (vin (h16 5 2) 12) <|
  gd (decide (F15.2.1 b17 = (18, 0))) <|
  bnd (fwr F15 6 (ix (h16 5 2)) (some b17)) fun (F18 : Frm) =>
  bnd (up2 h16 5 2 ((h16 5 2) + 1)) fun (h19 : HI) =>
  ogv (ppX2_sign N R F18 0 h19 g14) fun (F22 : Frm) (h20 : HI) (g21 : HL) =>
  obi (ppX2_isSign N R F22 1 h20 g21) fun (y23 : Int32) (h24 : HI) (g25 : HL) =>
  if y23 = 0 then
    ogv (ppX3_param N R F22 h24 g25) fun (F28 : Frm) (h26 : HI) (g27 : HL) =>
    pX3_function_183 N R N F28 h26 g27
  else
    pX3_function_209 N R F22 h24 g25
theorem jX3_function_103 {D : DE} {f N R : Nat} (hf : 10 + 2 * R ≤ f) {o9 : GQ Unit} : ∀ (F : Frm) (_ : k_Fix F) (s1 : Int32) (h : HI) (g : HL), pX3_function_103 N R F s1 h g = some o9 → JX3_function_103 D f (gqv o9) (gt o9) F h g s1 := by
  intro F hF s1 h g E
  unfold pX3_function_103 at E
  refine Gv.ob (fun o1 e0 => (sX2_want (N := N) (R := R) hF (by omega) e0)) E (fun F3 h1 g2 hF E => ?_) (fun _ _ _ _ e => e)
  obtain ⟨z0, E⟩ := gdE E; refine ⟨of_decide_eq_true z0, ?_⟩; intro F4 h5 g6 e1 e2 e3; replace E := bndE e1 E; replace E := bndE e2 E; replace E := bndE e3 E
  replace hF : k_Fix F4 := by rw [e1]; exact k_Fix.new hF (of_decide_eq_true z0) _ _
  refine Gv.ob (fun o1 e0 => (sX9_init (N := N) (R := R) hF (by omega) e0)) E (fun F9 h7 g8 hF E => ?_) (fun _ _ _ _ e => e)
  intro F10 e0; replace E := bndE e0 E
  replace hF : k_Fix F10 := by rw [e0]; exact k_Fix.wr hF (by decide +kernel) _
  obtain ⟨b11, z0, E⟩ := ob1E E; refine ⟨b11, z0, ?_⟩
  refine Gi.ob (fun o1 e0 => (sX3_name (N := N) (R := R) hF (by omega) e0)) E (fun y12 F15 h13 g14 hF E => ?_) (fun _ _ _ _ e => e)
  obtain ⟨z0, E⟩ := gdE E; refine ⟨of_decide_eq_true z0, ?_⟩
  intro h16 e0; replace E := bndE e0 E
  obtain ⟨b17, z0, E⟩ := ob1E E; refine ⟨b17, z0, ?_⟩
  obtain ⟨z0, E⟩ := gdE E; refine ⟨vinE z0, ?_⟩
  obtain ⟨z0, E⟩ := gdE E; refine ⟨of_decide_eq_true z0, ?_⟩
  intro F18 e0; replace E := bndE e0 E
  replace hF : k_Fix F18 := by rw [e0]; exact k_Fix.wr hF (fx_okA (by decide +kernel)) _
  intro h19 e0; replace E := bndE e0 E
  refine Gv.ob (fun o1 e0 => (sX2_sign (N := N) (R := R) hF (by omega) e0)) E (fun F22 h20 g21 hF E => ?_) (fun _ _ _ _ e => e)
  obtain ⟨y23, h24, g25, e0, E⟩ := obiE E
  refine Si.mono (sX2_isSign (N := N) (R := R) hF (by omega) e0) (fun y8 h8 g8 hq => ?_)
  obtain ⟨rfl, rfl, rfl⟩ := hq
  refine ⟨fun c0 => ?_, fun c0 => ?_⟩
  · replace E := iteF c0 E
    exact jX3_function_209 hf  _ hF _ _ E
  · replace E := iteT c0 E
    refine Gv.ob (fun o1 e0 => (sX3_param (N := N) (R := R) hF (by omega) e0)) E (fun F28 h26 g27 hF E => ?_) (fun _ _ _ _ e => e)
    exact lX3_function_183 hf  N _ hF _ _ E
def pX3_function_68 (N R : Nat) (K25 : Frm → Int32 → HI → HL → GO Unit) (F : Frm) (x1 : Int32) (s1 : Int32) (h : HI) (g : HL) : GO Unit :=
  ogv (ppX2_want N R F s1 3 (h 1 8) h g) fun (F3 : Frm) (h1 : HI) (g2 : HL) =>
  bnd (x1 + 1) fun (y4 : Int32) =>
  K25 F3 y4 h1 g2
theorem jX3_function_68 {D : DE} {f N R : Nat} (hf : 10 + 2 * R ≤ f) {K25 : Frm → Int32 → HI → HL → GO Unit} {o9 : GQ Unit} (hK25 : ∀ (F : Frm) (_ : k_Fix F) (x1 : Int32) (h : HI) (g : HL), K25 F x1 h g = some o9 → V D mX3_function (f + 1) (gv (gqv o9) (gt o9)) 25 [(0, .ref (ad D 5)), (1, .int x1)] [] (F, h, g)) : ∀ (F : Frm) (_ : k_Fix F) (x1 : Int32) (s1 : Int32) (h : HI) (g : HL), pX3_function_68 N R K25 F x1 s1 h g = some o9 → JX3_function_68 D f (gqv o9) (gt o9) F h g x1 s1 := by
  intro F hF x1 s1 h g E
  unfold pX3_function_68 at E
  refine Gv.ob (fun o1 e0 => (sX2_want (N := N) (R := R) hF (by omega) e0)) E (fun F3 h1 g2 hF E => ?_) (fun _ _ _ _ e => e)
  intro y4 e0; replace E := bndE e0 E
  exact hK25 _ hF _ _ _ E
def pX3_function_25 (N R : Nat) : Nat → Frm → Int32 → HI → HL → GO Unit
  | 0, _, _, _, _ => none
  | n + 1, F, x1, h, g =>
    if (h 5 2) ≤ x1 then
      if 12 ≤ (h 5 2) then
        pX3_function_103 N R F 0 h g
      else
        pX3_function_103 N R F 1 h g
    else
      gd (vin x1 12) <|
      ob1 (F.2.2 6 (ix x1)) fun (b1 : Nat) =>
      gd (decide (F.2.1 b1 = (18, 0))) <|
      obi (ppX2_token N R F h g) fun (y2 : Int32) (h3 : HI) (g4 : HL) =>
      obi (ppX2_same N R F (h b1 0) y2 h3 g4) fun (y5 : Int32) (h6 : HI) (g7 : HL) =>
      if y5 = 0 then
        pX3_function_68 N R (pX3_function_25 N R n) F x1 1 h6 g7
      else
        pX3_function_68 N R (pX3_function_25 N R n) F x1 0 h6 g7
theorem lX3_function_25 {D : DE} {f N R : Nat} (hf : 10 + 2 * R ≤ f) {o9 : GQ Unit} : ∀ (n : Nat) (F : Frm) (_ : k_Fix F) (x1 : Int32) (h : HI) (g : HL), pX3_function_25 N R n F x1 h g = some o9 → V D mX3_function (f + 1) (gv (gqv o9) (gt o9)) 25 [(0, .ref (ad D 5)), (1, .int x1)] [] (F, h, g) := by
  intro n
  induction n with
  | zero => intro F hF x1 h g E; cases E
  | succ n hK25 =>
    intro F hF x1 h g E
    rw [pX3_function_25] at E
    refine bX3_function_25 (f := f) hF x1  ?_
    refine ⟨fun c0 => ?_, fun c0 => ?_⟩
    · replace E := iteT c0 E
      refine ⟨fun c0 => ?_, fun c0 => ?_⟩
      · replace E := iteT c0 E
        exact jX3_function_103 hf  _ hF _ _ _ E
      · replace E := iteF c0 E
        exact jX3_function_103 hf  _ hF _ _ _ E
    · replace E := iteF c0 E
      obtain ⟨z0, E⟩ := gdE E; refine ⟨vinE z0, ?_⟩
      obtain ⟨b1, z0, E⟩ := ob1E E; refine ⟨b1, z0, ?_⟩
      obtain ⟨z0, E⟩ := gdE E; refine ⟨of_decide_eq_true z0, ?_⟩
      obtain ⟨y2, h3, g4, e0, E⟩ := obiE E
      refine Si.mono (sX2_token (N := N) (R := R) hF (by omega) e0) (fun y8 h8 g8 hq => ?_)
      obtain ⟨rfl, rfl, rfl⟩ := hq
      obtain ⟨y5, h6, g7, e0, E⟩ := obiE E
      refine Si.mono (sX2_same (N := N) (R := R) hF (by omega) e0) (fun y8 h8 g8 hq => ?_)
      obtain ⟨rfl, rfl, rfl⟩ := hq
      refine ⟨fun c0 => ?_, fun c0 => ?_⟩
      · replace E := iteF c0 E
        exact jX3_function_68 hf hK25 _ hF _ _ _ _ E
      · replace E := iteT c0 E
        exact jX3_function_68 hf hK25 _ hF _ _ _ _ E
def pX3_function_20 (N R : Nat) (F : Frm) (s1 : Int32) (h : HI) (g : HL) : GO Unit :=
  ogv (ppX2_stands N R F s1 h g) fun (F3 : Frm) (h1 : HI) (g2 : HL) =>
  pX3_function_25 N R N F3 0 h1 g2
theorem jX3_function_20 {D : DE} {f N R : Nat} (hf : 10 + 2 * R ≤ f) {o9 : GQ Unit} : ∀ (F : Frm) (_ : k_Fix F) (s1 : Int32) (h : HI) (g : HL), pX3_function_20 N R F s1 h g = some o9 → JX3_function_20 D f (gqv o9) (gt o9) F h g s1 := by
  intro F hF s1 h g E
  unfold pX3_function_20 at E
  refine Gv.ob (fun o1 e0 => (sX2_stands (N := N) (R := R) hF (by omega) e0)) E (fun F3 h1 g2 hF E => ?_) (fun _ _ _ _ e => e)
  exact lX3_function_25 hf  N _ hF _ _ _ E
def pX3_function_0 (N R : Nat) (F : Frm) (h : HI) (g : HL) : GO Unit :=
  if (h 1 5) = 3 then
    pX3_function_20 N R F 1 h g
  else
    pX3_function_20 N R F 0 h g
theorem jX3_function_0 {D : DE} {f N R : Nat} (hf : 10 + 2 * R ≤ f) {o9 : GQ Unit} : ∀ (F : Frm) (_ : k_Fix F) (h : HI) (g : HL), pX3_function_0 N R F h g = some o9 → JX3_function_0 D f (gqv o9) (gt o9) F h g := by
  intro F hF h g E
  unfold pX3_function_0 at E
  refine ⟨fun c0 => ?_, fun c0 => ?_⟩
  · replace E := iteF c0 E
    exact jX3_function_20 hf  _ hF _ _ _ E
  · replace E := iteT c0 E
    exact jX3_function_20 hf  _ hF _ _ _ E
abbrev ppX3_function (N R : Nat) (F : Frm) (h : HI) (g : HL) : GO Unit := pX3_function_0 N R F h g
theorem sX3_function {D : DE} {f N R : Nat} {F : Frm} (hF : k_Fix F) (hf : 11 + 2 * R ≤ f) {o9 : GQ Unit} {h : HI} {g : HL} (E : ppX3_function N R F h g = some o9) : Gv D f mX3_function [.ref (ad D 5)] F h g (gqv o9) (gt o9) := by
  obtain ⟨f, rfl⟩ : ∃ f0, f = f0 + 1 := ⟨f - 1, by omega⟩
  have hf : 10 + 2 * R ≤ f := by omega
  exact wX3_function (f := f) hF (jX3_function_0 hf _ hF _ _ E)
def pX3_program_12 (N R : Nat) : Nat → Frm → HI → HL → GO Unit
  | 0, _, _, _ => none
  | n + 1, F, h, g =>
    ogv (ppX3_function N R F h g) fun (F3 : Frm) (h1 : HI) (g2 : HL) =>
    if (h1 1 5) = 1 then
      some (.inl ((), F3, h1, g2))
    else
      (pX3_program_12 N R n) F3 h1 g2
theorem lX3_program_12 {D : DE} {f N R : Nat} (hf : 11 + 2 * R ≤ f) {o9 : GQ Unit} : ∀ (n : Nat) (F : Frm) (_ : k_Fix F) (h : HI) (g : HL), pX3_program_12 N R n F h g = some o9 → V D mX3_program (f + 1) (gv (gqv o9) (gt o9)) 12 [(0, .ref (ad D 5))] [] (F, h, g) := by
  intro n
  induction n with
  | zero => intro F hF h g E; cases E
  | succ n hK12 =>
    intro F hF h g E
    rw [pX3_program_12] at E
    refine bX3_program_12 (f := f) hF  ?_
    refine Gv.ob (fun o1 e0 => (sX3_function (N := N) (R := R) hF (by omega) e0)) E (fun F3 h1 g2 hF E => ?_) (fun _ _ _ _ e => e)
    refine ⟨fun c0 => ?_, fun c0 => ?_⟩
    · replace E := iteF c0 E
      exact hK12 _ hF _ _ E
    · replace E := iteT c0 E
      exact (Option.some.inj E).symm
def pX3_program_0 (N R : Nat) (F : Frm) (h : HI) (g : HL) : GO Unit :=
  bnd (up2 h 5 2 0) fun (h1 : HI) =>
  obv (ppX2_begin N R F h1 g) fun (h2 : HI) (g3 : HL) =>
  pX3_program_12 N R N F h2 g3
theorem jX3_program_0 {D : DE} {f N R : Nat} (hf : 11 + 2 * R ≤ f) {o9 : GQ Unit} : ∀ (F : Frm) (_ : k_Fix F) (h : HI) (g : HL), pX3_program_0 N R F h g = some o9 → JX3_program_0 D f (gqv o9) (gt o9) F h g := by
  intro F hF h g E
  unfold pX3_program_0 at E
  intro h1 e0; replace E := bndE e0 E
  obtain ⟨h2, g3, e0, E⟩ := obvE E
  refine Sv.mono (sX2_begin (N := N) (R := R) hF (by omega) e0) (fun h8 g8 hq => ?_)
  obtain ⟨rfl, rfl⟩ := hq
  exact lX3_program_12 hf  N _ hF _ _ E
abbrev ppX3_program (N R : Nat) (F : Frm) (h : HI) (g : HL) : GO Unit := pX3_program_0 N R F h g
theorem sX3_program {D : DE} {f N R : Nat} {F : Frm} (hF : k_Fix F) (hf : 12 + 2 * R ≤ f) {o9 : GQ Unit} {h : HI} {g : HL} (E : ppX3_program N R F h g = some o9) : Gv D f mX3_program [.ref (ad D 5)] F h g (gqv o9) (gt o9) := by
  obtain ⟨f, rfl⟩ : ∃ f0, f = f0 + 1 := ⟨f - 1, by omega⟩
  have hf : 11 + 2 * R ≤ f := by omega
  exact wX3_program (f := f) hF (jX3_program_0 hf _ hF _ _ E)
def pX4_all_29 (N R : Nat) (K7 : Frm → Int32 → Int32 → HI → HL → GO Unit) : Nat → Frm → Int32 → Int32 → Int32 → HI → HL → GO Unit
  | 0, _, _, _, _, _, _ => none
  | n + 1, F, x1, x2, x3, h, g =>
    ob1 (F.2.2 7 3) fun (b1 : Nat) =>
    gd (decide (F.2.1 b1 = (18, 0))) <|
    if (h b1 1) ≤ x3 then
      ob1 (F.2.2 7 3) fun (b2 : Nat) =>
      gd (decide (F.2.1 b2 = (18, 0))) <|
      ob1 (F.2.2 b2 6) fun (b3 : Nat) =>
      ob1 (F.2.2 7 3) fun (b4 : Nat) =>
      gd (decide (F.2.1 b4 = (18, 0))) <|
      ogi (ppX4_judge N R F b3 (h b4 3) h g) fun (y5 : Int32) (F8 : Frm) (h6 : HI) (g7 : HL) =>
      bnd (x2 + 1) fun (y9 : Int32) =>
      K7 F8 x1 y9 h6 g7
    else
      obv (ppX4_open N R F x3 h g) fun (h10 : HI) (g11 : HL) =>
      bnd (x3 + 1) fun (y12 : Int32) =>
      (pX4_all_29 N R K7 n) F x1 x2 y12 h10 g11
theorem lX4_all_29 {D : DE} {f N R : Nat} (hf : 9 + 1 * R ≤ f) {K7 : Frm → Int32 → Int32 → HI → HL → GO Unit} {o9 : GQ Unit} (hK7 : ∀ (F : Frm) (_ : k_Fix F) (x1 : Int32) (x2 : Int32) (h : HI) (g : HL), K7 F x1 x2 h g = some o9 → V D mX4_all (f + 1) (gv (gqv o9) (gt o9)) 7 [(0, .ref (ad D 7)), (1, .int x1), (2, .int x2)] [] (F, h, g)) : ∀ (n : Nat) (F : Frm) (_ : k_Fix F) (x1 : Int32) (x2 : Int32) (x3 : Int32) (h : HI) (g : HL), pX4_all_29 N R K7 n F x1 x2 x3 h g = some o9 → V D mX4_all (f + 1) (gv (gqv o9) (gt o9)) 29 [(0, .ref (ad D 7)), (1, .int x1), (2, .int x2), (3, .int x3)] [] (F, h, g) := by
  intro n
  induction n with
  | zero => intro F hF x1 x2 x3 h g E; cases E
  | succ n hK29 =>
    intro F hF x1 x2 x3 h g E
    rw [pX4_all_29] at E
    refine bX4_all_29 (f := f) hF x1 x2 x3  ?_
    obtain ⟨b1, z0, E⟩ := ob1E E; refine ⟨b1, z0, ?_⟩
    obtain ⟨z0, E⟩ := gdE E; refine ⟨of_decide_eq_true z0, ?_⟩
    refine ⟨fun c0 => ?_, fun c0 => ?_⟩
    · replace E := iteT c0 E
      obtain ⟨b2, z0, E⟩ := ob1E E; refine ⟨b2, z0, ?_⟩
      obtain ⟨z0, E⟩ := gdE E; refine ⟨of_decide_eq_true z0, ?_⟩
      obtain ⟨b3, z0, E⟩ := ob1E E; refine ⟨b3, z0, ?_⟩
      obtain ⟨b4, z0, E⟩ := ob1E E; refine ⟨b4, z0, ?_⟩
      obtain ⟨z0, E⟩ := gdE E; refine ⟨of_decide_eq_true z0, ?_⟩
      refine Gi.ob (fun o1 e0 => (sX4_judge (N := N) (R := R) hF (by omega) e0)) E (fun y5 F8 h6 g7 hF E => ?_) (fun _ _ _ _ e => e)
      intro y9 e0; replace E := bndE e0 E
      exact hK7 _ hF _ _ _ _ E
    · replace E := iteF c0 E
      obtain ⟨h10, g11, e0, E⟩ := obvE E
      refine Sv.mono (sX4_open (N := N) (R := R) hF (by omega) e0) (fun h8 g8 hq => ?_)
      obtain ⟨rfl, rfl⟩ := hq
      intro y12 e0; replace E := bndE e0 E
      exact hK29 _ hF _ _ _ _ _ E
def pX4_all_7 (N R : Nat) : Nat → Frm → Int32 → Int32 → HI → HL → GO Unit
  | 0, _, _, _, _, _ => none
  | n + 1, F, x1, x2, h, g =>
    if x1 ≤ x2 then
      some (.inl ((), F, h, g))
    else
      gd (vin x2 12) <|
      ob1 (F.2.2 6 (ix x2)) fun (b1 : Nat) =>
      bnd (fwr F 7 3 (some b1)) fun (F2 : Frm) =>
      bnd (up2 h 7 5 0) fun (h3 : HI) =>
      pX4_all_29 N R (pX4_all_7 N R n) N F2 x1 x2 0 h3 g
theorem lX4_all_7 {D : DE} {f N R : Nat} (hf : 9 + 1 * R ≤ f) {o9 : GQ Unit} : ∀ (n : Nat) (F : Frm) (_ : k_Fix F) (x1 : Int32) (x2 : Int32) (h : HI) (g : HL), pX4_all_7 N R n F x1 x2 h g = some o9 → V D mX4_all (f + 1) (gv (gqv o9) (gt o9)) 7 [(0, .ref (ad D 7)), (1, .int x1), (2, .int x2)] [] (F, h, g) := by
  intro n
  induction n with
  | zero => intro F hF x1 x2 h g E; cases E
  | succ n hK7 =>
    intro F hF x1 x2 h g E
    rw [pX4_all_7] at E
    refine bX4_all_7 (f := f) hF x1 x2  ?_
    refine ⟨fun c0 => ?_, fun c0 => ?_⟩
    · replace E := iteT c0 E
      exact (Option.some.inj E).symm
    · replace E := iteF c0 E
      obtain ⟨z0, E⟩ := gdE E; refine ⟨vinE z0, ?_⟩
      obtain ⟨b1, z0, E⟩ := ob1E E; refine ⟨b1, z0, ?_⟩
      intro F2 e0; replace E := bndE e0 E
      replace hF : k_Fix F2 := by rw [e0]; exact k_Fix.wr hF (by decide +kernel) _
      intro h3 e0; replace E := bndE e0 E
      exact lX4_all_29 hf hK7 N _ hF _ _ _ _ _ E
def pX4_all_0 (N R : Nat) (F : Frm) (x1 : Int32) (h : HI) (g : HL) : GO Unit :=
  bnd (up2 h 7 2 x1) fun (h1 : HI) =>
  pX4_all_7 N R N F x1 0 h1 g
theorem jX4_all_0 {D : DE} {f N R : Nat} (hf : 9 + 1 * R ≤ f) {o9 : GQ Unit} : ∀ (F : Frm) (_ : k_Fix F) (x1 : Int32) (h : HI) (g : HL), pX4_all_0 N R F x1 h g = some o9 → JX4_all_0 D f (gqv o9) (gt o9) F h g x1 := by
  intro F hF x1 h g E
  unfold pX4_all_0 at E
  intro h1 e0; replace E := bndE e0 E
  exact lX4_all_7 hf  N _ hF _ _ _ _ E
abbrev ppX4_all (N R : Nat) (F : Frm) (x1 : Int32) (h : HI) (g : HL) : GO Unit := pX4_all_0 N R F x1 h g
theorem sX4_all {D : DE} {f N R : Nat} {F : Frm} (hF : k_Fix F) (hf : 10 + 1 * R ≤ f) {o9 : GQ Unit} {x1 : Int32} {h : HI} {g : HL} (E : ppX4_all N R F x1 h g = some o9) : Gv D f mX4_all [.ref (ad D 7), .int x1] F h g (gqv o9) (gt o9) := by
  obtain ⟨f, rfl⟩ : ∃ f0, f = f0 + 1 := ⟨f - 1, by omega⟩
  have hf : 9 + 1 * R ≤ f := by omega
  exact wX4_all (f := f) hF _ (jX4_all_0 hf _ hF _ _ _ E)
def pX1_reads_0 (N R : Nat) (F : Frm) (h : HI) (g : HL) : GO Int32 :=
  ohv (ppX3_program N R F h g) (fun e F1 h1 g1 =>
    if e = 0 then
      some (.inl (0, F1, h1, g1))
    else none) fun (F3 : Frm) (h1 : HI) (g2 : HL) =>
  ohv (ppX4_all N R F3 (h1 5 2) h1 g2) (fun e F1 h1 g1 =>
    if e = 0 then
      some (.inl (0, F1, h1, g1))
    else none) fun (F6 : Frm) (h4 : HI) (g5 : HL) =>
  some (.inl (1, F6, h4, g5))
theorem jX1_reads_0 {D : DE} {f N R : Nat} (hf : 12 + 2 * R ≤ f) {o9 : GQ Int32} : ∀ (F : Frm) (_ : k_Fix F) (h : HI) (g : HL), pX1_reads_0 N R F h g = some o9 → JX1_reads_0 D f (gqi o9) (gt o9) F h g := by
  intro F hF h g E
  unfold pX1_reads_0 at E
  refine Gv.oh (fun o1 e0 => (sX3_program (N := N) (R := R) hF (by omega) e0)) E (fun F3 h1 g2 hF E => ?_) (fun e F1 h1 g1 hF E => ?_)
  · skip
    refine Gv.oh (fun o1 e0 => (sX4_all (N := N) (R := R) hF (by omega) e0)) E (fun F6 h4 g5 hF E => ?_) (fun e F1 h1 g1 hF E => ?_)
    · skip
      exact (Option.some.inj E).symm
    · skip
      by_cases c0 : e = 0
      · replace E := iteT c0 E
        refine ⟨c0, ?_⟩
        exact (Option.some.inj E).symm
      replace E := iteF c0 E
      cases E
  · skip
    by_cases c0 : e = 0
    · replace E := iteT c0 E
      refine ⟨c0, ?_⟩
      exact (Option.some.inj E).symm
    replace E := iteF c0 E
    cases E
abbrev ppX1_reads (N R : Nat) (F : Frm) (h : HI) (g : HL) : GO Int32 := pX1_reads_0 N R F h g
theorem sX1_reads {D : DE} {f N R : Nat} {F : Frm} (hF : k_Fix F) (hf : 13 + 2 * R ≤ f) {o9 : GQ Int32} {h : HI} {g : HL} (E : ppX1_reads N R F h g = some o9) : Gi D f mX1_reads [.ref (ad D 0)] F h g (gqi o9) (gt o9) := by
  obtain ⟨f, rfl⟩ : ∃ f0, f = f0 + 1 := ⟨f - 1, by omega⟩
  have hf : 12 + 2 * R ≤ f := by omega
  exact wX1_reads (f := f) hF (jX1_reads_0 hf _ hF _ _ E)
def pX1_read_78 (N R : Nat) : Nat → Frm → Int32 → HI → HL → GO Int32
  | 0, _, _, _, _ => none
  | n + 1, F, x2, h, g =>
    if (h 0 9) ≤ x2 then
      bnd (up2 h 0 10 0) fun (h1 : HI) =>
      obv (ppX7_forget N R F h1 g) fun (h2 : HI) (g3 : HL) =>
      some (.inl ((h2 0 9), F, h2, g3))
    else
      gd (vin x2 12) <|
      ob1 (F.2.2 6 (ix x2)) fun (b4 : Nat) =>
      gd (vin x2 12) <|
      gd (decide (F.2.1 b4 = (18, 0))) <|
      bnd (fwr F 112 (ix x2) (some b4)) fun (F5 : Frm) =>
      bnd (x2 + 1) fun (y6 : Int32) =>
      (pX1_read_78 N R n) F5 y6 h g
theorem lX1_read_78 {D : DE} {f N R : Nat} (hf : 13 + 2 * R ≤ f) {o9 : GQ Int32} : ∀ (n : Nat) (F : Frm) (_ : k_Fix F) (x2 : Int32) (h : HI) (g : HL), pX1_read_78 N R n F x2 h g = some o9 → V D mX1_read (f + 1) (gi (gqi o9) (gt o9)) 78 [(0, .ref (ad D 0)), (2, .int x2)] [] (F, h, g) := by
  intro n
  induction n with
  | zero => intro F hF x2 h g E; cases E
  | succ n hK78 =>
    intro F hF x2 h g E
    rw [pX1_read_78] at E
    refine bX1_read_78 (f := f) hF x2  ?_
    refine ⟨fun c0 => ?_, fun c0 => ?_⟩
    · replace E := iteT c0 E
      intro h1 e0; replace E := bndE e0 E
      obtain ⟨h2, g3, e0, E⟩ := obvE E
      refine Sv.mono (sX7_forget (N := N) (R := R) hF (by omega) e0) (fun h8 g8 hq => ?_)
      obtain ⟨rfl, rfl⟩ := hq
      exact (Option.some.inj E).symm
    · replace E := iteF c0 E
      obtain ⟨z0, E⟩ := gdE E; refine ⟨vinE z0, ?_⟩
      obtain ⟨b4, z0, E⟩ := ob1E E; refine ⟨b4, z0, ?_⟩
      obtain ⟨z0, E⟩ := gdE E; refine ⟨vinE z0, ?_⟩
      obtain ⟨z0, E⟩ := gdE E; refine ⟨of_decide_eq_true z0, ?_⟩
      intro F5 e0; replace E := bndE e0 E
      replace hF : k_Fix F5 := by rw [e0]; exact k_Fix.wr hF (fx_okA (by decide +kernel)) _
      intro y6 e0; replace E := bndE e0 E
      exact hK78 _ hF _ _ _ E
def pX1_read_0 (N R : Nat) (F : Frm) (h : HI) (g : HL) : GO Int32 :=
  gd (cpb (h 0 6) 4000 4000 (h 111)) <|
  bnd (up1 h 2 (va_cpy (h 111) (h 2) 0 0 (ix (h 0 6)))) fun (h1 : HI) =>
  bnd (up2 h1 1 1 (h1 0 6)) fun (h2 : HI) =>
  bnd (up2 h2 0 6 0) fun (h3 : HI) =>
  ogi (ppX1_reads N R F h3 g) fun (y4 : Int32) (F7 : Frm) (h5 : HI) (g6 : HL) =>
  bnd (up2 h5 0 7 (h5 1 10)) fun (h8 : HI) =>
  if y4 = 0 then
    some (.inl ((-(h8 1 9)), F7, h8, g6))
  else
    bnd (up2 h8 0 9 (h8 5 2)) fun (h9 : HI) =>
    pX1_read_78 N R N F7 0 h9 g6
theorem jX1_read_0 {D : DE} {f N R : Nat} (hf : 13 + 2 * R ≤ f) {o9 : GQ Int32} : ∀ (F : Frm) (_ : k_Fix F) (h : HI) (g : HL), pX1_read_0 N R F h g = some o9 → JX1_read_0 D f (gqi o9) (gt o9) F h g := by
  intro F hF h g E
  unfold pX1_read_0 at E
  obtain ⟨z0, E⟩ := gdE E; obtain ⟨r1, r2, r3, r4⟩ := cpbE z0; refine ⟨r1, r2, r3, r4, ?_⟩
  intro h1 e0; replace E := bndE e0 E
  intro h2 e0; replace E := bndE e0 E
  intro h3 e0; replace E := bndE e0 E
  refine Gi.ob (fun o1 e0 => (sX1_reads (N := N) (R := R) hF (by omega) e0)) E (fun y4 F7 h5 g6 hF E => ?_) (fun _ _ _ _ e => e)
  intro h8 e0; replace E := bndE e0 E
  refine ⟨fun c0 => ?_, fun c0 => ?_⟩
  · replace E := iteF c0 E
    intro h9 e0; replace E := bndE e0 E
    exact lX1_read_78 hf  N _ hF _ _ _ E
  · replace E := iteT c0 E
    exact (Option.some.inj E).symm
abbrev ppX1_read (N R : Nat) (F : Frm) (h : HI) (g : HL) : GO Int32 := pX1_read_0 N R F h g
theorem sX1_read {D : DE} {f N R : Nat} {F : Frm} (hF : k_Fix F) (hf : 14 + 2 * R ≤ f) {o9 : GQ Int32} {h : HI} {g : HL} (E : ppX1_read N R F h g = some o9) : Gi D f mX1_read [.ref (ad D 0)] F h g (gqi o9) (gt o9) := by
  obtain ⟨f, rfl⟩ : ∃ f0, f = f0 + 1 := ⟨f - 1, by omega⟩
  have hf : 13 + 2 * R ≤ f := by omega
  exact wX1_read (f := f) hF (jX1_read_0 hf _ hF _ _ E)
def pX6_init_0 (N R : Nat) (F : Frm) (x0 : Nat) (h : HI) (g : HL) : GO Unit :=
  gd (decide (160 ≤ F.1.1)) <|
  bnd (fnw F (0, 16) 16) fun (F1 : Frm) =>
  bnd (up1 h F.1.1 (fun _ => 0)) fun (h2 : HI) =>
  bnd (up1 g F.1.1 (fun _ => 0)) fun (g3 : HL) =>
  gd (decide (F1.2.1 x0 = (15, 0))) <|
  bnd (fwr F1 x0 0 (some F.1.1)) fun (F4 : Frm) =>
  gd (decide (160 ≤ x0)) <|
  some (.inl ((), F4, h2, g3))
theorem jX6_init_0 {D : DE} {f N R : Nat} (hf : 0 ≤ f) {o9 : GQ Unit} : ∀ (F : Frm) (_ : k_Fix F) (x0 : Nat) (h : HI) (g : HL), pX6_init_0 N R F x0 h g = some o9 → JX6_init_0 D f (gqv o9) (gt o9) F h g x0 := by
  intro F hF x0 h g E
  unfold pX6_init_0 at E
  obtain ⟨z0, E⟩ := gdE E; refine ⟨of_decide_eq_true z0, ?_⟩; intro F1 h2 g3 e1 e2 e3; replace E := bndE e1 E; replace E := bndE e2 E; replace E := bndE e3 E
  replace hF : k_Fix F1 := by rw [e1]; exact k_Fix.new hF (of_decide_eq_true z0) _ _
  obtain ⟨z0, E⟩ := gdE E; refine ⟨of_decide_eq_true z0, ?_⟩
  intro F4 e0; replace E := bndE e0 E
  obtain ⟨z0, E⟩ := gdE E; refine ⟨of_decide_eq_true z0, ?_⟩
  replace hF : k_Fix F4 := by rw [e0]; exact k_Fix.wr hF (fx_okD (of_decide_eq_true z0)) _
  exact (Option.some.inj E).symm
abbrev ppX6_init (N R : Nat) (F : Frm) (x0 : Nat) (h : HI) (g : HL) : GO Unit := pX6_init_0 N R F x0 h g
theorem sX6_init {D : DE} {f N R : Nat} {F : Frm} (hF : k_Fix F) (hf : 1 ≤ f) {o9 : GQ Unit} {x0 : Nat} {h : HI} {g : HL} (E : ppX6_init N R F x0 h g = some o9) : Gv D f mX6_init [.ref (ad D x0)] F h g (gqv o9) (gt o9) := by
  obtain ⟨f, rfl⟩ : ∃ f0, f = f0 + 1 := ⟨f - 1, by omega⟩
  have hf : 0 ≤ f := by omega
  exact wX6_init (f := f) hF _ (jX6_init_0 hf _ hF _ _ _ E)
