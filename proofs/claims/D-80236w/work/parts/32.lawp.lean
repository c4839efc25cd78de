/-! THE LAW'S LOOP AS A PURE FUNCTION (printed by gen/mklawp.py): pL_law_23 N R D n F i h g -/
set_option maxRecDepth 100000
theorem smX8_feed {D : DE} {f N : Nat} {F : Frm} (hF : k_Fix F) (hf : 0 ≤ f) {y9 : Int32} {h9 : HI} {g9 : HL} {x1 : Int32} {x2 : Int32} {x3 : Int32} {x4 : Int32} {x5 : Int32} {h : HI} {g : HL} (E : pX8_feed N x1 x2 x3 x4 x5 h g = some (y9, h9, g9)) : Si D f mX8_feed [.ref (ad D 115), .int x1, .int x2, .int x3, .int x4, .int x5] F h g (eqi y9 h9 g9) := by
  obtain ⟨f, rfl⟩ : ∃ f0, f = f0 + 0 := ⟨f - 0, by omega⟩
  exact sX8_feed hF E
theorem smX8_thrown {D : DE} {f N : Nat} {F : Frm} (hF : k_Fix F) (hf : 0 ≤ f) {y9 : Int32} {h9 : HI} {g9 : HL} {h : HI} {g : HL} (E : pX8_thrown N h g = some (y9, h9, g9)) : Si D f mX8_thrown [.ref (ad D 115)] F h g (eqi y9 h9 g9) := by
  obtain ⟨f, rfl⟩ : ∃ f0, f = f0 + 0 := ⟨f - 0, by omega⟩
  exact sX8_thrown hF E
theorem smX8_cut {D : DE} {f N : Nat} {F : Frm} (hF : k_Fix F) (hf : 1 ≤ f) {y9 : Int32} {h9 : HI} {g9 : HL} {x1 : Int32} {h : HI} {g : HL} (E : pX8_cut N x1 h g = some (y9, h9, g9)) : Si D f mX8_cut [.ref (ad D 115), .int x1] F h g (eqi y9 h9 g9) := by
  obtain ⟨f, rfl⟩ : ∃ f0, f = f0 + 1 := ⟨f - 1, by omega⟩
  exact sX8_cut hF E
theorem smX8_read {D : DE} {f N : Nat} {F : Frm} (hF : k_Fix F) (hf : 10 ≤ f) {y9 : Int32} {h9 : HI} {g9 : HL} {h : HI} {g : HL} (E : pX8_read N h g = some (y9, h9, g9)) : Si D f mX8_read [.ref (ad D 115)] F h g (eqi y9 h9 g9) := by
  obtain ⟨f, rfl⟩ : ∃ f0, f = f0 + 10 := ⟨f - 10, by omega⟩
  exact sX8_read hF E
theorem smX8_place {D : DE} {f N : Nat} {F : Frm} (hF : k_Fix F) (hf : 0 ≤ f) {y9 : Int32} {h9 : HI} {g9 : HL} {h : HI} {g : HL} (E : pX8_place N h g = some (y9, h9, g9)) : Si D f mX8_place [.ref (ad D 115)] F h g (eqi y9 h9 g9) := by
  obtain ⟨f, rfl⟩ : ∃ f0, f = f0 + 0 := ⟨f - 0, by omega⟩
  exact sX8_place hF E
theorem smX8_function {D : DE} {f N : Nat} {F : Frm} (hF : k_Fix F) (hf : 2 ≤ f) {y9 : Int32} {h9 : HI} {g9 : HL} {x1 : Int32} {x2 : Int32} {h : HI} {g : HL} (E : pX8_function N x1 x2 h g = some (y9, h9, g9)) : Si D f mX8_function [.ref (ad D 115), .int x1, .int x2] F h g (eqi y9 h9 g9) := by
  obtain ⟨f, rfl⟩ : ∃ f0, f = f0 + 2 := ⟨f - 2, by omega⟩
  exact sX8_function hF E
theorem smX8_rounds {D : DE} {f N : Nat} {F : Frm} (hF : k_Fix F) (hf : 6 ≤ f) {y9 : Int32} {h9 : HI} {g9 : HL} {h : HI} {g : HL} (E : pX8_rounds N h g = some (y9, h9, g9)) : Si D f mX8_rounds [.ref (ad D 115)] F h g (eqi y9 h9 g9) := by
  obtain ⟨f, rfl⟩ : ∃ f0, f = f0 + 6 := ⟨f - 6, by omega⟩
  exact sX8_rounds hF E
theorem smX8_dead {D : DE} {f N : Nat} {F : Frm} (hF : k_Fix F) (hf : 3 ≤ f) {y9 : Int32} {h9 : HI} {g9 : HL} {x1 : Int32} {x2 : Int32} {h : HI} {g : HL} (E : pX8_dead N x1 x2 h g = some (y9, h9, g9)) : Si D f mX8_dead [.ref (ad D 115), .int x1, .int x2] F h g (eqi y9 h9 g9) := by
  obtain ⟨f, rfl⟩ : ∃ f0, f = f0 + 3 := ⟨f - 3, by omega⟩
  exact sX8_dead hF E
theorem smX8_asks_2 {D : DE} {f N : Nat} {F : Frm} (hF : k_Fix F) (hf : 3 ≤ f) {y9 : Int32} {h9 : HI} {g9 : HL} {x1 : Int32} {x2 : Int32} {x3 : Int32} {h : HI} {g : HL} (E : pX8_asks_2 N x1 x2 x3 h g = some (y9, h9, g9)) : Si D f mX8_asks_2 [.ref (ad D 115), .int x1, .int x2, .int x3] F h g (eqi y9 h9 g9) := by
  obtain ⟨f, rfl⟩ : ∃ f0, f = f0 + 3 := ⟨f - 3, by omega⟩
  exact sX8_asks_2 hF E
theorem smX8_strict {D : DE} {f N : Nat} {F : Frm} (hF : k_Fix F) (hf : 3 ≤ f) {y9 : Int32} {h9 : HI} {g9 : HL} {x1 : Int32} {x2 : Int32} {h : HI} {g : HL} (E : pX8_strict N x1 x2 h g = some (y9, h9, g9)) : Si D f mX8_strict [.ref (ad D 115), .int x1, .int x2] F h g (eqi y9 h9 g9) := by
  obtain ⟨f, rfl⟩ : ∃ f0, f = f0 + 3 := ⟨f - 3, by omega⟩
  exact sX8_strict hF E
theorem smX8_plant {D : DE} {f N : Nat} {F : Frm} (hF : k_Fix F) (hf : 3 ≤ f) {y9 : Int32} {h9 : HI} {g9 : HL} {x1 : Int32} {x2 : Int32} {x3 : Int32} {x4 : Int32} {h : HI} {g : HL} (E : pX8_plant N x1 x2 x3 x4 h g = some (y9, h9, g9)) : Si D f mX8_plant [.ref (ad D 115), .int x1, .int x2, .int x3, .int x4] F h g (eqi y9 h9 g9) := by
  obtain ⟨f, rfl⟩ : ∃ f0, f = f0 + 3 := ⟨f - 3, by omega⟩
  exact sX8_plant hF E
theorem smX8_check {D : DE} {f N : Nat} {F : Frm} (hF : k_Fix F) (hf : 6 ≤ f) {y9 : Int32} {h9 : HI} {g9 : HL} {h : HI} {g : HL} (E : pX8_check N h g = some (y9, h9, g9)) : Si D f mX8_check [.ref (ad D 115)] F h g (eqi y9 h9 g9) := by
  obtain ⟨f, rfl⟩ : ∃ f0, f = f0 + 6 := ⟨f - 6, by omega⟩
  exact sX8_check hF E
theorem smX8_input {D : DE} {f N : Nat} {F : Frm} (hF : k_Fix F) (hf : 1 ≤ f) {y9 : Int32} {h9 : HI} {g9 : HL} {x1 : Int32} {x2 : Int32} {h : HI} {g : HL} (E : pX8_input N x1 x2 h g = some (y9, h9, g9)) : Si D f mX8_input [.ref (ad D 115), .int x1, .int x2] F h g (eqi y9 h9 g9) := by
  obtain ⟨f, rfl⟩ : ∃ f0, f = f0 + 1 := ⟨f - 1, by omega⟩
  exact sX8_input hF E
theorem smX8_run {D : DE} {f N : Nat} {F : Frm} (hF : k_Fix F) (hf : 5 ≤ f) {y9 : Int32} {h9 : HI} {g9 : HL} {x1 : Int32} {x2 : Int32} {x3 : Int32} {h : HI} {g : HL} (E : pX8_run N x1 x2 x3 h g = some (y9, h9, g9)) : Si D f mX8_run [.ref (ad D 115), .int x1, .int x2, .int x3] F h g (eqi y9 h9 g9) := by
  obtain ⟨f, rfl⟩ : ∃ f0, f = f0 + 5 := ⟨f - 5, by omega⟩
  exact sX8_run hF E
theorem smX8_told {D : DE} {f N : Nat} {F : Frm} (hF : k_Fix F) (hf : 1 ≤ f) {y9 : Int32} {h9 : HI} {g9 : HL} {x1 : Int32} {h : HI} {g : HL} (E : pX8_told N x1 h g = some (y9, h9, g9)) : Si D f mX8_told [.ref (ad D 115), .int x1] F h g (eqi y9 h9 g9) := by
  obtain ⟨f, rfl⟩ : ∃ f0, f = f0 + 1 := ⟨f - 1, by omega⟩
  exact sX8_told hF E
theorem smX8_result {D : DE} {f N : Nat} {F : Frm} (hF : k_Fix F) (hf : 1 ≤ f) {y9 : Int32} {h9 : HI} {g9 : HL} {x1 : Int32} {h : HI} {g : HL} (E : pX8_result N x1 h g = some (y9, h9, g9)) : Si D f mX8_result [.ref (ad D 115), .int x1] F h g (eqi y9 h9 g9) := by
  obtain ⟨f, rfl⟩ : ∃ f0, f = f0 + 1 := ⟨f - 1, by omega⟩
  exact sX8_result hF E
theorem smX8_needed {D : DE} {f N : Nat} {F : Frm} (hF : k_Fix F) (hf : 3 ≤ f) {y9 : Int32} {h9 : HI} {g9 : HL} {x1 : Int32} {h : HI} {g : HL} (E : pX8_needed N x1 h g = some (y9, h9, g9)) : Si D f mX8_needed [.ref (ad D 115), .int x1] F h g (eqi y9 h9 g9) := by
  obtain ⟨f, rfl⟩ : ∃ f0, f = f0 + 3 := ⟨f - 3, by omega⟩
  exact sX8_needed hF E
def pL_law_1107 (N R : Nat) (D : DE) (K23 : Frm → Int32 → HI → HL → GO Int32) (F : Frm) (x4 : Int32) (h : HI) (g : HL) : GO Int32 :=
  bnd (x4 + 6) fun (y1 : Int32) =>
  K23 F y1 h g
theorem jL_law_1107 {D : DE} {f N R : Nat} (hf : 14 + 2 * R ≤ f) {K23 : Frm → Int32 → HI → HL → GO Int32} {o9 : GQ Int32} (hK23 : ∀ (F : Frm) (_ : k_Fix F) (x4 : Int32) (h : HI) (g : HL), K23 F x4 h g = some o9 → V D mL_law (f + 1) (gi (gqi o9) (gt o9)) 23 [(0, .ref (dO D 7)), (1, .ref (ad D 0)), (2, .ref (ad D 115)), (3, .ref (ad D 159)), (4, .int x4)] [] (F, h, g)) : ∀ (F : Frm) (_ : k_Fix F) (x4 : Int32) (h : HI) (g : HL), pL_law_1107 N R D K23 F x4 h g = some o9 → JL_law_1107 D f (gqi o9) (gt o9) F h g x4 := by
  intro F hF x4 h g E
  unfold pL_law_1107 at E
  intro y1 e0; replace E := bndE e0 E
  exact hK23 _ hF _ _ _ E
def pL_law_1104 (N R : Nat) (D : DE) (K23 : Frm → Int32 → HI → HL → GO Int32) (F : Frm) (x4 : Int32) (h : HI) (g : HL) : GO Int32 :=
  pL_law_1107 N R D K23 F x4 h g
theorem jL_law_1104 {D : DE} {f N R : Nat} (hf : 14 + 2 * R ≤ f) {K23 : Frm → Int32 → HI → HL → GO Int32} {o9 : GQ Int32} (hK23 : ∀ (F : Frm) (_ : k_Fix F) (x4 : Int32) (h : HI) (g : HL), K23 F x4 h g = some o9 → V D mL_law (f + 1) (gi (gqi o9) (gt o9)) 23 [(0, .ref (dO D 7)), (1, .ref (ad D 0)), (2, .ref (ad D 115)), (3, .ref (ad D 159)), (4, .int x4)] [] (F, h, g)) : ∀ (F : Frm) (_ : k_Fix F) (x4 : Int32) (h : HI) (g : HL), pL_law_1104 N R D K23 F x4 h g = some o9 → JL_law_1104 D f (gqi o9) (gt o9) F h g x4 := by
  intro F hF x4 h g E
  unfold pL_law_1104 at E
  exact jL_law_1107 hf hK23 _ hF _ _ _ E
def pL_law_1098 (N R : Nat) (D : DE) (K23 : Frm → Int32 → HI → HL → GO Int32) (F : Frm) (x4 : Int32) (s0 : Int64) (s1 : Int64) (h : HI) (g : HL) : GO Int32 :=
  if (lg_cmp s0 s1) = 0 then
    pL_law_1104 N R D K23 F x4 h g
  else
    some (.inl (0, F, h, g))
theorem jL_law_1098 {D : DE} {f N R : Nat} (hf : 14 + 2 * R ≤ f) {K23 : Frm → Int32 → HI → HL → GO Int32} {o9 : GQ Int32} (hK23 : ∀ (F : Frm) (_ : k_Fix F) (x4 : Int32) (h : HI) (g : HL), K23 F x4 h g = some o9 → V D mL_law (f + 1) (gi (gqi o9) (gt o9)) 23 [(0, .ref (dO D 7)), (1, .ref (ad D 0)), (2, .ref (ad D 115)), (3, .ref (ad D 159)), (4, .int x4)] [] (F, h, g)) : ∀ (F : Frm) (_ : k_Fix F) (x4 : Int32) (s0 : Int64) (s1 : Int64) (h : HI) (g : HL), pL_law_1098 N R D K23 F x4 s0 s1 h g = some o9 → JL_law_1098 D f (gqi o9) (gt o9) F h g x4 s0 s1 := by
  intro F hF x4 s0 s1 h g E
  unfold pL_law_1098 at E
  refine ⟨fun c0 => ?_, fun c0 => ?_⟩
  · replace E := iteT c0 E
    exact jL_law_1104 hf hK23 _ hF _ _ _ E
  · replace E := iteF c0 E
    exact (Option.some.inj E).symm
def pL_law_1044 (N R : Nat) (D : DE) (K23 : Frm → Int32 → HI → HL → GO Int32) (F : Frm) (x4 : Int32) (h : HI) (g : HL) : GO Int32 :=
  gd (vin (x4 + 1) (dL D)) <|
  ogi (ppX0_needed N R F (dX D (ix (x4 + 1))) h g) fun (y1 : Int32) (F4 : Frm) (h2 : HI) (g3 : HL) =>
  gd (vin (x4 + 1) (dL D)) <|
  obi (pX8_needed N (dX D (ix (x4 + 1))) h2 g3) fun (y5 : Int32) (h6 : HI) (g7 : HL) =>
  obi (pX8_thrown N h6 g7) fun (y8 : Int32) (h9 : HI) (g10 : HL) =>
  if y8 = y1 then
    if y1 = 0 then
      if y5 = 0 then
        pL_law_1098 N R D K23 F4 x4 (g10 159 (ix 0)) 0 h9 g10
      else
        pL_law_1098 N R D K23 F4 x4 (g10 159 (ix 0)) 1 h9 g10
    else
      pL_law_1104 N R D K23 F4 x4 h9 g10
  else
    some (.inl (0, F4, h9, g10))
theorem jL_law_1044 {D : DE} {f N R : Nat} (hf : 14 + 2 * R ≤ f) {K23 : Frm → Int32 → HI → HL → GO Int32} {o9 : GQ Int32} (hK23 : ∀ (F : Frm) (_ : k_Fix F) (x4 : Int32) (h : HI) (g : HL), K23 F x4 h g = some o9 → V D mL_law (f + 1) (gi (gqi o9) (gt o9)) 23 [(0, .ref (dO D 7)), (1, .ref (ad D 0)), (2, .ref (ad D 115)), (3, .ref (ad D 159)), (4, .int x4)] [] (F, h, g)) : ∀ (F : Frm) (_ : k_Fix F) (x4 : Int32) (h : HI) (g : HL), pL_law_1044 N R D K23 F x4 h g = some o9 → JL_law_1044 D f (gqi o9) (gt o9) F h g x4 := by
  intro F hF x4 h g E
  unfold pL_law_1044 at E
  obtain ⟨z0, E⟩ := gdE E; refine ⟨vinE z0, ?_⟩
  refine Gi.ob (fun o1 e0 => (sX0_needed (N := N) (R := R) hF (by omega) e0)) E (fun y1 F4 h2 g3 hF E => ?_) (fun _ _ _ _ e => e)
  obtain ⟨z0, E⟩ := gdE E; refine ⟨vinE z0, ?_⟩
  obtain ⟨y5, h6, g7, e0, E⟩ := obiE E
  refine Si.mono (smX8_needed (N := N) hF (by omega) e0) (fun y8 h8 g8 hq => ?_)
  obtain ⟨rfl, rfl, rfl⟩ := hq
  obtain ⟨y8, h9, g10, e0, E⟩ := obiE E
  refine Si.mono (smX8_thrown (N := N) hF (by omega) e0) (fun y8 h8 g8 hq => ?_)
  obtain ⟨rfl, rfl, rfl⟩ := hq
  refine ⟨fun c0 => ?_, fun c0 => ?_⟩
  · replace E := iteT c0 E
    refine ⟨fun c0 => ?_, fun c0 => ?_⟩
    · replace E := iteF c0 E
      exact jL_law_1104 hf hK23 _ hF _ _ _ E
    · replace E := iteT c0 E
      refine ⟨fun c0 => ?_, fun c0 => ?_⟩
      · replace E := iteT c0 E
        exact jL_law_1098 hf hK23 _ hF _ _ _ _ _ E
      · replace E := iteF c0 E
        exact jL_law_1098 hf hK23 _ hF _ _ _ _ _ E
  · replace E := iteF c0 E
    exact (Option.some.inj E).symm
def pL_law_1041 (N R : Nat) (D : DE) (K23 : Frm → Int32 → HI → HL → GO Int32) (F : Frm) (x4 : Int32) (h : HI) (g : HL) : GO Int32 :=
  pL_law_1107 N R D K23 F x4 h g
theorem jL_law_1041 {D : DE} {f N R : Nat} (hf : 14 + 2 * R ≤ f) {K23 : Frm → Int32 → HI → HL → GO Int32} {o9 : GQ Int32} (hK23 : ∀ (F : Frm) (_ : k_Fix F) (x4 : Int32) (h : HI) (g : HL), K23 F x4 h g = some o9 → V D mL_law (f + 1) (gi (gqi o9) (gt o9)) 23 [(0, .ref (dO D 7)), (1, .ref (ad D 0)), (2, .ref (ad D 115)), (3, .ref (ad D 159)), (4, .int x4)] [] (F, h, g)) : ∀ (F : Frm) (_ : k_Fix F) (x4 : Int32) (h : HI) (g : HL), pL_law_1041 N R D K23 F x4 h g = some o9 → JL_law_1041 D f (gqi o9) (gt o9) F h g x4 := by
  intro F hF x4 h g E
  unfold pL_law_1041 at E
  exact jL_law_1107 hf hK23 _ hF _ _ _ E
def pL_law_988 (N R : Nat) (D : DE) (K23 : Frm → Int32 → HI → HL → GO Int32) (F : Frm) (x4 : Int32) (h : HI) (g : HL) : GO Int32 :=
  gd (vin (x4 + 1) (dL D)) <|
  ogi (ppX0_result N R F (dX D (ix (x4 + 1))) h g) fun (y1 : Int32) (F4 : Frm) (h2 : HI) (g3 : HL) =>
  gd (vin (x4 + 1) (dL D)) <|
  obi (pX8_result N (dX D (ix (x4 + 1))) h2 g3) fun (y5 : Int32) (h6 : HI) (g7 : HL) =>
  obi (pX8_thrown N h6 g7) fun (y8 : Int32) (h9 : HI) (g10 : HL) =>
  if y8 = y1 then
    if y1 = 0 then
      if (lg_cmp (g10 159 (ix 0)) y5.toInt64) = 0 then
        pL_law_1041 N R D K23 F4 x4 h9 g10
      else
        some (.inl (0, F4, h9, g10))
    else
      pL_law_1041 N R D K23 F4 x4 h9 g10
  else
    some (.inl (0, F4, h9, g10))
theorem jL_law_988 {D : DE} {f N R : Nat} (hf : 14 + 2 * R ≤ f) {K23 : Frm → Int32 → HI → HL → GO Int32} {o9 : GQ Int32} (hK23 : ∀ (F : Frm) (_ : k_Fix F) (x4 : Int32) (h : HI) (g : HL), K23 F x4 h g = some o9 → V D mL_law (f + 1) (gi (gqi o9) (gt o9)) 23 [(0, .ref (dO D 7)), (1, .ref (ad D 0)), (2, .ref (ad D 115)), (3, .ref (ad D 159)), (4, .int x4)] [] (F, h, g)) : ∀ (F : Frm) (_ : k_Fix F) (x4 : Int32) (h : HI) (g : HL), pL_law_988 N R D K23 F x4 h g = some o9 → JL_law_988 D f (gqi o9) (gt o9) F h g x4 := by
  intro F hF x4 h g E
  unfold pL_law_988 at E
  obtain ⟨z0, E⟩ := gdE E; refine ⟨vinE z0, ?_⟩
  refine Gi.ob (fun o1 e0 => (sX0_result (N := N) (R := R) hF (by omega) e0)) E (fun y1 F4 h2 g3 hF E => ?_) (fun _ _ _ _ e => e)
  obtain ⟨z0, E⟩ := gdE E; refine ⟨vinE z0, ?_⟩
  obtain ⟨y5, h6, g7, e0, E⟩ := obiE E
  refine Si.mono (smX8_result (N := N) hF (by omega) e0) (fun y8 h8 g8 hq => ?_)
  obtain ⟨rfl, rfl, rfl⟩ := hq
  obtain ⟨y8, h9, g10, e0, E⟩ := obiE E
  refine Si.mono (smX8_thrown (N := N) hF (by omega) e0) (fun y8 h8 g8 hq => ?_)
  obtain ⟨rfl, rfl, rfl⟩ := hq
  refine ⟨fun c0 => ?_, fun c0 => ?_⟩
  · replace E := iteT c0 E
    refine ⟨fun c0 => ?_, fun c0 => ?_⟩
    · replace E := iteF c0 E
      exact jL_law_1041 hf hK23 _ hF _ _ _ E
    · replace E := iteT c0 E
      refine ⟨fun c0 => ?_, fun c0 => ?_⟩
      · replace E := iteT c0 E
        exact jL_law_1041 hf hK23 _ hF _ _ _ E
      · replace E := iteF c0 E
        exact (Option.some.inj E).symm
  · replace E := iteF c0 E
    exact (Option.some.inj E).symm
def pL_law_985 (N R : Nat) (D : DE) (K23 : Frm → Int32 → HI → HL → GO Int32) (F : Frm) (x4 : Int32) (h : HI) (g : HL) : GO Int32 :=
  pL_law_1107 N R D K23 F x4 h g
theorem jL_law_985 {D : DE} {f N R : Nat} (hf : 14 + 2 * R ≤ f) {K23 : Frm → Int32 → HI → HL → GO Int32} {o9 : GQ Int32} (hK23 : ∀ (F : Frm) (_ : k_Fix F) (x4 : Int32) (h : HI) (g : HL), K23 F x4 h g = some o9 → V D mL_law (f + 1) (gi (gqi o9) (gt o9)) 23 [(0, .ref (dO D 7)), (1, .ref (ad D 0)), (2, .ref (ad D 115)), (3, .ref (ad D 159)), (4, .int x4)] [] (F, h, g)) : ∀ (F : Frm) (_ : k_Fix F) (x4 : Int32) (h : HI) (g : HL), pL_law_985 N R D K23 F x4 h g = some o9 → JL_law_985 D f (gqi o9) (gt o9) F h g x4 := by
  intro F hF x4 h g E
  unfold pL_law_985 at E
  exact jL_law_1107 hf hK23 _ hF _ _ _ E
def pL_law_932 (N R : Nat) (D : DE) (K23 : Frm → Int32 → HI → HL → GO Int32) (F : Frm) (x4 : Int32) (h : HI) (g : HL) : GO Int32 :=
  gd (vin (x4 + 1) (dL D)) <|
  ogi (ppX0_told N R F (dX D (ix (x4 + 1))) h g) fun (y1 : Int32) (F4 : Frm) (h2 : HI) (g3 : HL) =>
  gd (vin (x4 + 1) (dL D)) <|
  obi (pX8_told N (dX D (ix (x4 + 1))) h2 g3) fun (y5 : Int32) (h6 : HI) (g7 : HL) =>
  obi (pX8_thrown N h6 g7) fun (y8 : Int32) (h9 : HI) (g10 : HL) =>
  if y8 = y1 then
    if y1 = 0 then
      if (lg_cmp (g10 159 (ix 0)) y5.toInt64) = 0 then
        pL_law_985 N R D K23 F4 x4 h9 g10
      else
        some (.inl (0, F4, h9, g10))
    else
      pL_law_985 N R D K23 F4 x4 h9 g10
  else
    some (.inl (0, F4, h9, g10))
theorem jL_law_932 {D : DE} {f N R : Nat} (hf : 14 + 2 * R ≤ f) {K23 : Frm → Int32 → HI → HL → GO Int32} {o9 : GQ Int32} (hK23 : ∀ (F : Frm) (_ : k_Fix F) (x4 : Int32) (h : HI) (g : HL), K23 F x4 h g = some o9 → V D mL_law (f + 1) (gi (gqi o9) (gt o9)) 23 [(0, .ref (dO D 7)), (1, .ref (ad D 0)), (2, .ref (ad D 115)), (3, .ref (ad D 159)), (4, .int x4)] [] (F, h, g)) : ∀ (F : Frm) (_ : k_Fix F) (x4 : Int32) (h : HI) (g : HL), pL_law_932 N R D K23 F x4 h g = some o9 → JL_law_932 D f (gqi o9) (gt o9) F h g x4 := by
  intro F hF x4 h g E
  unfold pL_law_932 at E
  obtain ⟨z0, E⟩ := gdE E; refine ⟨vinE z0, ?_⟩
  refine Gi.ob (fun o1 e0 => (sX0_told (N := N) (R := R) hF (by omega) e0)) E (fun y1 F4 h2 g3 hF E => ?_) (fun _ _ _ _ e => e)
  obtain ⟨z0, E⟩ := gdE E; refine ⟨vinE z0, ?_⟩
  obtain ⟨y5, h6, g7, e0, E⟩ := obiE E
  refine Si.mono (smX8_told (N := N) hF (by omega) e0) (fun y8 h8 g8 hq => ?_)
  obtain ⟨rfl, rfl, rfl⟩ := hq
  obtain ⟨y8, h9, g10, e0, E⟩ := obiE E
  refine Si.mono (smX8_thrown (N := N) hF (by omega) e0) (fun y8 h8 g8 hq => ?_)
  obtain ⟨rfl, rfl, rfl⟩ := hq
  refine ⟨fun c0 => ?_, fun c0 => ?_⟩
  · replace E := iteT c0 E
    refine ⟨fun c0 => ?_, fun c0 => ?_⟩
    · replace E := iteF c0 E
      exact jL_law_985 hf hK23 _ hF _ _ _ E
    · replace E := iteT c0 E
      refine ⟨fun c0 => ?_, fun c0 => ?_⟩
      · replace E := iteT c0 E
        exact jL_law_985 hf hK23 _ hF _ _ _ E
      · replace E := iteF c0 E
        exact (Option.some.inj E).symm
  · replace E := iteF c0 E
    exact (Option.some.inj E).symm
def pL_law_929 (N R : Nat) (D : DE) (K23 : Frm → Int32 → HI → HL → GO Int32) (F : Frm) (x4 : Int32) (h : HI) (g : HL) : GO Int32 :=
  pL_law_1107 N R D K23 F x4 h g
theorem jL_law_929 {D : DE} {f N R : Nat} (hf : 14 + 2 * R ≤ f) {K23 : Frm → Int32 → HI → HL → GO Int32} {o9 : GQ Int32} (hK23 : ∀ (F : Frm) (_ : k_Fix F) (x4 : Int32) (h : HI) (g : HL), K23 F x4 h g = some o9 → V D mL_law (f + 1) (gi (gqi o9) (gt o9)) 23 [(0, .ref (dO D 7)), (1, .ref (ad D 0)), (2, .ref (ad D 115)), (3, .ref (ad D 159)), (4, .int x4)] [] (F, h, g)) : ∀ (F : Frm) (_ : k_Fix F) (x4 : Int32) (h : HI) (g : HL), pL_law_929 N R D K23 F x4 h g = some o9 → JL_law_929 D f (gqi o9) (gt o9) F h g x4 := by
  intro F hF x4 h g E
  unfold pL_law_929 at E
  exact jL_law_1107 hf hK23 _ hF _ _ _ E
def pL_law_852 (N R : Nat) (D : DE) (K23 : Frm → Int32 → HI → HL → GO Int32) (F : Frm) (x4 : Int32) (h : HI) (g : HL) : GO Int32 :=
  gd (vin (x4 + 1) (dL D)) <|
  gd (vin (x4 + 2) (dL D)) <|
  gd (vin (x4 + 3) (dL D)) <|
  ogi (ppX0_run N R F (dX D (ix (x4 + 1))) (dX D (ix (x4 + 2))) (dX D (ix (x4 + 3))) h g) fun (y1 : Int32) (F4 : Frm) (h2 : HI) (g3 : HL) =>
  gd (vin (x4 + 1) (dL D)) <|
  gd (vin (x4 + 2) (dL D)) <|
  gd (vin (x4 + 3) (dL D)) <|
  obi (pX8_run N (dX D (ix (x4 + 1))) (dX D (ix (x4 + 2))) (dX D (ix (x4 + 3))) h2 g3) fun (y5 : Int32) (h6 : HI) (g7 : HL) =>
  obi (pX8_thrown N h6 g7) fun (y8 : Int32) (h9 : HI) (g10 : HL) =>
  if y8 = y1 then
    if y1 = 0 then
      if (lg_cmp (g10 159 (ix 0)) y5.toInt64) = 0 then
        pL_law_929 N R D K23 F4 x4 h9 g10
      else
        some (.inl (0, F4, h9, g10))
    else
      pL_law_929 N R D K23 F4 x4 h9 g10
  else
    some (.inl (0, F4, h9, g10))
theorem jL_law_852 {D : DE} {f N R : Nat} (hf : 14 + 2 * R ≤ f) {K23 : Frm → Int32 → HI → HL → GO Int32} {o9 : GQ Int32} (hK23 : ∀ (F : Frm) (_ : k_Fix F) (x4 : Int32) (h : HI) (g : HL), K23 F x4 h g = some o9 → V D mL_law (f + 1) (gi (gqi o9) (gt o9)) 23 [(0, .ref (dO D 7)), (1, .ref (ad D 0)), (2, .ref (ad D 115)), (3, .ref (ad D 159)), (4, .int x4)] [] (F, h, g)) : ∀ (F : Frm) (_ : k_Fix F) (x4 : Int32) (h : HI) (g : HL), pL_law_852 N R D K23 F x4 h g = some o9 → JL_law_852 D f (gqi o9) (gt o9) F h g x4 := by
  intro F hF x4 h g E
  unfold pL_law_852 at E
  obtain ⟨z0, E⟩ := gdE E; refine ⟨vinE z0, ?_⟩
  obtain ⟨z0, E⟩ := gdE E; refine ⟨vinE z0, ?_⟩
  obtain ⟨z0, E⟩ := gdE E; refine ⟨vinE z0, ?_⟩
  refine Gi.ob (fun o1 e0 => (sX0_run (N := N) (R := R) hF (by omega) e0)) E (fun y1 F4 h2 g3 hF E => ?_) (fun _ _ _ _ e => e)
  obtain ⟨z0, E⟩ := gdE E; refine ⟨vinE z0, ?_⟩
  obtain ⟨z0, E⟩ := gdE E; refine ⟨vinE z0, ?_⟩
  obtain ⟨z0, E⟩ := gdE E; refine ⟨vinE z0, ?_⟩
  obtain ⟨y5, h6, g7, e0, E⟩ := obiE E
  refine Si.mono (smX8_run (N := N) hF (by omega) e0) (fun y8 h8 g8 hq => ?_)
  obtain ⟨rfl, rfl, rfl⟩ := hq
  obtain ⟨y8, h9, g10, e0, E⟩ := obiE E
  refine Si.mono (smX8_thrown (N := N) hF (by omega) e0) (fun y8 h8 g8 hq => ?_)
  obtain ⟨rfl, rfl, rfl⟩ := hq
  refine ⟨fun c0 => ?_, fun c0 => ?_⟩
  · replace E := iteT c0 E
    refine ⟨fun c0 => ?_, fun c0 => ?_⟩
    · replace E := iteF c0 E
      exact jL_law_929 hf hK23 _ hF _ _ _ E
    · replace E := iteT c0 E
      refine ⟨fun c0 => ?_, fun c0 => ?_⟩
      · replace E := iteT c0 E
        exact jL_law_929 hf hK23 _ hF _ _ _ E
      · replace E := iteF c0 E
        exact (Option.some.inj E).symm
  · replace E := iteF c0 E
    exact (Option.some.inj E).symm
def pL_law_849 (N R : Nat) (D : DE) (K23 : Frm → Int32 → HI → HL → GO Int32) (F : Frm) (x4 : Int32) (h : HI) (g : HL) : GO Int32 :=
  pL_law_1107 N R D K23 F x4 h g
theorem jL_law_849 {D : DE} {f N R : Nat} (hf : 14 + 2 * R ≤ f) {K23 : Frm → Int32 → HI → HL → GO Int32} {o9 : GQ Int32} (hK23 : ∀ (F : Frm) (_ : k_Fix F) (x4 : Int32) (h : HI) (g : HL), K23 F x4 h g = some o9 → V D mL_law (f + 1) (gi (gqi o9) (gt o9)) 23 [(0, .ref (dO D 7)), (1, .ref (ad D 0)), (2, .ref (ad D 115)), (3, .ref (ad D 159)), (4, .int x4)] [] (F, h, g)) : ∀ (F : Frm) (_ : k_Fix F) (x4 : Int32) (h : HI) (g : HL), pL_law_849 N R D K23 F x4 h g = some o9 → JL_law_849 D f (gqi o9) (gt o9) F h g x4 := by
  intro F hF x4 h g E
  unfold pL_law_849 at E
  exact jL_law_1107 hf hK23 _ hF _ _ _ E
def pL_law_784 (N R : Nat) (D : DE) (K23 : Frm → Int32 → HI → HL → GO Int32) (F : Frm) (x4 : Int32) (h : HI) (g : HL) : GO Int32 :=
  gd (vin (x4 + 1) (dL D)) <|
  gd (vin (x4 + 2) (dL D)) <|
  ogi (ppX0_input N R F (dX D (ix (x4 + 1))) (dX D (ix (x4 + 2))) h g) fun (y1 : Int32) (F4 : Frm) (h2 : HI) (g3 : HL) =>
  gd (vin (x4 + 1) (dL D)) <|
  gd (vin (x4 + 2) (dL D)) <|
  obi (pX8_input N (dX D (ix (x4 + 1))) (dX D (ix (x4 + 2))) h2 g3) fun (y5 : Int32) (h6 : HI) (g7 : HL) =>
  obi (pX8_thrown N h6 g7) fun (y8 : Int32) (h9 : HI) (g10 : HL) =>
  if y8 = y1 then
    if y1 = 0 then
      if (lg_cmp (g10 159 (ix 0)) y5.toInt64) = 0 then
        pL_law_849 N R D K23 F4 x4 h9 g10
      else
        some (.inl (0, F4, h9, g10))
    else
      pL_law_849 N R D K23 F4 x4 h9 g10
  else
    some (.inl (0, F4, h9, g10))
theorem jL_law_784 {D : DE} {f N R : Nat} (hf : 14 + 2 * R ≤ f) {K23 : Frm → Int32 → HI → HL → GO Int32} {o9 : GQ Int32} (hK23 : ∀ (F : Frm) (_ : k_Fix F) (x4 : Int32) (h : HI) (g : HL), K23 F x4 h g = some o9 → V D mL_law (f + 1) (gi (gqi o9) (gt o9)) 23 [(0, .ref (dO D 7)), (1, .ref (ad D 0)), (2, .ref (ad D 115)), (3, .ref (ad D 159)), (4, .int x4)] [] (F, h, g)) : ∀ (F : Frm) (_ : k_Fix F) (x4 : Int32) (h : HI) (g : HL), pL_law_784 N R D K23 F x4 h g = some o9 → JL_law_784 D f (gqi o9) (gt o9) F h g x4 := by
  intro F hF x4 h g E
  unfold pL_law_784 at E
  obtain ⟨z0, E⟩ := gdE E; refine ⟨vinE z0, ?_⟩
  obtain ⟨z0, E⟩ := gdE E; refine ⟨vinE z0, ?_⟩
  refine Gi.ob (fun o1 e0 => (sX0_input (N := N) (R := R) hF (by omega) e0)) E (fun y1 F4 h2 g3 hF E => ?_) (fun _ _ _ _ e => e)
  obtain ⟨z0, E⟩ := gdE E; refine ⟨vinE z0, ?_⟩
  obtain ⟨z0, E⟩ := gdE E; refine ⟨vinE z0, ?_⟩
  obtain ⟨y5, h6, g7, e0, E⟩ := obiE E
  refine Si.mono (smX8_input (N := N) hF (by omega) e0) (fun y8 h8 g8 hq => ?_)
  obtain ⟨rfl, rfl, rfl⟩ := hq
  obtain ⟨y8, h9, g10, e0, E⟩ := obiE E
  refine Si.mono (smX8_thrown (N := N) hF (by omega) e0) (fun y8 h8 g8 hq => ?_)
  obtain ⟨rfl, rfl, rfl⟩ := hq
  refine ⟨fun c0 => ?_, fun c0 => ?_⟩
  · replace E := iteT c0 E
    refine ⟨fun c0 => ?_, fun c0 => ?_⟩
    · replace E := iteF c0 E
      exact jL_law_849 hf hK23 _ hF _ _ _ E
    · replace E := iteT c0 E
      refine ⟨fun c0 => ?_, fun c0 => ?_⟩
      · replace E := iteT c0 E
        exact jL_law_849 hf hK23 _ hF _ _ _ E
      · replace E := iteF c0 E
        exact (Option.some.inj E).symm
  · replace E := iteF c0 E
    exact (Option.some.inj E).symm
def pL_law_781 (N R : Nat) (D : DE) (K23 : Frm → Int32 → HI → HL → GO Int32) (F : Frm) (x4 : Int32) (h : HI) (g : HL) : GO Int32 :=
  pL_law_1107 N R D K23 F x4 h g
theorem jL_law_781 {D : DE} {f N R : Nat} (hf : 14 + 2 * R ≤ f) {K23 : Frm → Int32 → HI → HL → GO Int32} {o9 : GQ Int32} (hK23 : ∀ (F : Frm) (_ : k_Fix F) (x4 : Int32) (h : HI) (g : HL), K23 F x4 h g = some o9 → V D mL_law (f + 1) (gi (gqi o9) (gt o9)) 23 [(0, .ref (dO D 7)), (1, .ref (ad D 0)), (2, .ref (ad D 115)), (3, .ref (ad D 159)), (4, .int x4)] [] (F, h, g)) : ∀ (F : Frm) (_ : k_Fix F) (x4 : Int32) (h : HI) (g : HL), pL_law_781 N R D K23 F x4 h g = some o9 → JL_law_781 D f (gqi o9) (gt o9) F h g x4 := by
  intro F hF x4 h g E
  unfold pL_law_781 at E
  exact jL_law_1107 hf hK23 _ hF _ _ _ E
def pL_law_740 (N R : Nat) (D : DE) (K23 : Frm → Int32 → HI → HL → GO Int32) (F : Frm) (x4 : Int32) (h : HI) (g : HL) : GO Int32 :=
  ogi (ppX0_check N R F h g) fun (y1 : Int32) (F4 : Frm) (h2 : HI) (g3 : HL) =>
  obi (pX8_check N h2 g3) fun (y5 : Int32) (h6 : HI) (g7 : HL) =>
  obi (pX8_thrown N h6 g7) fun (y8 : Int32) (h9 : HI) (g10 : HL) =>
  if y8 = y1 then
    if y1 = 0 then
      if (lg_cmp (g10 159 (ix 0)) y5.toInt64) = 0 then
        pL_law_781 N R D K23 F4 x4 h9 g10
      else
        some (.inl (0, F4, h9, g10))
    else
      pL_law_781 N R D K23 F4 x4 h9 g10
  else
    some (.inl (0, F4, h9, g10))
theorem jL_law_740 {D : DE} {f N R : Nat} (hf : 14 + 2 * R ≤ f) {K23 : Frm → Int32 → HI → HL → GO Int32} {o9 : GQ Int32} (hK23 : ∀ (F : Frm) (_ : k_Fix F) (x4 : Int32) (h : HI) (g : HL), K23 F x4 h g = some o9 → V D mL_law (f + 1) (gi (gqi o9) (gt o9)) 23 [(0, .ref (dO D 7)), (1, .ref (ad D 0)), (2, .ref (ad D 115)), (3, .ref (ad D 159)), (4, .int x4)] [] (F, h, g)) : ∀ (F : Frm) (_ : k_Fix F) (x4 : Int32) (h : HI) (g : HL), pL_law_740 N R D K23 F x4 h g = some o9 → JL_law_740 D f (gqi o9) (gt o9) F h g x4 := by
  intro F hF x4 h g E
  unfold pL_law_740 at E
  refine Gi.ob (fun o1 e0 => (sX0_check (N := N) (R := R) hF (by omega) e0)) E (fun y1 F4 h2 g3 hF E => ?_) (fun _ _ _ _ e => e)
  obtain ⟨y5, h6, g7, e0, E⟩ := obiE E
  refine Si.mono (smX8_check (N := N) hF (by omega) e0) (fun y8 h8 g8 hq => ?_)
  obtain ⟨rfl, rfl, rfl⟩ := hq
  obtain ⟨y8, h9, g10, e0, E⟩ := obiE E
  refine Si.mono (smX8_thrown (N := N) hF (by omega) e0) (fun y8 h8 g8 hq => ?_)
  obtain ⟨rfl, rfl, rfl⟩ := hq
  refine ⟨fun c0 => ?_, fun c0 => ?_⟩
  · replace E := iteT c0 E
    refine ⟨fun c0 => ?_, fun c0 => ?_⟩
    · replace E := iteF c0 E
      exact jL_law_781 hf hK23 _ hF _ _ _ E
    · replace E := iteT c0 E
      refine ⟨fun c0 => ?_, fun c0 => ?_⟩
      · replace E := iteT c0 E
        exact jL_law_781 hf hK23 _ hF _ _ _ E
      · replace E := iteF c0 E
        exact (Option.some.inj E).symm
  · replace E := iteF c0 E
    exact (Option.some.inj E).symm
def pL_law_737 (N R : Nat) (D : DE) (K23 : Frm → Int32 → HI → HL → GO Int32) (F : Frm) (x4 : Int32) (h : HI) (g : HL) : GO Int32 :=
  pL_law_1107 N R D K23 F x4 h g
theorem jL_law_737 {D : DE} {f N R : Nat} (hf : 14 + 2 * R ≤ f) {K23 : Frm → Int32 → HI → HL → GO Int32} {o9 : GQ Int32} (hK23 : ∀ (F : Frm) (_ : k_Fix F) (x4 : Int32) (h : HI) (g : HL), K23 F x4 h g = some o9 → V D mL_law (f + 1) (gi (gqi o9) (gt o9)) 23 [(0, .ref (dO D 7)), (1, .ref (ad D 0)), (2, .ref (ad D 115)), (3, .ref (ad D 159)), (4, .int x4)] [] (F, h, g)) : ∀ (F : Frm) (_ : k_Fix F) (x4 : Int32) (h : HI) (g : HL), pL_law_737 N R D K23 F x4 h g = some o9 → JL_law_737 D f (gqi o9) (gt o9) F h g x4 := by
  intro F hF x4 h g E
  unfold pL_law_737 at E
  exact jL_law_1107 hf hK23 _ hF _ _ _ E
def pL_law_648 (N R : Nat) (D : DE) (K23 : Frm → Int32 → HI → HL → GO Int32) (F : Frm) (x4 : Int32) (h : HI) (g : HL) : GO Int32 :=
  gd (vin (x4 + 1) (dL D)) <|
  gd (vin (x4 + 2) (dL D)) <|
  gd (vin (x4 + 3) (dL D)) <|
  gd (vin (x4 + 4) (dL D)) <|
  ogi (ppX0_plant N R F (dX D (ix (x4 + 1))) (dX D (ix (x4 + 2))) (dX D (ix (x4 + 3))) (dX D (ix (x4 + 4))) h g) fun (y1 : Int32) (F4 : Frm) (h2 : HI) (g3 : HL) =>
  gd (vin (x4 + 1) (dL D)) <|
  gd (vin (x4 + 2) (dL D)) <|
  gd (vin (x4 + 3) (dL D)) <|
  gd (vin (x4 + 4) (dL D)) <|
  obi (pX8_plant N (dX D (ix (x4 + 1))) (dX D (ix (x4 + 2))) (dX D (ix (x4 + 3))) (dX D (ix (x4 + 4))) h2 g3) fun (y5 : Int32) (h6 : HI) (g7 : HL) =>
  obi (pX8_thrown N h6 g7) fun (y8 : Int32) (h9 : HI) (g10 : HL) =>
  if y8 = y1 then
    if y1 = 0 then
      if (lg_cmp (g10 159 (ix 0)) y5.toInt64) = 0 then
        pL_law_737 N R D K23 F4 x4 h9 g10
      else
        some (.inl (0, F4, h9, g10))
    else
      pL_law_737 N R D K23 F4 x4 h9 g10
  else
    some (.inl (0, F4, h9, g10))
theorem jL_law_648 {D : DE} {f N R : Nat} (hf : 14 + 2 * R ≤ f) {K23 : Frm → Int32 → HI → HL → GO Int32} {o9 : GQ Int32} (hK23 : ∀ (F : Frm) (_ : k_Fix F) (x4 : Int32) (h : HI) (g : HL), K23 F x4 h g = some o9 → V D mL_law (f + 1) (gi (gqi o9) (gt o9)) 23 [(0, .ref (dO D 7)), (1, .ref (ad D 0)), (2, .ref (ad D 115)), (3, .ref (ad D 159)), (4, .int x4)] [] (F, h, g)) : ∀ (F : Frm) (_ : k_Fix F) (x4 : Int32) (h : HI) (g : HL), pL_law_648 N R D K23 F x4 h g = some o9 → JL_law_648 D f (gqi o9) (gt o9) F h g x4 := by
  intro F hF x4 h g E
  unfold pL_law_648 at E
  obtain ⟨z0, E⟩ := gdE E; refine ⟨vinE z0, ?_⟩
  obtain ⟨z0, E⟩ := gdE E; refine ⟨vinE z0, ?_⟩
  obtain ⟨z0, E⟩ := gdE E; refine ⟨vinE z0, ?_⟩
  obtain ⟨z0, E⟩ := gdE E; refine ⟨vinE z0, ?_⟩
  refine Gi.ob (fun o1 e0 => (sX0_plant (N := N) (R := R) hF (by omega) e0)) E (fun y1 F4 h2 g3 hF E => ?_) (fun _ _ _ _ e => e)
  obtain ⟨z0, E⟩ := gdE E; refine ⟨vinE z0, ?_⟩
  obtain ⟨z0, E⟩ := gdE E; refine ⟨vinE z0, ?_⟩
  obtain ⟨z0, E⟩ := gdE E; refine ⟨vinE z0, ?_⟩
  obtain ⟨z0, E⟩ := gdE E; refine ⟨vinE z0, ?_⟩
  obtain ⟨y5, h6, g7, e0, E⟩ := obiE E
  refine Si.mono (smX8_plant (N := N) hF (by omega) e0) (fun y8 h8 g8 hq => ?_)
  obtain ⟨rfl, rfl, rfl⟩ := hq
  obtain ⟨y8, h9, g10, e0, E⟩ := obiE E
  refine Si.mono (smX8_thrown (N := N) hF (by omega) e0) (fun y8 h8 g8 hq => ?_)
  obtain ⟨rfl, rfl, rfl⟩ := hq
  refine ⟨fun c0 => ?_, fun c0 => ?_⟩
  · replace E := iteT c0 E
    refine ⟨fun c0 => ?_, fun c0 => ?_⟩
    · replace E := iteF c0 E
      exact jL_law_737 hf hK23 _ hF _ _ _ E
    · replace E := iteT c0 E
      refine ⟨fun c0 => ?_, fun c0 => ?_⟩
      · replace E := iteT c0 E
        exact jL_law_737 hf hK23 _ hF _ _ _ E
      · replace E := iteF c0 E
        exact (Option.some.inj E).symm
  · replace E := iteF c0 E
    exact (Option.some.inj E).symm
def pL_law_645 (N R : Nat) (D : DE) (K23 : Frm → Int32 → HI → HL → GO Int32) (F : Frm) (x4 : Int32) (h : HI) (g : HL) : GO Int32 :=
  pL_law_1107 N R D K23 F x4 h g
theorem jL_law_645 {D : DE} {f N R : Nat} (hf : 14 + 2 * R ≤ f) {K23 : Frm → Int32 → HI → HL → GO Int32} {o9 : GQ Int32} (hK23 : ∀ (F : Frm) (_ : k_Fix F) (x4 : Int32) (h : HI) (g : HL), K23 F x4 h g = some o9 → V D mL_law (f + 1) (gi (gqi o9) (gt o9)) 23 [(0, .ref (dO D 7)), (1, .ref (ad D 0)), (2, .ref (ad D 115)), (3, .ref (ad D 159)), (4, .int x4)] [] (F, h, g)) : ∀ (F : Frm) (_ : k_Fix F) (x4 : Int32) (h : HI) (g : HL), pL_law_645 N R D K23 F x4 h g = some o9 → JL_law_645 D f (gqi o9) (gt o9) F h g x4 := by
  intro F hF x4 h g E
  unfold pL_law_645 at E
  exact jL_law_1107 hf hK23 _ hF _ _ _ E
def pL_law_639 (N R : Nat) (D : DE) (K23 : Frm → Int32 → HI → HL → GO Int32) (F : Frm) (x4 : Int32) (s0 : Int64) (s1 : Int64) (h : HI) (g : HL) : GO Int32 :=
  if (lg_cmp s0 s1) = 0 then
    pL_law_645 N R D K23 F x4 h g
  else
    some (.inl (0, F, h, g))
theorem jL_law_639 {D : DE} {f N R : Nat} (hf : 14 + 2 * R ≤ f) {K23 : Frm → Int32 → HI → HL → GO Int32} {o9 : GQ Int32} (hK23 : ∀ (F : Frm) (_ : k_Fix F) (x4 : Int32) (h : HI) (g : HL), K23 F x4 h g = some o9 → V D mL_law (f + 1) (gi (gqi o9) (gt o9)) 23 [(0, .ref (dO D 7)), (1, .ref (ad D 0)), (2, .ref (ad D 115)), (3, .ref (ad D 159)), (4, .int x4)] [] (F, h, g)) : ∀ (F : Frm) (_ : k_Fix F) (x4 : Int32) (s0 : Int64) (s1 : Int64) (h : HI) (g : HL), pL_law_639 N R D K23 F x4 s0 s1 h g = some o9 → JL_law_639 D f (gqi o9) (gt o9) F h g x4 s0 s1 := by
  intro F hF x4 s0 s1 h g E
  unfold pL_law_639 at E
  refine ⟨fun c0 => ?_, fun c0 => ?_⟩
  · replace E := iteT c0 E
    exact jL_law_645 hf hK23 _ hF _ _ _ E
  · replace E := iteF c0 E
    exact (Option.some.inj E).symm
def pL_law_573 (N R : Nat) (D : DE) (K23 : Frm → Int32 → HI → HL → GO Int32) (F : Frm) (x4 : Int32) (h : HI) (g : HL) : GO Int32 :=
  gd (vin (x4 + 1) (dL D)) <|
  gd (vin (x4 + 2) (dL D)) <|
  ogi (ppX0_strict N R F (dX D (ix (x4 + 1))) (dX D (ix (x4 + 2))) h g) fun (y1 : Int32) (F4 : Frm) (h2 : HI) (g3 : HL) =>
  gd (vin (x4 + 1) (dL D)) <|
  gd (vin (x4 + 2) (dL D)) <|
  obi (pX8_strict N (dX D (ix (x4 + 1))) (dX D (ix (x4 + 2))) h2 g3) fun (y5 : Int32) (h6 : HI) (g7 : HL) =>
  obi (pX8_thrown N h6 g7) fun (y8 : Int32) (h9 : HI) (g10 : HL) =>
  if y8 = y1 then
    if y1 = 0 then
      if y5 = 0 then
        pL_law_639 N R D K23 F4 x4 (g10 159 (ix 0)) 0 h9 g10
      else
        pL_law_639 N R D K23 F4 x4 (g10 159 (ix 0)) 1 h9 g10
    else
      pL_law_645 N R D K23 F4 x4 h9 g10
  else
    some (.inl (0, F4, h9, g10))
theorem jL_law_573 {D : DE} {f N R : Nat} (hf : 14 + 2 * R ≤ f) {K23 : Frm → Int32 → HI → HL → GO Int32} {o9 : GQ Int32} (hK23 : ∀ (F : Frm) (_ : k_Fix F) (x4 : Int32) (h : HI) (g : HL), K23 F x4 h g = some o9 → V D mL_law (f + 1) (gi (gqi o9) (gt o9)) 23 [(0, .ref (dO D 7)), (1, .ref (ad D 0)), (2, .ref (ad D 115)), (3, .ref (ad D 159)), (4, .int x4)] [] (F, h, g)) : ∀ (F : Frm) (_ : k_Fix F) (x4 : Int32) (h : HI) (g : HL), pL_law_573 N R D K23 F x4 h g = some o9 → JL_law_573 D f (gqi o9) (gt o9) F h g x4 := by
  intro F hF x4 h g E
  unfold pL_law_573 at E
  obtain ⟨z0, E⟩ := gdE E; refine ⟨vinE z0, ?_⟩
  obtain ⟨z0, E⟩ := gdE E; refine ⟨vinE z0, ?_⟩
  refine Gi.ob (fun o1 e0 => (sX0_strict (N := N) (R := R) hF (by omega) e0)) E (fun y1 F4 h2 g3 hF E => ?_) (fun _ _ _ _ e => e)
  obtain ⟨z0, E⟩ := gdE E; refine ⟨vinE z0, ?_⟩
  obtain ⟨z0, E⟩ := gdE E; refine ⟨vinE z0, ?_⟩
  obtain ⟨y5, h6, g7, e0, E⟩ := obiE E
  refine Si.mono (smX8_strict (N := N) hF (by omega) e0) (fun y8 h8 g8 hq => ?_)
  obtain ⟨rfl, rfl, rfl⟩ := hq
  obtain ⟨y8, h9, g10, e0, E⟩ := obiE E
  refine Si.mono (smX8_thrown (N := N) hF (by omega) e0) (fun y8 h8 g8 hq => ?_)
  obtain ⟨rfl, rfl, rfl⟩ := hq
  refine ⟨fun c0 => ?_, fun c0 => ?_⟩
  · replace E := iteT c0 E
    refine ⟨fun c0 => ?_, fun c0 => ?_⟩
    · replace E := iteF c0 E
      exact jL_law_645 hf hK23 _ hF _ _ _ E
    · replace E := iteT c0 E
      refine ⟨fun c0 => ?_, fun c0 => ?_⟩
      · replace E := iteT c0 E
        exact jL_law_639 hf hK23 _ hF _ _ _ _ _ E
      · replace E := iteF c0 E
        exact jL_law_639 hf hK23 _ hF _ _ _ _ _ E
  · replace E := iteF c0 E
    exact (Option.some.inj E).symm
def pL_law_570 (N R : Nat) (D : DE) (K23 : Frm → Int32 → HI → HL → GO Int32) (F : Frm) (x4 : Int32) (h : HI) (g : HL) : GO Int32 :=
  pL_law_1107 N R D K23 F x4 h g
theorem jL_law_570 {D : DE} {f N R : Nat} (hf : 14 + 2 * R ≤ f) {K23 : Frm → Int32 → HI → HL → GO Int32} {o9 : GQ Int32} (hK23 : ∀ (F : Frm) (_ : k_Fix F) (x4 : Int32) (h : HI) (g : HL), K23 F x4 h g = some o9 → V D mL_law (f + 1) (gi (gqi o9) (gt o9)) 23 [(0, .ref (dO D 7)), (1, .ref (ad D 0)), (2, .ref (ad D 115)), (3, .ref (ad D 159)), (4, .int x4)] [] (F, h, g)) : ∀ (F : Frm) (_ : k_Fix F) (x4 : Int32) (h : HI) (g : HL), pL_law_570 N R D K23 F x4 h g = some o9 → JL_law_570 D f (gqi o9) (gt o9) F h g x4 := by
  intro F hF x4 h g E
  unfold pL_law_570 at E
  exact jL_law_1107 hf hK23 _ hF _ _ _ E
def pL_law_493 (N R : Nat) (D : DE) (K23 : Frm → Int32 → HI → HL → GO Int32) (F : Frm) (x4 : Int32) (h : HI) (g : HL) : GO Int32 :=
  gd (vin (x4 + 1) (dL D)) <|
  gd (vin (x4 + 2) (dL D)) <|
  gd (vin (x4 + 3) (dL D)) <|
  ogi (ppX0_asks N R F (dX D (ix (x4 + 1))) (dX D (ix (x4 + 2))) (dX D (ix (x4 + 3))) h g) fun (y1 : Int32) (F4 : Frm) (h2 : HI) (g3 : HL) =>
  gd (vin (x4 + 1) (dL D)) <|
  gd (vin (x4 + 2) (dL D)) <|
  gd (vin (x4 + 3) (dL D)) <|
  obi (pX8_asks_2 N (dX D (ix (x4 + 1))) (dX D (ix (x4 + 2))) (dX D (ix (x4 + 3))) h2 g3) fun (y5 : Int32) (h6 : HI) (g7 : HL) =>
  obi (pX8_thrown N h6 g7) fun (y8 : Int32) (h9 : HI) (g10 : HL) =>
  if y8 = y1 then
    if y1 = 0 then
      if (lg_cmp (g10 159 (ix 0)) y5.toInt64) = 0 then
        pL_law_570 N R D K23 F4 x4 h9 g10
      else
        some (.inl (0, F4, h9, g10))
    else
      pL_law_570 N R D K23 F4 x4 h9 g10
  else
    some (.inl (0, F4, h9, g10))
theorem jL_law_493 {D : DE} {f N R : Nat} (hf : 14 + 2 * R ≤ f) {K23 : Frm → Int32 → HI → HL → GO Int32} {o9 : GQ Int32} (hK23 : ∀ (F : Frm) (_ : k_Fix F) (x4 : Int32) (h : HI) (g : HL), K23 F x4 h g = some o9 → V D mL_law (f + 1) (gi (gqi o9) (gt o9)) 23 [(0, .ref (dO D 7)), (1, .ref (ad D 0)), (2, .ref (ad D 115)), (3, .ref (ad D 159)), (4, .int x4)] [] (F, h, g)) : ∀ (F : Frm) (_ : k_Fix F) (x4 : Int32) (h : HI) (g : HL), pL_law_493 N R D K23 F x4 h g = some o9 → JL_law_493 D f (gqi o9) (gt o9) F h g x4 := by
  intro F hF x4 h g E
  unfold pL_law_493 at E
  obtain ⟨z0, E⟩ := gdE E; refine ⟨vinE z0, ?_⟩
  obtain ⟨z0, E⟩ := gdE E; refine ⟨vinE z0, ?_⟩
  obtain ⟨z0, E⟩ := gdE E; refine ⟨vinE z0, ?_⟩
  refine Gi.ob (fun o1 e0 => (sX0_asks (N := N) (R := R) hF (by omega) e0)) E (fun y1 F4 h2 g3 hF E => ?_) (fun _ _ _ _ e => e)
  obtain ⟨z0, E⟩ := gdE E; refine ⟨vinE z0, ?_⟩
  obtain ⟨z0, E⟩ := gdE E; refine ⟨vinE z0, ?_⟩
  obtain ⟨z0, E⟩ := gdE E; refine ⟨vinE z0, ?_⟩
  obtain ⟨y5, h6, g7, e0, E⟩ := obiE E
  refine Si.mono (smX8_asks_2 (N := N) hF (by omega) e0) (fun y8 h8 g8 hq => ?_)
  obtain ⟨rfl, rfl, rfl⟩ := hq
  obtain ⟨y8, h9, g10, e0, E⟩ := obiE E
  refine Si.mono (smX8_thrown (N := N) hF (by omega) e0) (fun y8 h8 g8 hq => ?_)
  obtain ⟨rfl, rfl, rfl⟩ := hq
  refine ⟨fun c0 => ?_, fun c0 => ?_⟩
  · replace E := iteT c0 E
    refine ⟨fun c0 => ?_, fun c0 => ?_⟩
    · replace E := iteF c0 E
      exact jL_law_570 hf hK23 _ hF _ _ _ E
    · replace E := iteT c0 E
      refine ⟨fun c0 => ?_, fun c0 => ?_⟩
      · replace E := iteT c0 E
        exact jL_law_570 hf hK23 _ hF _ _ _ E
      · replace E := iteF c0 E
        exact (Option.some.inj E).symm
  · replace E := iteF c0 E
    exact (Option.some.inj E).symm
def pL_law_490 (N R : Nat) (D : DE) (K23 : Frm → Int32 → HI → HL → GO Int32) (F : Frm) (x4 : Int32) (h : HI) (g : HL) : GO Int32 :=
  pL_law_1107 N R D K23 F x4 h g
theorem jL_law_490 {D : DE} {f N R : Nat} (hf : 14 + 2 * R ≤ f) {K23 : Frm → Int32 → HI → HL → GO Int32} {o9 : GQ Int32} (hK23 : ∀ (F : Frm) (_ : k_Fix F) (x4 : Int32) (h : HI) (g : HL), K23 F x4 h g = some o9 → V D mL_law (f + 1) (gi (gqi o9) (gt o9)) 23 [(0, .ref (dO D 7)), (1, .ref (ad D 0)), (2, .ref (ad D 115)), (3, .ref (ad D 159)), (4, .int x4)] [] (F, h, g)) : ∀ (F : Frm) (_ : k_Fix F) (x4 : Int32) (h : HI) (g : HL), pL_law_490 N R D K23 F x4 h g = some o9 → JL_law_490 D f (gqi o9) (gt o9) F h g x4 := by
  intro F hF x4 h g E
  unfold pL_law_490 at E
  exact jL_law_1107 hf hK23 _ hF _ _ _ E
def pL_law_484 (N R : Nat) (D : DE) (K23 : Frm → Int32 → HI → HL → GO Int32) (F : Frm) (x4 : Int32) (s0 : Int64) (s1 : Int64) (h : HI) (g : HL) : GO Int32 :=
  if (lg_cmp s0 s1) = 0 then
    pL_law_490 N R D K23 F x4 h g
  else
    some (.inl (0, F, h, g))
theorem jL_law_484 {D : DE} {f N R : Nat} (hf : 14 + 2 * R ≤ f) {K23 : Frm → Int32 → HI → HL → GO Int32} {o9 : GQ Int32} (hK23 : ∀ (F : Frm) (_ : k_Fix F) (x4 : Int32) (h : HI) (g : HL), K23 F x4 h g = some o9 → V D mL_law (f + 1) (gi (gqi o9) (gt o9)) 23 [(0, .ref (dO D 7)), (1, .ref (ad D 0)), (2, .ref (ad D 115)), (3, .ref (ad D 159)), (4, .int x4)] [] (F, h, g)) : ∀ (F : Frm) (_ : k_Fix F) (x4 : Int32) (s0 : Int64) (s1 : Int64) (h : HI) (g : HL), pL_law_484 N R D K23 F x4 s0 s1 h g = some o9 → JL_law_484 D f (gqi o9) (gt o9) F h g x4 s0 s1 := by
  intro F hF x4 s0 s1 h g E
  unfold pL_law_484 at E
  refine ⟨fun c0 => ?_, fun c0 => ?_⟩
  · replace E := iteT c0 E
    exact jL_law_490 hf hK23 _ hF _ _ _ E
  · replace E := iteF c0 E
    exact (Option.some.inj E).symm
def pL_law_418 (N R : Nat) (D : DE) (K23 : Frm → Int32 → HI → HL → GO Int32) (F : Frm) (x4 : Int32) (h : HI) (g : HL) : GO Int32 :=
  gd (vin (x4 + 1) (dL D)) <|
  gd (vin (x4 + 2) (dL D)) <|
  ogi (ppX0_dead N R F (dX D (ix (x4 + 1))) (dX D (ix (x4 + 2))) h g) fun (y1 : Int32) (F4 : Frm) (h2 : HI) (g3 : HL) =>
  gd (vin (x4 + 1) (dL D)) <|
  gd (vin (x4 + 2) (dL D)) <|
  obi (pX8_dead N (dX D (ix (x4 + 1))) (dX D (ix (x4 + 2))) h2 g3) fun (y5 : Int32) (h6 : HI) (g7 : HL) =>
  obi (pX8_thrown N h6 g7) fun (y8 : Int32) (h9 : HI) (g10 : HL) =>
  if y8 = y1 then
    if y1 = 0 then
      if y5 = 0 then
        pL_law_484 N R D K23 F4 x4 (g10 159 (ix 0)) 0 h9 g10
      else
        pL_law_484 N R D K23 F4 x4 (g10 159 (ix 0)) 1 h9 g10
    else
      pL_law_490 N R D K23 F4 x4 h9 g10
  else
    some (.inl (0, F4, h9, g10))
theorem jL_law_418 {D : DE} {f N R : Nat} (hf : 14 + 2 * R ≤ f) {K23 : Frm → Int32 → HI → HL → GO Int32} {o9 : GQ Int32} (hK23 : ∀ (F : Frm) (_ : k_Fix F) (x4 : Int32) (h : HI) (g : HL), K23 F x4 h g = some o9 → V D mL_law (f + 1) (gi (gqi o9) (gt o9)) 23 [(0, .ref (dO D 7)), (1, .ref (ad D 0)), (2, .ref (ad D 115)), (3, .ref (ad D 159)), (4, .int x4)] [] (F, h, g)) : ∀ (F : Frm) (_ : k_Fix F) (x4 : Int32) (h : HI) (g : HL), pL_law_418 N R D K23 F x4 h g = some o9 → JL_law_418 D f (gqi o9) (gt o9) F h g x4 := by
  intro F hF x4 h g E
  unfold pL_law_418 at E
  obtain ⟨z0, E⟩ := gdE E; refine ⟨vinE z0, ?_⟩
  obtain ⟨z0, E⟩ := gdE E; refine ⟨vinE z0, ?_⟩
  refine Gi.ob (fun o1 e0 => (sX0_dead (N := N) (R := R) hF (by omega) e0)) E (fun y1 F4 h2 g3 hF E => ?_) (fun _ _ _ _ e => e)
  obtain ⟨z0, E⟩ := gdE E; refine ⟨vinE z0, ?_⟩
  obtain ⟨z0, E⟩ := gdE E; refine ⟨vinE z0, ?_⟩
  obtain ⟨y5, h6, g7, e0, E⟩ := obiE E
  refine Si.mono (smX8_dead (N := N) hF (by omega) e0) (fun y8 h8 g8 hq => ?_)
  obtain ⟨rfl, rfl, rfl⟩ := hq
  obtain ⟨y8, h9, g10, e0, E⟩ := obiE E
  refine Si.mono (smX8_thrown (N := N) hF (by omega) e0) (fun y8 h8 g8 hq => ?_)
  obtain ⟨rfl, rfl, rfl⟩ := hq
  refine ⟨fun c0 => ?_, fun c0 => ?_⟩
  · replace E := iteT c0 E
    refine ⟨fun c0 => ?_, fun c0 => ?_⟩
    · replace E := iteF c0 E
      exact jL_law_490 hf hK23 _ hF _ _ _ E
    · replace E := iteT c0 E
      refine ⟨fun c0 => ?_, fun c0 => ?_⟩
      · replace E := iteT c0 E
        exact jL_law_484 hf hK23 _ hF _ _ _ _ _ E
      · replace E := iteF c0 E
        exact jL_law_484 hf hK23 _ hF _ _ _ _ _ E
  · replace E := iteF c0 E
    exact (Option.some.inj E).symm
def pL_law_415 (N R : Nat) (D : DE) (K23 : Frm → Int32 → HI → HL → GO Int32) (F : Frm) (x4 : Int32) (h : HI) (g : HL) : GO Int32 :=
  pL_law_1107 N R D K23 F x4 h g
theorem jL_law_415 {D : DE} {f N R : Nat} (hf : 14 + 2 * R ≤ f) {K23 : Frm → Int32 → HI → HL → GO Int32} {o9 : GQ Int32} (hK23 : ∀ (F : Frm) (_ : k_Fix F) (x4 : Int32) (h : HI) (g : HL), K23 F x4 h g = some o9 → V D mL_law (f + 1) (gi (gqi o9) (gt o9)) 23 [(0, .ref (dO D 7)), (1, .ref (ad D 0)), (2, .ref (ad D 115)), (3, .ref (ad D 159)), (4, .int x4)] [] (F, h, g)) : ∀ (F : Frm) (_ : k_Fix F) (x4 : Int32) (h : HI) (g : HL), pL_law_415 N R D K23 F x4 h g = some o9 → JL_law_415 D f (gqi o9) (gt o9) F h g x4 := by
  intro F hF x4 h g E
  unfold pL_law_415 at E
  exact jL_law_1107 hf hK23 _ hF _ _ _ E
def pL_law_374 (N R : Nat) (D : DE) (K23 : Frm → Int32 → HI → HL → GO Int32) (F : Frm) (x4 : Int32) (h : HI) (g : HL) : GO Int32 :=
  ogi (ppX0_rounds N R F h g) fun (y1 : Int32) (F4 : Frm) (h2 : HI) (g3 : HL) =>
  obi (pX8_rounds N h2 g3) fun (y5 : Int32) (h6 : HI) (g7 : HL) =>
  obi (pX8_thrown N h6 g7) fun (y8 : Int32) (h9 : HI) (g10 : HL) =>
  if y8 = y1 then
    if y1 = 0 then
      if (lg_cmp (g10 159 (ix 0)) y5.toInt64) = 0 then
        pL_law_415 N R D K23 F4 x4 h9 g10
      else
        some (.inl (0, F4, h9, g10))
    else
      pL_law_415 N R D K23 F4 x4 h9 g10
  else
    some (.inl (0, F4, h9, g10))
theorem jL_law_374 {D : DE} {f N R : Nat} (hf : 14 + 2 * R ≤ f) {K23 : Frm → Int32 → HI → HL → GO Int32} {o9 : GQ Int32} (hK23 : ∀ (F : Frm) (_ : k_Fix F) (x4 : Int32) (h : HI) (g : HL), K23 F x4 h g = some o9 → V D mL_law (f + 1) (gi (gqi o9) (gt o9)) 23 [(0, .ref (dO D 7)), (1, .ref (ad D 0)), (2, .ref (ad D 115)), (3, .ref (ad D 159)), (4, .int x4)] [] (F, h, g)) : ∀ (F : Frm) (_ : k_Fix F) (x4 : Int32) (h : HI) (g : HL), pL_law_374 N R D K23 F x4 h g = some o9 → JL_law_374 D f (gqi o9) (gt o9) F h g x4 := by
  intro F hF x4 h g E
  unfold pL_law_374 at E
  refine Gi.ob (fun o1 e0 => (sX0_rounds (N := N) (R := R) hF (by omega) e0)) E (fun y1 F4 h2 g3 hF E => ?_) (fun _ _ _ _ e => e)
  obtain ⟨y5, h6, g7, e0, E⟩ := obiE E
  refine Si.mono (smX8_rounds (N := N) hF (by omega) e0) (fun y8 h8 g8 hq => ?_)
  obtain ⟨rfl, rfl, rfl⟩ := hq
  obtain ⟨y8, h9, g10, e0, E⟩ := obiE E
  refine Si.mono (smX8_thrown (N := N) hF (by omega) e0) (fun y8 h8 g8 hq => ?_)
  obtain ⟨rfl, rfl, rfl⟩ := hq
  refine ⟨fun c0 => ?_, fun c0 => ?_⟩
  · replace E := iteT c0 E
    refine ⟨fun c0 => ?_, fun c0 => ?_⟩
    · replace E := iteF c0 E
      exact jL_law_415 hf hK23 _ hF _ _ _ E
    · replace E := iteT c0 E
      refine ⟨fun c0 => ?_, fun c0 => ?_⟩
      · replace E := iteT c0 E
        exact jL_law_415 hf hK23 _ hF _ _ _ E
      · replace E := iteF c0 E
        exact (Option.some.inj E).symm
  · replace E := iteF c0 E
    exact (Option.some.inj E).symm
def pL_law_371 (N R : Nat) (D : DE) (K23 : Frm → Int32 → HI → HL → GO Int32) (F : Frm) (x4 : Int32) (h : HI) (g : HL) : GO Int32 :=
  pL_law_1107 N R D K23 F x4 h g
theorem jL_law_371 {D : DE} {f N R : Nat} (hf : 14 + 2 * R ≤ f) {K23 : Frm → Int32 → HI → HL → GO Int32} {o9 : GQ Int32} (hK23 : ∀ (F : Frm) (_ : k_Fix F) (x4 : Int32) (h : HI) (g : HL), K23 F x4 h g = some o9 → V D mL_law (f + 1) (gi (gqi o9) (gt o9)) 23 [(0, .ref (dO D 7)), (1, .ref (ad D 0)), (2, .ref (ad D 115)), (3, .ref (ad D 159)), (4, .int x4)] [] (F, h, g)) : ∀ (F : Frm) (_ : k_Fix F) (x4 : Int32) (h : HI) (g : HL), pL_law_371 N R D K23 F x4 h g = some o9 → JL_law_371 D f (gqi o9) (gt o9) F h g x4 := by
  intro F hF x4 h g E
  unfold pL_law_371 at E
  exact jL_law_1107 hf hK23 _ hF _ _ _ E
def pL_law_306 (N R : Nat) (D : DE) (K23 : Frm → Int32 → HI → HL → GO Int32) (F : Frm) (x4 : Int32) (h : HI) (g : HL) : GO Int32 :=
  gd (vin (x4 + 1) (dL D)) <|
  gd (vin (x4 + 2) (dL D)) <|
  ogi (ppX0_function N R F (dX D (ix (x4 + 1))) (dX D (ix (x4 + 2))) h g) fun (y1 : Int32) (F4 : Frm) (h2 : HI) (g3 : HL) =>
  gd (vin (x4 + 1) (dL D)) <|
  gd (vin (x4 + 2) (dL D)) <|
  obi (pX8_function N (dX D (ix (x4 + 1))) (dX D (ix (x4 + 2))) h2 g3) fun (y5 : Int32) (h6 : HI) (g7 : HL) =>
  obi (pX8_thrown N h6 g7) fun (y8 : Int32) (h9 : HI) (g10 : HL) =>
  if y8 = y1 then
    if y1 = 0 then
      if (lg_cmp (g10 159 (ix 0)) y5.toInt64) = 0 then
        pL_law_371 N R D K23 F4 x4 h9 g10
      else
        some (.inl (0, F4, h9, g10))
    else
      pL_law_371 N R D K23 F4 x4 h9 g10
  else
    some (.inl (0, F4, h9, g10))
theorem jL_law_306 {D : DE} {f N R : Nat} (hf : 14 + 2 * R ≤ f) {K23 : Frm → Int32 → HI → HL → GO Int32} {o9 : GQ Int32} (hK23 : ∀ (F : Frm) (_ : k_Fix F) (x4 : Int32) (h : HI) (g : HL), K23 F x4 h g = some o9 → V D mL_law (f + 1) (gi (gqi o9) (gt o9)) 23 [(0, .ref (dO D 7)), (1, .ref (ad D 0)), (2, .ref (ad D 115)), (3, .ref (ad D 159)), (4, .int x4)] [] (F, h, g)) : ∀ (F : Frm) (_ : k_Fix F) (x4 : Int32) (h : HI) (g : HL), pL_law_306 N R D K23 F x4 h g = some o9 → JL_law_306 D f (gqi o9) (gt o9) F h g x4 := by
  intro F hF x4 h g E
  unfold pL_law_306 at E
  obtain ⟨z0, E⟩ := gdE E; refine ⟨vinE z0, ?_⟩
  obtain ⟨z0, E⟩ := gdE E; refine ⟨vinE z0, ?_⟩
  refine Gi.ob (fun o1 e0 => (sX0_function (N := N) (R := R) hF (by omega) e0)) E (fun y1 F4 h2 g3 hF E => ?_) (fun _ _ _ _ e => e)
  obtain ⟨z0, E⟩ := gdE E; refine ⟨vinE z0, ?_⟩
  obtain ⟨z0, E⟩ := gdE E; refine ⟨vinE z0, ?_⟩
  obtain ⟨y5, h6, g7, e0, E⟩ := obiE E
  refine Si.mono (smX8_function (N := N) hF (by omega) e0) (fun y8 h8 g8 hq => ?_)
  obtain ⟨rfl, rfl, rfl⟩ := hq
  obtain ⟨y8, h9, g10, e0, E⟩ := obiE E
  refine Si.mono (smX8_thrown (N := N) hF (by omega) e0) (fun y8 h8 g8 hq => ?_)
  obtain ⟨rfl, rfl, rfl⟩ := hq
  refine ⟨fun c0 => ?_, fun c0 => ?_⟩
  · replace E := iteT c0 E
    refine ⟨fun c0 => ?_, fun c0 => ?_⟩
    · replace E := iteF c0 E
      exact jL_law_371 hf hK23 _ hF _ _ _ E
    · replace E := iteT c0 E
      refine ⟨fun c0 => ?_, fun c0 => ?_⟩
      · replace E := iteT c0 E
        exact jL_law_371 hf hK23 _ hF _ _ _ E
      · replace E := iteF c0 E
        exact (Option.some.inj E).symm
  · replace E := iteF c0 E
    exact (Option.some.inj E).symm
def pL_law_293 (N R : Nat) (D : DE) (K23 : Frm → Int32 → HI → HL → GO Int32) (F : Frm) (x4 : Int32) (h : HI) (g : HL) : GO Int32 :=
  obi (ppX1_place N R F h g) fun (y1 : Int32) (h2 : HI) (g3 : HL) =>
  obi (pX8_place N h2 g3) fun (y4 : Int32) (h5 : HI) (g6 : HL) =>
  if y1 = y4 then
    pL_law_1107 N R D K23 F x4 h5 g6
  else
    some (.inl (0, F, h5, g6))
theorem jL_law_293 {D : DE} {f N R : Nat} (hf : 14 + 2 * R ≤ f) {K23 : Frm → Int32 → HI → HL → GO Int32} {o9 : GQ Int32} (hK23 : ∀ (F : Frm) (_ : k_Fix F) (x4 : Int32) (h : HI) (g : HL), K23 F x4 h g = some o9 → V D mL_law (f + 1) (gi (gqi o9) (gt o9)) 23 [(0, .ref (dO D 7)), (1, .ref (ad D 0)), (2, .ref (ad D 115)), (3, .ref (ad D 159)), (4, .int x4)] [] (F, h, g)) : ∀ (F : Frm) (_ : k_Fix F) (x4 : Int32) (h : HI) (g : HL), pL_law_293 N R D K23 F x4 h g = some o9 → JL_law_293 D f (gqi o9) (gt o9) F h g x4 := by
  intro F hF x4 h g E
  unfold pL_law_293 at E
  obtain ⟨y1, h2, g3, e0, E⟩ := obiE E
  refine Si.mono (sX1_place (N := N) (R := R) hF (by omega) e0) (fun y8 h8 g8 hq => ?_)
  obtain ⟨rfl, rfl, rfl⟩ := hq
  obtain ⟨y4, h5, g6, e0, E⟩ := obiE E
  refine Si.mono (smX8_place (N := N) hF (by omega) e0) (fun y8 h8 g8 hq => ?_)
  obtain ⟨rfl, rfl, rfl⟩ := hq
  refine ⟨fun c0 => ?_, fun c0 => ?_⟩
  · replace E := iteT c0 E
    exact jL_law_1107 hf hK23 _ hF _ _ _ E
  · replace E := iteF c0 E
    exact (Option.some.inj E).symm
def pL_law_280 (N R : Nat) (D : DE) (K23 : Frm → Int32 → HI → HL → GO Int32) (F : Frm) (x4 : Int32) (h : HI) (g : HL) : GO Int32 :=
  ogi (ppX1_read N R F h g) fun (y1 : Int32) (F4 : Frm) (h2 : HI) (g3 : HL) =>
  obi (pX8_read N h2 g3) fun (y5 : Int32) (h6 : HI) (g7 : HL) =>
  if y1 = y5 then
    pL_law_1107 N R D K23 F4 x4 h6 g7
  else
    some (.inl (0, F4, h6, g7))
theorem jL_law_280 {D : DE} {f N R : Nat} (hf : 14 + 2 * R ≤ f) {K23 : Frm → Int32 → HI → HL → GO Int32} {o9 : GQ Int32} (hK23 : ∀ (F : Frm) (_ : k_Fix F) (x4 : Int32) (h : HI) (g : HL), K23 F x4 h g = some o9 → V D mL_law (f + 1) (gi (gqi o9) (gt o9)) 23 [(0, .ref (dO D 7)), (1, .ref (ad D 0)), (2, .ref (ad D 115)), (3, .ref (ad D 159)), (4, .int x4)] [] (F, h, g)) : ∀ (F : Frm) (_ : k_Fix F) (x4 : Int32) (h : HI) (g : HL), pL_law_280 N R D K23 F x4 h g = some o9 → JL_law_280 D f (gqi o9) (gt o9) F h g x4 := by
  intro F hF x4 h g E
  unfold pL_law_280 at E
  refine Gi.ob (fun o1 e0 => (sX1_read (N := N) (R := R) hF (by omega) e0)) E (fun y1 F4 h2 g3 hF E => ?_) (fun _ _ _ _ e => e)
  obtain ⟨y5, h6, g7, e0, E⟩ := obiE E
  refine Si.mono (smX8_read (N := N) hF (by omega) e0) (fun y8 h8 g8 hq => ?_)
  obtain ⟨rfl, rfl, rfl⟩ := hq
  refine ⟨fun c0 => ?_, fun c0 => ?_⟩
  · replace E := iteT c0 E
    exact jL_law_1107 hf hK23 _ hF _ _ _ E
  · replace E := iteF c0 E
    exact (Option.some.inj E).symm
def pL_law_277 (N R : Nat) (D : DE) (K23 : Frm → Int32 → HI → HL → GO Int32) (F : Frm) (x4 : Int32) (h : HI) (g : HL) : GO Int32 :=
  pL_law_1107 N R D K23 F x4 h g
theorem jL_law_277 {D : DE} {f N R : Nat} (hf : 14 + 2 * R ≤ f) {K23 : Frm → Int32 → HI → HL → GO Int32} {o9 : GQ Int32} (hK23 : ∀ (F : Frm) (_ : k_Fix F) (x4 : Int32) (h : HI) (g : HL), K23 F x4 h g = some o9 → V D mL_law (f + 1) (gi (gqi o9) (gt o9)) 23 [(0, .ref (dO D 7)), (1, .ref (ad D 0)), (2, .ref (ad D 115)), (3, .ref (ad D 159)), (4, .int x4)] [] (F, h, g)) : ∀ (F : Frm) (_ : k_Fix F) (x4 : Int32) (h : HI) (g : HL), pL_law_277 N R D K23 F x4 h g = some o9 → JL_law_277 D f (gqi o9) (gt o9) F h g x4 := by
  intro F hF x4 h g E
  unfold pL_law_277 at E
  exact jL_law_1107 hf hK23 _ hF _ _ _ E
def pL_law_224 (N R : Nat) (D : DE) (K23 : Frm → Int32 → HI → HL → GO Int32) (F : Frm) (x4 : Int32) (h : HI) (g : HL) : GO Int32 :=
  gd (vin (x4 + 1) (dL D)) <|
  ogi (ppX0_cut N R F (dX D (ix (x4 + 1))) h g) fun (y1 : Int32) (F4 : Frm) (h2 : HI) (g3 : HL) =>
  gd (vin (x4 + 1) (dL D)) <|
  obi (pX8_cut N (dX D (ix (x4 + 1))) h2 g3) fun (y5 : Int32) (h6 : HI) (g7 : HL) =>
  obi (pX8_thrown N h6 g7) fun (y8 : Int32) (h9 : HI) (g10 : HL) =>
  if y8 = y1 then
    if y1 = 0 then
      if (lg_cmp (g10 159 (ix 0)) y5.toInt64) = 0 then
        pL_law_277 N R D K23 F4 x4 h9 g10
      else
        some (.inl (0, F4, h9, g10))
    else
      pL_law_277 N R D K23 F4 x4 h9 g10
  else
    some (.inl (0, F4, h9, g10))
theorem jL_law_224 {D : DE} {f N R : Nat} (hf : 14 + 2 * R ≤ f) {K23 : Frm → Int32 → HI → HL → GO Int32} {o9 : GQ Int32} (hK23 : ∀ (F : Frm) (_ : k_Fix F) (x4 : Int32) (h : HI) (g : HL), K23 F x4 h g = some o9 → V D mL_law (f + 1) (gi (gqi o9) (gt o9)) 23 [(0, .ref (dO D 7)), (1, .ref (ad D 0)), (2, .ref (ad D 115)), (3, .ref (ad D 159)), (4, .int x4)] [] (F, h, g)) : ∀ (F : Frm) (_ : k_Fix F) (x4 : Int32) (h : HI) (g : HL), pL_law_224 N R D K23 F x4 h g = some o9 → JL_law_224 D f (gqi o9) (gt o9) F h g x4 := by
  intro F hF x4 h g E
  unfold pL_law_224 at E
  obtain ⟨z0, E⟩ := gdE E; refine ⟨vinE z0, ?_⟩
  refine Gi.ob (fun o1 e0 => (sX0_cut (N := N) (R := R) hF (by omega) e0)) E (fun y1 F4 h2 g3 hF E => ?_) (fun _ _ _ _ e => e)
  obtain ⟨z0, E⟩ := gdE E; refine ⟨vinE z0, ?_⟩
  obtain ⟨y5, h6, g7, e0, E⟩ := obiE E
  refine Si.mono (smX8_cut (N := N) hF (by omega) e0) (fun y8 h8 g8 hq => ?_)
  obtain ⟨rfl, rfl, rfl⟩ := hq
  obtain ⟨y8, h9, g10, e0, E⟩ := obiE E
  refine Si.mono (smX8_thrown (N := N) hF (by omega) e0) (fun y8 h8 g8 hq => ?_)
  obtain ⟨rfl, rfl, rfl⟩ := hq
  refine ⟨fun c0 => ?_, fun c0 => ?_⟩
  · replace E := iteT c0 E
    refine ⟨fun c0 => ?_, fun c0 => ?_⟩
    · replace E := iteF c0 E
      exact jL_law_277 hf hK23 _ hF _ _ _ E
    · replace E := iteT c0 E
      refine ⟨fun c0 => ?_, fun c0 => ?_⟩
      · replace E := iteT c0 E
        exact jL_law_277 hf hK23 _ hF _ _ _ E
      · replace E := iteF c0 E
        exact (Option.some.inj E).symm
  · replace E := iteF c0 E
    exact (Option.some.inj E).symm
def pL_law_221 (N R : Nat) (D : DE) (K23 : Frm → Int32 → HI → HL → GO Int32) (F : Frm) (x4 : Int32) (h : HI) (g : HL) : GO Int32 :=
  pL_law_1107 N R D K23 F x4 h g
theorem jL_law_221 {D : DE} {f N R : Nat} (hf : 14 + 2 * R ≤ f) {K23 : Frm → Int32 → HI → HL → GO Int32} {o9 : GQ Int32} (hK23 : ∀ (F : Frm) (_ : k_Fix F) (x4 : Int32) (h : HI) (g : HL), K23 F x4 h g = some o9 → V D mL_law (f + 1) (gi (gqi o9) (gt o9)) 23 [(0, .ref (dO D 7)), (1, .ref (ad D 0)), (2, .ref (ad D 115)), (3, .ref (ad D 159)), (4, .int x4)] [] (F, h, g)) : ∀ (F : Frm) (_ : k_Fix F) (x4 : Int32) (h : HI) (g : HL), pL_law_221 N R D K23 F x4 h g = some o9 → JL_law_221 D f (gqi o9) (gt o9) F h g x4 := by
  intro F hF x4 h g E
  unfold pL_law_221 at E
  exact jL_law_1107 hf hK23 _ hF _ _ _ E
def pL_law_120 (N R : Nat) (D : DE) (K23 : Frm → Int32 → HI → HL → GO Int32) (F : Frm) (x4 : Int32) (h : HI) (g : HL) : GO Int32 :=
  gd (vin (x4 + 1) (dL D)) <|
  gd (vin (x4 + 2) (dL D)) <|
  gd (vin (x4 + 3) (dL D)) <|
  gd (vin (x4 + 4) (dL D)) <|
  gd (vin (x4 + 5) (dL D)) <|
  ogi (ppX0_feed N R F (dX D (ix (x4 + 1))) (dX D (ix (x4 + 2))) (dX D (ix (x4 + 3))) (dX D (ix (x4 + 4))) (dX D (ix (x4 + 5))) h g) fun (y1 : Int32) (F4 : Frm) (h2 : HI) (g3 : HL) =>
  gd (vin (x4 + 1) (dL D)) <|
  gd (vin (x4 + 2) (dL D)) <|
  gd (vin (x4 + 3) (dL D)) <|
  gd (vin (x4 + 4) (dL D)) <|
  gd (vin (x4 + 5) (dL D)) <|
  obi (pX8_feed N (dX D (ix (x4 + 1))) (dX D (ix (x4 + 2))) (dX D (ix (x4 + 3))) (dX D (ix (x4 + 4))) (dX D (ix (x4 + 5))) h2 g3) fun (y5 : Int32) (h6 : HI) (g7 : HL) =>
  obi (pX8_thrown N h6 g7) fun (y8 : Int32) (h9 : HI) (g10 : HL) =>
  if y8 = y1 then
    if y1 = 0 then
      if (lg_cmp (g10 159 (ix 0)) y5.toInt64) = 0 then
        pL_law_221 N R D K23 F4 x4 h9 g10
      else
        some (.inl (0, F4, h9, g10))
    else
      pL_law_221 N R D K23 F4 x4 h9 g10
  else
    some (.inl (0, F4, h9, g10))
theorem jL_law_120 {D : DE} {f N R : Nat} (hf : 14 + 2 * R ≤ f) {K23 : Frm → Int32 → HI → HL → GO Int32} {o9 : GQ Int32} (hK23 : ∀ (F : Frm) (_ : k_Fix F) (x4 : Int32) (h : HI) (g : HL), K23 F x4 h g = some o9 → V D mL_law (f + 1) (gi (gqi o9) (gt o9)) 23 [(0, .ref (dO D 7)), (1, .ref (ad D 0)), (2, .ref (ad D 115)), (3, .ref (ad D 159)), (4, .int x4)] [] (F, h, g)) : ∀ (F : Frm) (_ : k_Fix F) (x4 : Int32) (h : HI) (g : HL), pL_law_120 N R D K23 F x4 h g = some o9 → JL_law_120 D f (gqi o9) (gt o9) F h g x4 := by
  intro F hF x4 h g E
  unfold pL_law_120 at E
  obtain ⟨z0, E⟩ := gdE E; refine ⟨vinE z0, ?_⟩
  obtain ⟨z0, E⟩ := gdE E; refine ⟨vinE z0, ?_⟩
  obtain ⟨z0, E⟩ := gdE E; refine ⟨vinE z0, ?_⟩
  obtain ⟨z0, E⟩ := gdE E; refine ⟨vinE z0, ?_⟩
  obtain ⟨z0, E⟩ := gdE E; refine ⟨vinE z0, ?_⟩
  refine Gi.ob (fun o1 e0 => (sX0_feed (N := N) (R := R) hF (by omega) e0)) E (fun y1 F4 h2 g3 hF E => ?_) (fun _ _ _ _ e => e)
  obtain ⟨z0, E⟩ := gdE E; refine ⟨vinE z0, ?_⟩
  obtain ⟨z0, E⟩ := gdE E; refine ⟨vinE z0, ?_⟩
  obtain ⟨z0, E⟩ := gdE E; refine ⟨vinE z0, ?_⟩
  obtain ⟨z0, E⟩ := gdE E; refine ⟨vinE z0, ?_⟩
  obtain ⟨z0, E⟩ := gdE E; refine ⟨vinE z0, ?_⟩
  obtain ⟨y5, h6, g7, e0, E⟩ := obiE E
  refine Si.mono (smX8_feed (N := N) hF (by omega) e0) (fun y8 h8 g8 hq => ?_)
  obtain ⟨rfl, rfl, rfl⟩ := hq
  obtain ⟨y8, h9, g10, e0, E⟩ := obiE E
  refine Si.mono (smX8_thrown (N := N) hF (by omega) e0) (fun y8 h8 g8 hq => ?_)
  obtain ⟨rfl, rfl, rfl⟩ := hq
  refine ⟨fun c0 => ?_, fun c0 => ?_⟩
  · replace E := iteT c0 E
    refine ⟨fun c0 => ?_, fun c0 => ?_⟩
    · replace E := iteF c0 E
      exact jL_law_221 hf hK23 _ hF _ _ _ E
    · replace E := iteT c0 E
      refine ⟨fun c0 => ?_, fun c0 => ?_⟩
      · replace E := iteT c0 E
        exact jL_law_221 hf hK23 _ hF _ _ _ E
      · replace E := iteF c0 E
        exact (Option.some.inj E).symm
  · replace E := iteF c0 E
    exact (Option.some.inj E).symm
def pL_law_23 (N R : Nat) (D : DE) : Nat → Frm → Int32 → HI → HL → GO Int32
  | 0, _, _, _, _ => none
  | n + 1, F, x4, h, g =>
    if ((nI (dL D)) - 6) < x4 then
      some (.inl (1, F, h, g))
    else
      gd (vin x4 (dL D)) <|
      bnd ((dX D (ix x4)) &&& 15) fun (y1 : Int32) =>
      if y1.toInt < 0 ∨ 15 < y1.toInt then
        pL_law_1107 N R D (pL_law_23 N R D n) F x4 h g
      else if y1 = 0 then
        pL_law_120 N R D (pL_law_23 N R D n) F x4 h g
      else if y1 = 1 then
        pL_law_224 N R D (pL_law_23 N R D n) F x4 h g
      else if y1 = 2 then
        pL_law_280 N R D (pL_law_23 N R D n) F x4 h g
      else if y1 = 3 then
        pL_law_293 N R D (pL_law_23 N R D n) F x4 h g
      else if y1 = 4 then
        pL_law_306 N R D (pL_law_23 N R D n) F x4 h g
      else if y1 = 5 then
        pL_law_374 N R D (pL_law_23 N R D n) F x4 h g
      else if y1 = 6 then
        pL_law_418 N R D (pL_law_23 N R D n) F x4 h g
      else if y1 = 7 then
        pL_law_493 N R D (pL_law_23 N R D n) F x4 h g
      else if y1 = 8 then
        pL_law_573 N R D (pL_law_23 N R D n) F x4 h g
      else if y1 = 9 then
        pL_law_648 N R D (pL_law_23 N R D n) F x4 h g
      else if y1 = 10 then
        pL_law_740 N R D (pL_law_23 N R D n) F x4 h g
      else if y1 = 11 then
        pL_law_784 N R D (pL_law_23 N R D n) F x4 h g
      else if y1 = 12 then
        pL_law_852 N R D (pL_law_23 N R D n) F x4 h g
      else if y1 = 13 then
        pL_law_932 N R D (pL_law_23 N R D n) F x4 h g
      else if y1 = 14 then
        pL_law_988 N R D (pL_law_23 N R D n) F x4 h g
      else
        pL_law_1044 N R D (pL_law_23 N R D n) F x4 h g
theorem lL_law_23 {D : DE} {f N R : Nat} (hf : 14 + 2 * R ≤ f) {o9 : GQ Int32} : ∀ (n : Nat) (F : Frm) (_ : k_Fix F) (x4 : Int32) (h : HI) (g : HL), pL_law_23 N R D n F x4 h g = some o9 → V D mL_law (f + 1) (gi (gqi o9) (gt o9)) 23 [(0, .ref (dO D 7)), (1, .ref (ad D 0)), (2, .ref (ad D 115)), (3, .ref (ad D 159)), (4, .int x4)] [] (F, h, g) := by
  intro n
  induction n with
  | zero => intro F hF x4 h g E; cases E
  | succ n hK23 =>
    intro F hF x4 h g E
    rw [pL_law_23] at E
    refine bL_law_23 (f := f) hF x4  ?_
    refine ⟨fun c0 => ?_, fun c0 => ?_⟩
    · replace E := iteT c0 E
      exact (Option.some.inj E).symm
    · replace E := iteF c0 E
      obtain ⟨z0, E⟩ := gdE E; refine ⟨vinE z0, ?_⟩
      intro y1 e0; replace E := bndE e0 E
      refine ⟨fun c0 => ?_, fun c0 => ?_, fun c0 => ?_, fun c0 => ?_, fun c0 => ?_, fun c0 => ?_, fun c0 => ?_, fun c0 => ?_, fun c0 => ?_, fun c0 => ?_, fun c0 => ?_, fun c0 => ?_, fun c0 => ?_, fun c0 => ?_, fun c0 => ?_, fun c0 => ?_, fun c0 => ?_⟩
      · replace E := iteT c0 E
        exact jL_law_1107 hf hK23 _ hF _ _ _ E
      · replace E := iteF (by rw [c0]; decide) E
        replace E := iteT c0 E
        exact jL_law_120 hf hK23 _ hF _ _ _ E
      · replace E := iteF (by rw [c0]; decide) E
        replace E := iteF (by rw [c0]; decide) E
        replace E := iteT c0 E
        exact jL_law_224 hf hK23 _ hF _ _ _ E
      · replace E := iteF (by rw [c0]; decide) E
        replace E := iteF (by rw [c0]; decide) E
        replace E := iteF (by rw [c0]; decide) E
        replace E := iteT c0 E
        exact jL_law_280 hf hK23 _ hF _ _ _ E
      · replace E := iteF (by rw [c0]; decide) E
        replace E := iteF (by rw [c0]; decide) E
        replace E := iteF (by rw [c0]; decide) E
        replace E := iteF (by rw [c0]; decide) E
        replace E := iteT c0 E
        exact jL_law_293 hf hK23 _ hF _ _ _ E
      · replace E := iteF (by rw [c0]; decide) E
        replace E := iteF (by rw [c0]; decide) E
        replace E := iteF (by rw [c0]; decide) E
        replace E := iteF (by rw [c0]; decide) E
        replace E := iteF (by rw [c0]; decide) E
        replace E := iteT c0 E
        exact jL_law_306 hf hK23 _ hF _ _ _ E
      · replace E := iteF (by rw [c0]; decide) E
        replace E := iteF (by rw [c0]; decide) E
        replace E := iteF (by rw [c0]; decide) E
        replace E := iteF (by rw [c0]; decide) E
        replace E := iteF (by rw [c0]; decide) E
        replace E := iteF (by rw [c0]; decide) E
        replace E := iteT c0 E
        exact jL_law_374 hf hK23 _ hF _ _ _ E
      · replace E := iteF (by rw [c0]; decide) E
        replace E := iteF (by rw [c0]; decide) E
        replace E := iteF (by rw [c0]; decide) E
        replace E := iteF (by rw [c0]; decide) E
        replace E := iteF (by rw [c0]; decide) E
        replace E := iteF (by rw [c0]; decide) E
        replace E := iteF (by rw [c0]; decide) E
        replace E := iteT c0 E
        exact jL_law_418 hf hK23 _ hF _ _ _ E
      · replace E := iteF (by rw [c0]; decide) E
        replace E := iteF (by rw [c0]; decide) E
        replace E := iteF (by rw [c0]; decide) E
        replace E := iteF (by rw [c0]; decide) E
        replace E := iteF (by rw [c0]; decide) E
        replace E := iteF (by rw [c0]; decide) E
        replace E := iteF (by rw [c0]; decide) E
        replace E := iteF (by rw [c0]; decide) E
        replace E := iteT c0 E
        exact jL_law_493 hf hK23 _ hF _ _ _ E
      · replace E := iteF (by rw [c0]; decide) E
        replace E := iteF (by rw [c0]; decide) E
        replace E := iteF (by rw [c0]; decide) E
        replace E := iteF (by rw [c0]; decide) E
        replace E := iteF (by rw [c0]; decide) E
        replace E := iteF (by rw [c0]; decide) E
        replace E := iteF (by rw [c0]; decide) E
        replace E := iteF (by rw [c0]; decide) E
        replace E := iteF (by rw [c0]; decide) E
        replace E := iteT c0 E
        exact jL_law_573 hf hK23 _ hF _ _ _ E
      · replace E := iteF (by rw [c0]; decide) E
        replace E := iteF (by rw [c0]; decide) E
        replace E := iteF (by rw [c0]; decide) E
        replace E := iteF (by rw [c0]; decide) E
        replace E := iteF (by rw [c0]; decide) E
        replace E := iteF (by rw [c0]; decide) E
        replace E := iteF (by rw [c0]; decide) E
        replace E := iteF (by rw [c0]; decide) E
        replace E := iteF (by rw [c0]; decide) E
        replace E := iteF (by rw [c0]; decide) E
        replace E := iteT c0 E
        exact jL_law_648 hf hK23 _ hF _ _ _ E
      · replace E := iteF (by rw [c0]; decide) E
        replace E := iteF (by rw [c0]; decide) E
        replace E := iteF (by rw [c0]; decide) E
        replace E := iteF (by rw [c0]; decide) E
        replace E := iteF (by rw [c0]; decide) E
        replace E := iteF (by rw [c0]; decide) E
        replace E := iteF (by rw [c0]; decide) E
        replace E := iteF (by rw [c0]; decide) E
        replace E := iteF (by rw [c0]; decide) E
        replace E := iteF (by rw [c0]; decide) E
        replace E := iteF (by rw [c0]; decide) E
        replace E := iteT c0 E
        exact jL_law_740 hf hK23 _ hF _ _ _ E
      · replace E := iteF (by rw [c0]; decide) E
        replace E := iteF (by rw [c0]; decide) E
        replace E := iteF (by rw [c0]; decide) E
        replace E := iteF (by rw [c0]; decide) E
        replace E := iteF (by rw [c0]; decide) E
        replace E := iteF (by rw [c0]; decide) E
        replace E := iteF (by rw [c0]; decide) E
        replace E := iteF (by rw [c0]; decide) E
        replace E := iteF (by rw [c0]; decide) E
        replace E := iteF (by rw [c0]; decide) E
        replace E := iteF (by rw [c0]; decide) E
        replace E := iteF (by rw [c0]; decide) E
        replace E := iteT c0 E
        exact jL_law_784 hf hK23 _ hF _ _ _ E
      · replace E := iteF (by rw [c0]; decide) E
        replace E := iteF (by rw [c0]; decide) E
        replace E := iteF (by rw [c0]; decide) E
        replace E := iteF (by rw [c0]; decide) E
        replace E := iteF (by rw [c0]; decide) E
        replace E := iteF (by rw [c0]; decide) E
        replace E := iteF (by rw [c0]; decide) E
        replace E := iteF (by rw [c0]; decide) E
        replace E := iteF (by rw [c0]; decide) E
        replace E := iteF (by rw [c0]; decide) E
        replace E := iteF (by rw [c0]; decide) E
        replace E := iteF (by rw [c0]; decide) E
        replace E := iteF (by rw [c0]; decide) E
        replace E := iteT c0 E
        exact jL_law_852 hf hK23 _ hF _ _ _ E
      · replace E := iteF (by rw [c0]; decide) E
        replace E := iteF (by rw [c0]; decide) E
        replace E := iteF (by rw [c0]; decide) E
        replace E := iteF (by rw [c0]; decide) E
        replace E := iteF (by rw [c0]; decide) E
        replace E := iteF (by rw [c0]; decide) E
        replace E := iteF (by rw [c0]; decide) E
        replace E := iteF (by rw [c0]; decide) E
        replace E := iteF (by rw [c0]; decide) E
        replace E := iteF (by rw [c0]; decide) E
        replace E := iteF (by rw [c0]; decide) E
        replace E := iteF (by rw [c0]; decide) E
        replace E := iteF (by rw [c0]; decide) E
        replace E := iteF (by rw [c0]; decide) E
        replace E := iteT c0 E
        exact jL_law_932 hf hK23 _ hF _ _ _ E
      · replace E := iteF (by rw [c0]; decide) E
        replace E := iteF (by rw [c0]; decide) E
        replace E := iteF (by rw [c0]; decide) E
        replace E := iteF (by rw [c0]; decide) E
        replace E := iteF (by rw [c0]; decide) E
        replace E := iteF (by rw [c0]; decide) E
        replace E := iteF (by rw [c0]; decide) E
        replace E := iteF (by rw [c0]; decide) E
        replace E := iteF (by rw [c0]; decide) E
        replace E := iteF (by rw [c0]; decide) E
        replace E := iteF (by rw [c0]; decide) E
        replace E := iteF (by rw [c0]; decide) E
        replace E := iteF (by rw [c0]; decide) E
        replace E := iteF (by rw [c0]; decide) E
        replace E := iteF (by rw [c0]; decide) E
        replace E := iteT c0 E
        exact jL_law_988 hf hK23 _ hF _ _ _ E
      · replace E := iteF (by rw [c0]; decide) E
        replace E := iteF (by rw [c0]; decide) E
        replace E := iteF (by rw [c0]; decide) E
        replace E := iteF (by rw [c0]; decide) E
        replace E := iteF (by rw [c0]; decide) E
        replace E := iteF (by rw [c0]; decide) E
        replace E := iteF (by rw [c0]; decide) E
        replace E := iteF (by rw [c0]; decide) E
        replace E := iteF (by rw [c0]; decide) E
        replace E := iteF (by rw [c0]; decide) E
        replace E := iteF (by rw [c0]; decide) E
        replace E := iteF (by rw [c0]; decide) E
        replace E := iteF (by rw [c0]; decide) E
        replace E := iteF (by rw [c0]; decide) E
        replace E := iteF (by rw [c0]; decide) E
        replace E := iteF (by rw [c0]; decide) E
        exact jL_law_1044 hf hK23 _ hF _ _ _ E
theorem law_of_pure {D : DE} {N R : Nat} (hR : 14 + 2 * R ≤ 2047) {F9 : Frm} {h9 : HI} {g9 : HL} (h1 : F9.1.1 ≤ 600384) (h2 : F9.1.2 ≤ 7288810) (E : pL_law_23 N R D N cEnd.1 0 cEnd.2.1 cEnd.2.2 = some (.inl (1, F9, h9, g9))) : law_ask D := by
  refine V.mono (lL_law_23 hR N _ cEnd_fix _ _ _ E) (fun o μ' q => ?_)
  rcases q with ⟨y, F1, g1, g2, e1, e2, e3, e4⟩ | ⟨a, e, F1, g1, g2, e1, e2, e3, e4, e5⟩
  · cases e4
    exact Or.inl ⟨1, F9, h9, g9, e1, e2, e3, rfl, h1, h2⟩
  · cases e5
