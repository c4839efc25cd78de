/-! THE PROGRAM's TREE AND A RUN's STATE: what both sides have in common.
G : PG, the ghost of a program: rows over nodes x (the model's numbers) 0 kind, 1 a, 2 b, 3 c, 4 type, 5 object, 6 depth, 7 function, 8 argOf, 15 lo, 16 hi, 17 judged, 18 (16 x + s) scope; over functions k (the model's numbers, bank and all) 9 object, 10 params, 11 names, 12 type, 13 body, 14 (16 k + s) types of names, 19 array of types.
W : PG, the ghost of a run: 0 where an input pair lies in the model, 1 types of things, 2 types of pairs, 6 second things of pairs, 3 functions of frames, 4 (16 e + s) which slots are filled, 4 (30000 + j) which things were begun. -/
abbrev PG : Type := Nat → Nat → Nat
def fOf (t : Nat) : Nat := if 3 ≤ t then 1 else 0
def sOf (t : Nat) : Nat := if t = 2 ∨ t = 4 then 1 else 0
def nSub (G : PG) (x y : Nat) : Prop := G 17 y = 1 ∧ G 7 y = G 7 x ∧ G 6 y < G 6 x ∧ G 15 x ≤ G 15 y ∧ G 16 y ≤ G 16 x
def nSc (G : PG) (x y : Nat) : Prop := ∀ s, s < 16 → G 18 (16 * y + s) = 1 → G 18 (16 * x + s) = 1
def nAp (G : PG) (y z : Nat) : Prop := G 16 y ≤ G 15 z
/-- what is known of a judged node -/
def nWF (G : PG) (k0 nf x : Nat) : Prop :=
  k0 ≤ G 7 x ∧ G 7 x < k0 + nf ∧ G 4 x ≤ 4 ∧ x < 2002 ∧ 1 ≤ G 0 x ∧ G 0 x ≤ 9 ∧ G 15 x ≤ G 16 x ∧ G 16 x ≤ G 11 (G 7 x) ∧
  (∀ s, s < 16 → G 18 (16 * x + s) = 1 → s < G 11 (G 7 x) ∧ (s < G 15 x ∨ G 16 x ≤ s)) ∧
  (G 0 x = 1 → nSub G x (G 1 x) ∧ nSub G x (G 2 x) ∧ nSc G x (G 1 x) ∧ nSc G x (G 2 x) ∧ nAp G (G 1 x) (G 2 x) ∧ G 4 (G 1 x) = 0 ∧ G 4 (G 2 x) = 0 ∧ G 4 x = 0 ∧ (G 3 x = 12 ∨ 19 ≤ G 3 x ∧ G 3 x ≤ 22)) ∧
  (G 0 x = 2 → nSub G x (G 1 x) ∧ nSub G x (G 2 x) ∧ nSub G x (G 3 x) ∧ nSc G x (G 1 x) ∧ nSc G x (G 2 x) ∧ nSc G x (G 3 x) ∧ nAp G (G 1 x) (G 2 x) ∧ nAp G (G 2 x) (G 3 x) ∧ G 4 (G 1 x) = 0 ∧ G 4 (G 2 x) = G 4 x ∧ G 4 (G 3 x) = G 4 x) ∧
  (G 0 x = 3 → nSub G x (G 1 x) ∧ nSub G x (G 2 x) ∧ nSc G x (G 1 x) ∧ (∀ s, s < 16 → G 18 (16 * G 2 x + s) = 1 → G 18 (16 * x + s) = 1 ∨ s = G 3 x) ∧ nAp G (G 1 x) (G 2 x) ∧ G 15 x = G 3 x ∧ G 3 x < G 15 (G 1 x) ∧ G 4 (G 1 x) = G 14 (16 * G 7 x + G 3 x) ∧ G 4 (G 2 x) = G 4 x ∧ G 10 (G 7 x) ≤ G 3 x) ∧
  (G 0 x = 4 → nSub G x (G 1 x) ∧ nSub G x (G 2 x) ∧ nSc G x (G 1 x) ∧ (∀ s, s < 16 → G 18 (16 * G 2 x + s) = 1 → G 18 (16 * x + s) = 1 ∨ s = G 3 x ∨ s = G 3 x + 1) ∧ G 16 (G 1 x) ≤ G 3 x ∧ G 3 x + 2 ≤ G 15 (G 2 x) ∧ 1 ≤ G 4 (G 1 x) ∧ fOf (G 4 (G 1 x)) = G 14 (16 * G 7 x + G 3 x) ∧ sOf (G 4 (G 1 x)) = G 14 (16 * G 7 x + (G 3 x + 1)) ∧ G 4 (G 2 x) = G 4 x ∧ G 10 (G 7 x) ≤ G 3 x) ∧
  (G 0 x = 5 → G 4 x = 0 ∧ G 1 x < 1000000000) ∧
  (G 0 x = 6 → G 4 x = G 1 x) ∧
  (G 0 x = 7 → G 1 x < 16 ∧ G 18 (16 * x + G 1 x) = 1 ∧ G 4 x = G 14 (16 * G 7 x + G 1 x)) ∧
  (G 0 x = 8 → k0 ≤ G 3 x ∧ G 3 x < k0 + nf ∧ G 2 x = G 10 (G 3 x) ∧ G 1 x + G 2 x ≤ 2002 ∧ G 4 x = G 12 (G 3 x) ∧ (∀ i, i < G 2 x → nSub G x (G 8 (G 1 x + i)) ∧ nSc G x (G 8 (G 1 x + i)) ∧ G 4 (G 8 (G 1 x + i)) = G 14 (16 * G 3 x + i)) ∧ ∀ i j, i < j → j < G 2 x → nAp G (G 8 (G 1 x + i)) (G 8 (G 1 x + j))) ∧
  (G 0 x = 9 → nSub G x (G 1 x) ∧ nSub G x (G 2 x) ∧ nSc G x (G 1 x) ∧ nSc G x (G 2 x) ∧ nAp G (G 1 x) (G 2 x) ∧ G 4 (G 1 x) ≤ 1 ∧ G 4 (G 2 x) ≤ 1 ∧ G 4 x = 1 + 2 * G 4 (G 1 x) + G 4 (G 2 x))
/-- a program: functions k0 .. k0 + nf - 1 -/
def pWF (G : PG) (k0 nf : Nat) : Prop :=
  (k0 = 0 ∨ k0 = 12) ∧ nf ≤ 12 ∧
  (∀ k, k0 ≤ k → k < k0 + nf → G 10 k ≤ 4 ∧ G 10 k ≤ G 11 k ∧ G 11 k ≤ 16 ∧ G 12 k ≤ 4 ∧ G 17 (G 13 k) = 1 ∧ G 7 (G 13 k) = k ∧ G 4 (G 13 k) = G 12 k ∧ G 6 (G 13 k) ≤ 140 ∧ (∀ s, s < 16 → G 14 (16 * k + s) ≤ 4) ∧ ∀ s, s < 16 → G 18 (16 * G 13 k + s) = 1 → s < G 10 k) ∧
  ∀ x, G 17 x = 1 → nWF G k0 nf x
/-- the model's memory holds it -/
def sM (G : PG) (k0 nf : Nat) (m : HI) : Prop :=
  (∀ k, k0 ≤ k → k < k0 + nf → m 118 k = nI (G 12 k) ∧ m 119 k = nI (G 10 k) ∧ m 120 k = nI (G 11 k) ∧ m 121 k = nI (G 13 k) ∧ ∀ s, s < G 11 k → m 123 (16 * k + s) = nI (G 14 (16 * k + s))) ∧
  ∀ x, G 17 x = 1 → m 124 x = nI (G 0 x) ∧ m 125 x = nI (G 1 x) ∧ m 129 x = nI (G 4 x) ∧ (G 0 x ≠ 5 → G 0 x ≠ 6 → G 0 x ≠ 7 → m 126 x = nI (G 2 x)) ∧ (G 0 x ≤ 4 → m 127 x = nI (G 3 x)) ∧ (G 0 x = 8 → m 127 x = nI (G 3 x) ∧ ∀ i, i < G 2 x → m 131 (G 1 x + i) = nI (G 8 (G 1 x + i)))
/-- the component's memory holds it -/
def sC (G : PG) (k0 nf : Nat) (F : Frm) (h : HI) : Prop :=
  (∀ k, k0 ≤ k → k < k0 + nf → 160 ≤ G 9 k ∧ F.2.1 (G 9 k) = (18, 0) ∧ F.2.2 (G 9 k) 6 = some (G 5 (G 13 k)) ∧ F.2.2 (G 9 k) 5 = some (G 19 k) ∧ 160 ≤ G 19 k ∧ F.2.1 (G 19 k) = (0, 16) ∧
    h (G 9 k) 1 = nI (G 10 k) ∧ h (G 9 k) 2 = nI (G 11 k) ∧ h (G 9 k) 3 = nI (G 12 k) ∧ ∀ s, s < G 11 k → h (G 19 k) s = nI (G 14 (16 * k + s))) ∧
  ∀ x, G 17 x = 1 → 160 ≤ G 5 x ∧ h (G 5 x) 1 = nI (G 4 x) ∧
    (G 0 x = 1 → F.2.1 (G 5 x) = (27, 0) ∧ F.2.2 (G 5 x) 3 = some (G 5 (G 1 x)) ∧ F.2.2 (G 5 x) 4 = some (G 5 (G 2 x)) ∧ h (G 5 x) 2 = nI (if G 3 x = 12 then 10 else G 3 x - 13)) ∧
    (G 0 x = 2 → F.2.1 (G 5 x) = (21, 0) ∧ F.2.2 (G 5 x) 2 = some (G 5 (G 1 x)) ∧ F.2.2 (G 5 x) 3 = some (G 5 (G 2 x)) ∧ F.2.2 (G 5 x) 4 = some (G 5 (G 3 x))) ∧
    (G 0 x = 3 → F.2.1 (G 5 x) = (19, 0) ∧ F.2.2 (G 5 x) 3 = some (G 5 (G 1 x)) ∧ F.2.2 (G 5 x) 4 = some (G 5 (G 2 x)) ∧ h (G 5 x) 2 = nI (G 3 x)) ∧
    (G 0 x = 4 → F.2.1 (G 5 x) = (20, 0) ∧ F.2.2 (G 5 x) 3 = some (G 5 (G 1 x)) ∧ F.2.2 (G 5 x) 4 = some (G 5 (G 2 x)) ∧ h (G 5 x) 2 = nI (G 3 x)) ∧
    (G 0 x = 5 → F.2.1 (G 5 x) = (22, 0) ∧ h (G 5 x) 2 = nI (G 1 x)) ∧
    (G 0 x = 6 → F.2.1 (G 5 x) = (23, 0)) ∧
    (G 0 x = 7 → F.2.1 (G 5 x) = (26, 0) ∧ h (G 5 x) 2 = nI (G 1 x)) ∧
    (G 0 x = 8 → F.2.1 (G 5 x) = (25, 0) ∧ F.2.2 (G 5 x) 2 = some (G 9 (G 3 x)) ∧ h (G 5 x) 4 = nI (G 2 x) ∧ ∃ w, F.2.2 (G 5 x) 3 = some w ∧ F.2.1 w = (5, 4) ∧ 160 ≤ w ∧ ∀ i, i < G 2 x → F.2.2 w i = some (G 5 (G 8 (G 1 x + i)))) ∧
    (G 0 x = 9 → F.2.1 (G 5 x) = (24, 0) ∧ F.2.2 (G 5 x) 2 = some (G 5 (G 1 x)) ∧ F.2.2 (G 5 x) 3 = some (G 5 (G 2 x)))
/-- the slots of the params of the function that is run stay -/
def prm (h h' : HI) : Prop := h' 101 19 = h 101 19 ∧ (∀ k, k < ix (h 101 19) → h' 108 k = h 108 k) ∧ h' 101 18 = h 101 18 ∧ h' 101 17 = h 101 17
def frC (F : Frm) (h : HI) (F' : Frm) (h' : HI) : Prop := (F'.1 = F.1 ∧ prm h h') ∧ F'.2.1 = F.2.1 ∧ (∀ a k, a ≠ 102 → F'.2.2 a k = F.2.2 a k) ∧ ∀ a k, (a < 101 ∨ 110 < a) → h' a k = h a k
def frM (m m' : HI) : Prop := ∀ a k, ¬ (a = 115 ∧ (k = 36 ∨ 67 ≤ k ∧ k ≤ 74 ∨ k = 77 ∨ k = 78 ∨ k = 82)) → a ≠ 134 → a ≠ 135 → a ≠ 138 → ¬ (148 ≤ a ∧ a ≤ 156 ∨ a = 158) → m' a k = m a k
theorem frC.refl (F : Frm) (h : HI) : frC F h F h := ⟨⟨rfl, rfl, fun _ _ => rfl, rfl, rfl⟩, rfl, fun _ _ _ => rfl, fun _ _ _ => rfl⟩
theorem frC.trans {F F1 F2 : Frm} {h h1 h2 : HI} (a : frC F h F1 h1) (b : frC F1 h1 F2 h2) : frC F h F2 h2 :=
  ⟨⟨b.1.1.trans a.1.1, b.1.2.1.trans a.1.2.1, fun k q => (b.1.2.2.1 k (by rw [a.1.2.1]; exact q)).trans (a.1.2.2.1 k q), b.1.2.2.2.1.trans a.1.2.2.2.1, b.1.2.2.2.2.trans a.1.2.2.2.2⟩, b.2.1.trans a.2.1, fun x k q => (b.2.2.1 x k q).trans (a.2.2.1 x k q), fun x k q => (b.2.2.2 x k q).trans (a.2.2.2 x k q)⟩
theorem frM.refl (m : HI) : frM m m := fun _ _ _ _ _ _ _ => rfl
theorem frM.trans {m m1 m2 : HI} (a : frM m m1) (b : frM m1 m2) : frM m m2 := fun x k q1 q2 q3 q4 q5 => (b x k q1 q2 q3 q4 q5).trans (a x k q1 q2 q3 q4 q5)
theorem sM.fr' {G : PG} {k0 nf : Nat} {m m' : HI} (H : sM G k0 nf m) (E : ∀ a k, 118 ≤ a → a ≤ 131 → m' a k = m a k) : sM G k0 nf m' := by
  refine ⟨fun k h1 h2 => ?_, fun x hx => ?_⟩
  · have := H.1 k h1 h2
    refine ⟨?_, ?_, ?_, ?_, fun s hs => ?_⟩ <;> rw [E _ _ (by decide) (by decide)]
    · exact this.1
    · exact this.2.1
    · exact this.2.2.1
    · exact this.2.2.2.1
    · exact this.2.2.2.2 s hs
  · have := H.2 x hx
    obtain ⟨a1, a2, a3, a4, a5, a6⟩ := this
    refine ⟨?_, ?_, ?_, fun q1 q2 q3 => ?_, fun q => ?_, fun q => ⟨?_, fun i hi => ?_⟩⟩ <;> rw [E _ _ (by decide) (by decide)]
    · exact a1
    · exact a2
    · exact a3
    · exact a4 q1 q2 q3
    · exact a5 q
    · exact (a6 q).1
    · exact (a6 q).2 i hi
theorem sM.fr {G : PG} {k0 nf : Nat} {m m' : HI} (H : sM G k0 nf m) (e : frM m m') : sM G k0 nf m' := H.fr' (fun a k h1 h2 => e a k (by omega) (by omega) (by omega) (by omega) (by omega))
theorem sC.fr' {G : PG} {k0 nf : Nat} {F F' : Frm} {h h' : HI} (H : sC G k0 nf F h) (T' : F'.2.1 = F.2.1) (P : ∀ a k, 160 ≤ a → F'.2.2 a k = F.2.2 a k) (E : ∀ a k, 160 ≤ a → h' a k = h a k) : sC G k0 nf F' h' := by
  have T : ∀ a, F'.2.1 a = F.2.1 a := fun a => by rw [T']
  refine ⟨fun k h1 h2 => ?_, fun x hx => ?_⟩
  · obtain ⟨a1, a2, a3, a4, a5, a6, a7, a8, a9, b1⟩ := H.1 k h1 h2
    refine ⟨a1, ?_, ?_, ?_, a5, ?_, ?_, ?_, ?_, fun s hs => ?_⟩
    · rw [T]; exact a2
    · rw [P _ _ a1]; exact a3
    · rw [P _ _ a1]; exact a4
    · rw [T]; exact a6
    · rw [E _ _ a1]; exact a7
    · rw [E _ _ a1]; exact a8
    · rw [E _ _ a1]; exact a9
    · rw [E _ _ a5]; exact b1 s hs
  · obtain ⟨a1, a2, b1, b2, b3, b4, b5, b6, b7, b8, b9⟩ := H.2 x hx
    refine ⟨a1, ?_, fun q => ?_, fun q => ?_, fun q => ?_, fun q => ?_, fun q => ?_, fun q => ?_, fun q => ?_, fun q => ?_, fun q => ?_⟩
    · rw [E _ _ a1]; exact a2
    · obtain ⟨c1, c2, c3, c4⟩ := b1 q; rw [T, P _ _ a1, P _ _ a1, E _ _ a1]; exact ⟨c1, c2, c3, c4⟩
    · obtain ⟨c1, c2, c3, c4⟩ := b2 q; rw [T, P _ _ a1, P _ _ a1, P _ _ a1]; exact ⟨c1, c2, c3, c4⟩
    · obtain ⟨c1, c2, c3, c4⟩ := b3 q; rw [T, P _ _ a1, P _ _ a1, E _ _ a1]; exact ⟨c1, c2, c3, c4⟩
    · obtain ⟨c1, c2, c3, c4⟩ := b4 q; rw [T, P _ _ a1, P _ _ a1, E _ _ a1]; exact ⟨c1, c2, c3, c4⟩
    · obtain ⟨c1, c2⟩ := b5 q; rw [T, E _ _ a1]; exact ⟨c1, c2⟩
    · rw [T]; exact b6 q
    · obtain ⟨c1, c2⟩ := b7 q; rw [T, E _ _ a1]; exact ⟨c1, c2⟩
    · obtain ⟨c1, c2, c3, w, c4, c5, c6, c7⟩ := b8 q; rw [T, P _ _ a1, E _ _ a1, P _ _ a1]; exact ⟨c1, c2, c3, w, c4, by rw [T]; exact c5, c6, fun i hi => by rw [P _ _ c6]; exact c7 i hi⟩
    · obtain ⟨c1, c2, c3⟩ := b9 q; rw [T, P _ _ a1, P _ _ a1]; exact ⟨c1, c2, c3⟩
theorem sC.fr {G : PG} {k0 nf : Nat} {F F' : Frm} {h h' : HI} (H : sC G k0 nf F h) (e : frC F h F' h') : sC G k0 nf F' h' := H.fr' e.2.1 (fun a k q => e.2.2.1 a k (by omega)) (fun a k q => e.2.2.2 a k (by omega))
-- the state of a run
def th (I j : Nat) : Nat := if j < I then j else 40 + (j - I)
def pi' (W : PG) (IP c : Nat) : Nat := if c < IP then W 0 c else c - IP
def eok (G W : PG) (cl x e : Nat) : Prop := G 17 x = 1 ∧ e ≤ cl ∧ W 3 e = G 7 x ∧ ∀ s, s < 16 → G 18 (16 * x + s) = 1 → W 4 (16 * e + s) = 1
def vr (W : PG) (IP p y : Nat) (v k w : Int32) : Prop := (y = 0 ∧ k = nI 0 ∧ w = v) ∨ (0 < y ∧ k = nI 1 ∧ ∃ c, v = nI c ∧ c < IP + p ∧ w = nI (pi' W IP c) ∧ W 2 c = y)
def rT (G W : PG) (I IP p cl : Nat) (F : Frm) (h m : HI) (j : Nat) : Prop :=
  (W 1 j ≤ 4 ∧ (W 4 (30000 + j) = 1 → ¬ h 104 j = nI 0)) ∧ ∃ s, s ≤ 3 ∧ h 104 j = nI s ∧ m 150 (th I j) = nI s ∧
  (s = 0 → I ≤ j ∧ ∃ x e, F.2.2 102 j = some (G 5 x) ∧ m 148 (th I j) = nI x ∧ h 103 j = nI (16 * e) ∧ m 149 (th I j) = nI e ∧ eok G W cl x e ∧ G 4 x = W 1 j) ∧
  (s = 2 → vr W IP p (W 1 j) (h 105 j) (m 151 (th I j)) (m 152 (th I j))) ∧
  (j < I → h 109 j = m 153 j) ∧ (I ≤ j → m 153 (th I j) = if s = 0 then nI 0 else nI 1)
def rP (W : PG) (I IP t : Nat) (h m : HI) (c : Nat) : Prop := 1 ≤ W 2 c ∧ W 2 c ≤ 4 ∧ ∃ i j, h 106 c = nI i ∧ h 107 c = nI j ∧ i < I + t ∧ j < I + t ∧ m 154 (pi' W IP c) = nI (th I i) ∧ m 155 (pi' W IP c) = nI (th I j) ∧ W 1 i = fOf (W 2 c) ∧ W 1 j = sOf (W 2 c) ∧ W 6 c = j
def rE (G W : PG) (I t : Nat) (h m : HI) (e s : Nat) : Prop := ∃ j, j < I + t ∧ h 108 (16 * e + s) = nI j ∧ m 156 (16 * e + s) = nI (th I j) ∧ W 1 j = G 14 (16 * W 3 e + s)
def rB (W : PG) (I IP t p cl : Nat) : Prop := I ≤ 40 ∧ IP ≤ 40 ∧ t ≤ 1500 ∧ p ≤ 1500 ∧ cl ≤ 1500 ∧ (∀ c, c < IP → 1500 ≤ W 0 c ∧ W 0 c < 1540) ∧ (∀ k, 16 * (cl + 1) ≤ k → k < 30000 → W 4 k = 0) ∧ ∀ k, 30000 + (I + t) ≤ k → W 4 k = 0
def RC (G W : PG) (I IP t p cl : Nat) (F : Frm) (h m : HI) : Prop := rB W I IP t p cl ∧ (∀ j, j < I + t → rT G W I IP p cl F h m j) ∧ (∀ c, c < IP + p → rP W I IP t h m c) ∧ ∀ e, e ≤ cl → ∀ s, s < 16 → W 4 (16 * e + s) = 1 → rE G W I t h m e s
def CT (I IP t p cl s dd en lim : Nat) (h m : HI) : Prop := h 101 4 = nI (I + t) ∧ h 101 7 = nI (IP + p) ∧ h 101 9 = nI cl ∧ h 101 10 = nI I ∧ h 101 11 = nI IP ∧ h 101 12 = nI lim ∧ h 101 13 = nI s ∧ h 101 15 = nI dd ∧ h 101 16 = nI en ∧
  m 115 67 = nI t ∧ m 115 68 = nI p ∧ m 115 69 = nI cl ∧ m 115 71 = nI lim ∧ m 115 70 = nI s ∧ m 115 73 = nI dd ∧ m 115 74 = nI en ∧ s ≤ lim ∧ lim ≤ 20000 ∧ dd ≤ 150 ∧ en ≤ 5
def FI (I t : Nat) (h m : HI) : Prop := I ≤ 40 ∧ t ≤ 1500 ∧ ∀ j, j < I + t → (j < I → h 109 j = m 153 j) ∧ (I ≤ j → (h 104 j = nI 0 ↔ m 153 (th I j) = nI 0))
def ext (W W' : PG) (I IP t p cl : Nat) : Prop := W' 0 = W 0 ∧ (∀ j, j < I + t → W' 1 j = W 1 j) ∧ (∀ c, c < IP + p → W' 2 c = W 2 c ∧ W' 6 c = W 6 c) ∧ (∀ e, e ≤ cl → W' 3 e = W 3 e) ∧ ∀ k, W 4 k = 1 → W' 4 k = 1
theorem ext.refl (W : PG) (I IP t p cl : Nat) : ext W W I IP t p cl := ⟨rfl, fun _ _ => rfl, fun _ _ => ⟨rfl, rfl⟩, fun _ _ => rfl, fun _ h => h⟩
theorem ext.trans {W W1 W2 : PG} {I IP t p cl t1 p1 cl1 : Nat} (a : ext W W1 I IP t p cl) (b : ext W1 W2 I IP t1 p1 cl1) (h1 : t ≤ t1) (h2 : p ≤ p1) (h3 : cl ≤ cl1) : ext W W2 I IP t p cl :=
  ⟨b.1.trans a.1, fun j hj => (b.2.1 j (by omega)).trans (a.2.1 j hj), fun c hc => ⟨(b.2.2.1 c (by omega)).1.trans (a.2.2.1 c hc).1, (b.2.2.1 c (by omega)).2.trans (a.2.2.1 c hc).2⟩, fun e he => (b.2.2.2.1 e (by omega)).trans (a.2.2.2.1 e he), fun k hk => b.2.2.2.2 k (a.2.2.2.2 k hk)⟩
theorem eok.ext {G W W' : PG} {I IP t p cl cl' x e : Nat} (H : eok G W cl x e) (E : ext W W' I IP t p cl) (hc : cl ≤ cl') : eok G W' cl' x e :=
  ⟨H.1, by have := H.2.1; omega, (E.2.2.2.1 e H.2.1).trans H.2.2.1, fun s h1 h2 => E.2.2.2.2 _ (H.2.2.2 s h1 h2)⟩
theorem pi'.ext {W W' : PG} {I IP t p cl : Nat} (E : ext W W' I IP t p cl) (c : Nat) : pi' W' IP c = pi' W IP c := by unfold pi'; rw [E.1]
theorem vr.ext {W W' : PG} {I IP t p p' cl y : Nat} {v k w : Int32} (H : vr W IP p y v k w) (E : ext W W' I IP t p cl) (hp : p ≤ p') : vr W' IP p' y v k w := by
  rcases H with H | ⟨h1, h2, c, h3, h4, h5, h6⟩
  · exact Or.inl H
  · exact Or.inr ⟨h1, h2, c, h3, by omega, by rw [pi'.ext E]; exact h5, (E.2.2.1 c h4).1.trans h6⟩
theorem RC.FI {G W : PG} {I IP t p cl : Nat} {F : Frm} {h m : HI} (H : RC G W I IP t p cl F h m) : FI I t h m := by
  refine ⟨H.1.1, H.1.2.2.1, fun j hj => ?_⟩
  obtain ⟨-, s, h1, h2, h3, h4, h5, h6, h7⟩ := H.2.1 j hj
  refine ⟨h6, fun q => ?_⟩
  rw [h2, h7 q, q_inj (by omega) (by omega)]
  by_cases e : s = 0
  · simp [e]
  · simp only [e, if_false, false_iff]
    rw [q_inj (by omega) (by omega)]; omega
/-- nothing of the core is changed -/
theorem RC.same {G W : PG} {I IP t p cl : Nat} {F F' : Frm} {h m h' m' : HI} (H : RC G W I IP t p cl F h m) (e0 : ∀ k, F'.2.2 102 k = F.2.2 102 k) (e1 : ∀ a k, 103 ≤ a → a ≤ 109 → h' a k = h a k) (e2 : ∀ a k, 148 ≤ a → a ≤ 156 → m' a k = m a k) : RC G W I IP t p cl F' h' m' := by
  refine ⟨H.1, fun j hj => ?_, fun c hc => ?_, fun e he s hs q => ?_⟩
  · have := H.2.1 j hj
    unfold rT at this ⊢
    rw [e0, e1 104 _ (by decide) (by decide), e1 103 _ (by decide) (by decide), e1 105 _ (by decide) (by decide), e1 109 _ (by decide) (by decide), e2 148 _ (by decide) (by decide), e2 149 _ (by decide) (by decide), e2 150 _ (by decide) (by decide), e2 151 _ (by decide) (by decide), e2 152 _ (by decide) (by decide), e2 153 _ (by decide) (by decide), e2 153 _ (by decide) (by decide)]
    exact this
  · have := H.2.2.1 c hc
    unfold rP at this ⊢
    rw [e1 106 _ (by decide) (by decide), e1 107 _ (by decide) (by decide), e2 154 _ (by decide) (by decide), e2 155 _ (by decide) (by decide)]
    exact this
  · have := H.2.2.2 e he s hs q
    unfold rE at this ⊢
    rw [e1 108 _ (by decide) (by decide), e2 156 _ (by decide) (by decide)]
    exact this
