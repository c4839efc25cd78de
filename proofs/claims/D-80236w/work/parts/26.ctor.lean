/-! THE CONSTRUCTORS, followed at concrete memory (printed by gen/mkctor.py) -/
set_option maxRecDepth 100000
/-- the references that the constructors write, in order; the ints -/
def cx_rf : List (Nat × Nat × Nat) := [(1, 0, 2), (1, 2, 3), (1, 3, 4), (0, 0, 1), (5, 1, 6), (5, 0, 1), (0, 1, 5), (7, 4, 8), (7, 0, 1), (7, 1, 6), (0, 2, 7), (9, 1, 10), (11, 0, 12), (9, 2, 11), (13, 0, 14), (10, 0, 13), (15, 0, 16), (10, 1, 15), (17, 0, 18), (10, 2, 17), (19, 0, 20), (10, 3, 19), (21, 0, 22), (10, 4, 21), (23, 0, 24), (10, 5, 23), (25, 0, 26), (10, 6, 25), (27, 0, 28), (10, 7, 27), (29, 0, 30), (10, 8, 29), (31, 0, 32), (10, 9, 31), (33, 0, 34), (10, 10, 33), (35, 0, 36), (10, 11, 35), (37, 0, 38), (10, 12, 37), (39, 0, 40), (10, 13, 39), (41, 0, 42), (10, 14, 41), (43, 0, 44), (10, 15, 43), (45, 0, 46), (10, 16, 45), (47, 0, 48), (10, 17, 47), (49, 0, 50), (10, 18, 49), (51, 0, 52), (10, 19, 51), (53, 0, 54), (10, 20, 53), (55, 0, 56), (10, 21, 55), (57, 0, 58), (10, 22, 57), (59, 0, 60), (10, 23, 59), (61, 0, 62), (10, 24, 61), (63, 0, 64), (10, 25, 63), (65, 0, 66), (10, 26, 65), (67, 0, 68), (10, 27, 67), (69, 0, 70), (10, 28, 69), (71, 0, 72), (10, 29, 71), (73, 0, 74), (10, 30, 73), (75, 0, 76), (10, 31, 75), (77, 0, 78), (10, 32, 77), (79, 0, 80), (10, 33, 79), (81, 0, 82), (10, 34, 81), (83, 0, 84), (10, 35, 83), (85, 0, 86), (10, 36, 85), (87, 0, 88), (10, 37, 87), (89, 0, 90), (10, 38, 89), (91, 0, 92), (10, 39, 91), (93, 0, 94), (10, 40, 93), (95, 0, 96), (10, 41, 95), (97, 0, 98), (10, 42, 97), (99, 0, 100), (10, 43, 99), (0, 3, 9), (101, 0, 102), (101, 1, 103), (101, 2, 104), (101, 3, 105), (101, 5, 106), (101, 6, 107), (101, 8, 108), (101, 20, 109), (101, 22, 110), (0, 4, 101), (0, 5, 111), (0, 8, 112), (0, 11, 113), (0, 12, 114), (115, 1, 116), (115, 11, 117), (115, 12, 118), (115, 13, 119), (115, 14, 120), (115, 15, 121), (115, 16, 122), (115, 17, 123), (115, 18, 124), (115, 19, 125), (115, 20, 126), (115, 21, 127), (115, 22, 128), (115, 23, 129), (115, 24, 130), (115, 25, 131), (115, 26, 132), (115, 31, 133), (115, 34, 134), (115, 35, 135), (115, 37, 136), (115, 39, 137), (115, 42, 138), (115, 43, 139), (115, 48, 140), (115, 49, 141), (115, 50, 142), (115, 51, 143), (115, 52, 144), (115, 53, 145), (115, 54, 146), (115, 56, 147), (115, 57, 148), (115, 58, 149), (115, 59, 150), (115, 60, 151), (115, 61, 152), (115, 62, 153), (115, 63, 154), (115, 64, 155), (115, 65, 156), (115, 66, 157), (115, 81, 158)]
def cx_iw : List (Nat × Nat × Int32) := [(0, 7, -1), (115, 10, -1), (115, 75, -1)]
def cR (l : List (Nat × Nat × Nat)) (a k : Nat) : Option Nat := (l.find? (fun q => q.1 == a && q.2.1 == k)).map (fun q => q.2.2)
def cI (l : List (Nat × Nat × Int32)) (a k : Nat) : Int32 := ((l.find? (fun q => q.1 == a && q.2.1 == k)).map (fun q => q.2.2)).getD 0
/-- memory after n cells, m references, j ints -/
def cF (n m sl : Nat) : Frm := ((n, sl), fun a => (fx_sh.take n).getD a (99, 0), cR (cx_rf.take m))
def cH (j : Nat) : HI := cI (cx_iw.take j)
def cG : HL := fun _ _ => 0
abbrev cM (n m sl j : Nat) : Mem := (cF n m sl, cH j, cG)
def cQ (μ : Mem) : Out → Mem → Prop := fun o μ1 => o = .inl none ∧ μ1 = μ
theorem cR_no {l : List (Nat × Nat × Nat)} {n : Nat} (h : l.all (fun q => !(q.1 == n)) = true) (k : Nat) : cR l n k = none := by
  unfold cR
  rw [List.find?_eq_none.mpr]
  · rfl
  · intro q hq
    have h1 := List.all_eq_true.mp h q hq
    simp only [Bool.not_eq_true', beq_eq_false_iff_ne, ne_eq] at h1
    simp [h1]
theorem cI_no {l : List (Nat × Nat × Int32)} {n : Nat} (h : l.all (fun q => !(q.1 == n)) = true) (k : Nat) : cI l n k = 0 := by
  unfold cI
  rw [List.find?_eq_none.mpr]
  · rfl
  · intro q hq
    have h1 := List.all_eq_true.mp h q hq
    simp only [Bool.not_eq_true', beq_eq_false_iff_ne, ne_eq] at h1
    simp [h1]
theorem cF_new (n m sl N : Nat) {t : Nat × Nat} (h : fx_sh[n]? = some t) (h2 : (cx_rf.take m).all (fun q => !(q.1 == n)) = true) : fnw (cF n m sl) t N = cF (n + 1) m (sl + N) := by
  have hn : n < fx_sh.length := (List.getElem?_eq_some_iff.mp h).1
  refine Prod.ext rfl (Prod.ext ?_ ?_)
  · funext a
    show up0 (fun a => (fx_sh.take n).getD a (99, 0)) n t a = (fx_sh.take (n + 1)).getD a (99, 0)
    unfold up0
    simp only [List.getD_eq_getElem?_getD, List.getElem?_take]
    by_cases ha : a = n
    · subst ha
      simp [h]
    · rw [if_neg ha]
      by_cases hb : a < n
      · rw [if_pos hb, if_pos (by omega)]
      · rw [if_neg hb, if_neg (by omega)]
  · funext a k
    show up1 (cR (cx_rf.take m)) n (fun _ => none) a k = cR (cx_rf.take m) a k
    unfold up1
    by_cases ha : a = n
    · subst ha
      rw [if_pos rfl, cR_no h2]
    · rw [if_neg ha]
theorem cH_new (j n : Nat) (h2 : (cx_iw.take j).all (fun q => !(q.1 == n)) = true) : up1 (cH j) n (fun _ => 0) = cH j := by
  funext a k
  unfold up1
  by_cases ha : a = n
  · subst ha
    rw [if_pos rfl]
    exact (cI_no h2 k).symm
  · rw [if_neg ha]
theorem cG_new (n : Nat) : up1 cG n (fun _ => 0) = cG := by
  funext a k
  unfold up1 cG
  split <;> rfl
theorem cF_wr (n m sl : Nat) {a k b : Nat} (h : cx_rf[m]? = some (a, k, b)) (h2 : (cx_rf.take m).all (fun q => !(q.1 == a && q.2.1 == k)) = true) : fwr (cF n m sl) a k (some b) = cF n (m + 1) sl := by
  refine Prod.ext rfl (Prod.ext rfl ?_)
  funext a1 k1
  show up2 (cR (cx_rf.take m)) a k (some b) a1 k1 = cR (cx_rf.take (m + 1)) a1 k1
  rw [List.take_succ, h]
  unfold up2 cR
  rw [List.find?_append]
  by_cases e : a1 = a ∧ k1 = k
  · obtain ⟨rfl, rfl⟩ := e
    have h3 : (cx_rf.take m).find? (fun q => q.1 == a1 && q.2.1 == k1) = none := List.find?_eq_none.mpr fun q hq => by
      have h5 := List.all_eq_true.mp h2 q hq
      intro h6
      rw [h6] at h5
      cases h5
    rw [h3]
    simp
  · have h4 : ((a, k, b).1 == a1 && (a, k, b).2.1 == k1) = false := by
      by_cases ea : a = a1
      · subst ea
        have : ¬ k = k1 := fun x => e ⟨rfl, x.symm⟩
        simp [this]
      · simp [ea]
    by_cases ea : a1 = a
    · have hk : ¬ k1 = k := fun x => e ⟨ea, x⟩
      rw [if_pos ea, if_neg hk]
      simp [h4]
    · rw [if_neg ea]
      simp [h4]
theorem cH_wr (j : Nat) {a k : Nat} {x : Int32} (h : cx_iw[j]? = some (a, k, x)) (h2 : (cx_iw.take j).all (fun q => !(q.1 == a && q.2.1 == k)) = true) : up2 (cH j) a k x = cH (j + 1) := by
  funext a1 k1
  show up2 (cI (cx_iw.take j)) a k x a1 k1 = cI (cx_iw.take (j + 1)) a1 k1
  rw [List.take_succ, h]
  unfold up2 cI
  rw [List.find?_append]
  by_cases e : a1 = a ∧ k1 = k
  · obtain ⟨rfl, rfl⟩ := e
    have h3 : (cx_iw.take j).find? (fun q => q.1 == a1 && q.2.1 == k1) = none := List.find?_eq_none.mpr fun q hq => by
      have h5 := List.all_eq_true.mp h2 q hq
      intro h6
      rw [h6] at h5
      cases h5
    rw [h3]
    simp
  · have h4 : ((a, k, x).1 == a1 && (a, k, x).2.1 == k1) = false := by
      by_cases ea : a = a1
      · subst ea
        have : ¬ k = k1 := fun x => e ⟨rfl, x.symm⟩
        simp [this]
      · simp [ea]
    by_cases ea : a1 = a
    · have hk : ¬ k1 = k := fun x => e ⟨ea, x⟩
      rw [if_pos ea, if_neg hk]
      simp [h4]
    · rw [if_neg ea]
      simp [h4]
theorem C_call {D : DE} {M M1 : MI} {f : Nat} {Q : Out → Mem → Prop} {pc : Nat} {l : List (Nat × Value)} {st rest av : List Value} {μ μ1 : Mem} (hc : Cl D f M1 av μ (cQ μ1)) (hq : mW M1 ∈ lw_all) (hin : Cond.initialized (mN M1).cls ∈ lw_all) (hL : mL M1 ≤ 27) (hst : (rest.map fun v => v.category).sum ≤ 8) (res : k_RES D M (f + 1) pc l st μ (mN M1) av rest) (kr : V D M (f + 1) Q (pc + 3) l rest μ1) : V D M (f + 1) Q pc l st μ :=
  V_call hc hq hin hL hst res (fun v μ2 ⟨z1, z2⟩ => by cases z1; subst z2; exact kr) (fun a μ2 ⟨z1, _⟩ => by cases z1)
theorem dX2_init_0 : decode cX2_init 0 = .ok (.aload_n 0, 1) := by decide +kernel
theorem dX2_init_1 : decode cX2_init 1 = .ok (.invokespecial 3, 3) := by decide +kernel
theorem dX2_init_4 : decode cX2_init 4 = .ok (.aload_n 0, 1) := by decide +kernel
theorem dX2_init_5 : decode cX2_init 5 = .ok (.sipush 4000, 3) := by decide +kernel
theorem dX2_init_8 : decode cX2_init 8 = .ok (.newarray .byte, 2) := by decide +kernel
theorem dX2_init_10 : decode cX2_init 10 = .ok (.putfield 9, 3) := by decide +kernel
theorem dX2_init_13 : decode cX2_init 13 = .ok (.aload_n 0, 1) := by decide +kernel
theorem dX2_init_14 : decode cX2_init 14 = .ok (.sipush 1001, 3) := by decide +kernel
theorem dX2_init_17 : decode cX2_init 17 = .ok (.newarray .int, 2) := by decide +kernel
theorem dX2_init_19 : decode cX2_init 19 = .ok (.putfield 15, 3) := by decide +kernel
theorem dX2_init_22 : decode cX2_init 22 = .ok (.aload_n 0, 1) := by decide +kernel
theorem dX2_init_23 : decode cX2_init 23 = .ok (.sipush 1001, 3) := by decide +kernel
theorem dX2_init_26 : decode cX2_init 26 = .ok (.newarray .int, 2) := by decide +kernel
theorem dX2_init_28 : decode cX2_init 28 = .ok (.putfield 19, 3) := by decide +kernel
theorem dX2_init_31 : decode cX2_init 31 = .ok (.return_, 1) := by decide +kernel
theorem dX3_init_0 : decode cX3_init 0 = .ok (.aload_n 0, 1) := by decide +kernel
theorem dX3_init_1 : decode cX3_init 1 = .ok (.invokespecial 3, 3) := by decide +kernel
theorem dX3_init_4 : decode cX3_init 4 = .ok (.aload_n 0, 1) := by decide +kernel
theorem dX3_init_5 : decode cX3_init 5 = .ok (.bipush 12, 2) := by decide +kernel
theorem dX3_init_7 : decode cX3_init 7 = .ok (.anewarray 9, 3) := by decide +kernel
theorem dX3_init_10 : decode cX3_init 10 = .ok (.putfield 11, 3) := by decide +kernel
theorem dX3_init_13 : decode cX3_init 13 = .ok (.aload_n 0, 1) := by decide +kernel
theorem dX3_init_14 : decode cX3_init 14 = .ok (.aload_n 1, 1) := by decide +kernel
theorem dX3_init_15 : decode cX3_init 15 = .ok (.putfield 17, 3) := by decide +kernel
theorem dX3_init_18 : decode cX3_init 18 = .ok (.return_, 1) := by decide +kernel
theorem dX4_init_0 : decode cX4_init 0 = .ok (.aload_n 0, 1) := by decide +kernel
theorem dX4_init_1 : decode cX4_init 1 = .ok (.invokespecial 3, 3) := by decide +kernel
theorem dX4_init_4 : decode cX4_init 4 = .ok (.aload_n 0, 1) := by decide +kernel
theorem dX4_init_5 : decode cX4_init 5 = .ok (.bipush 17, 2) := by decide +kernel
theorem dX4_init_7 : decode cX4_init 7 = .ok (.newarray .int, 2) := by decide +kernel
theorem dX4_init_9 : decode cX4_init 9 = .ok (.putfield 9, 3) := by decide +kernel
theorem dX4_init_12 : decode cX4_init 12 = .ok (.aload_n 0, 1) := by decide +kernel
theorem dX4_init_13 : decode cX4_init 13 = .ok (.aload_n 1, 1) := by decide +kernel
theorem dX4_init_14 : decode cX4_init 14 = .ok (.putfield 15, 3) := by decide +kernel
theorem dX4_init_17 : decode cX4_init 17 = .ok (.aload_n 0, 1) := by decide +kernel
theorem dX4_init_18 : decode cX4_init 18 = .ok (.aload_n 2, 1) := by decide +kernel
theorem dX4_init_19 : decode cX4_init 19 = .ok (.putfield 19, 3) := by decide +kernel
theorem dX4_init_22 : decode cX4_init 22 = .ok (.return_, 1) := by decide +kernel
theorem dX5_init_0 : decode cX5_init 0 = .ok (.aload_n 0, 1) := by decide +kernel
theorem dX5_init_1 : decode cX5_init 1 = .ok (.invokespecial 3, 3) := by decide +kernel
theorem dX5_init_4 : decode cX5_init 4 = .ok (.aload_n 0, 1) := by decide +kernel
theorem dX5_init_5 : decode cX5_init 5 = .ok (.bipush 44, 2) := by decide +kernel
theorem dX5_init_7 : decode cX5_init 7 = .ok (.anewarray 9, 3) := by decide +kernel
theorem dX5_init_10 : decode cX5_init 10 = .ok (.putfield 11, 3) := by decide +kernel
theorem dX5_init_13 : decode cX5_init 13 = .ok (.aload_n 0, 1) := by decide +kernel
theorem dX5_init_14 : decode cX5_init 14 = .ok (.new 9, 3) := by decide +kernel
theorem dX5_init_17 : decode cX5_init 17 = .ok (.dup, 1) := by decide +kernel
theorem dX5_init_18 : decode cX5_init 18 = .ok (.invokespecial 17, 3) := by decide +kernel
theorem dX5_init_21 : decode cX5_init 21 = .ok (.putfield 18, 3) := by decide +kernel
theorem dX5_init_24 : decode cX5_init 24 = .ok (.iconst 0, 1) := by decide +kernel
theorem dX5_init_25 : decode cX5_init 25 = .ok (.istore_n 1, 1) := by decide +kernel
theorem dX5_init_26 : decode cX5_init 26 = .ok (.iload_n 1, 1) := by decide +kernel
theorem dX5_init_27 : decode cX5_init 27 = .ok (.aload_n 0, 1) := by decide +kernel
theorem dX5_init_28 : decode cX5_init 28 = .ok (.getfield 11, 3) := by decide +kernel
theorem dX5_init_31 : decode cX5_init 31 = .ok (.arraylength, 1) := by decide +kernel
theorem dX5_init_32 : decode cX5_init 32 = .ok (.if_icmp .ge 22, 3) := by decide +kernel
theorem dX5_init_35 : decode cX5_init 35 = .ok (.aload_n 0, 1) := by decide +kernel
theorem dX5_init_36 : decode cX5_init 36 = .ok (.getfield 11, 3) := by decide +kernel
theorem dX5_init_39 : decode cX5_init 39 = .ok (.iload_n 1, 1) := by decide +kernel
theorem dX5_init_40 : decode cX5_init 40 = .ok (.new 9, 3) := by decide +kernel
theorem dX5_init_43 : decode cX5_init 43 = .ok (.dup, 1) := by decide +kernel
theorem dX5_init_44 : decode cX5_init 44 = .ok (.invokespecial 17, 3) := by decide +kernel
theorem dX5_init_47 : decode cX5_init 47 = .ok (.aastore, 1) := by decide +kernel
theorem dX5_init_48 : decode cX5_init 48 = .ok (.iinc 1 1, 3) := by decide +kernel
theorem dX5_init_51 : decode cX5_init 51 = .ok (.goto (-25), 3) := by decide +kernel
theorem dX5_init_54 : decode cX5_init 54 = .ok (.return_, 1) := by decide +kernel
theorem dX7_init_0 : decode cX7_init 0 = .ok (.aload_n 0, 1) := by decide +kernel
theorem dX7_init_1 : decode cX7_init 1 = .ok (.invokespecial 3, 3) := by decide +kernel
theorem dX7_init_4 : decode cX7_init 4 = .ok (.aload_n 0, 1) := by decide +kernel
theorem dX7_init_5 : decode cX7_init 5 = .ok (.sipush 1540, 3) := by decide +kernel
theorem dX7_init_8 : decode cX7_init 8 = .ok (.anewarray 9, 3) := by decide +kernel
theorem dX7_init_11 : decode cX7_init 11 = .ok (.putfield 11, 3) := by decide +kernel
theorem dX7_init_14 : decode cX7_init 14 = .ok (.aload_n 0, 1) := by decide +kernel
theorem dX7_init_15 : decode cX7_init 15 = .ok (.sipush 1540, 3) := by decide +kernel
theorem dX7_init_18 : decode cX7_init 18 = .ok (.newarray .int, 2) := by decide +kernel
theorem dX7_init_20 : decode cX7_init 20 = .ok (.putfield 17, 3) := by decide +kernel
theorem dX7_init_23 : decode cX7_init 23 = .ok (.aload_n 0, 1) := by decide +kernel
theorem dX7_init_24 : decode cX7_init 24 = .ok (.sipush 1540, 3) := by decide +kernel
theorem dX7_init_27 : decode cX7_init 27 = .ok (.newarray .byte, 2) := by decide +kernel
theorem dX7_init_29 : decode cX7_init 29 = .ok (.putfield 21, 3) := by decide +kernel
theorem dX7_init_32 : decode cX7_init 32 = .ok (.aload_n 0, 1) := by decide +kernel
theorem dX7_init_33 : decode cX7_init 33 = .ok (.sipush 1540, 3) := by decide +kernel
theorem dX7_init_36 : decode cX7_init 36 = .ok (.newarray .int, 2) := by decide +kernel
theorem dX7_init_38 : decode cX7_init 38 = .ok (.putfield 25, 3) := by decide +kernel
theorem dX7_init_41 : decode cX7_init 41 = .ok (.aload_n 0, 1) := by decide +kernel
theorem dX7_init_42 : decode cX7_init 42 = .ok (.sipush 1540, 3) := by decide +kernel
theorem dX7_init_45 : decode cX7_init 45 = .ok (.newarray .int, 2) := by decide +kernel
theorem dX7_init_47 : decode cX7_init 47 = .ok (.putfield 28, 3) := by decide +kernel
theorem dX7_init_50 : decode cX7_init 50 = .ok (.aload_n 0, 1) := by decide +kernel
theorem dX7_init_51 : decode cX7_init 51 = .ok (.sipush 1540, 3) := by decide +kernel
theorem dX7_init_54 : decode cX7_init 54 = .ok (.newarray .int, 2) := by decide +kernel
theorem dX7_init_56 : decode cX7_init 56 = .ok (.putfield 31, 3) := by decide +kernel
theorem dX7_init_59 : decode cX7_init 59 = .ok (.aload_n 0, 1) := by decide +kernel
theorem dX7_init_60 : decode cX7_init 60 = .ok (.sipush 24016, 3) := by decide +kernel
theorem dX7_init_63 : decode cX7_init 63 = .ok (.newarray .int, 2) := by decide +kernel
theorem dX7_init_65 : decode cX7_init 65 = .ok (.putfield 34, 3) := by decide +kernel
theorem dX7_init_68 : decode cX7_init 68 = .ok (.aload_n 0, 1) := by decide +kernel
theorem dX7_init_69 : decode cX7_init 69 = .ok (.bipush 40, 2) := by decide +kernel
theorem dX7_init_71 : decode cX7_init 71 = .ok (.newarray .boolean, 2) := by decide +kernel
theorem dX7_init_73 : decode cX7_init 73 = .ok (.putfield 37, 3) := by decide +kernel
theorem dX7_init_76 : decode cX7_init 76 = .ok (.aload_n 0, 1) := by decide +kernel
theorem dX7_init_77 : decode cX7_init 77 = .ok (.bipush 16, 2) := by decide +kernel
theorem dX7_init_79 : decode cX7_init 79 = .ok (.newarray .int, 2) := by decide +kernel
theorem dX7_init_81 : decode cX7_init 81 = .ok (.putfield 41, 3) := by decide +kernel
theorem dX7_init_84 : decode cX7_init 84 = .ok (.return_, 1) := by decide +kernel
theorem dX1_init_0 : decode cX1_init 0 = .ok (.aload_n 0, 1) := by decide +kernel
theorem dX1_init_1 : decode cX1_init 1 = .ok (.invokespecial 42, 3) := by decide +kernel
theorem dX1_init_4 : decode cX1_init 4 = .ok (.aload_n 0, 1) := by decide +kernel
theorem dX1_init_5 : decode cX1_init 5 = .ok (.new 48, 3) := by decide +kernel
theorem dX1_init_8 : decode cX1_init 8 = .ok (.dup, 1) := by decide +kernel
theorem dX1_init_9 : decode cX1_init 9 = .ok (.invokespecial 50, 3) := by decide +kernel
theorem dX1_init_12 : decode cX1_init 12 = .ok (.putfield 51, 3) := by decide +kernel
theorem dX1_init_15 : decode cX1_init 15 = .ok (.aload_n 0, 1) := by decide +kernel
theorem dX1_init_16 : decode cX1_init 16 = .ok (.new 55, 3) := by decide +kernel
theorem dX1_init_19 : decode cX1_init 19 = .ok (.dup, 1) := by decide +kernel
theorem dX1_init_20 : decode cX1_init 20 = .ok (.aload_n 0, 1) := by decide +kernel
theorem dX1_init_21 : decode cX1_init 21 = .ok (.getfield 51, 3) := by decide +kernel
theorem dX1_init_24 : decode cX1_init 24 = .ok (.invokespecial 57, 3) := by decide +kernel
theorem dX1_init_27 : decode cX1_init 27 = .ok (.putfield 60, 3) := by decide +kernel
theorem dX1_init_30 : decode cX1_init 30 = .ok (.aload_n 0, 1) := by decide +kernel
theorem dX1_init_31 : decode cX1_init 31 = .ok (.new 64, 3) := by decide +kernel
theorem dX1_init_34 : decode cX1_init 34 = .ok (.dup, 1) := by decide +kernel
theorem dX1_init_35 : decode cX1_init 35 = .ok (.aload_n 0, 1) := by decide +kernel
theorem dX1_init_36 : decode cX1_init 36 = .ok (.getfield 51, 3) := by decide +kernel
theorem dX1_init_39 : decode cX1_init 39 = .ok (.aload_n 0, 1) := by decide +kernel
theorem dX1_init_40 : decode cX1_init 40 = .ok (.getfield 60, 3) := by decide +kernel
theorem dX1_init_43 : decode cX1_init 43 = .ok (.getfield 66, 3) := by decide +kernel
theorem dX1_init_46 : decode cX1_init 46 = .ok (.invokespecial 70, 3) := by decide +kernel
theorem dX1_init_49 : decode cX1_init 49 = .ok (.putfield 73, 3) := by decide +kernel
theorem dX1_init_52 : decode cX1_init 52 = .ok (.aload_n 0, 1) := by decide +kernel
theorem dX1_init_53 : decode cX1_init 53 = .ok (.new 77, 3) := by decide +kernel
theorem dX1_init_56 : decode cX1_init 56 = .ok (.dup, 1) := by decide +kernel
theorem dX1_init_57 : decode cX1_init 57 = .ok (.invokespecial 79, 3) := by decide +kernel
theorem dX1_init_60 : decode cX1_init 60 = .ok (.putfield 80, 3) := by decide +kernel
theorem dX1_init_63 : decode cX1_init 63 = .ok (.aload_n 0, 1) := by decide +kernel
theorem dX1_init_64 : decode cX1_init 64 = .ok (.new 84, 3) := by decide +kernel
theorem dX1_init_67 : decode cX1_init 67 = .ok (.dup, 1) := by decide +kernel
theorem dX1_init_68 : decode cX1_init 68 = .ok (.invokespecial 86, 3) := by decide +kernel
theorem dX1_init_71 : decode cX1_init 71 = .ok (.putfield 87, 3) := by decide +kernel
theorem dX1_init_74 : decode cX1_init 74 = .ok (.aload_n 0, 1) := by decide +kernel
theorem dX1_init_75 : decode cX1_init 75 = .ok (.sipush 4000, 3) := by decide +kernel
theorem dX1_init_78 : decode cX1_init 78 = .ok (.newarray .byte, 2) := by decide +kernel
theorem dX1_init_80 : decode cX1_init 80 = .ok (.putfield 91, 3) := by decide +kernel
theorem dX1_init_83 : decode cX1_init 83 = .ok (.aload_n 0, 1) := by decide +kernel
theorem dX1_init_84 : decode cX1_init 84 = .ok (.iconst (-1), 1) := by decide +kernel
theorem dX1_init_85 : decode cX1_init 85 = .ok (.putfield 95, 3) := by decide +kernel
theorem dX1_init_88 : decode cX1_init 88 = .ok (.aload_n 0, 1) := by decide +kernel
theorem dX1_init_89 : decode cX1_init 89 = .ok (.bipush 12, 2) := by decide +kernel
theorem dX1_init_91 : decode cX1_init 91 = .ok (.anewarray 99, 3) := by decide +kernel
theorem dX1_init_94 : decode cX1_init 94 = .ok (.putfield 101, 3) := by decide +kernel
theorem dX1_init_97 : decode cX1_init 97 = .ok (.aload_n 0, 1) := by decide +kernel
theorem dX1_init_98 : decode cX1_init 98 = .ok (.bipush 40, 2) := by decide +kernel
theorem dX1_init_100 : decode cX1_init 100 = .ok (.newarray .int, 2) := by decide +kernel
theorem dX1_init_102 : decode cX1_init 102 = .ok (.putfield 102, 3) := by decide +kernel
theorem dX1_init_105 : decode cX1_init 105 = .ok (.aload_n 0, 1) := by decide +kernel
theorem dX1_init_106 : decode cX1_init 106 = .ok (.bipush 40, 2) := by decide +kernel
theorem dX1_init_108 : decode cX1_init 108 = .ok (.newarray .int, 2) := by decide +kernel
theorem dX1_init_110 : decode cX1_init 110 = .ok (.putfield 105, 3) := by decide +kernel
theorem dX1_init_113 : decode cX1_init 113 = .ok (.return_, 1) := by decide +kernel
theorem dX8_init_0 : decode cX8_init 0 = .ok (.aload_n 0, 1) := by decide +kernel
theorem dX8_init_1 : decode cX8_init 1 = .ok (.invokespecial 1, 3) := by decide +kernel
theorem dX8_init_4 : decode cX8_init 4 = .ok (.aload_n 0, 1) := by decide +kernel
theorem dX8_init_5 : decode cX8_init 5 = .ok (.sipush 4000, 3) := by decide +kernel
theorem dX8_init_8 : decode cX8_init 8 = .ok (.newarray .int, 2) := by decide +kernel
theorem dX8_init_10 : decode cX8_init 10 = .ok (.putfield 7, 3) := by decide +kernel
theorem dX8_init_13 : decode cX8_init 13 = .ok (.aload_n 0, 1) := by decide +kernel
theorem dX8_init_14 : decode cX8_init 14 = .ok (.iconst (-1), 1) := by decide +kernel
theorem dX8_init_15 : decode cX8_init 15 = .ok (.putfield 13, 3) := by decide +kernel
theorem dX8_init_18 : decode cX8_init 18 = .ok (.aload_n 0, 1) := by decide +kernel
theorem dX8_init_19 : decode cX8_init 19 = .ok (.bipush 24, 2) := by decide +kernel
theorem dX8_init_21 : decode cX8_init 21 = .ok (.newarray .long, 2) := by decide +kernel
theorem dX8_init_23 : decode cX8_init 23 = .ok (.putfield 17, 3) := by decide +kernel
theorem dX8_init_26 : decode cX8_init 26 = .ok (.aload_n 0, 1) := by decide +kernel
theorem dX8_init_27 : decode cX8_init 27 = .ok (.bipush 24, 2) := by decide +kernel
theorem dX8_init_29 : decode cX8_init 29 = .ok (.newarray .int, 2) := by decide +kernel
theorem dX8_init_31 : decode cX8_init 31 = .ok (.putfield 21, 3) := by decide +kernel
theorem dX8_init_34 : decode cX8_init 34 = .ok (.aload_n 0, 1) := by decide +kernel
theorem dX8_init_35 : decode cX8_init 35 = .ok (.bipush 24, 2) := by decide +kernel
theorem dX8_init_37 : decode cX8_init 37 = .ok (.newarray .int, 2) := by decide +kernel
theorem dX8_init_39 : decode cX8_init 39 = .ok (.putfield 24, 3) := by decide +kernel
theorem dX8_init_42 : decode cX8_init 42 = .ok (.aload_n 0, 1) := by decide +kernel
theorem dX8_init_43 : decode cX8_init 43 = .ok (.bipush 24, 2) := by decide +kernel
theorem dX8_init_45 : decode cX8_init 45 = .ok (.newarray .int, 2) := by decide +kernel
theorem dX8_init_47 : decode cX8_init 47 = .ok (.putfield 27, 3) := by decide +kernel
theorem dX8_init_50 : decode cX8_init 50 = .ok (.aload_n 0, 1) := by decide +kernel
theorem dX8_init_51 : decode cX8_init 51 = .ok (.bipush 24, 2) := by decide +kernel
theorem dX8_init_53 : decode cX8_init 53 = .ok (.newarray .int, 2) := by decide +kernel
theorem dX8_init_55 : decode cX8_init 55 = .ok (.putfield 30, 3) := by decide +kernel
theorem dX8_init_58 : decode cX8_init 58 = .ok (.aload_n 0, 1) := by decide +kernel
theorem dX8_init_59 : decode cX8_init 59 = .ok (.sipush 384, 3) := by decide +kernel
theorem dX8_init_62 : decode cX8_init 62 = .ok (.newarray .long, 2) := by decide +kernel
theorem dX8_init_64 : decode cX8_init 64 = .ok (.putfield 33, 3) := by decide +kernel
theorem dX8_init_67 : decode cX8_init 67 = .ok (.aload_n 0, 1) := by decide +kernel
theorem dX8_init_68 : decode cX8_init 68 = .ok (.sipush 384, 3) := by decide +kernel
theorem dX8_init_71 : decode cX8_init 71 = .ok (.newarray .int, 2) := by decide +kernel
theorem dX8_init_73 : decode cX8_init 73 = .ok (.putfield 36, 3) := by decide +kernel
theorem dX8_init_76 : decode cX8_init 76 = .ok (.aload_n 0, 1) := by decide +kernel
theorem dX8_init_77 : decode cX8_init 77 = .ok (.sipush 2002, 3) := by decide +kernel
theorem dX8_init_80 : decode cX8_init 80 = .ok (.newarray .int, 2) := by decide +kernel
theorem dX8_init_82 : decode cX8_init 82 = .ok (.putfield 39, 3) := by decide +kernel
theorem dX8_init_85 : decode cX8_init 85 = .ok (.aload_n 0, 1) := by decide +kernel
theorem dX8_init_86 : decode cX8_init 86 = .ok (.sipush 2002, 3) := by decide +kernel
theorem dX8_init_89 : decode cX8_init 89 = .ok (.newarray .int, 2) := by decide +kernel
theorem dX8_init_91 : decode cX8_init 91 = .ok (.putfield 42, 3) := by decide +kernel
theorem dX8_init_94 : decode cX8_init 94 = .ok (.aload_n 0, 1) := by decide +kernel
theorem dX8_init_95 : decode cX8_init 95 = .ok (.sipush 2002, 3) := by decide +kernel
theorem dX8_init_98 : decode cX8_init 98 = .ok (.newarray .int, 2) := by decide +kernel
theorem dX8_init_100 : decode cX8_init 100 = .ok (.putfield 45, 3) := by decide +kernel
theorem dX8_init_103 : decode cX8_init 103 = .ok (.aload_n 0, 1) := by decide +kernel
theorem dX8_init_104 : decode cX8_init 104 = .ok (.sipush 2002, 3) := by decide +kernel
theorem dX8_init_107 : decode cX8_init 107 = .ok (.newarray .int, 2) := by decide +kernel
theorem dX8_init_109 : decode cX8_init 109 = .ok (.putfield 48, 3) := by decide +kernel
theorem dX8_init_112 : decode cX8_init 112 = .ok (.aload_n 0, 1) := by decide +kernel
theorem dX8_init_113 : decode cX8_init 113 = .ok (.sipush 2002, 3) := by decide +kernel
theorem dX8_init_116 : decode cX8_init 116 = .ok (.newarray .int, 2) := by decide +kernel
theorem dX8_init_118 : decode cX8_init 118 = .ok (.putfield 51, 3) := by decide +kernel
theorem dX8_init_121 : decode cX8_init 121 = .ok (.aload_n 0, 1) := by decide +kernel
theorem dX8_init_122 : decode cX8_init 122 = .ok (.sipush 2002, 3) := by decide +kernel
theorem dX8_init_125 : decode cX8_init 125 = .ok (.newarray .int, 2) := by decide +kernel
theorem dX8_init_127 : decode cX8_init 127 = .ok (.putfield 54, 3) := by decide +kernel
theorem dX8_init_130 : decode cX8_init 130 = .ok (.aload_n 0, 1) := by decide +kernel
theorem dX8_init_131 : decode cX8_init 131 = .ok (.sipush 2002, 3) := by decide +kernel
theorem dX8_init_134 : decode cX8_init 134 = .ok (.newarray .long, 2) := by decide +kernel
theorem dX8_init_136 : decode cX8_init 136 = .ok (.putfield 57, 3) := by decide +kernel
theorem dX8_init_139 : decode cX8_init 139 = .ok (.aload_n 0, 1) := by decide +kernel
theorem dX8_init_140 : decode cX8_init 140 = .ok (.sipush 2002, 3) := by decide +kernel
theorem dX8_init_143 : decode cX8_init 143 = .ok (.newarray .int, 2) := by decide +kernel
theorem dX8_init_145 : decode cX8_init 145 = .ok (.putfield 60, 3) := by decide +kernel
theorem dX8_init_148 : decode cX8_init 148 = .ok (.aload_n 0, 1) := by decide +kernel
theorem dX8_init_149 : decode cX8_init 149 = .ok (.iconst 2, 1) := by decide +kernel
theorem dX8_init_150 : decode cX8_init 150 = .ok (.newarray .int, 2) := by decide +kernel
theorem dX8_init_152 : decode cX8_init 152 = .ok (.putfield 63, 3) := by decide +kernel
theorem dX8_init_155 : decode cX8_init 155 = .ok (.aload_n 0, 1) := by decide +kernel
theorem dX8_init_156 : decode cX8_init 156 = .ok (.sipush 1100, 3) := by decide +kernel
theorem dX8_init_159 : decode cX8_init 159 = .ok (.newarray .int, 2) := by decide +kernel
theorem dX8_init_161 : decode cX8_init 161 = .ok (.putfield 66, 3) := by decide +kernel
theorem dX8_init_164 : decode cX8_init 164 = .ok (.aload_n 0, 1) := by decide +kernel
theorem dX8_init_165 : decode cX8_init 165 = .ok (.sipush 3000, 3) := by decide +kernel
theorem dX8_init_168 : decode cX8_init 168 = .ok (.newarray .int, 2) := by decide +kernel
theorem dX8_init_170 : decode cX8_init 170 = .ok (.putfield 69, 3) := by decide +kernel
theorem dX8_init_173 : decode cX8_init 173 = .ok (.aload_n 0, 1) := by decide +kernel
theorem dX8_init_174 : decode cX8_init 174 = .ok (.sipush 3000, 3) := by decide +kernel
theorem dX8_init_177 : decode cX8_init 177 = .ok (.newarray .int, 2) := by decide +kernel
theorem dX8_init_179 : decode cX8_init 179 = .ok (.putfield 72, 3) := by decide +kernel
theorem dX8_init_182 : decode cX8_init 182 = .ok (.aload_n 0, 1) := by decide +kernel
theorem dX8_init_183 : decode cX8_init 183 = .ok (.sipush 1100, 3) := by decide +kernel
theorem dX8_init_186 : decode cX8_init 186 = .ok (.newarray .int, 2) := by decide +kernel
theorem dX8_init_188 : decode cX8_init 188 = .ok (.putfield 75, 3) := by decide +kernel
theorem dX8_init_191 : decode cX8_init 191 = .ok (.aload_n 0, 1) := by decide +kernel
theorem dX8_init_192 : decode cX8_init 192 = .ok (.bipush 16, 2) := by decide +kernel
theorem dX8_init_194 : decode cX8_init 194 = .ok (.newarray .int, 2) := by decide +kernel
theorem dX8_init_196 : decode cX8_init 196 = .ok (.putfield 78, 3) := by decide +kernel
theorem dX8_init_199 : decode cX8_init 199 = .ok (.aload_n 0, 1) := by decide +kernel
theorem dX8_init_200 : decode cX8_init 200 = .ok (.sipush 3000, 3) := by decide +kernel
theorem dX8_init_203 : decode cX8_init 203 = .ok (.newarray .int, 2) := by decide +kernel
theorem dX8_init_205 : decode cX8_init 205 = .ok (.putfield 81, 3) := by decide +kernel
theorem dX8_init_208 : decode cX8_init 208 = .ok (.aload_n 0, 1) := by decide +kernel
theorem dX8_init_209 : decode cX8_init 209 = .ok (.bipush 16, 2) := by decide +kernel
theorem dX8_init_211 : decode cX8_init 211 = .ok (.newarray .int, 2) := by decide +kernel
theorem dX8_init_213 : decode cX8_init 213 = .ok (.putfield 84, 3) := by decide +kernel
theorem dX8_init_216 : decode cX8_init 216 = .ok (.aload_n 0, 1) := by decide +kernel
theorem dX8_init_217 : decode cX8_init 217 = .ok (.sipush 3000, 3) := by decide +kernel
theorem dX8_init_220 : decode cX8_init 220 = .ok (.newarray .int, 2) := by decide +kernel
theorem dX8_init_222 : decode cX8_init 222 = .ok (.putfield 87, 3) := by decide +kernel
theorem dX8_init_225 : decode cX8_init 225 = .ok (.aload_n 0, 1) := by decide +kernel
theorem dX8_init_226 : decode cX8_init 226 = .ok (.sipush 8000, 3) := by decide +kernel
theorem dX8_init_229 : decode cX8_init 229 = .ok (.newarray .int, 2) := by decide +kernel
theorem dX8_init_231 : decode cX8_init 231 = .ok (.putfield 90, 3) := by decide +kernel
theorem dX8_init_234 : decode cX8_init 234 = .ok (.aload_n 0, 1) := by decide +kernel
theorem dX8_init_235 : decode cX8_init 235 = .ok (.sipush 500, 3) := by decide +kernel
theorem dX8_init_238 : decode cX8_init 238 = .ok (.newarray .boolean, 2) := by decide +kernel
theorem dX8_init_240 : decode cX8_init 240 = .ok (.putfield 93, 3) := by decide +kernel
theorem dX8_init_243 : decode cX8_init 243 = .ok (.aload_n 0, 1) := by decide +kernel
theorem dX8_init_244 : decode cX8_init 244 = .ok (.sipush 1248, 3) := by decide +kernel
theorem dX8_init_247 : decode cX8_init 247 = .ok (.newarray .int, 2) := by decide +kernel
theorem dX8_init_249 : decode cX8_init 249 = .ok (.putfield 97, 3) := by decide +kernel
theorem dX8_init_252 : decode cX8_init 252 = .ok (.aload_n 0, 1) := by decide +kernel
theorem dX8_init_253 : decode cX8_init 253 = .ok (.sipush 312, 3) := by decide +kernel
theorem dX8_init_256 : decode cX8_init 256 = .ok (.newarray .boolean, 2) := by decide +kernel
theorem dX8_init_258 : decode cX8_init 258 = .ok (.putfield 100, 3) := by decide +kernel
theorem dX8_init_261 : decode cX8_init 261 = .ok (.aload_n 0, 1) := by decide +kernel
theorem dX8_init_262 : decode cX8_init 262 = .ok (.bipush 40, 2) := by decide +kernel
theorem dX8_init_264 : decode cX8_init 264 = .ok (.newarray .int, 2) := by decide +kernel
theorem dX8_init_266 : decode cX8_init 266 = .ok (.putfield 103, 3) := by decide +kernel
theorem dX8_init_269 : decode cX8_init 269 = .ok (.aload_n 0, 1) := by decide +kernel
theorem dX8_init_270 : decode cX8_init 270 = .ok (.bipush 40, 2) := by decide +kernel
theorem dX8_init_272 : decode cX8_init 272 = .ok (.newarray .int, 2) := by decide +kernel
theorem dX8_init_274 : decode cX8_init 274 = .ok (.putfield 106, 3) := by decide +kernel
theorem dX8_init_277 : decode cX8_init 277 = .ok (.aload_n 0, 1) := by decide +kernel
theorem dX8_init_278 : decode cX8_init 278 = .ok (.bipush 8, 2) := by decide +kernel
theorem dX8_init_280 : decode cX8_init 280 = .ok (.newarray .int, 2) := by decide +kernel
theorem dX8_init_282 : decode cX8_init 282 = .ok (.putfield 109, 3) := by decide +kernel
theorem dX8_init_285 : decode cX8_init 285 = .ok (.aload_n 0, 1) := by decide +kernel
theorem dX8_init_286 : decode cX8_init 286 = .ok (.sipush 1540, 3) := by decide +kernel
theorem dX8_init_289 : decode cX8_init 289 = .ok (.newarray .int, 2) := by decide +kernel
theorem dX8_init_291 : decode cX8_init 291 = .ok (.putfield 112, 3) := by decide +kernel
theorem dX8_init_294 : decode cX8_init 294 = .ok (.aload_n 0, 1) := by decide +kernel
theorem dX8_init_295 : decode cX8_init 295 = .ok (.sipush 1540, 3) := by decide +kernel
theorem dX8_init_298 : decode cX8_init 298 = .ok (.newarray .int, 2) := by decide +kernel
theorem dX8_init_300 : decode cX8_init 300 = .ok (.putfield 115, 3) := by decide +kernel
theorem dX8_init_303 : decode cX8_init 303 = .ok (.aload_n 0, 1) := by decide +kernel
theorem dX8_init_304 : decode cX8_init 304 = .ok (.sipush 1540, 3) := by decide +kernel
theorem dX8_init_307 : decode cX8_init 307 = .ok (.newarray .int, 2) := by decide +kernel
theorem dX8_init_309 : decode cX8_init 309 = .ok (.putfield 118, 3) := by decide +kernel
theorem dX8_init_312 : decode cX8_init 312 = .ok (.aload_n 0, 1) := by decide +kernel
theorem dX8_init_313 : decode cX8_init 313 = .ok (.sipush 1540, 3) := by decide +kernel
theorem dX8_init_316 : decode cX8_init 316 = .ok (.newarray .int, 2) := by decide +kernel
theorem dX8_init_318 : decode cX8_init 318 = .ok (.putfield 121, 3) := by decide +kernel
theorem dX8_init_321 : decode cX8_init 321 = .ok (.aload_n 0, 1) := by decide +kernel
theorem dX8_init_322 : decode cX8_init 322 = .ok (.sipush 1540, 3) := by decide +kernel
theorem dX8_init_325 : decode cX8_init 325 = .ok (.newarray .int, 2) := by decide +kernel
theorem dX8_init_327 : decode cX8_init 327 = .ok (.putfield 124, 3) := by decide +kernel
theorem dX8_init_330 : decode cX8_init 330 = .ok (.aload_n 0, 1) := by decide +kernel
theorem dX8_init_331 : decode cX8_init 331 = .ok (.sipush 1540, 3) := by decide +kernel
theorem dX8_init_334 : decode cX8_init 334 = .ok (.newarray .boolean, 2) := by decide +kernel
theorem dX8_init_336 : decode cX8_init 336 = .ok (.putfield 127, 3) := by decide +kernel
theorem dX8_init_339 : decode cX8_init 339 = .ok (.aload_n 0, 1) := by decide +kernel
theorem dX8_init_340 : decode cX8_init 340 = .ok (.sipush 1540, 3) := by decide +kernel
theorem dX8_init_343 : decode cX8_init 343 = .ok (.newarray .int, 2) := by decide +kernel
theorem dX8_init_345 : decode cX8_init 345 = .ok (.putfield 130, 3) := by decide +kernel
theorem dX8_init_348 : decode cX8_init 348 = .ok (.aload_n 0, 1) := by decide +kernel
theorem dX8_init_349 : decode cX8_init 349 = .ok (.sipush 1540, 3) := by decide +kernel
theorem dX8_init_352 : decode cX8_init 352 = .ok (.newarray .int, 2) := by decide +kernel
theorem dX8_init_354 : decode cX8_init 354 = .ok (.putfield 133, 3) := by decide +kernel
theorem dX8_init_357 : decode cX8_init 357 = .ok (.aload_n 0, 1) := by decide +kernel
theorem dX8_init_358 : decode cX8_init 358 = .ok (.sipush 24032, 3) := by decide +kernel
theorem dX8_init_361 : decode cX8_init 361 = .ok (.newarray .int, 2) := by decide +kernel
theorem dX8_init_363 : decode cX8_init 363 = .ok (.putfield 136, 3) := by decide +kernel
theorem dX8_init_366 : decode cX8_init 366 = .ok (.aload_n 0, 1) := by decide +kernel
theorem dX8_init_367 : decode cX8_init 367 = .ok (.iconst 4, 1) := by decide +kernel
theorem dX8_init_368 : decode cX8_init 368 = .ok (.newarray .int, 2) := by decide +kernel
theorem dX8_init_370 : decode cX8_init 370 = .ok (.putfield 139, 3) := by decide +kernel
theorem dX8_init_373 : decode cX8_init 373 = .ok (.aload_n 0, 1) := by decide +kernel
theorem dX8_init_374 : decode cX8_init 374 = .ok (.iconst (-1), 1) := by decide +kernel
theorem dX8_init_375 : decode cX8_init 375 = .ok (.putfield 142, 3) := by decide +kernel
theorem dX8_init_378 : decode cX8_init 378 = .ok (.aload_n 0, 1) := by decide +kernel
theorem dX8_init_379 : decode cX8_init 379 = .ok (.sipush 3000, 3) := by decide +kernel
theorem dX8_init_382 : decode cX8_init 382 = .ok (.newarray .int, 2) := by decide +kernel
theorem dX8_init_384 : decode cX8_init 384 = .ok (.putfield 145, 3) := by decide +kernel
theorem dX8_init_387 : decode cX8_init 387 = .ok (.return_, 1) := by decide +kernel
theorem ctX2_init {D : DE} {f : Nat} : Cl D (f + 2) mX2_init [.ref (ad D 1)] (cM 2 0 25 0) (cQ (cM 5 3 6027 0)) := Cl.ofV (by decide) (Nat.le_of_ble_eq_true rfl) rfl (by
  refine V_aload_n dX2_init_0 rfl 0 rfl ?_
  refine V_objInit (by omega) (Nat.le_of_ble_eq_true rfl) q127 q120 q121 dX2_init_1 ?_
  refine V_aload_n dX2_init_4 rfl 0 rfl ?_
  refine V_sipush (v := 4000) dX2_init_5 (by decide) ?_
  refine G_newa (t := 1) (N := 4000) rfl (by decide) rfl (fun _ h => h) q170 (by decide) (by decide) (by decide) rfl dX2_init_8 (fun F1 h1 g1 e1 e2 e3 => ?_)
  obtain rfl : F1 = cF 3 0 4025 := e1.trans (cF_new 2 0 25 4000 (t := (1, 4000)) rfl (by decide +kernel))
  obtain rfl : h1 = cH 0 := e2.trans (cH_new 0 2 (by decide +kernel))
  obtain rfl : g1 = cG := e3.trans (cG_new 2)
  refine G_putrF (n := 0) ck1 0 (by decide) (by decide +kernel) (by decide) rfl (fun _ => rfl) (fun _ => rfl) rfl rfl rfl q128 dX2_init_10 (fun F1 e1 => ?_)
  obtain rfl : F1 = cF 3 1 4025 := e1.trans (cF_wr 3 0 4025 (a := 1) (k := 0) (b := 2) rfl (by decide +kernel))
  refine V_aload_n dX2_init_13 rfl 0 rfl ?_
  refine V_sipush (v := 1001) dX2_init_14 (by decide) ?_
  refine G_newa (t := 0) (N := 1001) rfl (by decide) rfl (fun _ h => h) q171 (by decide) (by decide) (by decide) rfl dX2_init_17 (fun F1 h1 g1 e1 e2 e3 => ?_)
  obtain rfl : F1 = cF 4 1 5026 := e1.trans (cF_new 3 1 4025 1001 (t := (0, 1001)) rfl (by decide +kernel))
  obtain rfl : h1 = cH 0 := e2.trans (cH_new 0 3 (by decide +kernel))
  obtain rfl : g1 = cG := e3.trans (cG_new 3)
  refine G_putrF (n := 0) ck1 2 (by decide) (by decide +kernel) (by decide) rfl (fun _ => rfl) (fun _ => rfl) rfl rfl rfl q132 dX2_init_19 (fun F1 e1 => ?_)
  obtain rfl : F1 = cF 4 2 5026 := e1.trans (cF_wr 4 1 5026 (a := 1) (k := 2) (b := 3) rfl (by decide +kernel))
  refine V_aload_n dX2_init_22 rfl 0 rfl ?_
  refine V_sipush (v := 1001) dX2_init_23 (by decide) ?_
  refine G_newa (t := 0) (N := 1001) rfl (by decide) rfl (fun _ h => h) q171 (by decide) (by decide) (by decide) rfl dX2_init_26 (fun F1 h1 g1 e1 e2 e3 => ?_)
  obtain rfl : F1 = cF 5 2 6027 := e1.trans (cF_new 4 2 5026 1001 (t := (0, 1001)) rfl (by decide +kernel))
  obtain rfl : h1 = cH 0 := e2.trans (cH_new 0 4 (by decide +kernel))
  obtain rfl : g1 = cG := e3.trans (cG_new 4)
  refine G_putrF (n := 0) ck1 3 (by decide) (by decide +kernel) (by decide) rfl (fun _ => rfl) (fun _ => rfl) rfl rfl rfl q134 dX2_init_28 (fun F1 e1 => ?_)
  obtain rfl : F1 = cF 5 3 6027 := e1.trans (cF_wr 5 2 6027 (a := 1) (k := 3) (b := 4) rfl (by decide +kernel))
  exact V_vret rfl dX2_init_31 ⟨rfl, rfl⟩)
theorem ctX3_init {D : DE} {f : Nat} : Cl D (f + 2) mX3_init [.ref (ad D 5), .ref (ad D 1)] (cM 6 4 6032 0) (cQ (cM 7 6 6044 0)) := Cl.ofV (by decide) (Nat.le_of_ble_eq_true rfl) rfl (by
  refine V_aload_n dX3_init_0 rfl 0 rfl ?_
  refine V_objInit (by omega) (Nat.le_of_ble_eq_true rfl) q177 q120 q121 dX3_init_1 ?_
  refine V_aload_n dX3_init_4 rfl 0 rfl ?_
  refine V_bipush (v := 12) dX3_init_5 (by decide) ?_
  refine G_anew (t := 4) (N := 12) rfl (by decide) (by decide) q178 (fun _ h => h.2.2.1) (by decide) (by decide) (by decide) dX3_init_7 (fun F1 h1 g1 e1 e2 e3 => ?_)
  obtain rfl : F1 = cF 7 4 6044 := e1.trans (cF_new 6 4 6032 12 (t := (4, 12)) rfl (by decide +kernel))
  obtain rfl : h1 = cH 0 := e2.trans (cH_new 0 6 (by decide +kernel))
  obtain rfl : g1 = cG := e3.trans (cG_new 6)
  refine G_putrF (n := 0) ck2 1 (by decide) (by decide +kernel) (by decide) rfl (fun _ => rfl) (fun _ => rfl) rfl rfl rfl q181 dX3_init_10 (fun F1 e1 => ?_)
  obtain rfl : F1 = cF 7 5 6044 := e1.trans (cF_wr 7 4 6044 (a := 5) (k := 1) (b := 6) rfl (by decide +kernel))
  refine V_aload_n dX3_init_13 rfl 0 rfl ?_
  refine V_aload_n dX3_init_14 rfl 1 rfl ?_
  refine G_putrF (n := 0) ck2 0 (by decide) (by decide +kernel) (by decide) rfl (fun _ => rfl) (fun _ => rfl) rfl rfl rfl q180 dX3_init_15 (fun F1 e1 => ?_)
  obtain rfl : F1 = cF 7 6 6044 := e1.trans (cF_wr 7 5 6044 (a := 5) (k := 0) (b := 1) rfl (by decide +kernel))
  exact V_vret rfl dX3_init_18 ⟨rfl, rfl⟩)
theorem ctX4_init {D : DE} {f : Nat} : Cl D (f + 2) mX4_init [.ref (ad D 7), .ref (ad D 1), .ref (ad D 6)] (cM 8 7 6050 0) (cQ (cM 9 10 6067 0)) := Cl.ofV (by decide) (Nat.le_of_ble_eq_true rfl) rfl (by
  refine V_aload_n dX4_init_0 rfl 0 rfl ?_
  refine V_objInit (by omega) (Nat.le_of_ble_eq_true rfl) q203 q120 q121 dX4_init_1 ?_
  refine V_aload_n dX4_init_4 rfl 0 rfl ?_
  refine V_bipush (v := 17) dX4_init_5 (by decide) ?_
  refine G_newa (t := 0) (N := 17) rfl (by decide) rfl (fun _ h => h) q171 (by decide) (by decide) (by decide) rfl dX4_init_7 (fun F1 h1 g1 e1 e2 e3 => ?_)
  obtain rfl : F1 = cF 9 7 6067 := e1.trans (cF_new 8 7 6050 17 (t := (0, 17)) rfl (by decide +kernel))
  obtain rfl : h1 = cH 0 := e2.trans (cH_new 0 8 (by decide +kernel))
  obtain rfl : g1 = cG := e3.trans (cG_new 8)
  refine G_putrF (n := 0) ck3 4 (by decide) (by decide +kernel) (by decide) rfl (fun _ => rfl) (fun _ => rfl) rfl rfl rfl q211 dX4_init_9 (fun F1 e1 => ?_)
  obtain rfl : F1 = cF 9 8 6067 := e1.trans (cF_wr 9 7 6067 (a := 7) (k := 4) (b := 8) rfl (by decide +kernel))
  refine V_aload_n dX4_init_12 rfl 0 rfl ?_
  refine V_aload_n dX4_init_13 rfl 1 rfl ?_
  refine G_putrF (n := 0) ck3 0 (by decide) (by decide +kernel) (by decide) rfl (fun _ => rfl) (fun _ => rfl) rfl rfl rfl q204 dX4_init_14 (fun F1 e1 => ?_)
  obtain rfl : F1 = cF 9 9 6067 := e1.trans (cF_wr 9 8 6067 (a := 7) (k := 0) (b := 1) rfl (by decide +kernel))
  refine V_aload_n dX4_init_17 rfl 0 rfl ?_
  refine V_aload_n dX4_init_18 rfl 2 rfl ?_
  refine G_putrF (n := 0) ck3 1 (by decide) (by decide +kernel) (by decide) rfl (fun _ => rfl) (fun _ => rfl) rfl rfl rfl q205 dX4_init_19 (fun F1 e1 => ?_)
  obtain rfl : F1 = cF 9 10 6067 := e1.trans (cF_wr 9 9 6067 (a := 7) (k := 1) (b := 6) rfl (by decide +kernel))
  exact V_vret rfl dX4_init_22 ⟨rfl, rfl⟩)
theorem ctX6_init_11 {D : DE} {f : Nat} : Cl D (f + 1) mX6_init [.ref (ad D 11)] (cM 12 12 6116 0) (cQ (cM 13 13 6132 0)) := Cl.ofV (by decide) (Nat.le_of_ble_eq_true rfl) rfl (by
  refine V_aload_n dX6_init_0 rfl 0 rfl ?_
  refine V_objInit (by omega) (Nat.le_of_ble_eq_true rfl) q238 q120 q121 dX6_init_1 ?_
  refine V_aload_n dX6_init_4 rfl 0 rfl ?_
  refine V_bipush (v := 16) dX6_init_5 (by decide) ?_
  refine G_newa (t := 0) (N := 16) rfl (by decide) rfl (fun _ h => h) q171 (by decide) (by decide) (by decide) rfl dX6_init_7 (fun F1 h1 g1 e1 e2 e3 => ?_)
  obtain rfl : F1 = cF 13 12 6132 := e1.trans (cF_new 12 12 6116 16 (t := (0, 16)) rfl (by decide +kernel))
  obtain rfl : h1 = cH 0 := e2.trans (cH_new 0 12 (by decide +kernel))
  obtain rfl : g1 = cG := e3.trans (cG_new 12)
  refine G_putrF (n := 0) ck5 0 (by decide) (by decide +kernel) (by decide) rfl (fun _ => rfl) (fun _ => rfl) rfl rfl rfl q239 dX6_init_9 (fun F1 e1 => ?_)
  obtain rfl : F1 = cF 13 13 6132 := e1.trans (cF_wr 13 12 6132 (a := 11) (k := 0) (b := 12) rfl (by decide +kernel))
  exact V_vret rfl dX6_init_12 ⟨rfl, rfl⟩)
theorem ctX6_init_13 {D : DE} {f : Nat} : Cl D (f + 1) mX6_init [.ref (ad D 13)] (cM 14 14 6134 0) (cQ (cM 15 15 6150 0)) := Cl.ofV (by decide) (Nat.le_of_ble_eq_true rfl) rfl (by
  refine V_aload_n dX6_init_0 rfl 0 rfl ?_
  refine V_objInit (by omega) (Nat.le_of_ble_eq_true rfl) q238 q120 q121 dX6_init_1 ?_
  refine V_aload_n dX6_init_4 rfl 0 rfl ?_
  refine V_bipush (v := 16) dX6_init_5 (by decide) ?_
  refine G_newa (t := 0) (N := 16) rfl (by decide) rfl (fun _ h => h) q171 (by decide) (by decide) (by decide) rfl dX6_init_7 (fun F1 h1 g1 e1 e2 e3 => ?_)
  obtain rfl : F1 = cF 15 14 6150 := e1.trans (cF_new 14 14 6134 16 (t := (0, 16)) rfl (by decide +kernel))
  obtain rfl : h1 = cH 0 := e2.trans (cH_new 0 14 (by decide +kernel))
  obtain rfl : g1 = cG := e3.trans (cG_new 14)
  refine G_putrF (n := 0) ck5 0 (by decide) (by decide +kernel) (by decide) rfl (fun _ => rfl) (fun _ => rfl) rfl rfl rfl q239 dX6_init_9 (fun F1 e1 => ?_)
  obtain rfl : F1 = cF 15 15 6150 := e1.trans (cF_wr 15 14 6150 (a := 13) (k := 0) (b := 14) rfl (by decide +kernel))
  exact V_vret rfl dX6_init_12 ⟨rfl, rfl⟩)
theorem ctX6_init_15 {D : DE} {f : Nat} : Cl D (f + 1) mX6_init [.ref (ad D 15)] (cM 16 16 6152 0) (cQ (cM 17 17 6168 0)) := Cl.ofV (by decide) (Nat.le_of_ble_eq_true rfl) rfl (by
  refine V_aload_n dX6_init_0 rfl 0 rfl ?_
  refine V_objInit (by omega) (Nat.le_of_ble_eq_true rfl) q238 q120 q121 dX6_init_1 ?_
  refine V_aload_n dX6_init_4 rfl 0 rfl ?_
  refine V_bipush (v := 16) dX6_init_5 (by decide) ?_
  refine G_newa (t := 0) (N := 16) rfl (by decide) rfl (fun _ h => h) q171 (by decide) (by decide) (by decide) rfl dX6_init_7 (fun F1 h1 g1 e1 e2 e3 => ?_)
  obtain rfl : F1 = cF 17 16 6168 := e1.trans (cF_new 16 16 6152 16 (t := (0, 16)) rfl (by decide +kernel))
  obtain rfl : h1 = cH 0 := e2.trans (cH_new 0 16 (by decide +kernel))
  obtain rfl : g1 = cG := e3.trans (cG_new 16)
  refine G_putrF (n := 0) ck5 0 (by decide) (by decide +kernel) (by decide) rfl (fun _ => rfl) (fun _ => rfl) rfl rfl rfl q239 dX6_init_9 (fun F1 e1 => ?_)
  obtain rfl : F1 = cF 17 17 6168 := e1.trans (cF_wr 17 16 6168 (a := 15) (k := 0) (b := 16) rfl (by decide +kernel))
  exact V_vret rfl dX6_init_12 ⟨rfl, rfl⟩)
theorem ctX6_init_17 {D : DE} {f : Nat} : Cl D (f + 1) mX6_init [.ref (ad D 17)] (cM 18 18 6170 0) (cQ (cM 19 19 6186 0)) := Cl.ofV (by decide) (Nat.le_of_ble_eq_true rfl) rfl (by
  refine V_aload_n dX6_init_0 rfl 0 rfl ?_
  refine V_objInit (by omega) (Nat.le_of_ble_eq_true rfl) q238 q120 q121 dX6_init_1 ?_
  refine V_aload_n dX6_init_4 rfl 0 rfl ?_
  refine V_bipush (v := 16) dX6_init_5 (by decide) ?_
  refine G_newa (t := 0) (N := 16) rfl (by decide) rfl (fun _ h => h) q171 (by decide) (by decide) (by decide) rfl dX6_init_7 (fun F1 h1 g1 e1 e2 e3 => ?_)
  obtain rfl : F1 = cF 19 18 6186 := e1.trans (cF_new 18 18 6170 16 (t := (0, 16)) rfl (by decide +kernel))
  obtain rfl : h1 = cH 0 := e2.trans (cH_new 0 18 (by decide +kernel))
  obtain rfl : g1 = cG := e3.trans (cG_new 18)
  refine G_putrF (n := 0) ck5 0 (by decide) (by decide +kernel) (by decide) rfl (fun _ => rfl) (fun _ => rfl) rfl rfl rfl q239 dX6_init_9 (fun F1 e1 => ?_)
  obtain rfl : F1 = cF 19 19 6186 := e1.trans (cF_wr 19 18 6186 (a := 17) (k := 0) (b := 18) rfl (by decide +kernel))
  exact V_vret rfl dX6_init_12 ⟨rfl, rfl⟩)
theorem ctX6_init_19 {D : DE} {f : Nat} : Cl D (f + 1) mX6_init [.ref (ad D 19)] (cM 20 20 6188 0) (cQ (cM 21 21 6204 0)) := Cl.ofV (by decide) (Nat.le_of_ble_eq_true rfl) rfl (by
  refine V_aload_n dX6_init_0 rfl 0 rfl ?_
  refine V_objInit (by omega) (Nat.le_of_ble_eq_true rfl) q238 q120 q121 dX6_init_1 ?_
  refine V_aload_n dX6_init_4 rfl 0 rfl ?_
  refine V_bipush (v := 16) dX6_init_5 (by decide) ?_
  refine G_newa (t := 0) (N := 16) rfl (by decide) rfl (fun _ h => h) q171 (by decide) (by decide) (by decide) rfl dX6_init_7 (fun F1 h1 g1 e1 e2 e3 => ?_)
  obtain rfl : F1 = cF 21 20 6204 := e1.trans (cF_new 20 20 6188 16 (t := (0, 16)) rfl (by decide +kernel))
  obtain rfl : h1 = cH 0 := e2.trans (cH_new 0 20 (by decide +kernel))
  obtain rfl : g1 = cG := e3.trans (cG_new 20)
  refine G_putrF (n := 0) ck5 0 (by decide) (by decide +kernel) (by decide) rfl (fun _ => rfl) (fun _ => rfl) rfl rfl rfl q239 dX6_init_9 (fun F1 e1 => ?_)
  obtain rfl : F1 = cF 21 21 6204 := e1.trans (cF_wr 21 20 6204 (a := 19) (k := 0) (b := 20) rfl (by decide +kernel))
  exact V_vret rfl dX6_init_12 ⟨rfl, rfl⟩)
theorem ctX6_init_21 {D : DE} {f : Nat} : Cl D (f + 1) mX6_init [.ref (ad D 21)] (cM 22 22 6206 0) (cQ (cM 23 23 6222 0)) := Cl.ofV (by decide) (Nat.le_of_ble_eq_true rfl) rfl (by
  refine V_aload_n dX6_init_0 rfl 0 rfl ?_
  refine V_objInit (by omega) (Nat.le_of_ble_eq_true rfl) q238 q120 q121 dX6_init_1 ?_
  refine V_aload_n dX6_init_4 rfl 0 rfl ?_
  refine V_bipush (v := 16) dX6_init_5 (by decide) ?_
  refine G_newa (t := 0) (N := 16) rfl (by decide) rfl (fun _ h => h) q171 (by decide) (by decide) (by decide) rfl dX6_init_7 (fun F1 h1 g1 e1 e2 e3 => ?_)
  obtain rfl : F1 = cF 23 22 6222 := e1.trans (cF_new 22 22 6206 16 (t := (0, 16)) rfl (by decide +kernel))
  obtain rfl : h1 = cH 0 := e2.trans (cH_new 0 22 (by decide +kernel))
  obtain rfl : g1 = cG := e3.trans (cG_new 22)
  refine G_putrF (n := 0) ck5 0 (by decide) (by decide +kernel) (by decide) rfl (fun _ => rfl) (fun _ => rfl) rfl rfl rfl q239 dX6_init_9 (fun F1 e1 => ?_)
  obtain rfl : F1 = cF 23 23 6222 := e1.trans (cF_wr 23 22 6222 (a := 21) (k := 0) (b := 22) rfl (by decide +kernel))
  exact V_vret rfl dX6_init_12 ⟨rfl, rfl⟩)
theorem ctX6_init_23 {D : DE} {f : Nat} : Cl D (f + 1) mX6_init [.ref (ad D 23)] (cM 24 24 6224 0) (cQ (cM 25 25 6240 0)) := Cl.ofV (by decide) (Nat.le_of_ble_eq_true rfl) rfl (by
  refine V_aload_n dX6_init_0 rfl 0 rfl ?_
  refine V_objInit (by omega) (Nat.le_of_ble_eq_true rfl) q238 q120 q121 dX6_init_1 ?_
  refine V_aload_n dX6_init_4 rfl 0 rfl ?_
  refine V_bipush (v := 16) dX6_init_5 (by decide) ?_
  refine G_newa (t := 0) (N := 16) rfl (by decide) rfl (fun _ h => h) q171 (by decide) (by decide) (by decide) rfl dX6_init_7 (fun F1 h1 g1 e1 e2 e3 => ?_)
  obtain rfl : F1 = cF 25 24 6240 := e1.trans (cF_new 24 24 6224 16 (t := (0, 16)) rfl (by decide +kernel))
  obtain rfl : h1 = cH 0 := e2.trans (cH_new 0 24 (by decide +kernel))
  obtain rfl : g1 = cG := e3.trans (cG_new 24)
  refine G_putrF (n := 0) ck5 0 (by decide) (by decide +kernel) (by decide) rfl (fun _ => rfl) (fun _ => rfl) rfl rfl rfl q239 dX6_init_9 (fun F1 e1 => ?_)
  obtain rfl : F1 = cF 25 25 6240 := e1.trans (cF_wr 25 24 6240 (a := 23) (k := 0) (b := 24) rfl (by decide +kernel))
  exact V_vret rfl dX6_init_12 ⟨rfl, rfl⟩)
theorem ctX6_init_25 {D : DE} {f : Nat} : Cl D (f + 1) mX6_init [.ref (ad D 25)] (cM 26 26 6242 0) (cQ (cM 27 27 6258 0)) := Cl.ofV (by decide) (Nat.le_of_ble_eq_true rfl) rfl (by
  refine V_aload_n dX6_init_0 rfl 0 rfl ?_
  refine V_objInit (by omega) (Nat.le_of_ble_eq_true rfl) q238 q120 q121 dX6_init_1 ?_
  refine V_aload_n dX6_init_4 rfl 0 rfl ?_
  refine V_bipush (v := 16) dX6_init_5 (by decide) ?_
  refine G_newa (t := 0) (N := 16) rfl (by decide) rfl (fun _ h => h) q171 (by decide) (by decide) (by decide) rfl dX6_init_7 (fun F1 h1 g1 e1 e2 e3 => ?_)
  obtain rfl : F1 = cF 27 26 6258 := e1.trans (cF_new 26 26 6242 16 (t := (0, 16)) rfl (by decide +kernel))
  obtain rfl : h1 = cH 0 := e2.trans (cH_new 0 26 (by decide +kernel))
  obtain rfl : g1 = cG := e3.trans (cG_new 26)
  refine G_putrF (n := 0) ck5 0 (by decide) (by decide +kernel) (by decide) rfl (fun _ => rfl) (fun _ => rfl) rfl rfl rfl q239 dX6_init_9 (fun F1 e1 => ?_)
  obtain rfl : F1 = cF 27 27 6258 := e1.trans (cF_wr 27 26 6258 (a := 25) (k := 0) (b := 26) rfl (by decide +kernel))
  exact V_vret rfl dX6_init_12 ⟨rfl, rfl⟩)
theorem ctX6_init_27 {D : DE} {f : Nat} : Cl D (f + 1) mX6_init [.ref (ad D 27)] (cM 28 28 6260 0) (cQ (cM 29 29 6276 0)) := Cl.ofV (by decide) (Nat.le_of_ble_eq_true rfl) rfl (by
  refine V_aload_n dX6_init_0 rfl 0 rfl ?_
  refine V_objInit (by omega) (Nat.le_of_ble_eq_true rfl) q238 q120 q121 dX6_init_1 ?_
  refine V_aload_n dX6_init_4 rfl 0 rfl ?_
  refine V_bipush (v := 16) dX6_init_5 (by decide) ?_
  refine G_newa (t := 0) (N := 16) rfl (by decide) rfl (fun _ h => h) q171 (by decide) (by decide) (by decide) rfl dX6_init_7 (fun F1 h1 g1 e1 e2 e3 => ?_)
  obtain rfl : F1 = cF 29 28 6276 := e1.trans (cF_new 28 28 6260 16 (t := (0, 16)) rfl (by decide +kernel))
  obtain rfl : h1 = cH 0 := e2.trans (cH_new 0 28 (by decide +kernel))
  obtain rfl : g1 = cG := e3.trans (cG_new 28)
  refine G_putrF (n := 0) ck5 0 (by decide) (by decide +kernel) (by decide) rfl (fun _ => rfl) (fun _ => rfl) rfl rfl rfl q239 dX6_init_9 (fun F1 e1 => ?_)
  obtain rfl : F1 = cF 29 29 6276 := e1.trans (cF_wr 29 28 6276 (a := 27) (k := 0) (b := 28) rfl (by decide +kernel))
  exact V_vret rfl dX6_init_12 ⟨rfl, rfl⟩)
theorem ctX6_init_29 {D : DE} {f : Nat} : Cl D (f + 1) mX6_init [.ref (ad D 29)] (cM 30 30 6278 0) (cQ (cM 31 31 6294 0)) := Cl.ofV (by decide) (Nat.le_of_ble_eq_true rfl) rfl (by
  refine V_aload_n dX6_init_0 rfl 0 rfl ?_
  refine V_objInit (by omega) (Nat.le_of_ble_eq_true rfl) q238 q120 q121 dX6_init_1 ?_
  refine V_aload_n dX6_init_4 rfl 0 rfl ?_
  refine V_bipush (v := 16) dX6_init_5 (by decide) ?_
  refine G_newa (t := 0) (N := 16) rfl (by decide) rfl (fun _ h => h) q171 (by decide) (by decide) (by decide) rfl dX6_init_7 (fun F1 h1 g1 e1 e2 e3 => ?_)
  obtain rfl : F1 = cF 31 30 6294 := e1.trans (cF_new 30 30 6278 16 (t := (0, 16)) rfl (by decide +kernel))
  obtain rfl : h1 = cH 0 := e2.trans (cH_new 0 30 (by decide +kernel))
  obtain rfl : g1 = cG := e3.trans (cG_new 30)
  refine G_putrF (n := 0) ck5 0 (by decide) (by decide +kernel) (by decide) rfl (fun _ => rfl) (fun _ => rfl) rfl rfl rfl q239 dX6_init_9 (fun F1 e1 => ?_)
  obtain rfl : F1 = cF 31 31 6294 := e1.trans (cF_wr 31 30 6294 (a := 29) (k := 0) (b := 30) rfl (by decide +kernel))
  exact V_vret rfl dX6_init_12 ⟨rfl, rfl⟩)
theorem ctX6_init_31 {D : DE} {f : Nat} : Cl D (f + 1) mX6_init [.ref (ad D 31)] (cM 32 32 6296 0) (cQ (cM 33 33 6312 0)) := Cl.ofV (by decide) (Nat.le_of_ble_eq_true rfl) rfl (by
  refine V_aload_n dX6_init_0 rfl 0 rfl ?_
  refine V_objInit (by omega) (Nat.le_of_ble_eq_true rfl) q238 q120 q121 dX6_init_1 ?_
  refine V_aload_n dX6_init_4 rfl 0 rfl ?_
  refine V_bipush (v := 16) dX6_init_5 (by decide) ?_
  refine G_newa (t := 0) (N := 16) rfl (by decide) rfl (fun _ h => h) q171 (by decide) (by decide) (by decide) rfl dX6_init_7 (fun F1 h1 g1 e1 e2 e3 => ?_)
  obtain rfl : F1 = cF 33 32 6312 := e1.trans (cF_new 32 32 6296 16 (t := (0, 16)) rfl (by decide +kernel))
  obtain rfl : h1 = cH 0 := e2.trans (cH_new 0 32 (by decide +kernel))
  obtain rfl : g1 = cG := e3.trans (cG_new 32)
  refine G_putrF (n := 0) ck5 0 (by decide) (by decide +kernel) (by decide) rfl (fun _ => rfl) (fun _ => rfl) rfl rfl rfl q239 dX6_init_9 (fun F1 e1 => ?_)
  obtain rfl : F1 = cF 33 33 6312 := e1.trans (cF_wr 33 32 6312 (a := 31) (k := 0) (b := 32) rfl (by decide +kernel))
  exact V_vret rfl dX6_init_12 ⟨rfl, rfl⟩)
theorem ctX6_init_33 {D : DE} {f : Nat} : Cl D (f + 1) mX6_init [.ref (ad D 33)] (cM 34 34 6314 0) (cQ (cM 35 35 6330 0)) := Cl.ofV (by decide) (Nat.le_of_ble_eq_true rfl) rfl (by
  refine V_aload_n dX6_init_0 rfl 0 rfl ?_
  refine V_objInit (by omega) (Nat.le_of_ble_eq_true rfl) q238 q120 q121 dX6_init_1 ?_
  refine V_aload_n dX6_init_4 rfl 0 rfl ?_
  refine V_bipush (v := 16) dX6_init_5 (by decide) ?_
  refine G_newa (t := 0) (N := 16) rfl (by decide) rfl (fun _ h => h) q171 (by decide) (by decide) (by decide) rfl dX6_init_7 (fun F1 h1 g1 e1 e2 e3 => ?_)
  obtain rfl : F1 = cF 35 34 6330 := e1.trans (cF_new 34 34 6314 16 (t := (0, 16)) rfl (by decide +kernel))
  obtain rfl : h1 = cH 0 := e2.trans (cH_new 0 34 (by decide +kernel))
  obtain rfl : g1 = cG := e3.trans (cG_new 34)
  refine G_putrF (n := 0) ck5 0 (by decide) (by decide +kernel) (by decide) rfl (fun _ => rfl) (fun _ => rfl) rfl rfl rfl q239 dX6_init_9 (fun F1 e1 => ?_)
  obtain rfl : F1 = cF 35 35 6330 := e1.trans (cF_wr 35 34 6330 (a := 33) (k := 0) (b := 34) rfl (by decide +kernel))
  exact V_vret rfl dX6_init_12 ⟨rfl, rfl⟩)
theorem ctX6_init_35 {D : DE} {f : Nat} : Cl D (f + 1) mX6_init [.ref (ad D 35)] (cM 36 36 6332 0) (cQ (cM 37 37 6348 0)) := Cl.ofV (by decide) (Nat.le_of_ble_eq_true rfl) rfl (by
  refine V_aload_n dX6_init_0 rfl 0 rfl ?_
  refine V_objInit (by omega) (Nat.le_of_ble_eq_true rfl) q238 q120 q121 dX6_init_1 ?_
  refine V_aload_n dX6_init_4 rfl 0 rfl ?_
  refine V_bipush (v := 16) dX6_init_5 (by decide) ?_
  refine G_newa (t := 0) (N := 16) rfl (by decide) rfl (fun _ h => h) q171 (by decide) (by decide) (by decide) rfl dX6_init_7 (fun F1 h1 g1 e1 e2 e3 => ?_)
  obtain rfl : F1 = cF 37 36 6348 := e1.trans (cF_new 36 36 6332 16 (t := (0, 16)) rfl (by decide +kernel))
  obtain rfl : h1 = cH 0 := e2.trans (cH_new 0 36 (by decide +kernel))
  obtain rfl : g1 = cG := e3.trans (cG_new 36)
  refine G_putrF (n := 0) ck5 0 (by decide) (by decide +kernel) (by decide) rfl (fun _ => rfl) (fun _ => rfl) rfl rfl rfl q239 dX6_init_9 (fun F1 e1 => ?_)
  obtain rfl : F1 = cF 37 37 6348 := e1.trans (cF_wr 37 36 6348 (a := 35) (k := 0) (b := 36) rfl (by decide +kernel))
  exact V_vret rfl dX6_init_12 ⟨rfl, rfl⟩)
theorem ctX6_init_37 {D : DE} {f : Nat} : Cl D (f + 1) mX6_init [.ref (ad D 37)] (cM 38 38 6350 0) (cQ (cM 39 39 6366 0)) := Cl.ofV (by decide) (Nat.le_of_ble_eq_true rfl) rfl (by
  refine V_aload_n dX6_init_0 rfl 0 rfl ?_
  refine V_objInit (by omega) (Nat.le_of_ble_eq_true rfl) q238 q120 q121 dX6_init_1 ?_
  refine V_aload_n dX6_init_4 rfl 0 rfl ?_
  refine V_bipush (v := 16) dX6_init_5 (by decide) ?_
  refine G_newa (t := 0) (N := 16) rfl (by decide) rfl (fun _ h => h) q171 (by decide) (by decide) (by decide) rfl dX6_init_7 (fun F1 h1 g1 e1 e2 e3 => ?_)
  obtain rfl : F1 = cF 39 38 6366 := e1.trans (cF_new 38 38 6350 16 (t := (0, 16)) rfl (by decide +kernel))
  obtain rfl : h1 = cH 0 := e2.trans (cH_new 0 38 (by decide +kernel))
  obtain rfl : g1 = cG := e3.trans (cG_new 38)
  refine G_putrF (n := 0) ck5 0 (by decide) (by decide +kernel) (by decide) rfl (fun _ => rfl) (fun _ => rfl) rfl rfl rfl q239 dX6_init_9 (fun F1 e1 => ?_)
  obtain rfl : F1 = cF 39 39 6366 := e1.trans (cF_wr 39 38 6366 (a := 37) (k := 0) (b := 38) rfl (by decide +kernel))
  exact V_vret rfl dX6_init_12 ⟨rfl, rfl⟩)
theorem ctX6_init_39 {D : DE} {f : Nat} : Cl D (f + 1) mX6_init [.ref (ad D 39)] (cM 40 40 6368 0) (cQ (cM 41 41 6384 0)) := Cl.ofV (by decide) (Nat.le_of_ble_eq_true rfl) rfl (by
  refine V_aload_n dX6_init_0 rfl 0 rfl ?_
  refine V_objInit (by omega) (Nat.le_of_ble_eq_true rfl) q238 q120 q121 dX6_init_1 ?_
  refine V_aload_n dX6_init_4 rfl 0 rfl ?_
  refine V_bipush (v := 16) dX6_init_5 (by decide) ?_
  refine G_newa (t := 0) (N := 16) rfl (by decide) rfl (fun _ h => h) q171 (by decide) (by decide) (by decide) rfl dX6_init_7 (fun F1 h1 g1 e1 e2 e3 => ?_)
  obtain rfl : F1 = cF 41 40 6384 := e1.trans (cF_new 40 40 6368 16 (t := (0, 16)) rfl (by decide +kernel))
  obtain rfl : h1 = cH 0 := e2.trans (cH_new 0 40 (by decide +kernel))
  obtain rfl : g1 = cG := e3.trans (cG_new 40)
  refine G_putrF (n := 0) ck5 0 (by decide) (by decide +kernel) (by decide) rfl (fun _ => rfl) (fun _ => rfl) rfl rfl rfl q239 dX6_init_9 (fun F1 e1 => ?_)
  obtain rfl : F1 = cF 41 41 6384 := e1.trans (cF_wr 41 40 6384 (a := 39) (k := 0) (b := 40) rfl (by decide +kernel))
  exact V_vret rfl dX6_init_12 ⟨rfl, rfl⟩)
theorem ctX6_init_41 {D : DE} {f : Nat} : Cl D (f + 1) mX6_init [.ref (ad D 41)] (cM 42 42 6386 0) (cQ (cM 43 43 6402 0)) := Cl.ofV (by decide) (Nat.le_of_ble_eq_true rfl) rfl (by
  refine V_aload_n dX6_init_0 rfl 0 rfl ?_
  refine V_objInit (by omega) (Nat.le_of_ble_eq_true rfl) q238 q120 q121 dX6_init_1 ?_
  refine V_aload_n dX6_init_4 rfl 0 rfl ?_
  refine V_bipush (v := 16) dX6_init_5 (by decide) ?_
  refine G_newa (t := 0) (N := 16) rfl (by decide) rfl (fun _ h => h) q171 (by decide) (by decide) (by decide) rfl dX6_init_7 (fun F1 h1 g1 e1 e2 e3 => ?_)
  obtain rfl : F1 = cF 43 42 6402 := e1.trans (cF_new 42 42 6386 16 (t := (0, 16)) rfl (by decide +kernel))
  obtain rfl : h1 = cH 0 := e2.trans (cH_new 0 42 (by decide +kernel))
  obtain rfl : g1 = cG := e3.trans (cG_new 42)
  refine G_putrF (n := 0) ck5 0 (by decide) (by decide +kernel) (by decide) rfl (fun _ => rfl) (fun _ => rfl) rfl rfl rfl q239 dX6_init_9 (fun F1 e1 => ?_)
  obtain rfl : F1 = cF 43 43 6402 := e1.trans (cF_wr 43 42 6402 (a := 41) (k := 0) (b := 42) rfl (by decide +kernel))
  exact V_vret rfl dX6_init_12 ⟨rfl, rfl⟩)
theorem ctX6_init_43 {D : DE} {f : Nat} : Cl D (f + 1) mX6_init [.ref (ad D 43)] (cM 44 44 6404 0) (cQ (cM 45 45 6420 0)) := Cl.ofV (by decide) (Nat.le_of_ble_eq_true rfl) rfl (by
  refine V_aload_n dX6_init_0 rfl 0 rfl ?_
  refine V_objInit (by omega) (Nat.le_of_ble_eq_true rfl) q238 q120 q121 dX6_init_1 ?_
  refine V_aload_n dX6_init_4 rfl 0 rfl ?_
  refine V_bipush (v := 16) dX6_init_5 (by decide) ?_
  refine G_newa (t := 0) (N := 16) rfl (by decide) rfl (fun _ h => h) q171 (by decide) (by decide) (by decide) rfl dX6_init_7 (fun F1 h1 g1 e1 e2 e3 => ?_)
  obtain rfl : F1 = cF 45 44 6420 := e1.trans (cF_new 44 44 6404 16 (t := (0, 16)) rfl (by decide +kernel))
  obtain rfl : h1 = cH 0 := e2.trans (cH_new 0 44 (by decide +kernel))
  obtain rfl : g1 = cG := e3.trans (cG_new 44)
  refine G_putrF (n := 0) ck5 0 (by decide) (by decide +kernel) (by decide) rfl (fun _ => rfl) (fun _ => rfl) rfl rfl rfl q239 dX6_init_9 (fun F1 e1 => ?_)
  obtain rfl : F1 = cF 45 45 6420 := e1.trans (cF_wr 45 44 6420 (a := 43) (k := 0) (b := 44) rfl (by decide +kernel))
  exact V_vret rfl dX6_init_12 ⟨rfl, rfl⟩)
theorem ctX6_init_45 {D : DE} {f : Nat} : Cl D (f + 1) mX6_init [.ref (ad D 45)] (cM 46 46 6422 0) (cQ (cM 47 47 6438 0)) := Cl.ofV (by decide) (Nat.le_of_ble_eq_true rfl) rfl (by
  refine V_aload_n dX6_init_0 rfl 0 rfl ?_
  refine V_objInit (by omega) (Nat.le_of_ble_eq_true rfl) q238 q120 q121 dX6_init_1 ?_
  refine V_aload_n dX6_init_4 rfl 0 rfl ?_
  refine V_bipush (v := 16) dX6_init_5 (by decide) ?_
  refine G_newa (t := 0) (N := 16) rfl (by decide) rfl (fun _ h => h) q171 (by decide) (by decide) (by decide) rfl dX6_init_7 (fun F1 h1 g1 e1 e2 e3 => ?_)
  obtain rfl : F1 = cF 47 46 6438 := e1.trans (cF_new 46 46 6422 16 (t := (0, 16)) rfl (by decide +kernel))
  obtain rfl : h1 = cH 0 := e2.trans (cH_new 0 46 (by decide +kernel))
  obtain rfl : g1 = cG := e3.trans (cG_new 46)
  refine G_putrF (n := 0) ck5 0 (by decide) (by decide +kernel) (by decide) rfl (fun _ => rfl) (fun _ => rfl) rfl rfl rfl q239 dX6_init_9 (fun F1 e1 => ?_)
  obtain rfl : F1 = cF 47 47 6438 := e1.trans (cF_wr 47 46 6438 (a := 45) (k := 0) (b := 46) rfl (by decide +kernel))
  exact V_vret rfl dX6_init_12 ⟨rfl, rfl⟩)
theorem ctX6_init_47 {D : DE} {f : Nat} : Cl D (f + 1) mX6_init [.ref (ad D 47)] (cM 48 48 6440 0) (cQ (cM 49 49 6456 0)) := Cl.ofV (by decide) (Nat.le_of_ble_eq_true rfl) rfl (by
  refine V_aload_n dX6_init_0 rfl 0 rfl ?_
  refine V_objInit (by omega) (Nat.le_of_ble_eq_true rfl) q238 q120 q121 dX6_init_1 ?_
  refine V_aload_n dX6_init_4 rfl 0 rfl ?_
  refine V_bipush (v := 16) dX6_init_5 (by decide) ?_
  refine G_newa (t := 0) (N := 16) rfl (by decide) rfl (fun _ h => h) q171 (by decide) (by decide) (by decide) rfl dX6_init_7 (fun F1 h1 g1 e1 e2 e3 => ?_)
  obtain rfl : F1 = cF 49 48 6456 := e1.trans (cF_new 48 48 6440 16 (t := (0, 16)) rfl (by decide +kernel))
  obtain rfl : h1 = cH 0 := e2.trans (cH_new 0 48 (by decide +kernel))
  obtain rfl : g1 = cG := e3.trans (cG_new 48)
  refine G_putrF (n := 0) ck5 0 (by decide) (by decide +kernel) (by decide) rfl (fun _ => rfl) (fun _ => rfl) rfl rfl rfl q239 dX6_init_9 (fun F1 e1 => ?_)
  obtain rfl : F1 = cF 49 49 6456 := e1.trans (cF_wr 49 48 6456 (a := 47) (k := 0) (b := 48) rfl (by decide +kernel))
  exact V_vret rfl dX6_init_12 ⟨rfl, rfl⟩)
theorem ctX6_init_49 {D : DE} {f : Nat} : Cl D (f + 1) mX6_init [.ref (ad D 49)] (cM 50 50 6458 0) (cQ (cM 51 51 6474 0)) := Cl.ofV (by decide) (Nat.le_of_ble_eq_true rfl) rfl (by
  refine V_aload_n dX6_init_0 rfl 0 rfl ?_
  refine V_objInit (by omega) (Nat.le_of_ble_eq_true rfl) q238 q120 q121 dX6_init_1 ?_
  refine V_aload_n dX6_init_4 rfl 0 rfl ?_
  refine V_bipush (v := 16) dX6_init_5 (by decide) ?_
  refine G_newa (t := 0) (N := 16) rfl (by decide) rfl (fun _ h => h) q171 (by decide) (by decide) (by decide) rfl dX6_init_7 (fun F1 h1 g1 e1 e2 e3 => ?_)
  obtain rfl : F1 = cF 51 50 6474 := e1.trans (cF_new 50 50 6458 16 (t := (0, 16)) rfl (by decide +kernel))
  obtain rfl : h1 = cH 0 := e2.trans (cH_new 0 50 (by decide +kernel))
  obtain rfl : g1 = cG := e3.trans (cG_new 50)
  refine G_putrF (n := 0) ck5 0 (by decide) (by decide +kernel) (by decide) rfl (fun _ => rfl) (fun _ => rfl) rfl rfl rfl q239 dX6_init_9 (fun F1 e1 => ?_)
  obtain rfl : F1 = cF 51 51 6474 := e1.trans (cF_wr 51 50 6474 (a := 49) (k := 0) (b := 50) rfl (by decide +kernel))
  exact V_vret rfl dX6_init_12 ⟨rfl, rfl⟩)
theorem ctX6_init_51 {D : DE} {f : Nat} : Cl D (f + 1) mX6_init [.ref (ad D 51)] (cM 52 52 6476 0) (cQ (cM 53 53 6492 0)) := Cl.ofV (by decide) (Nat.le_of_ble_eq_true rfl) rfl (by
  refine V_aload_n dX6_init_0 rfl 0 rfl ?_
  refine V_objInit (by omega) (Nat.le_of_ble_eq_true rfl) q238 q120 q121 dX6_init_1 ?_
  refine V_aload_n dX6_init_4 rfl 0 rfl ?_
  refine V_bipush (v := 16) dX6_init_5 (by decide) ?_
  refine G_newa (t := 0) (N := 16) rfl (by decide) rfl (fun _ h => h) q171 (by decide) (by decide) (by decide) rfl dX6_init_7 (fun F1 h1 g1 e1 e2 e3 => ?_)
  obtain rfl : F1 = cF 53 52 6492 := e1.trans (cF_new 52 52 6476 16 (t := (0, 16)) rfl (by decide +kernel))
  obtain rfl : h1 = cH 0 := e2.trans (cH_new 0 52 (by decide +kernel))
  obtain rfl : g1 = cG := e3.trans (cG_new 52)
  refine G_putrF (n := 0) ck5 0 (by decide) (by decide +kernel) (by decide) rfl (fun _ => rfl) (fun _ => rfl) rfl rfl rfl q239 dX6_init_9 (fun F1 e1 => ?_)
  obtain rfl : F1 = cF 53 53 6492 := e1.trans (cF_wr 53 52 6492 (a := 51) (k := 0) (b := 52) rfl (by decide +kernel))
  exact V_vret rfl dX6_init_12 ⟨rfl, rfl⟩)
theorem ctX6_init_53 {D : DE} {f : Nat} : Cl D (f + 1) mX6_init [.ref (ad D 53)] (cM 54 54 6494 0) (cQ (cM 55 55 6510 0)) := Cl.ofV (by decide) (Nat.le_of_ble_eq_true rfl) rfl (by
  refine V_aload_n dX6_init_0 rfl 0 rfl ?_
  refine V_objInit (by omega) (Nat.le_of_ble_eq_true rfl) q238 q120 q121 dX6_init_1 ?_
  refine V_aload_n dX6_init_4 rfl 0 rfl ?_
  refine V_bipush (v := 16) dX6_init_5 (by decide) ?_
  refine G_newa (t := 0) (N := 16) rfl (by decide) rfl (fun _ h => h) q171 (by decide) (by decide) (by decide) rfl dX6_init_7 (fun F1 h1 g1 e1 e2 e3 => ?_)
  obtain rfl : F1 = cF 55 54 6510 := e1.trans (cF_new 54 54 6494 16 (t := (0, 16)) rfl (by decide +kernel))
  obtain rfl : h1 = cH 0 := e2.trans (cH_new 0 54 (by decide +kernel))
  obtain rfl : g1 = cG := e3.trans (cG_new 54)
  refine G_putrF (n := 0) ck5 0 (by decide) (by decide +kernel) (by decide) rfl (fun _ => rfl) (fun _ => rfl) rfl rfl rfl q239 dX6_init_9 (fun F1 e1 => ?_)
  obtain rfl : F1 = cF 55 55 6510 := e1.trans (cF_wr 55 54 6510 (a := 53) (k := 0) (b := 54) rfl (by decide +kernel))
  exact V_vret rfl dX6_init_12 ⟨rfl, rfl⟩)
theorem ctX6_init_55 {D : DE} {f : Nat} : Cl D (f + 1) mX6_init [.ref (ad D 55)] (cM 56 56 6512 0) (cQ (cM 57 57 6528 0)) := Cl.ofV (by decide) (Nat.le_of_ble_eq_true rfl) rfl (by
  refine V_aload_n dX6_init_0 rfl 0 rfl ?_
  refine V_objInit (by omega) (Nat.le_of_ble_eq_true rfl) q238 q120 q121 dX6_init_1 ?_
  refine V_aload_n dX6_init_4 rfl 0 rfl ?_
  refine V_bipush (v := 16) dX6_init_5 (by decide) ?_
  refine G_newa (t := 0) (N := 16) rfl (by decide) rfl (fun _ h => h) q171 (by decide) (by decide) (by decide) rfl dX6_init_7 (fun F1 h1 g1 e1 e2 e3 => ?_)
  obtain rfl : F1 = cF 57 56 6528 := e1.trans (cF_new 56 56 6512 16 (t := (0, 16)) rfl (by decide +kernel))
  obtain rfl : h1 = cH 0 := e2.trans (cH_new 0 56 (by decide +kernel))
  obtain rfl : g1 = cG := e3.trans (cG_new 56)
  refine G_putrF (n := 0) ck5 0 (by decide) (by decide +kernel) (by decide) rfl (fun _ => rfl) (fun _ => rfl) rfl rfl rfl q239 dX6_init_9 (fun F1 e1 => ?_)
  obtain rfl : F1 = cF 57 57 6528 := e1.trans (cF_wr 57 56 6528 (a := 55) (k := 0) (b := 56) rfl (by decide +kernel))
  exact V_vret rfl dX6_init_12 ⟨rfl, rfl⟩)
theorem ctX6_init_57 {D : DE} {f : Nat} : Cl D (f + 1) mX6_init [.ref (ad D 57)] (cM 58 58 6530 0) (cQ (cM 59 59 6546 0)) := Cl.ofV (by decide) (Nat.le_of_ble_eq_true rfl) rfl (by
  refine V_aload_n dX6_init_0 rfl 0 rfl ?_
  refine V_objInit (by omega) (Nat.le_of_ble_eq_true rfl) q238 q120 q121 dX6_init_1 ?_
  refine V_aload_n dX6_init_4 rfl 0 rfl ?_
  refine V_bipush (v := 16) dX6_init_5 (by decide) ?_
  refine G_newa (t := 0) (N := 16) rfl (by decide) rfl (fun _ h => h) q171 (by decide) (by decide) (by decide) rfl dX6_init_7 (fun F1 h1 g1 e1 e2 e3 => ?_)
  obtain rfl : F1 = cF 59 58 6546 := e1.trans (cF_new 58 58 6530 16 (t := (0, 16)) rfl (by decide +kernel))
  obtain rfl : h1 = cH 0 := e2.trans (cH_new 0 58 (by decide +kernel))
  obtain rfl : g1 = cG := e3.trans (cG_new 58)
  refine G_putrF (n := 0) ck5 0 (by decide) (by decide +kernel) (by decide) rfl (fun _ => rfl) (fun _ => rfl) rfl rfl rfl q239 dX6_init_9 (fun F1 e1 => ?_)
  obtain rfl : F1 = cF 59 59 6546 := e1.trans (cF_wr 59 58 6546 (a := 57) (k := 0) (b := 58) rfl (by decide +kernel))
  exact V_vret rfl dX6_init_12 ⟨rfl, rfl⟩)
theorem ctX6_init_59 {D : DE} {f : Nat} : Cl D (f + 1) mX6_init [.ref (ad D 59)] (cM 60 60 6548 0) (cQ (cM 61 61 6564 0)) := Cl.ofV (by decide) (Nat.le_of_ble_eq_true rfl) rfl (by
  refine V_aload_n dX6_init_0 rfl 0 rfl ?_
  refine V_objInit (by omega) (Nat.le_of_ble_eq_true rfl) q238 q120 q121 dX6_init_1 ?_
  refine V_aload_n dX6_init_4 rfl 0 rfl ?_
  refine V_bipush (v := 16) dX6_init_5 (by decide) ?_
  refine G_newa (t := 0) (N := 16) rfl (by decide) rfl (fun _ h => h) q171 (by decide) (by decide) (by decide) rfl dX6_init_7 (fun F1 h1 g1 e1 e2 e3 => ?_)
  obtain rfl : F1 = cF 61 60 6564 := e1.trans (cF_new 60 60 6548 16 (t := (0, 16)) rfl (by decide +kernel))
  obtain rfl : h1 = cH 0 := e2.trans (cH_new 0 60 (by decide +kernel))
  obtain rfl : g1 = cG := e3.trans (cG_new 60)
  refine G_putrF (n := 0) ck5 0 (by decide) (by decide +kernel) (by decide) rfl (fun _ => rfl) (fun _ => rfl) rfl rfl rfl q239 dX6_init_9 (fun F1 e1 => ?_)
  obtain rfl : F1 = cF 61 61 6564 := e1.trans (cF_wr 61 60 6564 (a := 59) (k := 0) (b := 60) rfl (by decide +kernel))
  exact V_vret rfl dX6_init_12 ⟨rfl, rfl⟩)
theorem ctX6_init_61 {D : DE} {f : Nat} : Cl D (f + 1) mX6_init [.ref (ad D 61)] (cM 62 62 6566 0) (cQ (cM 63 63 6582 0)) := Cl.ofV (by decide) (Nat.le_of_ble_eq_true rfl) rfl (by
  refine V_aload_n dX6_init_0 rfl 0 rfl ?_
  refine V_objInit (by omega) (Nat.le_of_ble_eq_true rfl) q238 q120 q121 dX6_init_1 ?_
  refine V_aload_n dX6_init_4 rfl 0 rfl ?_
  refine V_bipush (v := 16) dX6_init_5 (by decide) ?_
  refine G_newa (t := 0) (N := 16) rfl (by decide) rfl (fun _ h => h) q171 (by decide) (by decide) (by decide) rfl dX6_init_7 (fun F1 h1 g1 e1 e2 e3 => ?_)
  obtain rfl : F1 = cF 63 62 6582 := e1.trans (cF_new 62 62 6566 16 (t := (0, 16)) rfl (by decide +kernel))
  obtain rfl : h1 = cH 0 := e2.trans (cH_new 0 62 (by decide +kernel))
  obtain rfl : g1 = cG := e3.trans (cG_new 62)
  refine G_putrF (n := 0) ck5 0 (by decide) (by decide +kernel) (by decide) rfl (fun _ => rfl) (fun _ => rfl) rfl rfl rfl q239 dX6_init_9 (fun F1 e1 => ?_)
  obtain rfl : F1 = cF 63 63 6582 := e1.trans (cF_wr 63 62 6582 (a := 61) (k := 0) (b := 62) rfl (by decide +kernel))
  exact V_vret rfl dX6_init_12 ⟨rfl, rfl⟩)
theorem ctX6_init_63 {D : DE} {f : Nat} : Cl D (f + 1) mX6_init [.ref (ad D 63)] (cM 64 64 6584 0) (cQ (cM 65 65 6600 0)) := Cl.ofV (by decide) (Nat.le_of_ble_eq_true rfl) rfl (by
  refine V_aload_n dX6_init_0 rfl 0 rfl ?_
  refine V_objInit (by omega) (Nat.le_of_ble_eq_true rfl) q238 q120 q121 dX6_init_1 ?_
  refine V_aload_n dX6_init_4 rfl 0 rfl ?_
  refine V_bipush (v := 16) dX6_init_5 (by decide) ?_
  refine G_newa (t := 0) (N := 16) rfl (by decide) rfl (fun _ h => h) q171 (by decide) (by decide) (by decide) rfl dX6_init_7 (fun F1 h1 g1 e1 e2 e3 => ?_)
  obtain rfl : F1 = cF 65 64 6600 := e1.trans (cF_new 64 64 6584 16 (t := (0, 16)) rfl (by decide +kernel))
  obtain rfl : h1 = cH 0 := e2.trans (cH_new 0 64 (by decide +kernel))
  obtain rfl : g1 = cG := e3.trans (cG_new 64)
  refine G_putrF (n := 0) ck5 0 (by decide) (by decide +kernel) (by decide) rfl (fun _ => rfl) (fun _ => rfl) rfl rfl rfl q239 dX6_init_9 (fun F1 e1 => ?_)
  obtain rfl : F1 = cF 65 65 6600 := e1.trans (cF_wr 65 64 6600 (a := 63) (k := 0) (b := 64) rfl (by decide +kernel))
  exact V_vret rfl dX6_init_12 ⟨rfl, rfl⟩)
theorem ctX6_init_65 {D : DE} {f : Nat} : Cl D (f + 1) mX6_init [.ref (ad D 65)] (cM 66 66 6602 0) (cQ (cM 67 67 6618 0)) := Cl.ofV (by decide) (Nat.le_of_ble_eq_true rfl) rfl (by
  refine V_aload_n dX6_init_0 rfl 0 rfl ?_
  refine V_objInit (by omega) (Nat.le_of_ble_eq_true rfl) q238 q120 q121 dX6_init_1 ?_
  refine V_aload_n dX6_init_4 rfl 0 rfl ?_
  refine V_bipush (v := 16) dX6_init_5 (by decide) ?_
  refine G_newa (t := 0) (N := 16) rfl (by decide) rfl (fun _ h => h) q171 (by decide) (by decide) (by decide) rfl dX6_init_7 (fun F1 h1 g1 e1 e2 e3 => ?_)
  obtain rfl : F1 = cF 67 66 6618 := e1.trans (cF_new 66 66 6602 16 (t := (0, 16)) rfl (by decide +kernel))
  obtain rfl : h1 = cH 0 := e2.trans (cH_new 0 66 (by decide +kernel))
  obtain rfl : g1 = cG := e3.trans (cG_new 66)
  refine G_putrF (n := 0) ck5 0 (by decide) (by decide +kernel) (by decide) rfl (fun _ => rfl) (fun _ => rfl) rfl rfl rfl q239 dX6_init_9 (fun F1 e1 => ?_)
  obtain rfl : F1 = cF 67 67 6618 := e1.trans (cF_wr 67 66 6618 (a := 65) (k := 0) (b := 66) rfl (by decide +kernel))
  exact V_vret rfl dX6_init_12 ⟨rfl, rfl⟩)
theorem ctX6_init_67 {D : DE} {f : Nat} : Cl D (f + 1) mX6_init [.ref (ad D 67)] (cM 68 68 6620 0) (cQ (cM 69 69 6636 0)) := Cl.ofV (by decide) (Nat.le_of_ble_eq_true rfl) rfl (by
  refine V_aload_n dX6_init_0 rfl 0 rfl ?_
  refine V_objInit (by omega) (Nat.le_of_ble_eq_true rfl) q238 q120 q121 dX6_init_1 ?_
  refine V_aload_n dX6_init_4 rfl 0 rfl ?_
  refine V_bipush (v := 16) dX6_init_5 (by decide) ?_
  refine G_newa (t := 0) (N := 16) rfl (by decide) rfl (fun _ h => h) q171 (by decide) (by decide) (by decide) rfl dX6_init_7 (fun F1 h1 g1 e1 e2 e3 => ?_)
  obtain rfl : F1 = cF 69 68 6636 := e1.trans (cF_new 68 68 6620 16 (t := (0, 16)) rfl (by decide +kernel))
  obtain rfl : h1 = cH 0 := e2.trans (cH_new 0 68 (by decide +kernel))
  obtain rfl : g1 = cG := e3.trans (cG_new 68)
  refine G_putrF (n := 0) ck5 0 (by decide) (by decide +kernel) (by decide) rfl (fun _ => rfl) (fun _ => rfl) rfl rfl rfl q239 dX6_init_9 (fun F1 e1 => ?_)
  obtain rfl : F1 = cF 69 69 6636 := e1.trans (cF_wr 69 68 6636 (a := 67) (k := 0) (b := 68) rfl (by decide +kernel))
  exact V_vret rfl dX6_init_12 ⟨rfl, rfl⟩)
theorem ctX6_init_69 {D : DE} {f : Nat} : Cl D (f + 1) mX6_init [.ref (ad D 69)] (cM 70 70 6638 0) (cQ (cM 71 71 6654 0)) := Cl.ofV (by decide) (Nat.le_of_ble_eq_true rfl) rfl (by
  refine V_aload_n dX6_init_0 rfl 0 rfl ?_
  refine V_objInit (by omega) (Nat.le_of_ble_eq_true rfl) q238 q120 q121 dX6_init_1 ?_
  refine V_aload_n dX6_init_4 rfl 0 rfl ?_
  refine V_bipush (v := 16) dX6_init_5 (by decide) ?_
  refine G_newa (t := 0) (N := 16) rfl (by decide) rfl (fun _ h => h) q171 (by decide) (by decide) (by decide) rfl dX6_init_7 (fun F1 h1 g1 e1 e2 e3 => ?_)
  obtain rfl : F1 = cF 71 70 6654 := e1.trans (cF_new 70 70 6638 16 (t := (0, 16)) rfl (by decide +kernel))
  obtain rfl : h1 = cH 0 := e2.trans (cH_new 0 70 (by decide +kernel))
  obtain rfl : g1 = cG := e3.trans (cG_new 70)
  refine G_putrF (n := 0) ck5 0 (by decide) (by decide +kernel) (by decide) rfl (fun _ => rfl) (fun _ => rfl) rfl rfl rfl q239 dX6_init_9 (fun F1 e1 => ?_)
  obtain rfl : F1 = cF 71 71 6654 := e1.trans (cF_wr 71 70 6654 (a := 69) (k := 0) (b := 70) rfl (by decide +kernel))
  exact V_vret rfl dX6_init_12 ⟨rfl, rfl⟩)
theorem ctX6_init_71 {D : DE} {f : Nat} : Cl D (f + 1) mX6_init [.ref (ad D 71)] (cM 72 72 6656 0) (cQ (cM 73 73 6672 0)) := Cl.ofV (by decide) (Nat.le_of_ble_eq_true rfl) rfl (by
  refine V_aload_n dX6_init_0 rfl 0 rfl ?_
  refine V_objInit (by omega) (Nat.le_of_ble_eq_true rfl) q238 q120 q121 dX6_init_1 ?_
  refine V_aload_n dX6_init_4 rfl 0 rfl ?_
  refine V_bipush (v := 16) dX6_init_5 (by decide) ?_
  refine G_newa (t := 0) (N := 16) rfl (by decide) rfl (fun _ h => h) q171 (by decide) (by decide) (by decide) rfl dX6_init_7 (fun F1 h1 g1 e1 e2 e3 => ?_)
  obtain rfl : F1 = cF 73 72 6672 := e1.trans (cF_new 72 72 6656 16 (t := (0, 16)) rfl (by decide +kernel))
  obtain rfl : h1 = cH 0 := e2.trans (cH_new 0 72 (by decide +kernel))
  obtain rfl : g1 = cG := e3.trans (cG_new 72)
  refine G_putrF (n := 0) ck5 0 (by decide) (by decide +kernel) (by decide) rfl (fun _ => rfl) (fun _ => rfl) rfl rfl rfl q239 dX6_init_9 (fun F1 e1 => ?_)
  obtain rfl : F1 = cF 73 73 6672 := e1.trans (cF_wr 73 72 6672 (a := 71) (k := 0) (b := 72) rfl (by decide +kernel))
  exact V_vret rfl dX6_init_12 ⟨rfl, rfl⟩)
theorem ctX6_init_73 {D : DE} {f : Nat} : Cl D (f + 1) mX6_init [.ref (ad D 73)] (cM 74 74 6674 0) (cQ (cM 75 75 6690 0)) := Cl.ofV (by decide) (Nat.le_of_ble_eq_true rfl) rfl (by
  refine V_aload_n dX6_init_0 rfl 0 rfl ?_
  refine V_objInit (by omega) (Nat.le_of_ble_eq_true rfl) q238 q120 q121 dX6_init_1 ?_
  refine V_aload_n dX6_init_4 rfl 0 rfl ?_
  refine V_bipush (v := 16) dX6_init_5 (by decide) ?_
  refine G_newa (t := 0) (N := 16) rfl (by decide) rfl (fun _ h => h) q171 (by decide) (by decide) (by decide) rfl dX6_init_7 (fun F1 h1 g1 e1 e2 e3 => ?_)
  obtain rfl : F1 = cF 75 74 6690 := e1.trans (cF_new 74 74 6674 16 (t := (0, 16)) rfl (by decide +kernel))
  obtain rfl : h1 = cH 0 := e2.trans (cH_new 0 74 (by decide +kernel))
  obtain rfl : g1 = cG := e3.trans (cG_new 74)
  refine G_putrF (n := 0) ck5 0 (by decide) (by decide +kernel) (by decide) rfl (fun _ => rfl) (fun _ => rfl) rfl rfl rfl q239 dX6_init_9 (fun F1 e1 => ?_)
  obtain rfl : F1 = cF 75 75 6690 := e1.trans (cF_wr 75 74 6690 (a := 73) (k := 0) (b := 74) rfl (by decide +kernel))
  exact V_vret rfl dX6_init_12 ⟨rfl, rfl⟩)
theorem ctX6_init_75 {D : DE} {f : Nat} : Cl D (f + 1) mX6_init [.ref (ad D 75)] (cM 76 76 6692 0) (cQ (cM 77 77 6708 0)) := Cl.ofV (by decide) (Nat.le_of_ble_eq_true rfl) rfl (by
  refine V_aload_n dX6_init_0 rfl 0 rfl ?_
  refine V_objInit (by omega) (Nat.le_of_ble_eq_true rfl) q238 q120 q121 dX6_init_1 ?_
  refine V_aload_n dX6_init_4 rfl 0 rfl ?_
  refine V_bipush (v := 16) dX6_init_5 (by decide) ?_
  refine G_newa (t := 0) (N := 16) rfl (by decide) rfl (fun _ h => h) q171 (by decide) (by decide) (by decide) rfl dX6_init_7 (fun F1 h1 g1 e1 e2 e3 => ?_)
  obtain rfl : F1 = cF 77 76 6708 := e1.trans (cF_new 76 76 6692 16 (t := (0, 16)) rfl (by decide +kernel))
  obtain rfl : h1 = cH 0 := e2.trans (cH_new 0 76 (by decide +kernel))
  obtain rfl : g1 = cG := e3.trans (cG_new 76)
  refine G_putrF (n := 0) ck5 0 (by decide) (by decide +kernel) (by decide) rfl (fun _ => rfl) (fun _ => rfl) rfl rfl rfl q239 dX6_init_9 (fun F1 e1 => ?_)
  obtain rfl : F1 = cF 77 77 6708 := e1.trans (cF_wr 77 76 6708 (a := 75) (k := 0) (b := 76) rfl (by decide +kernel))
  exact V_vret rfl dX6_init_12 ⟨rfl, rfl⟩)
theorem ctX6_init_77 {D : DE} {f : Nat} : Cl D (f + 1) mX6_init [.ref (ad D 77)] (cM 78 78 6710 0) (cQ (cM 79 79 6726 0)) := Cl.ofV (by decide) (Nat.le_of_ble_eq_true rfl) rfl (by
  refine V_aload_n dX6_init_0 rfl 0 rfl ?_
  refine V_objInit (by omega) (Nat.le_of_ble_eq_true rfl) q238 q120 q121 dX6_init_1 ?_
  refine V_aload_n dX6_init_4 rfl 0 rfl ?_
  refine V_bipush (v := 16) dX6_init_5 (by decide) ?_
  refine G_newa (t := 0) (N := 16) rfl (by decide) rfl (fun _ h => h) q171 (by decide) (by decide) (by decide) rfl dX6_init_7 (fun F1 h1 g1 e1 e2 e3 => ?_)
  obtain rfl : F1 = cF 79 78 6726 := e1.trans (cF_new 78 78 6710 16 (t := (0, 16)) rfl (by decide +kernel))
  obtain rfl : h1 = cH 0 := e2.trans (cH_new 0 78 (by decide +kernel))
  obtain rfl : g1 = cG := e3.trans (cG_new 78)
  refine G_putrF (n := 0) ck5 0 (by decide) (by decide +kernel) (by decide) rfl (fun _ => rfl) (fun _ => rfl) rfl rfl rfl q239 dX6_init_9 (fun F1 e1 => ?_)
  obtain rfl : F1 = cF 79 79 6726 := e1.trans (cF_wr 79 78 6726 (a := 77) (k := 0) (b := 78) rfl (by decide +kernel))
  exact V_vret rfl dX6_init_12 ⟨rfl, rfl⟩)
theorem ctX6_init_79 {D : DE} {f : Nat} : Cl D (f + 1) mX6_init [.ref (ad D 79)] (cM 80 80 6728 0) (cQ (cM 81 81 6744 0)) := Cl.ofV (by decide) (Nat.le_of_ble_eq_true rfl) rfl (by
  refine V_aload_n dX6_init_0 rfl 0 rfl ?_
  refine V_objInit (by omega) (Nat.le_of_ble_eq_true rfl) q238 q120 q121 dX6_init_1 ?_
  refine V_aload_n dX6_init_4 rfl 0 rfl ?_
  refine V_bipush (v := 16) dX6_init_5 (by decide) ?_
  refine G_newa (t := 0) (N := 16) rfl (by decide) rfl (fun _ h => h) q171 (by decide) (by decide) (by decide) rfl dX6_init_7 (fun F1 h1 g1 e1 e2 e3 => ?_)
  obtain rfl : F1 = cF 81 80 6744 := e1.trans (cF_new 80 80 6728 16 (t := (0, 16)) rfl (by decide +kernel))
  obtain rfl : h1 = cH 0 := e2.trans (cH_new 0 80 (by decide +kernel))
  obtain rfl : g1 = cG := e3.trans (cG_new 80)
  refine G_putrF (n := 0) ck5 0 (by decide) (by decide +kernel) (by decide) rfl (fun _ => rfl) (fun _ => rfl) rfl rfl rfl q239 dX6_init_9 (fun F1 e1 => ?_)
  obtain rfl : F1 = cF 81 81 6744 := e1.trans (cF_wr 81 80 6744 (a := 79) (k := 0) (b := 80) rfl (by decide +kernel))
  exact V_vret rfl dX6_init_12 ⟨rfl, rfl⟩)
theorem ctX6_init_81 {D : DE} {f : Nat} : Cl D (f + 1) mX6_init [.ref (ad D 81)] (cM 82 82 6746 0) (cQ (cM 83 83 6762 0)) := Cl.ofV (by decide) (Nat.le_of_ble_eq_true rfl) rfl (by
  refine V_aload_n dX6_init_0 rfl 0 rfl ?_
  refine V_objInit (by omega) (Nat.le_of_ble_eq_true rfl) q238 q120 q121 dX6_init_1 ?_
  refine V_aload_n dX6_init_4 rfl 0 rfl ?_
  refine V_bipush (v := 16) dX6_init_5 (by decide) ?_
  refine G_newa (t := 0) (N := 16) rfl (by decide) rfl (fun _ h => h) q171 (by decide) (by decide) (by decide) rfl dX6_init_7 (fun F1 h1 g1 e1 e2 e3 => ?_)
  obtain rfl : F1 = cF 83 82 6762 := e1.trans (cF_new 82 82 6746 16 (t := (0, 16)) rfl (by decide +kernel))
  obtain rfl : h1 = cH 0 := e2.trans (cH_new 0 82 (by decide +kernel))
  obtain rfl : g1 = cG := e3.trans (cG_new 82)
  refine G_putrF (n := 0) ck5 0 (by decide) (by decide +kernel) (by decide) rfl (fun _ => rfl) (fun _ => rfl) rfl rfl rfl q239 dX6_init_9 (fun F1 e1 => ?_)
  obtain rfl : F1 = cF 83 83 6762 := e1.trans (cF_wr 83 82 6762 (a := 81) (k := 0) (b := 82) rfl (by decide +kernel))
  exact V_vret rfl dX6_init_12 ⟨rfl, rfl⟩)
theorem ctX6_init_83 {D : DE} {f : Nat} : Cl D (f + 1) mX6_init [.ref (ad D 83)] (cM 84 84 6764 0) (cQ (cM 85 85 6780 0)) := Cl.ofV (by decide) (Nat.le_of_ble_eq_true rfl) rfl (by
  refine V_aload_n dX6_init_0 rfl 0 rfl ?_
  refine V_objInit (by omega) (Nat.le_of_ble_eq_true rfl) q238 q120 q121 dX6_init_1 ?_
  refine V_aload_n dX6_init_4 rfl 0 rfl ?_
  refine V_bipush (v := 16) dX6_init_5 (by decide) ?_
  refine G_newa (t := 0) (N := 16) rfl (by decide) rfl (fun _ h => h) q171 (by decide) (by decide) (by decide) rfl dX6_init_7 (fun F1 h1 g1 e1 e2 e3 => ?_)
  obtain rfl : F1 = cF 85 84 6780 := e1.trans (cF_new 84 84 6764 16 (t := (0, 16)) rfl (by decide +kernel))
  obtain rfl : h1 = cH 0 := e2.trans (cH_new 0 84 (by decide +kernel))
  obtain rfl : g1 = cG := e3.trans (cG_new 84)
  refine G_putrF (n := 0) ck5 0 (by decide) (by decide +kernel) (by decide) rfl (fun _ => rfl) (fun _ => rfl) rfl rfl rfl q239 dX6_init_9 (fun F1 e1 => ?_)
  obtain rfl : F1 = cF 85 85 6780 := e1.trans (cF_wr 85 84 6780 (a := 83) (k := 0) (b := 84) rfl (by decide +kernel))
  exact V_vret rfl dX6_init_12 ⟨rfl, rfl⟩)
theorem ctX6_init_85 {D : DE} {f : Nat} : Cl D (f + 1) mX6_init [.ref (ad D 85)] (cM 86 86 6782 0) (cQ (cM 87 87 6798 0)) := Cl.ofV (by decide) (Nat.le_of_ble_eq_true rfl) rfl (by
  refine V_aload_n dX6_init_0 rfl 0 rfl ?_
  refine V_objInit (by omega) (Nat.le_of_ble_eq_true rfl) q238 q120 q121 dX6_init_1 ?_
  refine V_aload_n dX6_init_4 rfl 0 rfl ?_
  refine V_bipush (v := 16) dX6_init_5 (by decide) ?_
  refine G_newa (t := 0) (N := 16) rfl (by decide) rfl (fun _ h => h) q171 (by decide) (by decide) (by decide) rfl dX6_init_7 (fun F1 h1 g1 e1 e2 e3 => ?_)
  obtain rfl : F1 = cF 87 86 6798 := e1.trans (cF_new 86 86 6782 16 (t := (0, 16)) rfl (by decide +kernel))
  obtain rfl : h1 = cH 0 := e2.trans (cH_new 0 86 (by decide +kernel))
  obtain rfl : g1 = cG := e3.trans (cG_new 86)
  refine G_putrF (n := 0) ck5 0 (by decide) (by decide +kernel) (by decide) rfl (fun _ => rfl) (fun _ => rfl) rfl rfl rfl q239 dX6_init_9 (fun F1 e1 => ?_)
  obtain rfl : F1 = cF 87 87 6798 := e1.trans (cF_wr 87 86 6798 (a := 85) (k := 0) (b := 86) rfl (by decide +kernel))
  exact V_vret rfl dX6_init_12 ⟨rfl, rfl⟩)
theorem ctX6_init_87 {D : DE} {f : Nat} : Cl D (f + 1) mX6_init [.ref (ad D 87)] (cM 88 88 6800 0) (cQ (cM 89 89 6816 0)) := Cl.ofV (by decide) (Nat.le_of_ble_eq_true rfl) rfl (by
  refine V_aload_n dX6_init_0 rfl 0 rfl ?_
  refine V_objInit (by omega) (Nat.le_of_ble_eq_true rfl) q238 q120 q121 dX6_init_1 ?_
  refine V_aload_n dX6_init_4 rfl 0 rfl ?_
  refine V_bipush (v := 16) dX6_init_5 (by decide) ?_
  refine G_newa (t := 0) (N := 16) rfl (by decide) rfl (fun _ h => h) q171 (by decide) (by decide) (by decide) rfl dX6_init_7 (fun F1 h1 g1 e1 e2 e3 => ?_)
  obtain rfl : F1 = cF 89 88 6816 := e1.trans (cF_new 88 88 6800 16 (t := (0, 16)) rfl (by decide +kernel))
  obtain rfl : h1 = cH 0 := e2.trans (cH_new 0 88 (by decide +kernel))
  obtain rfl : g1 = cG := e3.trans (cG_new 88)
  refine G_putrF (n := 0) ck5 0 (by decide) (by decide +kernel) (by decide) rfl (fun _ => rfl) (fun _ => rfl) rfl rfl rfl q239 dX6_init_9 (fun F1 e1 => ?_)
  obtain rfl : F1 = cF 89 89 6816 := e1.trans (cF_wr 89 88 6816 (a := 87) (k := 0) (b := 88) rfl (by decide +kernel))
  exact V_vret rfl dX6_init_12 ⟨rfl, rfl⟩)
theorem ctX6_init_89 {D : DE} {f : Nat} : Cl D (f + 1) mX6_init [.ref (ad D 89)] (cM 90 90 6818 0) (cQ (cM 91 91 6834 0)) := Cl.ofV (by decide) (Nat.le_of_ble_eq_true rfl) rfl (by
  refine V_aload_n dX6_init_0 rfl 0 rfl ?_
  refine V_objInit (by omega) (Nat.le_of_ble_eq_true rfl) q238 q120 q121 dX6_init_1 ?_
  refine V_aload_n dX6_init_4 rfl 0 rfl ?_
  refine V_bipush (v := 16) dX6_init_5 (by decide) ?_
  refine G_newa (t := 0) (N := 16) rfl (by decide) rfl (fun _ h => h) q171 (by decide) (by decide) (by decide) rfl dX6_init_7 (fun F1 h1 g1 e1 e2 e3 => ?_)
  obtain rfl : F1 = cF 91 90 6834 := e1.trans (cF_new 90 90 6818 16 (t := (0, 16)) rfl (by decide +kernel))
  obtain rfl : h1 = cH 0 := e2.trans (cH_new 0 90 (by decide +kernel))
  obtain rfl : g1 = cG := e3.trans (cG_new 90)
  refine G_putrF (n := 0) ck5 0 (by decide) (by decide +kernel) (by decide) rfl (fun _ => rfl) (fun _ => rfl) rfl rfl rfl q239 dX6_init_9 (fun F1 e1 => ?_)
  obtain rfl : F1 = cF 91 91 6834 := e1.trans (cF_wr 91 90 6834 (a := 89) (k := 0) (b := 90) rfl (by decide +kernel))
  exact V_vret rfl dX6_init_12 ⟨rfl, rfl⟩)
theorem ctX6_init_91 {D : DE} {f : Nat} : Cl D (f + 1) mX6_init [.ref (ad D 91)] (cM 92 92 6836 0) (cQ (cM 93 93 6852 0)) := Cl.ofV (by decide) (Nat.le_of_ble_eq_true rfl) rfl (by
  refine V_aload_n dX6_init_0 rfl 0 rfl ?_
  refine V_objInit (by omega) (Nat.le_of_ble_eq_true rfl) q238 q120 q121 dX6_init_1 ?_
  refine V_aload_n dX6_init_4 rfl 0 rfl ?_
  refine V_bipush (v := 16) dX6_init_5 (by decide) ?_
  refine G_newa (t := 0) (N := 16) rfl (by decide) rfl (fun _ h => h) q171 (by decide) (by decide) (by decide) rfl dX6_init_7 (fun F1 h1 g1 e1 e2 e3 => ?_)
  obtain rfl : F1 = cF 93 92 6852 := e1.trans (cF_new 92 92 6836 16 (t := (0, 16)) rfl (by decide +kernel))
  obtain rfl : h1 = cH 0 := e2.trans (cH_new 0 92 (by decide +kernel))
  obtain rfl : g1 = cG := e3.trans (cG_new 92)
  refine G_putrF (n := 0) ck5 0 (by decide) (by decide +kernel) (by decide) rfl (fun _ => rfl) (fun _ => rfl) rfl rfl rfl q239 dX6_init_9 (fun F1 e1 => ?_)
  obtain rfl : F1 = cF 93 93 6852 := e1.trans (cF_wr 93 92 6852 (a := 91) (k := 0) (b := 92) rfl (by decide +kernel))
  exact V_vret rfl dX6_init_12 ⟨rfl, rfl⟩)
theorem ctX6_init_93 {D : DE} {f : Nat} : Cl D (f + 1) mX6_init [.ref (ad D 93)] (cM 94 94 6854 0) (cQ (cM 95 95 6870 0)) := Cl.ofV (by decide) (Nat.le_of_ble_eq_true rfl) rfl (by
  refine V_aload_n dX6_init_0 rfl 0 rfl ?_
  refine V_objInit (by omega) (Nat.le_of_ble_eq_true rfl) q238 q120 q121 dX6_init_1 ?_
  refine V_aload_n dX6_init_4 rfl 0 rfl ?_
  refine V_bipush (v := 16) dX6_init_5 (by decide) ?_
  refine G_newa (t := 0) (N := 16) rfl (by decide) rfl (fun _ h => h) q171 (by decide) (by decide) (by decide) rfl dX6_init_7 (fun F1 h1 g1 e1 e2 e3 => ?_)
  obtain rfl : F1 = cF 95 94 6870 := e1.trans (cF_new 94 94 6854 16 (t := (0, 16)) rfl (by decide +kernel))
  obtain rfl : h1 = cH 0 := e2.trans (cH_new 0 94 (by decide +kernel))
  obtain rfl : g1 = cG := e3.trans (cG_new 94)
  refine G_putrF (n := 0) ck5 0 (by decide) (by decide +kernel) (by decide) rfl (fun _ => rfl) (fun _ => rfl) rfl rfl rfl q239 dX6_init_9 (fun F1 e1 => ?_)
  obtain rfl : F1 = cF 95 95 6870 := e1.trans (cF_wr 95 94 6870 (a := 93) (k := 0) (b := 94) rfl (by decide +kernel))
  exact V_vret rfl dX6_init_12 ⟨rfl, rfl⟩)
theorem ctX6_init_95 {D : DE} {f : Nat} : Cl D (f + 1) mX6_init [.ref (ad D 95)] (cM 96 96 6872 0) (cQ (cM 97 97 6888 0)) := Cl.ofV (by decide) (Nat.le_of_ble_eq_true rfl) rfl (by
  refine V_aload_n dX6_init_0 rfl 0 rfl ?_
  refine V_objInit (by omega) (Nat.le_of_ble_eq_true rfl) q238 q120 q121 dX6_init_1 ?_
  refine V_aload_n dX6_init_4 rfl 0 rfl ?_
  refine V_bipush (v := 16) dX6_init_5 (by decide) ?_
  refine G_newa (t := 0) (N := 16) rfl (by decide) rfl (fun _ h => h) q171 (by decide) (by decide) (by decide) rfl dX6_init_7 (fun F1 h1 g1 e1 e2 e3 => ?_)
  obtain rfl : F1 = cF 97 96 6888 := e1.trans (cF_new 96 96 6872 16 (t := (0, 16)) rfl (by decide +kernel))
  obtain rfl : h1 = cH 0 := e2.trans (cH_new 0 96 (by decide +kernel))
  obtain rfl : g1 = cG := e3.trans (cG_new 96)
  refine G_putrF (n := 0) ck5 0 (by decide) (by decide +kernel) (by decide) rfl (fun _ => rfl) (fun _ => rfl) rfl rfl rfl q239 dX6_init_9 (fun F1 e1 => ?_)
  obtain rfl : F1 = cF 97 97 6888 := e1.trans (cF_wr 97 96 6888 (a := 95) (k := 0) (b := 96) rfl (by decide +kernel))
  exact V_vret rfl dX6_init_12 ⟨rfl, rfl⟩)
theorem ctX6_init_97 {D : DE} {f : Nat} : Cl D (f + 1) mX6_init [.ref (ad D 97)] (cM 98 98 6890 0) (cQ (cM 99 99 6906 0)) := Cl.ofV (by decide) (Nat.le_of_ble_eq_true rfl) rfl (by
  refine V_aload_n dX6_init_0 rfl 0 rfl ?_
  refine V_objInit (by omega) (Nat.le_of_ble_eq_true rfl) q238 q120 q121 dX6_init_1 ?_
  refine V_aload_n dX6_init_4 rfl 0 rfl ?_
  refine V_bipush (v := 16) dX6_init_5 (by decide) ?_
  refine G_newa (t := 0) (N := 16) rfl (by decide) rfl (fun _ h => h) q171 (by decide) (by decide) (by decide) rfl dX6_init_7 (fun F1 h1 g1 e1 e2 e3 => ?_)
  obtain rfl : F1 = cF 99 98 6906 := e1.trans (cF_new 98 98 6890 16 (t := (0, 16)) rfl (by decide +kernel))
  obtain rfl : h1 = cH 0 := e2.trans (cH_new 0 98 (by decide +kernel))
  obtain rfl : g1 = cG := e3.trans (cG_new 98)
  refine G_putrF (n := 0) ck5 0 (by decide) (by decide +kernel) (by decide) rfl (fun _ => rfl) (fun _ => rfl) rfl rfl rfl q239 dX6_init_9 (fun F1 e1 => ?_)
  obtain rfl : F1 = cF 99 99 6906 := e1.trans (cF_wr 99 98 6906 (a := 97) (k := 0) (b := 98) rfl (by decide +kernel))
  exact V_vret rfl dX6_init_12 ⟨rfl, rfl⟩)
theorem ctX6_init_99 {D : DE} {f : Nat} : Cl D (f + 1) mX6_init [.ref (ad D 99)] (cM 100 100 6908 0) (cQ (cM 101 101 6924 0)) := Cl.ofV (by decide) (Nat.le_of_ble_eq_true rfl) rfl (by
  refine V_aload_n dX6_init_0 rfl 0 rfl ?_
  refine V_objInit (by omega) (Nat.le_of_ble_eq_true rfl) q238 q120 q121 dX6_init_1 ?_
  refine V_aload_n dX6_init_4 rfl 0 rfl ?_
  refine V_bipush (v := 16) dX6_init_5 (by decide) ?_
  refine G_newa (t := 0) (N := 16) rfl (by decide) rfl (fun _ h => h) q171 (by decide) (by decide) (by decide) rfl dX6_init_7 (fun F1 h1 g1 e1 e2 e3 => ?_)
  obtain rfl : F1 = cF 101 100 6924 := e1.trans (cF_new 100 100 6908 16 (t := (0, 16)) rfl (by decide +kernel))
  obtain rfl : h1 = cH 0 := e2.trans (cH_new 0 100 (by decide +kernel))
  obtain rfl : g1 = cG := e3.trans (cG_new 100)
  refine G_putrF (n := 0) ck5 0 (by decide) (by decide +kernel) (by decide) rfl (fun _ => rfl) (fun _ => rfl) rfl rfl rfl q239 dX6_init_9 (fun F1 e1 => ?_)
  obtain rfl : F1 = cF 101 101 6924 := e1.trans (cF_wr 101 100 6924 (a := 99) (k := 0) (b := 100) rfl (by decide +kernel))
  exact V_vret rfl dX6_init_12 ⟨rfl, rfl⟩)
theorem ctX5_init {D : DE} {f : Nat} : Cl D (f + 2) mX5_init [.ref (ad D 9)] (cM 10 11 6070 0) (cQ (cM 101 102 6924 0)) := Cl.ofV (by decide) (Nat.le_of_ble_eq_true rfl) rfl (by
  refine V_aload_n dX5_init_0 rfl 0 rfl ?_
  refine V_objInit (by omega) (Nat.le_of_ble_eq_true rfl) q231 q120 q121 dX5_init_1 ?_
  refine V_aload_n dX5_init_4 rfl 0 rfl ?_
  refine V_bipush (v := 44) dX5_init_5 (by decide) ?_
  refine G_anew (t := 6) (N := 44) rfl (by decide) (by decide) q232 (fun _ h => h.2.2.2.2.1) (by decide) (by decide) (by decide) dX5_init_7 (fun F1 h1 g1 e1 e2 e3 => ?_)
  obtain rfl : F1 = cF 11 11 6114 := e1.trans (cF_new 10 11 6070 44 (t := (6, 44)) rfl (by decide +kernel))
  obtain rfl : h1 = cH 0 := e2.trans (cH_new 0 10 (by decide +kernel))
  obtain rfl : g1 = cG := e3.trans (cG_new 10)
  refine G_putrF (n := 0) ck4 1 (by decide) (by decide +kernel) (by decide) rfl (fun _ => rfl) (fun _ => rfl) rfl rfl rfl q257 dX5_init_10 (fun F1 e1 => ?_)
  obtain rfl : F1 = cF 11 12 6114 := e1.trans (cF_wr 11 11 6114 (a := 9) (k := 1) (b := 10) rfl (by decide +kernel))
  refine V_aload_n dX5_init_13 rfl 0 rfl ?_
  refine G_new ck5 (by decide) k_df5 q232 q234 q86 dX5_init_14 (fun F1 h1 g1 e1 e2 e3 => ?_)
  obtain rfl : F1 = cF 12 12 6116 := e1.trans (cF_new 11 12 6114 2 (t := (15, 0)) rfl (by decide +kernel))
  obtain rfl : h1 = cH 0 := e2.trans (cH_new 0 11 (by decide +kernel))
  obtain rfl : g1 = cG := e3.trans (cG_new 11)
  refine V_dup dX5_init_17 rfl ?_
  refine C_call (av := [.ref (ad D 11)]) (rest := [.ref (ad D 11), .ref (ad D 9)]) ctX6_init_11 mqX6_init q86 (by decide) (Nat.le_of_ble_eq_true rfl) (k_resIN (av := []) (rest := [.ref (ad D 11), .ref (ad D 9)]) rfl q235 q236 q237 mhX6_init mnX6_init dX5_init_18) ?_
  refine G_putrF (n := 0) ck4 2 (by decide) (by decide +kernel) (by decide) rfl (fun _ => rfl) (fun _ => rfl) rfl rfl rfl q258 dX5_init_21 (fun F1 e1 => ?_)
  obtain rfl : F1 = cF 13 14 6132 := e1.trans (cF_wr 13 13 6132 (a := 9) (k := 2) (b := 11) rfl (by decide +kernel))
  refine V_iconst (v := 0) dX5_init_24 (by decide) ?_
  refine V_istore_n (l1 := [(1, .int 0), (0, .ref (ad D 9))]) dX5_init_25 rfl (by decide) rfl ?_
  refine V_iload_n dX5_init_26 rfl 0 rfl ?_
  refine V_aload_n dX5_init_27 rfl 1 rfl ?_
  refine H_getr (b := 10) (n := 0) ck4 1 (by decide) (by decide +kernel) (by decide) rfl (by decide +kernel) q257 dX5_init_28 ?_
  refine V_alen (x := 44) (n := 44) (t := 6) (by decide +kernel) (by decide) rfl (by decide) dX5_init_31 ?_
  refine V_icmp_ge (tgt := 54) dX5_init_32 (by decide) (fun c => absurd c (by decide)) (fun _ => ?_)
  refine V_aload_n dX5_init_35 rfl 1 rfl ?_
  refine H_getr (b := 10) (n := 0) ck4 1 (by decide) (by decide +kernel) (by decide) rfl (by decide +kernel) q257 dX5_init_36 ?_
  refine V_iload_n dX5_init_39 rfl 0 rfl ?_
  refine G_new ck5 (by decide) k_df5 q232 q234 q86 dX5_init_40 (fun F1 h1 g1 e1 e2 e3 => ?_)
  obtain rfl : F1 = cF 14 14 6134 := e1.trans (cF_new 13 14 6132 2 (t := (15, 0)) rfl (by decide +kernel))
  obtain rfl : h1 = cH 0 := e2.trans (cH_new 0 13 (by decide +kernel))
  obtain rfl : g1 = cG := e3.trans (cG_new 13)
  refine V_dup dX5_init_43 rfl ?_
  refine C_call (av := [.ref (ad D 13)]) (rest := [.ref (ad D 13), .int 0, .ref (ad D 10)]) ctX6_init_13 mqX6_init q86 (by decide) (Nat.le_of_ble_eq_true rfl) (k_resIN (av := []) (rest := [.ref (ad D 13), .int 0, .ref (ad D 10)]) rfl q235 q236 q237 mhX6_init mnX6_init dX5_init_44) ?_
  refine G_aast (cb := 5) (n := 44) (t := 6) (nb := 0) (by decide +kernel) (by decide) (by decide) rfl (by unfold vp_in; decide) (by decide +kernel) (by decide) rfl (k_asgS rfl) dX5_init_47 (fun F1 e1 => ?_)
  obtain rfl : F1 = cF 15 16 6150 := e1.trans (cF_wr 15 15 6150 (a := 10) (k := 0) (b := 13) rfl (by decide +kernel))
  refine V_iinc (j := 0) (v := 1) (l1 := [(1, .int 1), (0, .ref (ad D 9))]) dX5_init_48 rfl (by decide) (by decide) rfl ?_
  refine V_goto (tgt := 26) dX5_init_51 (by decide) ?_
  refine V_iload_n dX5_init_26 rfl 0 rfl ?_
  refine V_aload_n dX5_init_27 rfl 1 rfl ?_
  refine H_getr (b := 10) (n := 0) ck4 1 (by decide) (by decide +kernel) (by decide) rfl (by decide +kernel) q257 dX5_init_28 ?_
  refine V_alen (x := 44) (n := 44) (t := 6) (by decide +kernel) (by decide) rfl (by decide) dX5_init_31 ?_
  refine V_icmp_ge (tgt := 54) dX5_init_32 (by decide) (fun c => absurd c (by decide)) (fun _ => ?_)
  refine V_aload_n dX5_init_35 rfl 1 rfl ?_
  refine H_getr (b := 10) (n := 0) ck4 1 (by decide) (by decide +kernel) (by decide) rfl (by decide +kernel) q257 dX5_init_36 ?_
  refine V_iload_n dX5_init_39 rfl 0 rfl ?_
  refine G_new ck5 (by decide) k_df5 q232 q234 q86 dX5_init_40 (fun F1 h1 g1 e1 e2 e3 => ?_)
  obtain rfl : F1 = cF 16 16 6152 := e1.trans (cF_new 15 16 6150 2 (t := (15, 0)) rfl (by decide +kernel))
  obtain rfl : h1 = cH 0 := e2.trans (cH_new 0 15 (by decide +kernel))
  obtain rfl : g1 = cG := e3.trans (cG_new 15)
  refine V_dup dX5_init_43 rfl ?_
  refine C_call (av := [.ref (ad D 15)]) (rest := [.ref (ad D 15), .int 1, .ref (ad D 10)]) ctX6_init_15 mqX6_init q86 (by decide) (Nat.le_of_ble_eq_true rfl) (k_resIN (av := []) (rest := [.ref (ad D 15), .int 1, .ref (ad D 10)]) rfl q235 q236 q237 mhX6_init mnX6_init dX5_init_44) ?_
  refine G_aast (cb := 5) (n := 44) (t := 6) (nb := 0) (by decide +kernel) (by decide) (by decide) rfl (by unfold vp_in; decide) (by decide +kernel) (by decide) rfl (k_asgS rfl) dX5_init_47 (fun F1 e1 => ?_)
  obtain rfl : F1 = cF 17 18 6168 := e1.trans (cF_wr 17 17 6168 (a := 10) (k := 1) (b := 15) rfl (by decide +kernel))
  refine V_iinc (j := 0) (v := 2) (l1 := [(1, .int 2), (0, .ref (ad D 9))]) dX5_init_48 rfl (by decide) (by decide) rfl ?_
  refine V_goto (tgt := 26) dX5_init_51 (by decide) ?_
  refine V_iload_n dX5_init_26 rfl 0 rfl ?_
  refine V_aload_n dX5_init_27 rfl 1 rfl ?_
  refine H_getr (b := 10) (n := 0) ck4 1 (by decide) (by decide +kernel) (by decide) rfl (by decide +kernel) q257 dX5_init_28 ?_
  refine V_alen (x := 44) (n := 44) (t := 6) (by decide +kernel) (by decide) rfl (by decide) dX5_init_31 ?_
  refine V_icmp_ge (tgt := 54) dX5_init_32 (by decide) (fun c => absurd c (by decide)) (fun _ => ?_)
  refine V_aload_n dX5_init_35 rfl 1 rfl ?_
  refine H_getr (b := 10) (n := 0) ck4 1 (by decide) (by decide +kernel) (by decide) rfl (by decide +kernel) q257 dX5_init_36 ?_
  refine V_iload_n dX5_init_39 rfl 0 rfl ?_
  refine G_new ck5 (by decide) k_df5 q232 q234 q86 dX5_init_40 (fun F1 h1 g1 e1 e2 e3 => ?_)
  obtain rfl : F1 = cF 18 18 6170 := e1.trans (cF_new 17 18 6168 2 (t := (15, 0)) rfl (by decide +kernel))
  obtain rfl : h1 = cH 0 := e2.trans (cH_new 0 17 (by decide +kernel))
  obtain rfl : g1 = cG := e3.trans (cG_new 17)
  refine V_dup dX5_init_43 rfl ?_
  refine C_call (av := [.ref (ad D 17)]) (rest := [.ref (ad D 17), .int 2, .ref (ad D 10)]) ctX6_init_17 mqX6_init q86 (by decide) (Nat.le_of_ble_eq_true rfl) (k_resIN (av := []) (rest := [.ref (ad D 17), .int 2, .ref (ad D 10)]) rfl q235 q236 q237 mhX6_init mnX6_init dX5_init_44) ?_
  refine G_aast (cb := 5) (n := 44) (t := 6) (nb := 0) (by decide +kernel) (by decide) (by decide) rfl (by unfold vp_in; decide) (by decide +kernel) (by decide) rfl (k_asgS rfl) dX5_init_47 (fun F1 e1 => ?_)
  obtain rfl : F1 = cF 19 20 6186 := e1.trans (cF_wr 19 19 6186 (a := 10) (k := 2) (b := 17) rfl (by decide +kernel))
  refine V_iinc (j := 0) (v := 3) (l1 := [(1, .int 3), (0, .ref (ad D 9))]) dX5_init_48 rfl (by decide) (by decide) rfl ?_
  refine V_goto (tgt := 26) dX5_init_51 (by decide) ?_
  refine V_iload_n dX5_init_26 rfl 0 rfl ?_
  refine V_aload_n dX5_init_27 rfl 1 rfl ?_
  refine H_getr (b := 10) (n := 0) ck4 1 (by decide) (by decide +kernel) (by decide) rfl (by decide +kernel) q257 dX5_init_28 ?_
  refine V_alen (x := 44) (n := 44) (t := 6) (by decide +kernel) (by decide) rfl (by decide) dX5_init_31 ?_
  refine V_icmp_ge (tgt := 54) dX5_init_32 (by decide) (fun c => absurd c (by decide)) (fun _ => ?_)
  refine V_aload_n dX5_init_35 rfl 1 rfl ?_
  refine H_getr (b := 10) (n := 0) ck4 1 (by decide) (by decide +kernel) (by decide) rfl (by decide +kernel) q257 dX5_init_36 ?_
  refine V_iload_n dX5_init_39 rfl 0 rfl ?_
  refine G_new ck5 (by decide) k_df5 q232 q234 q86 dX5_init_40 (fun F1 h1 g1 e1 e2 e3 => ?_)
  obtain rfl : F1 = cF 20 20 6188 := e1.trans (cF_new 19 20 6186 2 (t := (15, 0)) rfl (by decide +kernel))
  obtain rfl : h1 = cH 0 := e2.trans (cH_new 0 19 (by decide +kernel))
  obtain rfl : g1 = cG := e3.trans (cG_new 19)
  refine V_dup dX5_init_43 rfl ?_
  refine C_call (av := [.ref (ad D 19)]) (rest := [.ref (ad D 19), .int 3, .ref (ad D 10)]) ctX6_init_19 mqX6_init q86 (by decide) (Nat.le_of_ble_eq_true rfl) (k_resIN (av := []) (rest := [.ref (ad D 19), .int 3, .ref (ad D 10)]) rfl q235 q236 q237 mhX6_init mnX6_init dX5_init_44) ?_
  refine G_aast (cb := 5) (n := 44) (t := 6) (nb := 0) (by decide +kernel) (by decide) (by decide) rfl (by unfold vp_in; decide) (by decide +kernel) (by decide) rfl (k_asgS rfl) dX5_init_47 (fun F1 e1 => ?_)
  obtain rfl : F1 = cF 21 22 6204 := e1.trans (cF_wr 21 21 6204 (a := 10) (k := 3) (b := 19) rfl (by decide +kernel))
  refine V_iinc (j := 0) (v := 4) (l1 := [(1, .int 4), (0, .ref (ad D 9))]) dX5_init_48 rfl (by decide) (by decide) rfl ?_
  refine V_goto (tgt := 26) dX5_init_51 (by decide) ?_
  refine V_iload_n dX5_init_26 rfl 0 rfl ?_
  refine V_aload_n dX5_init_27 rfl 1 rfl ?_
  refine H_getr (b := 10) (n := 0) ck4 1 (by decide) (by decide +kernel) (by decide) rfl (by decide +kernel) q257 dX5_init_28 ?_
  refine V_alen (x := 44) (n := 44) (t := 6) (by decide +kernel) (by decide) rfl (by decide) dX5_init_31 ?_
  refine V_icmp_ge (tgt := 54) dX5_init_32 (by decide) (fun c => absurd c (by decide)) (fun _ => ?_)
  refine V_aload_n dX5_init_35 rfl 1 rfl ?_
  refine H_getr (b := 10) (n := 0) ck4 1 (by decide) (by decide +kernel) (by decide) rfl (by decide +kernel) q257 dX5_init_36 ?_
  refine V_iload_n dX5_init_39 rfl 0 rfl ?_
  refine G_new ck5 (by decide) k_df5 q232 q234 q86 dX5_init_40 (fun F1 h1 g1 e1 e2 e3 => ?_)
  obtain rfl : F1 = cF 22 22 6206 := e1.trans (cF_new 21 22 6204 2 (t := (15, 0)) rfl (by decide +kernel))
  obtain rfl : h1 = cH 0 := e2.trans (cH_new 0 21 (by decide +kernel))
  obtain rfl : g1 = cG := e3.trans (cG_new 21)
  refine V_dup dX5_init_43 rfl ?_
  refine C_call (av := [.ref (ad D 21)]) (rest := [.ref (ad D 21), .int 4, .ref (ad D 10)]) ctX6_init_21 mqX6_init q86 (by decide) (Nat.le_of_ble_eq_true rfl) (k_resIN (av := []) (rest := [.ref (ad D 21), .int 4, .ref (ad D 10)]) rfl q235 q236 q237 mhX6_init mnX6_init dX5_init_44) ?_
  refine G_aast (cb := 5) (n := 44) (t := 6) (nb := 0) (by decide +kernel) (by decide) (by decide) rfl (by unfold vp_in; decide) (by decide +kernel) (by decide) rfl (k_asgS rfl) dX5_init_47 (fun F1 e1 => ?_)
  obtain rfl : F1 = cF 23 24 6222 := e1.trans (cF_wr 23 23 6222 (a := 10) (k := 4) (b := 21) rfl (by decide +kernel))
  refine V_iinc (j := 0) (v := 5) (l1 := [(1, .int 5), (0, .ref (ad D 9))]) dX5_init_48 rfl (by decide) (by decide) rfl ?_
  refine V_goto (tgt := 26) dX5_init_51 (by decide) ?_
  refine V_iload_n dX5_init_26 rfl 0 rfl ?_
  refine V_aload_n dX5_init_27 rfl 1 rfl ?_
  refine H_getr (b := 10) (n := 0) ck4 1 (by decide) (by decide +kernel) (by decide) rfl (by decide +kernel) q257 dX5_init_28 ?_
  refine V_alen (x := 44) (n := 44) (t := 6) (by decide +kernel) (by decide) rfl (by decide) dX5_init_31 ?_
  refine V_icmp_ge (tgt := 54) dX5_init_32 (by decide) (fun c => absurd c (by decide)) (fun _ => ?_)
  refine V_aload_n dX5_init_35 rfl 1 rfl ?_
  refine H_getr (b := 10) (n := 0) ck4 1 (by decide) (by decide +kernel) (by decide) rfl (by decide +kernel) q257 dX5_init_36 ?_
  refine V_iload_n dX5_init_39 rfl 0 rfl ?_
  refine G_new ck5 (by decide) k_df5 q232 q234 q86 dX5_init_40 (fun F1 h1 g1 e1 e2 e3 => ?_)
  obtain rfl : F1 = cF 24 24 6224 := e1.trans (cF_new 23 24 6222 2 (t := (15, 0)) rfl (by decide +kernel))
  obtain rfl : h1 = cH 0 := e2.trans (cH_new 0 23 (by decide +kernel))
  obtain rfl : g1 = cG := e3.trans (cG_new 23)
  refine V_dup dX5_init_43 rfl ?_
  refine C_call (av := [.ref (ad D 23)]) (rest := [.ref (ad D 23), .int 5, .ref (ad D 10)]) ctX6_init_23 mqX6_init q86 (by decide) (Nat.le_of_ble_eq_true rfl) (k_resIN (av := []) (rest := [.ref (ad D 23), .int 5, .ref (ad D 10)]) rfl q235 q236 q237 mhX6_init mnX6_init dX5_init_44) ?_
  refine G_aast (cb := 5) (n := 44) (t := 6) (nb := 0) (by decide +kernel) (by decide) (by decide) rfl (by unfold vp_in; decide) (by decide +kernel) (by decide) rfl (k_asgS rfl) dX5_init_47 (fun F1 e1 => ?_)
  obtain rfl : F1 = cF 25 26 6240 := e1.trans (cF_wr 25 25 6240 (a := 10) (k := 5) (b := 23) rfl (by decide +kernel))
  refine V_iinc (j := 0) (v := 6) (l1 := [(1, .int 6), (0, .ref (ad D 9))]) dX5_init_48 rfl (by decide) (by decide) rfl ?_
  refine V_goto (tgt := 26) dX5_init_51 (by decide) ?_
  refine V_iload_n dX5_init_26 rfl 0 rfl ?_
  refine V_aload_n dX5_init_27 rfl 1 rfl ?_
  refine H_getr (b := 10) (n := 0) ck4 1 (by decide) (by decide +kernel) (by decide) rfl (by decide +kernel) q257 dX5_init_28 ?_
  refine V_alen (x := 44) (n := 44) (t := 6) (by decide +kernel) (by decide) rfl (by decide) dX5_init_31 ?_
  refine V_icmp_ge (tgt := 54) dX5_init_32 (by decide) (fun c => absurd c (by decide)) (fun _ => ?_)
  refine V_aload_n dX5_init_35 rfl 1 rfl ?_
  refine H_getr (b := 10) (n := 0) ck4 1 (by decide) (by decide +kernel) (by decide) rfl (by decide +kernel) q257 dX5_init_36 ?_
  refine V_iload_n dX5_init_39 rfl 0 rfl ?_
  refine G_new ck5 (by decide) k_df5 q232 q234 q86 dX5_init_40 (fun F1 h1 g1 e1 e2 e3 => ?_)
  obtain rfl : F1 = cF 26 26 6242 := e1.trans (cF_new 25 26 6240 2 (t := (15, 0)) rfl (by decide +kernel))
  obtain rfl : h1 = cH 0 := e2.trans (cH_new 0 25 (by decide +kernel))
  obtain rfl : g1 = cG := e3.trans (cG_new 25)
  refine V_dup dX5_init_43 rfl ?_
  refine C_call (av := [.ref (ad D 25)]) (rest := [.ref (ad D 25), .int 6, .ref (ad D 10)]) ctX6_init_25 mqX6_init q86 (by decide) (Nat.le_of_ble_eq_true rfl) (k_resIN (av := []) (rest := [.ref (ad D 25), .int 6, .ref (ad D 10)]) rfl q235 q236 q237 mhX6_init mnX6_init dX5_init_44) ?_
  refine G_aast (cb := 5) (n := 44) (t := 6) (nb := 0) (by decide +kernel) (by decide) (by decide) rfl (by unfold vp_in; decide) (by decide +kernel) (by decide) rfl (k_asgS rfl) dX5_init_47 (fun F1 e1 => ?_)
  obtain rfl : F1 = cF 27 28 6258 := e1.trans (cF_wr 27 27 6258 (a := 10) (k := 6) (b := 25) rfl (by decide +kernel))
  refine V_iinc (j := 0) (v := 7) (l1 := [(1, .int 7), (0, .ref (ad D 9))]) dX5_init_48 rfl (by decide) (by decide) rfl ?_
  refine V_goto (tgt := 26) dX5_init_51 (by decide) ?_
  refine V_iload_n dX5_init_26 rfl 0 rfl ?_
  refine V_aload_n dX5_init_27 rfl 1 rfl ?_
  refine H_getr (b := 10) (n := 0) ck4 1 (by decide) (by decide +kernel) (by decide) rfl (by decide +kernel) q257 dX5_init_28 ?_
  refine V_alen (x := 44) (n := 44) (t := 6) (by decide +kernel) (by decide) rfl (by decide) dX5_init_31 ?_
  refine V_icmp_ge (tgt := 54) dX5_init_32 (by decide) (fun c => absurd c (by decide)) (fun _ => ?_)
  refine V_aload_n dX5_init_35 rfl 1 rfl ?_
  refine H_getr (b := 10) (n := 0) ck4 1 (by decide) (by decide +kernel) (by decide) rfl (by decide +kernel) q257 dX5_init_36 ?_
  refine V_iload_n dX5_init_39 rfl 0 rfl ?_
  refine G_new ck5 (by decide) k_df5 q232 q234 q86 dX5_init_40 (fun F1 h1 g1 e1 e2 e3 => ?_)
  obtain rfl : F1 = cF 28 28 6260 := e1.trans (cF_new 27 28 6258 2 (t := (15, 0)) rfl (by decide +kernel))
  obtain rfl : h1 = cH 0 := e2.trans (cH_new 0 27 (by decide +kernel))
  obtain rfl : g1 = cG := e3.trans (cG_new 27)
  refine V_dup dX5_init_43 rfl ?_
  refine C_call (av := [.ref (ad D 27)]) (rest := [.ref (ad D 27), .int 7, .ref (ad D 10)]) ctX6_init_27 mqX6_init q86 (by decide) (Nat.le_of_ble_eq_true rfl) (k_resIN (av := []) (rest := [.ref (ad D 27), .int 7, .ref (ad D 10)]) rfl q235 q236 q237 mhX6_init mnX6_init dX5_init_44) ?_
  refine G_aast (cb := 5) (n := 44) (t := 6) (nb := 0) (by decide +kernel) (by decide) (by decide) rfl (by unfold vp_in; decide) (by decide +kernel) (by decide) rfl (k_asgS rfl) dX5_init_47 (fun F1 e1 => ?_)
  obtain rfl : F1 = cF 29 30 6276 := e1.trans (cF_wr 29 29 6276 (a := 10) (k := 7) (b := 27) rfl (by decide +kernel))
  refine V_iinc (j := 0) (v := 8) (l1 := [(1, .int 8), (0, .ref (ad D 9))]) dX5_init_48 rfl (by decide) (by decide) rfl ?_
  refine V_goto (tgt := 26) dX5_init_51 (by decide) ?_
  refine V_iload_n dX5_init_26 rfl 0 rfl ?_
  refine V_aload_n dX5_init_27 rfl 1 rfl ?_
  refine H_getr (b := 10) (n := 0) ck4 1 (by decide) (by decide +kernel) (by decide) rfl (by decide +kernel) q257 dX5_init_28 ?_
  refine V_alen (x := 44) (n := 44) (t := 6) (by decide +kernel) (by decide) rfl (by decide) dX5_init_31 ?_
  refine V_icmp_ge (tgt := 54) dX5_init_32 (by decide) (fun c => absurd c (by decide)) (fun _ => ?_)
  refine V_aload_n dX5_init_35 rfl 1 rfl ?_
  refine H_getr (b := 10) (n := 0) ck4 1 (by decide) (by decide +kernel) (by decide) rfl (by decide +kernel) q257 dX5_init_36 ?_
  refine V_iload_n dX5_init_39 rfl 0 rfl ?_
  refine G_new ck5 (by decide) k_df5 q232 q234 q86 dX5_init_40 (fun F1 h1 g1 e1 e2 e3 => ?_)
  obtain rfl : F1 = cF 30 30 6278 := e1.trans (cF_new 29 30 6276 2 (t := (15, 0)) rfl (by decide +kernel))
  obtain rfl : h1 = cH 0 := e2.trans (cH_new 0 29 (by decide +kernel))
  obtain rfl : g1 = cG := e3.trans (cG_new 29)
  refine V_dup dX5_init_43 rfl ?_
  refine C_call (av := [.ref (ad D 29)]) (rest := [.ref (ad D 29), .int 8, .ref (ad D 10)]) ctX6_init_29 mqX6_init q86 (by decide) (Nat.le_of_ble_eq_true rfl) (k_resIN (av := []) (rest := [.ref (ad D 29), .int 8, .ref (ad D 10)]) rfl q235 q236 q237 mhX6_init mnX6_init dX5_init_44) ?_
  refine G_aast (cb := 5) (n := 44) (t := 6) (nb := 0) (by decide +kernel) (by decide) (by decide) rfl (by unfold vp_in; decide) (by decide +kernel) (by decide) rfl (k_asgS rfl) dX5_init_47 (fun F1 e1 => ?_)
  obtain rfl : F1 = cF 31 32 6294 := e1.trans (cF_wr 31 31 6294 (a := 10) (k := 8) (b := 29) rfl (by decide +kernel))
  refine V_iinc (j := 0) (v := 9) (l1 := [(1, .int 9), (0, .ref (ad D 9))]) dX5_init_48 rfl (by decide) (by decide) rfl ?_
  refine V_goto (tgt := 26) dX5_init_51 (by decide) ?_
  refine V_iload_n dX5_init_26 rfl 0 rfl ?_
  refine V_aload_n dX5_init_27 rfl 1 rfl ?_
  refine H_getr (b := 10) (n := 0) ck4 1 (by decide) (by decide +kernel) (by decide) rfl (by decide +kernel) q257 dX5_init_28 ?_
  refine V_alen (x := 44) (n := 44) (t := 6) (by decide +kernel) (by decide) rfl (by decide) dX5_init_31 ?_
  refine V_icmp_ge (tgt := 54) dX5_init_32 (by decide) (fun c => absurd c (by decide)) (fun _ => ?_)
  refine V_aload_n dX5_init_35 rfl 1 rfl ?_
  refine H_getr (b := 10) (n := 0) ck4 1 (by decide) (by decide +kernel) (by decide) rfl (by decide +kernel) q257 dX5_init_36 ?_
  refine V_iload_n dX5_init_39 rfl 0 rfl ?_
  refine G_new ck5 (by decide) k_df5 q232 q234 q86 dX5_init_40 (fun F1 h1 g1 e1 e2 e3 => ?_)
  obtain rfl : F1 = cF 32 32 6296 := e1.trans (cF_new 31 32 6294 2 (t := (15, 0)) rfl (by decide +kernel))
  obtain rfl : h1 = cH 0 := e2.trans (cH_new 0 31 (by decide +kernel))
  obtain rfl : g1 = cG := e3.trans (cG_new 31)
  refine V_dup dX5_init_43 rfl ?_
  refine C_call (av := [.ref (ad D 31)]) (rest := [.ref (ad D 31), .int 9, .ref (ad D 10)]) ctX6_init_31 mqX6_init q86 (by decide) (Nat.le_of_ble_eq_true rfl) (k_resIN (av := []) (rest := [.ref (ad D 31), .int 9, .ref (ad D 10)]) rfl q235 q236 q237 mhX6_init mnX6_init dX5_init_44) ?_
  refine G_aast (cb := 5) (n := 44) (t := 6) (nb := 0) (by decide +kernel) (by decide) (by decide) rfl (by unfold vp_in; decide) (by decide +kernel) (by decide) rfl (k_asgS rfl) dX5_init_47 (fun F1 e1 => ?_)
  obtain rfl : F1 = cF 33 34 6312 := e1.trans (cF_wr 33 33 6312 (a := 10) (k := 9) (b := 31) rfl (by decide +kernel))
  refine V_iinc (j := 0) (v := 10) (l1 := [(1, .int 10), (0, .ref (ad D 9))]) dX5_init_48 rfl (by decide) (by decide) rfl ?_
  refine V_goto (tgt := 26) dX5_init_51 (by decide) ?_
  refine V_iload_n dX5_init_26 rfl 0 rfl ?_
  refine V_aload_n dX5_init_27 rfl 1 rfl ?_
  refine H_getr (b := 10) (n := 0) ck4 1 (by decide) (by decide +kernel) (by decide) rfl (by decide +kernel) q257 dX5_init_28 ?_
  refine V_alen (x := 44) (n := 44) (t := 6) (by decide +kernel) (by decide) rfl (by decide) dX5_init_31 ?_
  refine V_icmp_ge (tgt := 54) dX5_init_32 (by decide) (fun c => absurd c (by decide)) (fun _ => ?_)
  refine V_aload_n dX5_init_35 rfl 1 rfl ?_
  refine H_getr (b := 10) (n := 0) ck4 1 (by decide) (by decide +kernel) (by decide) rfl (by decide +kernel) q257 dX5_init_36 ?_
  refine V_iload_n dX5_init_39 rfl 0 rfl ?_
  refine G_new ck5 (by decide) k_df5 q232 q234 q86 dX5_init_40 (fun F1 h1 g1 e1 e2 e3 => ?_)
  obtain rfl : F1 = cF 34 34 6314 := e1.trans (cF_new 33 34 6312 2 (t := (15, 0)) rfl (by decide +kernel))
  obtain rfl : h1 = cH 0 := e2.trans (cH_new 0 33 (by decide +kernel))
  obtain rfl : g1 = cG := e3.trans (cG_new 33)
  refine V_dup dX5_init_43 rfl ?_
  refine C_call (av := [.ref (ad D 33)]) (rest := [.ref (ad D 33), .int 10, .ref (ad D 10)]) ctX6_init_33 mqX6_init q86 (by decide) (Nat.le_of_ble_eq_true rfl) (k_resIN (av := []) (rest := [.ref (ad D 33), .int 10, .ref (ad D 10)]) rfl q235 q236 q237 mhX6_init mnX6_init dX5_init_44) ?_
  refine G_aast (cb := 5) (n := 44) (t := 6) (nb := 0) (by decide +kernel) (by decide) (by decide) rfl (by unfold vp_in; decide) (by decide +kernel) (by decide) rfl (k_asgS rfl) dX5_init_47 (fun F1 e1 => ?_)
  obtain rfl : F1 = cF 35 36 6330 := e1.trans (cF_wr 35 35 6330 (a := 10) (k := 10) (b := 33) rfl (by decide +kernel))
  refine V_iinc (j := 0) (v := 11) (l1 := [(1, .int 11), (0, .ref (ad D 9))]) dX5_init_48 rfl (by decide) (by decide) rfl ?_
  refine V_goto (tgt := 26) dX5_init_51 (by decide) ?_
  refine V_iload_n dX5_init_26 rfl 0 rfl ?_
  refine V_aload_n dX5_init_27 rfl 1 rfl ?_
  refine H_getr (b := 10) (n := 0) ck4 1 (by decide) (by decide +kernel) (by decide) rfl (by decide +kernel) q257 dX5_init_28 ?_
  refine V_alen (x := 44) (n := 44) (t := 6) (by decide +kernel) (by decide) rfl (by decide) dX5_init_31 ?_
  refine V_icmp_ge (tgt := 54) dX5_init_32 (by decide) (fun c => absurd c (by decide)) (fun _ => ?_)
  refine V_aload_n dX5_init_35 rfl 1 rfl ?_
  refine H_getr (b := 10) (n := 0) ck4 1 (by decide) (by decide +kernel) (by decide) rfl (by decide +kernel) q257 dX5_init_36 ?_
  refine V_iload_n dX5_init_39 rfl 0 rfl ?_
  refine G_new ck5 (by decide) k_df5 q232 q234 q86 dX5_init_40 (fun F1 h1 g1 e1 e2 e3 => ?_)
  obtain rfl : F1 = cF 36 36 6332 := e1.trans (cF_new 35 36 6330 2 (t := (15, 0)) rfl (by decide +kernel))
  obtain rfl : h1 = cH 0 := e2.trans (cH_new 0 35 (by decide +kernel))
  obtain rfl : g1 = cG := e3.trans (cG_new 35)
  refine V_dup dX5_init_43 rfl ?_
  refine C_call (av := [.ref (ad D 35)]) (rest := [.ref (ad D 35), .int 11, .ref (ad D 10)]) ctX6_init_35 mqX6_init q86 (by decide) (Nat.le_of_ble_eq_true rfl) (k_resIN (av := []) (rest := [.ref (ad D 35), .int 11, .ref (ad D 10)]) rfl q235 q236 q237 mhX6_init mnX6_init dX5_init_44) ?_
  refine G_aast (cb := 5) (n := 44) (t := 6) (nb := 0) (by decide +kernel) (by decide) (by decide) rfl (by unfold vp_in; decide) (by decide +kernel) (by decide) rfl (k_asgS rfl) dX5_init_47 (fun F1 e1 => ?_)
  obtain rfl : F1 = cF 37 38 6348 := e1.trans (cF_wr 37 37 6348 (a := 10) (k := 11) (b := 35) rfl (by decide +kernel))
  refine V_iinc (j := 0) (v := 12) (l1 := [(1, .int 12), (0, .ref (ad D 9))]) dX5_init_48 rfl (by decide) (by decide) rfl ?_
  refine V_goto (tgt := 26) dX5_init_51 (by decide) ?_
  refine V_iload_n dX5_init_26 rfl 0 rfl ?_
  refine V_aload_n dX5_init_27 rfl 1 rfl ?_
  refine H_getr (b := 10) (n := 0) ck4 1 (by decide) (by decide +kernel) (by decide) rfl (by decide +kernel) q257 dX5_init_28 ?_
  refine V_alen (x := 44) (n := 44) (t := 6) (by decide +kernel) (by decide) rfl (by decide) dX5_init_31 ?_
  refine V_icmp_ge (tgt := 54) dX5_init_32 (by decide) (fun c => absurd c (by decide)) (fun _ => ?_)
  refine V_aload_n dX5_init_35 rfl 1 rfl ?_
  refine H_getr (b := 10) (n := 0) ck4 1 (by decide) (by decide +kernel) (by decide) rfl (by decide +kernel) q257 dX5_init_36 ?_
  refine V_iload_n dX5_init_39 rfl 0 rfl ?_
  refine G_new ck5 (by decide) k_df5 q232 q234 q86 dX5_init_40 (fun F1 h1 g1 e1 e2 e3 => ?_)
  obtain rfl : F1 = cF 38 38 6350 := e1.trans (cF_new 37 38 6348 2 (t := (15, 0)) rfl (by decide +kernel))
  obtain rfl : h1 = cH 0 := e2.trans (cH_new 0 37 (by decide +kernel))
  obtain rfl : g1 = cG := e3.trans (cG_new 37)
  refine V_dup dX5_init_43 rfl ?_
  refine C_call (av := [.ref (ad D 37)]) (rest := [.ref (ad D 37), .int 12, .ref (ad D 10)]) ctX6_init_37 mqX6_init q86 (by decide) (Nat.le_of_ble_eq_true rfl) (k_resIN (av := []) (rest := [.ref (ad D 37), .int 12, .ref (ad D 10)]) rfl q235 q236 q237 mhX6_init mnX6_init dX5_init_44) ?_
  refine G_aast (cb := 5) (n := 44) (t := 6) (nb := 0) (by decide +kernel) (by decide) (by decide) rfl (by unfold vp_in; decide) (by decide +kernel) (by decide) rfl (k_asgS rfl) dX5_init_47 (fun F1 e1 => ?_)
  obtain rfl : F1 = cF 39 40 6366 := e1.trans (cF_wr 39 39 6366 (a := 10) (k := 12) (b := 37) rfl (by decide +kernel))
  refine V_iinc (j := 0) (v := 13) (l1 := [(1, .int 13), (0, .ref (ad D 9))]) dX5_init_48 rfl (by decide) (by decide) rfl ?_
  refine V_goto (tgt := 26) dX5_init_51 (by decide) ?_
  refine V_iload_n dX5_init_26 rfl 0 rfl ?_
  refine V_aload_n dX5_init_27 rfl 1 rfl ?_
  refine H_getr (b := 10) (n := 0) ck4 1 (by decide) (by decide +kernel) (by decide) rfl (by decide +kernel) q257 dX5_init_28 ?_
  refine V_alen (x := 44) (n := 44) (t := 6) (by decide +kernel) (by decide) rfl (by decide) dX5_init_31 ?_
  refine V_icmp_ge (tgt := 54) dX5_init_32 (by decide) (fun c => absurd c (by decide)) (fun _ => ?_)
  refine V_aload_n dX5_init_35 rfl 1 rfl ?_
  refine H_getr (b := 10) (n := 0) ck4 1 (by decide) (by decide +kernel) (by decide) rfl (by decide +kernel) q257 dX5_init_36 ?_
  refine V_iload_n dX5_init_39 rfl 0 rfl ?_
  refine G_new ck5 (by decide) k_df5 q232 q234 q86 dX5_init_40 (fun F1 h1 g1 e1 e2 e3 => ?_)
  obtain rfl : F1 = cF 40 40 6368 := e1.trans (cF_new 39 40 6366 2 (t := (15, 0)) rfl (by decide +kernel))
  obtain rfl : h1 = cH 0 := e2.trans (cH_new 0 39 (by decide +kernel))
  obtain rfl : g1 = cG := e3.trans (cG_new 39)
  refine V_dup dX5_init_43 rfl ?_
  refine C_call (av := [.ref (ad D 39)]) (rest := [.ref (ad D 39), .int 13, .ref (ad D 10)]) ctX6_init_39 mqX6_init q86 (by decide) (Nat.le_of_ble_eq_true rfl) (k_resIN (av := []) (rest := [.ref (ad D 39), .int 13, .ref (ad D 10)]) rfl q235 q236 q237 mhX6_init mnX6_init dX5_init_44) ?_
  refine G_aast (cb := 5) (n := 44) (t := 6) (nb := 0) (by decide +kernel) (by decide) (by decide) rfl (by unfold vp_in; decide) (by decide +kernel) (by decide) rfl (k_asgS rfl) dX5_init_47 (fun F1 e1 => ?_)
  obtain rfl : F1 = cF 41 42 6384 := e1.trans (cF_wr 41 41 6384 (a := 10) (k := 13) (b := 39) rfl (by decide +kernel))
  refine V_iinc (j := 0) (v := 14) (l1 := [(1, .int 14), (0, .ref (ad D 9))]) dX5_init_48 rfl (by decide) (by decide) rfl ?_
  refine V_goto (tgt := 26) dX5_init_51 (by decide) ?_
  refine V_iload_n dX5_init_26 rfl 0 rfl ?_
  refine V_aload_n dX5_init_27 rfl 1 rfl ?_
  refine H_getr (b := 10) (n := 0) ck4 1 (by decide) (by decide +kernel) (by decide) rfl (by decide +kernel) q257 dX5_init_28 ?_
  refine V_alen (x := 44) (n := 44) (t := 6) (by decide +kernel) (by decide) rfl (by decide) dX5_init_31 ?_
  refine V_icmp_ge (tgt := 54) dX5_init_32 (by decide) (fun c => absurd c (by decide)) (fun _ => ?_)
  refine V_aload_n dX5_init_35 rfl 1 rfl ?_
  refine H_getr (b := 10) (n := 0) ck4 1 (by decide) (by decide +kernel) (by decide) rfl (by decide +kernel) q257 dX5_init_36 ?_
  refine V_iload_n dX5_init_39 rfl 0 rfl ?_
  refine G_new ck5 (by decide) k_df5 q232 q234 q86 dX5_init_40 (fun F1 h1 g1 e1 e2 e3 => ?_)
  obtain rfl : F1 = cF 42 42 6386 := e1.trans (cF_new 41 42 6384 2 (t := (15, 0)) rfl (by decide +kernel))
  obtain rfl : h1 = cH 0 := e2.trans (cH_new 0 41 (by decide +kernel))
  obtain rfl : g1 = cG := e3.trans (cG_new 41)
  refine V_dup dX5_init_43 rfl ?_
  refine C_call (av := [.ref (ad D 41)]) (rest := [.ref (ad D 41), .int 14, .ref (ad D 10)]) ctX6_init_41 mqX6_init q86 (by decide) (Nat.le_of_ble_eq_true rfl) (k_resIN (av := []) (rest := [.ref (ad D 41), .int 14, .ref (ad D 10)]) rfl q235 q236 q237 mhX6_init mnX6_init dX5_init_44) ?_
  refine G_aast (cb := 5) (n := 44) (t := 6) (nb := 0) (by decide +kernel) (by decide) (by decide) rfl (by unfold vp_in; decide) (by decide +kernel) (by decide) rfl (k_asgS rfl) dX5_init_47 (fun F1 e1 => ?_)
  obtain rfl : F1 = cF 43 44 6402 := e1.trans (cF_wr 43 43 6402 (a := 10) (k := 14) (b := 41) rfl (by decide +kernel))
  refine V_iinc (j := 0) (v := 15) (l1 := [(1, .int 15), (0, .ref (ad D 9))]) dX5_init_48 rfl (by decide) (by decide) rfl ?_
  refine V_goto (tgt := 26) dX5_init_51 (by decide) ?_
  refine V_iload_n dX5_init_26 rfl 0 rfl ?_
  refine V_aload_n dX5_init_27 rfl 1 rfl ?_
  refine H_getr (b := 10) (n := 0) ck4 1 (by decide) (by decide +kernel) (by decide) rfl (by decide +kernel) q257 dX5_init_28 ?_
  refine V_alen (x := 44) (n := 44) (t := 6) (by decide +kernel) (by decide) rfl (by decide) dX5_init_31 ?_
  refine V_icmp_ge (tgt := 54) dX5_init_32 (by decide) (fun c => absurd c (by decide)) (fun _ => ?_)
  refine V_aload_n dX5_init_35 rfl 1 rfl ?_
  refine H_getr (b := 10) (n := 0) ck4 1 (by decide) (by decide +kernel) (by decide) rfl (by decide +kernel) q257 dX5_init_36 ?_
  refine V_iload_n dX5_init_39 rfl 0 rfl ?_
  refine G_new ck5 (by decide) k_df5 q232 q234 q86 dX5_init_40 (fun F1 h1 g1 e1 e2 e3 => ?_)
  obtain rfl : F1 = cF 44 44 6404 := e1.trans (cF_new 43 44 6402 2 (t := (15, 0)) rfl (by decide +kernel))
  obtain rfl : h1 = cH 0 := e2.trans (cH_new 0 43 (by decide +kernel))
  obtain rfl : g1 = cG := e3.trans (cG_new 43)
  refine V_dup dX5_init_43 rfl ?_
  refine C_call (av := [.ref (ad D 43)]) (rest := [.ref (ad D 43), .int 15, .ref (ad D 10)]) ctX6_init_43 mqX6_init q86 (by decide) (Nat.le_of_ble_eq_true rfl) (k_resIN (av := []) (rest := [.ref (ad D 43), .int 15, .ref (ad D 10)]) rfl q235 q236 q237 mhX6_init mnX6_init dX5_init_44) ?_
  refine G_aast (cb := 5) (n := 44) (t := 6) (nb := 0) (by decide +kernel) (by decide) (by decide) rfl (by unfold vp_in; decide) (by decide +kernel) (by decide) rfl (k_asgS rfl) dX5_init_47 (fun F1 e1 => ?_)
  obtain rfl : F1 = cF 45 46 6420 := e1.trans (cF_wr 45 45 6420 (a := 10) (k := 15) (b := 43) rfl (by decide +kernel))
  refine V_iinc (j := 0) (v := 16) (l1 := [(1, .int 16), (0, .ref (ad D 9))]) dX5_init_48 rfl (by decide) (by decide) rfl ?_
  refine V_goto (tgt := 26) dX5_init_51 (by decide) ?_
  refine V_iload_n dX5_init_26 rfl 0 rfl ?_
  refine V_aload_n dX5_init_27 rfl 1 rfl ?_
  refine H_getr (b := 10) (n := 0) ck4 1 (by decide) (by decide +kernel) (by decide) rfl (by decide +kernel) q257 dX5_init_28 ?_
  refine V_alen (x := 44) (n := 44) (t := 6) (by decide +kernel) (by decide) rfl (by decide) dX5_init_31 ?_
  refine V_icmp_ge (tgt := 54) dX5_init_32 (by decide) (fun c => absurd c (by decide)) (fun _ => ?_)
  refine V_aload_n dX5_init_35 rfl 1 rfl ?_
  refine H_getr (b := 10) (n := 0) ck4 1 (by decide) (by decide +kernel) (by decide) rfl (by decide +kernel) q257 dX5_init_36 ?_
  refine V_iload_n dX5_init_39 rfl 0 rfl ?_
  refine G_new ck5 (by decide) k_df5 q232 q234 q86 dX5_init_40 (fun F1 h1 g1 e1 e2 e3 => ?_)
  obtain rfl : F1 = cF 46 46 6422 := e1.trans (cF_new 45 46 6420 2 (t := (15, 0)) rfl (by decide +kernel))
  obtain rfl : h1 = cH 0 := e2.trans (cH_new 0 45 (by decide +kernel))
  obtain rfl : g1 = cG := e3.trans (cG_new 45)
  refine V_dup dX5_init_43 rfl ?_
  refine C_call (av := [.ref (ad D 45)]) (rest := [.ref (ad D 45), .int 16, .ref (ad D 10)]) ctX6_init_45 mqX6_init q86 (by decide) (Nat.le_of_ble_eq_true rfl) (k_resIN (av := []) (rest := [.ref (ad D 45), .int 16, .ref (ad D 10)]) rfl q235 q236 q237 mhX6_init mnX6_init dX5_init_44) ?_
  refine G_aast (cb := 5) (n := 44) (t := 6) (nb := 0) (by decide +kernel) (by decide) (by decide) rfl (by unfold vp_in; decide) (by decide +kernel) (by decide) rfl (k_asgS rfl) dX5_init_47 (fun F1 e1 => ?_)
  obtain rfl : F1 = cF 47 48 6438 := e1.trans (cF_wr 47 47 6438 (a := 10) (k := 16) (b := 45) rfl (by decide +kernel))
  refine V_iinc (j := 0) (v := 17) (l1 := [(1, .int 17), (0, .ref (ad D 9))]) dX5_init_48 rfl (by decide) (by decide) rfl ?_
  refine V_goto (tgt := 26) dX5_init_51 (by decide) ?_
  refine V_iload_n dX5_init_26 rfl 0 rfl ?_
  refine V_aload_n dX5_init_27 rfl 1 rfl ?_
  refine H_getr (b := 10) (n := 0) ck4 1 (by decide) (by decide +kernel) (by decide) rfl (by decide +kernel) q257 dX5_init_28 ?_
  refine V_alen (x := 44) (n := 44) (t := 6) (by decide +kernel) (by decide) rfl (by decide) dX5_init_31 ?_
  refine V_icmp_ge (tgt := 54) dX5_init_32 (by decide) (fun c => absurd c (by decide)) (fun _ => ?_)
  refine V_aload_n dX5_init_35 rfl 1 rfl ?_
  refine H_getr (b := 10) (n := 0) ck4 1 (by decide) (by decide +kernel) (by decide) rfl (by decide +kernel) q257 dX5_init_36 ?_
  refine V_iload_n dX5_init_39 rfl 0 rfl ?_
  refine G_new ck5 (by decide) k_df5 q232 q234 q86 dX5_init_40 (fun F1 h1 g1 e1 e2 e3 => ?_)
  obtain rfl : F1 = cF 48 48 6440 := e1.trans (cF_new 47 48 6438 2 (t := (15, 0)) rfl (by decide +kernel))
  obtain rfl : h1 = cH 0 := e2.trans (cH_new 0 47 (by decide +kernel))
  obtain rfl : g1 = cG := e3.trans (cG_new 47)
  refine V_dup dX5_init_43 rfl ?_
  refine C_call (av := [.ref (ad D 47)]) (rest := [.ref (ad D 47), .int 17, .ref (ad D 10)]) ctX6_init_47 mqX6_init q86 (by decide) (Nat.le_of_ble_eq_true rfl) (k_resIN (av := []) (rest := [.ref (ad D 47), .int 17, .ref (ad D 10)]) rfl q235 q236 q237 mhX6_init mnX6_init dX5_init_44) ?_
  refine G_aast (cb := 5) (n := 44) (t := 6) (nb := 0) (by decide +kernel) (by decide) (by decide) rfl (by unfold vp_in; decide) (by decide +kernel) (by decide) rfl (k_asgS rfl) dX5_init_47 (fun F1 e1 => ?_)
  obtain rfl : F1 = cF 49 50 6456 := e1.trans (cF_wr 49 49 6456 (a := 10) (k := 17) (b := 47) rfl (by decide +kernel))
  refine V_iinc (j := 0) (v := 18) (l1 := [(1, .int 18), (0, .ref (ad D 9))]) dX5_init_48 rfl (by decide) (by decide) rfl ?_
  refine V_goto (tgt := 26) dX5_init_51 (by decide) ?_
  refine V_iload_n dX5_init_26 rfl 0 rfl ?_
  refine V_aload_n dX5_init_27 rfl 1 rfl ?_
  refine H_getr (b := 10) (n := 0) ck4 1 (by decide) (by decide +kernel) (by decide) rfl (by decide +kernel) q257 dX5_init_28 ?_
  refine V_alen (x := 44) (n := 44) (t := 6) (by decide +kernel) (by decide) rfl (by decide) dX5_init_31 ?_
  refine V_icmp_ge (tgt := 54) dX5_init_32 (by decide) (fun c => absurd c (by decide)) (fun _ => ?_)
  refine V_aload_n dX5_init_35 rfl 1 rfl ?_
  refine H_getr (b := 10) (n := 0) ck4 1 (by decide) (by decide +kernel) (by decide) rfl (by decide +kernel) q257 dX5_init_36 ?_
  refine V_iload_n dX5_init_39 rfl 0 rfl ?_
  refine G_new ck5 (by decide) k_df5 q232 q234 q86 dX5_init_40 (fun F1 h1 g1 e1 e2 e3 => ?_)
  obtain rfl : F1 = cF 50 50 6458 := e1.trans (cF_new 49 50 6456 2 (t := (15, 0)) rfl (by decide +kernel))
  obtain rfl : h1 = cH 0 := e2.trans (cH_new 0 49 (by decide +kernel))
  obtain rfl : g1 = cG := e3.trans (cG_new 49)
  refine V_dup dX5_init_43 rfl ?_
  refine C_call (av := [.ref (ad D 49)]) (rest := [.ref (ad D 49), .int 18, .ref (ad D 10)]) ctX6_init_49 mqX6_init q86 (by decide) (Nat.le_of_ble_eq_true rfl) (k_resIN (av := []) (rest := [.ref (ad D 49), .int 18, .ref (ad D 10)]) rfl q235 q236 q237 mhX6_init mnX6_init dX5_init_44) ?_
  refine G_aast (cb := 5) (n := 44) (t := 6) (nb := 0) (by decide +kernel) (by decide) (by decide) rfl (by unfold vp_in; decide) (by decide +kernel) (by decide) rfl (k_asgS rfl) dX5_init_47 (fun F1 e1 => ?_)
  obtain rfl : F1 = cF 51 52 6474 := e1.trans (cF_wr 51 51 6474 (a := 10) (k := 18) (b := 49) rfl (by decide +kernel))
  refine V_iinc (j := 0) (v := 19) (l1 := [(1, .int 19), (0, .ref (ad D 9))]) dX5_init_48 rfl (by decide) (by decide) rfl ?_
  refine V_goto (tgt := 26) dX5_init_51 (by decide) ?_
  refine V_iload_n dX5_init_26 rfl 0 rfl ?_
  refine V_aload_n dX5_init_27 rfl 1 rfl ?_
  refine H_getr (b := 10) (n := 0) ck4 1 (by decide) (by decide +kernel) (by decide) rfl (by decide +kernel) q257 dX5_init_28 ?_
  refine V_alen (x := 44) (n := 44) (t := 6) (by decide +kernel) (by decide) rfl (by decide) dX5_init_31 ?_
  refine V_icmp_ge (tgt := 54) dX5_init_32 (by decide) (fun c => absurd c (by decide)) (fun _ => ?_)
  refine V_aload_n dX5_init_35 rfl 1 rfl ?_
  refine H_getr (b := 10) (n := 0) ck4 1 (by decide) (by decide +kernel) (by decide) rfl (by decide +kernel) q257 dX5_init_36 ?_
  refine V_iload_n dX5_init_39 rfl 0 rfl ?_
  refine G_new ck5 (by decide) k_df5 q232 q234 q86 dX5_init_40 (fun F1 h1 g1 e1 e2 e3 => ?_)
  obtain rfl : F1 = cF 52 52 6476 := e1.trans (cF_new 51 52 6474 2 (t := (15, 0)) rfl (by decide +kernel))
  obtain rfl : h1 = cH 0 := e2.trans (cH_new 0 51 (by decide +kernel))
  obtain rfl : g1 = cG := e3.trans (cG_new 51)
  refine V_dup dX5_init_43 rfl ?_
  refine C_call (av := [.ref (ad D 51)]) (rest := [.ref (ad D 51), .int 19, .ref (ad D 10)]) ctX6_init_51 mqX6_init q86 (by decide) (Nat.le_of_ble_eq_true rfl) (k_resIN (av := []) (rest := [.ref (ad D 51), .int 19, .ref (ad D 10)]) rfl q235 q236 q237 mhX6_init mnX6_init dX5_init_44) ?_
  refine G_aast (cb := 5) (n := 44) (t := 6) (nb := 0) (by decide +kernel) (by decide) (by decide) rfl (by unfold vp_in; decide) (by decide +kernel) (by decide) rfl (k_asgS rfl) dX5_init_47 (fun F1 e1 => ?_)
  obtain rfl : F1 = cF 53 54 6492 := e1.trans (cF_wr 53 53 6492 (a := 10) (k := 19) (b := 51) rfl (by decide +kernel))
  refine V_iinc (j := 0) (v := 20) (l1 := [(1, .int 20), (0, .ref (ad D 9))]) dX5_init_48 rfl (by decide) (by decide) rfl ?_
  refine V_goto (tgt := 26) dX5_init_51 (by decide) ?_
  refine V_iload_n dX5_init_26 rfl 0 rfl ?_
  refine V_aload_n dX5_init_27 rfl 1 rfl ?_
  refine H_getr (b := 10) (n := 0) ck4 1 (by decide) (by decide +kernel) (by decide) rfl (by decide +kernel) q257 dX5_init_28 ?_
  refine V_alen (x := 44) (n := 44) (t := 6) (by decide +kernel) (by decide) rfl (by decide) dX5_init_31 ?_
  refine V_icmp_ge (tgt := 54) dX5_init_32 (by decide) (fun c => absurd c (by decide)) (fun _ => ?_)
  refine V_aload_n dX5_init_35 rfl 1 rfl ?_
  refine H_getr (b := 10) (n := 0) ck4 1 (by decide) (by decide +kernel) (by decide) rfl (by decide +kernel) q257 dX5_init_36 ?_
  refine V_iload_n dX5_init_39 rfl 0 rfl ?_
  refine G_new ck5 (by decide) k_df5 q232 q234 q86 dX5_init_40 (fun F1 h1 g1 e1 e2 e3 => ?_)
  obtain rfl : F1 = cF 54 54 6494 := e1.trans (cF_new 53 54 6492 2 (t := (15, 0)) rfl (by decide +kernel))
  obtain rfl : h1 = cH 0 := e2.trans (cH_new 0 53 (by decide +kernel))
  obtain rfl : g1 = cG := e3.trans (cG_new 53)
  refine V_dup dX5_init_43 rfl ?_
  refine C_call (av := [.ref (ad D 53)]) (rest := [.ref (ad D 53), .int 20, .ref (ad D 10)]) ctX6_init_53 mqX6_init q86 (by decide) (Nat.le_of_ble_eq_true rfl) (k_resIN (av := []) (rest := [.ref (ad D 53), .int 20, .ref (ad D 10)]) rfl q235 q236 q237 mhX6_init mnX6_init dX5_init_44) ?_
  refine G_aast (cb := 5) (n := 44) (t := 6) (nb := 0) (by decide +kernel) (by decide) (by decide) rfl (by unfold vp_in; decide) (by decide +kernel) (by decide) rfl (k_asgS rfl) dX5_init_47 (fun F1 e1 => ?_)
  obtain rfl : F1 = cF 55 56 6510 := e1.trans (cF_wr 55 55 6510 (a := 10) (k := 20) (b := 53) rfl (by decide +kernel))
  refine V_iinc (j := 0) (v := 21) (l1 := [(1, .int 21), (0, .ref (ad D 9))]) dX5_init_48 rfl (by decide) (by decide) rfl ?_
  refine V_goto (tgt := 26) dX5_init_51 (by decide) ?_
  refine V_iload_n dX5_init_26 rfl 0 rfl ?_
  refine V_aload_n dX5_init_27 rfl 1 rfl ?_
  refine H_getr (b := 10) (n := 0) ck4 1 (by decide) (by decide +kernel) (by decide) rfl (by decide +kernel) q257 dX5_init_28 ?_
  refine V_alen (x := 44) (n := 44) (t := 6) (by decide +kernel) (by decide) rfl (by decide) dX5_init_31 ?_
  refine V_icmp_ge (tgt := 54) dX5_init_32 (by decide) (fun c => absurd c (by decide)) (fun _ => ?_)
  refine V_aload_n dX5_init_35 rfl 1 rfl ?_
  refine H_getr (b := 10) (n := 0) ck4 1 (by decide) (by decide +kernel) (by decide) rfl (by decide +kernel) q257 dX5_init_36 ?_
  refine V_iload_n dX5_init_39 rfl 0 rfl ?_
  refine G_new ck5 (by decide) k_df5 q232 q234 q86 dX5_init_40 (fun F1 h1 g1 e1 e2 e3 => ?_)
  obtain rfl : F1 = cF 56 56 6512 := e1.trans (cF_new 55 56 6510 2 (t := (15, 0)) rfl (by decide +kernel))
  obtain rfl : h1 = cH 0 := e2.trans (cH_new 0 55 (by decide +kernel))
  obtain rfl : g1 = cG := e3.trans (cG_new 55)
  refine V_dup dX5_init_43 rfl ?_
  refine C_call (av := [.ref (ad D 55)]) (rest := [.ref (ad D 55), .int 21, .ref (ad D 10)]) ctX6_init_55 mqX6_init q86 (by decide) (Nat.le_of_ble_eq_true rfl) (k_resIN (av := []) (rest := [.ref (ad D 55), .int 21, .ref (ad D 10)]) rfl q235 q236 q237 mhX6_init mnX6_init dX5_init_44) ?_
  refine G_aast (cb := 5) (n := 44) (t := 6) (nb := 0) (by decide +kernel) (by decide) (by decide) rfl (by unfold vp_in; decide) (by decide +kernel) (by decide) rfl (k_asgS rfl) dX5_init_47 (fun F1 e1 => ?_)
  obtain rfl : F1 = cF 57 58 6528 := e1.trans (cF_wr 57 57 6528 (a := 10) (k := 21) (b := 55) rfl (by decide +kernel))
  refine V_iinc (j := 0) (v := 22) (l1 := [(1, .int 22), (0, .ref (ad D 9))]) dX5_init_48 rfl (by decide) (by decide) rfl ?_
  refine V_goto (tgt := 26) dX5_init_51 (by decide) ?_
  refine V_iload_n dX5_init_26 rfl 0 rfl ?_
  refine V_aload_n dX5_init_27 rfl 1 rfl ?_
  refine H_getr (b := 10) (n := 0) ck4 1 (by decide) (by decide +kernel) (by decide) rfl (by decide +kernel) q257 dX5_init_28 ?_
  refine V_alen (x := 44) (n := 44) (t := 6) (by decide +kernel) (by decide) rfl (by decide) dX5_init_31 ?_
  refine V_icmp_ge (tgt := 54) dX5_init_32 (by decide) (fun c => absurd c (by decide)) (fun _ => ?_)
  refine V_aload_n dX5_init_35 rfl 1 rfl ?_
  refine H_getr (b := 10) (n := 0) ck4 1 (by decide) (by decide +kernel) (by decide) rfl (by decide +kernel) q257 dX5_init_36 ?_
  refine V_iload_n dX5_init_39 rfl 0 rfl ?_
  refine G_new ck5 (by decide) k_df5 q232 q234 q86 dX5_init_40 (fun F1 h1 g1 e1 e2 e3 => ?_)
  obtain rfl : F1 = cF 58 58 6530 := e1.trans (cF_new 57 58 6528 2 (t := (15, 0)) rfl (by decide +kernel))
  obtain rfl : h1 = cH 0 := e2.trans (cH_new 0 57 (by decide +kernel))
  obtain rfl : g1 = cG := e3.trans (cG_new 57)
  refine V_dup dX5_init_43 rfl ?_
  refine C_call (av := [.ref (ad D 57)]) (rest := [.ref (ad D 57), .int 22, .ref (ad D 10)]) ctX6_init_57 mqX6_init q86 (by decide) (Nat.le_of_ble_eq_true rfl) (k_resIN (av := []) (rest := [.ref (ad D 57), .int 22, .ref (ad D 10)]) rfl q235 q236 q237 mhX6_init mnX6_init dX5_init_44) ?_
  refine G_aast (cb := 5) (n := 44) (t := 6) (nb := 0) (by decide +kernel) (by decide) (by decide) rfl (by unfold vp_in; decide) (by decide +kernel) (by decide) rfl (k_asgS rfl) dX5_init_47 (fun F1 e1 => ?_)
  obtain rfl : F1 = cF 59 60 6546 := e1.trans (cF_wr 59 59 6546 (a := 10) (k := 22) (b := 57) rfl (by decide +kernel))
  refine V_iinc (j := 0) (v := 23) (l1 := [(1, .int 23), (0, .ref (ad D 9))]) dX5_init_48 rfl (by decide) (by decide) rfl ?_
  refine V_goto (tgt := 26) dX5_init_51 (by decide) ?_
  refine V_iload_n dX5_init_26 rfl 0 rfl ?_
  refine V_aload_n dX5_init_27 rfl 1 rfl ?_
  refine H_getr (b := 10) (n := 0) ck4 1 (by decide) (by decide +kernel) (by decide) rfl (by decide +kernel) q257 dX5_init_28 ?_
  refine V_alen (x := 44) (n := 44) (t := 6) (by decide +kernel) (by decide) rfl (by decide) dX5_init_31 ?_
  refine V_icmp_ge (tgt := 54) dX5_init_32 (by decide) (fun c => absurd c (by decide)) (fun _ => ?_)
  refine V_aload_n dX5_init_35 rfl 1 rfl ?_
  refine H_getr (b := 10) (n := 0) ck4 1 (by decide) (by decide +kernel) (by decide) rfl (by decide +kernel) q257 dX5_init_36 ?_
  refine V_iload_n dX5_init_39 rfl 0 rfl ?_
  refine G_new ck5 (by decide) k_df5 q232 q234 q86 dX5_init_40 (fun F1 h1 g1 e1 e2 e3 => ?_)
  obtain rfl : F1 = cF 60 60 6548 := e1.trans (cF_new 59 60 6546 2 (t := (15, 0)) rfl (by decide +kernel))
  obtain rfl : h1 = cH 0 := e2.trans (cH_new 0 59 (by decide +kernel))
  obtain rfl : g1 = cG := e3.trans (cG_new 59)
  refine V_dup dX5_init_43 rfl ?_
  refine C_call (av := [.ref (ad D 59)]) (rest := [.ref (ad D 59), .int 23, .ref (ad D 10)]) ctX6_init_59 mqX6_init q86 (by decide) (Nat.le_of_ble_eq_true rfl) (k_resIN (av := []) (rest := [.ref (ad D 59), .int 23, .ref (ad D 10)]) rfl q235 q236 q237 mhX6_init mnX6_init dX5_init_44) ?_
  refine G_aast (cb := 5) (n := 44) (t := 6) (nb := 0) (by decide +kernel) (by decide) (by decide) rfl (by unfold vp_in; decide) (by decide +kernel) (by decide) rfl (k_asgS rfl) dX5_init_47 (fun F1 e1 => ?_)
  obtain rfl : F1 = cF 61 62 6564 := e1.trans (cF_wr 61 61 6564 (a := 10) (k := 23) (b := 59) rfl (by decide +kernel))
  refine V_iinc (j := 0) (v := 24) (l1 := [(1, .int 24), (0, .ref (ad D 9))]) dX5_init_48 rfl (by decide) (by decide) rfl ?_
  refine V_goto (tgt := 26) dX5_init_51 (by decide) ?_
  refine V_iload_n dX5_init_26 rfl 0 rfl ?_
  refine V_aload_n dX5_init_27 rfl 1 rfl ?_
  refine H_getr (b := 10) (n := 0) ck4 1 (by decide) (by decide +kernel) (by decide) rfl (by decide +kernel) q257 dX5_init_28 ?_
  refine V_alen (x := 44) (n := 44) (t := 6) (by decide +kernel) (by decide) rfl (by decide) dX5_init_31 ?_
  refine V_icmp_ge (tgt := 54) dX5_init_32 (by decide) (fun c => absurd c (by decide)) (fun _ => ?_)
  refine V_aload_n dX5_init_35 rfl 1 rfl ?_
  refine H_getr (b := 10) (n := 0) ck4 1 (by decide) (by decide +kernel) (by decide) rfl (by decide +kernel) q257 dX5_init_36 ?_
  refine V_iload_n dX5_init_39 rfl 0 rfl ?_
  refine G_new ck5 (by decide) k_df5 q232 q234 q86 dX5_init_40 (fun F1 h1 g1 e1 e2 e3 => ?_)
  obtain rfl : F1 = cF 62 62 6566 := e1.trans (cF_new 61 62 6564 2 (t := (15, 0)) rfl (by decide +kernel))
  obtain rfl : h1 = cH 0 := e2.trans (cH_new 0 61 (by decide +kernel))
  obtain rfl : g1 = cG := e3.trans (cG_new 61)
  refine V_dup dX5_init_43 rfl ?_
  refine C_call (av := [.ref (ad D 61)]) (rest := [.ref (ad D 61), .int 24, .ref (ad D 10)]) ctX6_init_61 mqX6_init q86 (by decide) (Nat.le_of_ble_eq_true rfl) (k_resIN (av := []) (rest := [.ref (ad D 61), .int 24, .ref (ad D 10)]) rfl q235 q236 q237 mhX6_init mnX6_init dX5_init_44) ?_
  refine G_aast (cb := 5) (n := 44) (t := 6) (nb := 0) (by decide +kernel) (by decide) (by decide) rfl (by unfold vp_in; decide) (by decide +kernel) (by decide) rfl (k_asgS rfl) dX5_init_47 (fun F1 e1 => ?_)
  obtain rfl : F1 = cF 63 64 6582 := e1.trans (cF_wr 63 63 6582 (a := 10) (k := 24) (b := 61) rfl (by decide +kernel))
  refine V_iinc (j := 0) (v := 25) (l1 := [(1, .int 25), (0, .ref (ad D 9))]) dX5_init_48 rfl (by decide) (by decide) rfl ?_
  refine V_goto (tgt := 26) dX5_init_51 (by decide) ?_
  refine V_iload_n dX5_init_26 rfl 0 rfl ?_
  refine V_aload_n dX5_init_27 rfl 1 rfl ?_
  refine H_getr (b := 10) (n := 0) ck4 1 (by decide) (by decide +kernel) (by decide) rfl (by decide +kernel) q257 dX5_init_28 ?_
  refine V_alen (x := 44) (n := 44) (t := 6) (by decide +kernel) (by decide) rfl (by decide) dX5_init_31 ?_
  refine V_icmp_ge (tgt := 54) dX5_init_32 (by decide) (fun c => absurd c (by decide)) (fun _ => ?_)
  refine V_aload_n dX5_init_35 rfl 1 rfl ?_
  refine H_getr (b := 10) (n := 0) ck4 1 (by decide) (by decide +kernel) (by decide) rfl (by decide +kernel) q257 dX5_init_36 ?_
  refine V_iload_n dX5_init_39 rfl 0 rfl ?_
  refine G_new ck5 (by decide) k_df5 q232 q234 q86 dX5_init_40 (fun F1 h1 g1 e1 e2 e3 => ?_)
  obtain rfl : F1 = cF 64 64 6584 := e1.trans (cF_new 63 64 6582 2 (t := (15, 0)) rfl (by decide +kernel))
  obtain rfl : h1 = cH 0 := e2.trans (cH_new 0 63 (by decide +kernel))
  obtain rfl : g1 = cG := e3.trans (cG_new 63)
  refine V_dup dX5_init_43 rfl ?_
  refine C_call (av := [.ref (ad D 63)]) (rest := [.ref (ad D 63), .int 25, .ref (ad D 10)]) ctX6_init_63 mqX6_init q86 (by decide) (Nat.le_of_ble_eq_true rfl) (k_resIN (av := []) (rest := [.ref (ad D 63), .int 25, .ref (ad D 10)]) rfl q235 q236 q237 mhX6_init mnX6_init dX5_init_44) ?_
  refine G_aast (cb := 5) (n := 44) (t := 6) (nb := 0) (by decide +kernel) (by decide) (by decide) rfl (by unfold vp_in; decide) (by decide +kernel) (by decide) rfl (k_asgS rfl) dX5_init_47 (fun F1 e1 => ?_)
  obtain rfl : F1 = cF 65 66 6600 := e1.trans (cF_wr 65 65 6600 (a := 10) (k := 25) (b := 63) rfl (by decide +kernel))
  refine V_iinc (j := 0) (v := 26) (l1 := [(1, .int 26), (0, .ref (ad D 9))]) dX5_init_48 rfl (by decide) (by decide) rfl ?_
  refine V_goto (tgt := 26) dX5_init_51 (by decide) ?_
  refine V_iload_n dX5_init_26 rfl 0 rfl ?_
  refine V_aload_n dX5_init_27 rfl 1 rfl ?_
  refine H_getr (b := 10) (n := 0) ck4 1 (by decide) (by decide +kernel) (by decide) rfl (by decide +kernel) q257 dX5_init_28 ?_
  refine V_alen (x := 44) (n := 44) (t := 6) (by decide +kernel) (by decide) rfl (by decide) dX5_init_31 ?_
  refine V_icmp_ge (tgt := 54) dX5_init_32 (by decide) (fun c => absurd c (by decide)) (fun _ => ?_)
  refine V_aload_n dX5_init_35 rfl 1 rfl ?_
  refine H_getr (b := 10) (n := 0) ck4 1 (by decide) (by decide +kernel) (by decide) rfl (by decide +kernel) q257 dX5_init_36 ?_
  refine V_iload_n dX5_init_39 rfl 0 rfl ?_
  refine G_new ck5 (by decide) k_df5 q232 q234 q86 dX5_init_40 (fun F1 h1 g1 e1 e2 e3 => ?_)
  obtain rfl : F1 = cF 66 66 6602 := e1.trans (cF_new 65 66 6600 2 (t := (15, 0)) rfl (by decide +kernel))
  obtain rfl : h1 = cH 0 := e2.trans (cH_new 0 65 (by decide +kernel))
  obtain rfl : g1 = cG := e3.trans (cG_new 65)
  refine V_dup dX5_init_43 rfl ?_
  refine C_call (av := [.ref (ad D 65)]) (rest := [.ref (ad D 65), .int 26, .ref (ad D 10)]) ctX6_init_65 mqX6_init q86 (by decide) (Nat.le_of_ble_eq_true rfl) (k_resIN (av := []) (rest := [.ref (ad D 65), .int 26, .ref (ad D 10)]) rfl q235 q236 q237 mhX6_init mnX6_init dX5_init_44) ?_
  refine G_aast (cb := 5) (n := 44) (t := 6) (nb := 0) (by decide +kernel) (by decide) (by decide) rfl (by unfold vp_in; decide) (by decide +kernel) (by decide) rfl (k_asgS rfl) dX5_init_47 (fun F1 e1 => ?_)
  obtain rfl : F1 = cF 67 68 6618 := e1.trans (cF_wr 67 67 6618 (a := 10) (k := 26) (b := 65) rfl (by decide +kernel))
  refine V_iinc (j := 0) (v := 27) (l1 := [(1, .int 27), (0, .ref (ad D 9))]) dX5_init_48 rfl (by decide) (by decide) rfl ?_
  refine V_goto (tgt := 26) dX5_init_51 (by decide) ?_
  refine V_iload_n dX5_init_26 rfl 0 rfl ?_
  refine V_aload_n dX5_init_27 rfl 1 rfl ?_
  refine H_getr (b := 10) (n := 0) ck4 1 (by decide) (by decide +kernel) (by decide) rfl (by decide +kernel) q257 dX5_init_28 ?_
  refine V_alen (x := 44) (n := 44) (t := 6) (by decide +kernel) (by decide) rfl (by decide) dX5_init_31 ?_
  refine V_icmp_ge (tgt := 54) dX5_init_32 (by decide) (fun c => absurd c (by decide)) (fun _ => ?_)
  refine V_aload_n dX5_init_35 rfl 1 rfl ?_
  refine H_getr (b := 10) (n := 0) ck4 1 (by decide) (by decide +kernel) (by decide) rfl (by decide +kernel) q257 dX5_init_36 ?_
  refine V_iload_n dX5_init_39 rfl 0 rfl ?_
  refine G_new ck5 (by decide) k_df5 q232 q234 q86 dX5_init_40 (fun F1 h1 g1 e1 e2 e3 => ?_)
  obtain rfl : F1 = cF 68 68 6620 := e1.trans (cF_new 67 68 6618 2 (t := (15, 0)) rfl (by decide +kernel))
  obtain rfl : h1 = cH 0 := e2.trans (cH_new 0 67 (by decide +kernel))
  obtain rfl : g1 = cG := e3.trans (cG_new 67)
  refine V_dup dX5_init_43 rfl ?_
  refine C_call (av := [.ref (ad D 67)]) (rest := [.ref (ad D 67), .int 27, .ref (ad D 10)]) ctX6_init_67 mqX6_init q86 (by decide) (Nat.le_of_ble_eq_true rfl) (k_resIN (av := []) (rest := [.ref (ad D 67), .int 27, .ref (ad D 10)]) rfl q235 q236 q237 mhX6_init mnX6_init dX5_init_44) ?_
  refine G_aast (cb := 5) (n := 44) (t := 6) (nb := 0) (by decide +kernel) (by decide) (by decide) rfl (by unfold vp_in; decide) (by decide +kernel) (by decide) rfl (k_asgS rfl) dX5_init_47 (fun F1 e1 => ?_)
  obtain rfl : F1 = cF 69 70 6636 := e1.trans (cF_wr 69 69 6636 (a := 10) (k := 27) (b := 67) rfl (by decide +kernel))
  refine V_iinc (j := 0) (v := 28) (l1 := [(1, .int 28), (0, .ref (ad D 9))]) dX5_init_48 rfl (by decide) (by decide) rfl ?_
  refine V_goto (tgt := 26) dX5_init_51 (by decide) ?_
  refine V_iload_n dX5_init_26 rfl 0 rfl ?_
  refine V_aload_n dX5_init_27 rfl 1 rfl ?_
  refine H_getr (b := 10) (n := 0) ck4 1 (by decide) (by decide +kernel) (by decide) rfl (by decide +kernel) q257 dX5_init_28 ?_
  refine V_alen (x := 44) (n := 44) (t := 6) (by decide +kernel) (by decide) rfl (by decide) dX5_init_31 ?_
  refine V_icmp_ge (tgt := 54) dX5_init_32 (by decide) (fun c => absurd c (by decide)) (fun _ => ?_)
  refine V_aload_n dX5_init_35 rfl 1 rfl ?_
  refine H_getr (b := 10) (n := 0) ck4 1 (by decide) (by decide +kernel) (by decide) rfl (by decide +kernel) q257 dX5_init_36 ?_
  refine V_iload_n dX5_init_39 rfl 0 rfl ?_
  refine G_new ck5 (by decide) k_df5 q232 q234 q86 dX5_init_40 (fun F1 h1 g1 e1 e2 e3 => ?_)
  obtain rfl : F1 = cF 70 70 6638 := e1.trans (cF_new 69 70 6636 2 (t := (15, 0)) rfl (by decide +kernel))
  obtain rfl : h1 = cH 0 := e2.trans (cH_new 0 69 (by decide +kernel))
  obtain rfl : g1 = cG := e3.trans (cG_new 69)
  refine V_dup dX5_init_43 rfl ?_
  refine C_call (av := [.ref (ad D 69)]) (rest := [.ref (ad D 69), .int 28, .ref (ad D 10)]) ctX6_init_69 mqX6_init q86 (by decide) (Nat.le_of_ble_eq_true rfl) (k_resIN (av := []) (rest := [.ref (ad D 69), .int 28, .ref (ad D 10)]) rfl q235 q236 q237 mhX6_init mnX6_init dX5_init_44) ?_
  refine G_aast (cb := 5) (n := 44) (t := 6) (nb := 0) (by decide +kernel) (by decide) (by decide) rfl (by unfold vp_in; decide) (by decide +kernel) (by decide) rfl (k_asgS rfl) dX5_init_47 (fun F1 e1 => ?_)
  obtain rfl : F1 = cF 71 72 6654 := e1.trans (cF_wr 71 71 6654 (a := 10) (k := 28) (b := 69) rfl (by decide +kernel))
  refine V_iinc (j := 0) (v := 29) (l1 := [(1, .int 29), (0, .ref (ad D 9))]) dX5_init_48 rfl (by decide) (by decide) rfl ?_
  refine V_goto (tgt := 26) dX5_init_51 (by decide) ?_
  refine V_iload_n dX5_init_26 rfl 0 rfl ?_
  refine V_aload_n dX5_init_27 rfl 1 rfl ?_
  refine H_getr (b := 10) (n := 0) ck4 1 (by decide) (by decide +kernel) (by decide) rfl (by decide +kernel) q257 dX5_init_28 ?_
  refine V_alen (x := 44) (n := 44) (t := 6) (by decide +kernel) (by decide) rfl (by decide) dX5_init_31 ?_
  refine V_icmp_ge (tgt := 54) dX5_init_32 (by decide) (fun c => absurd c (by decide)) (fun _ => ?_)
  refine V_aload_n dX5_init_35 rfl 1 rfl ?_
  refine H_getr (b := 10) (n := 0) ck4 1 (by decide) (by decide +kernel) (by decide) rfl (by decide +kernel) q257 dX5_init_36 ?_
  refine V_iload_n dX5_init_39 rfl 0 rfl ?_
  refine G_new ck5 (by decide) k_df5 q232 q234 q86 dX5_init_40 (fun F1 h1 g1 e1 e2 e3 => ?_)
  obtain rfl : F1 = cF 72 72 6656 := e1.trans (cF_new 71 72 6654 2 (t := (15, 0)) rfl (by decide +kernel))
  obtain rfl : h1 = cH 0 := e2.trans (cH_new 0 71 (by decide +kernel))
  obtain rfl : g1 = cG := e3.trans (cG_new 71)
  refine V_dup dX5_init_43 rfl ?_
  refine C_call (av := [.ref (ad D 71)]) (rest := [.ref (ad D 71), .int 29, .ref (ad D 10)]) ctX6_init_71 mqX6_init q86 (by decide) (Nat.le_of_ble_eq_true rfl) (k_resIN (av := []) (rest := [.ref (ad D 71), .int 29, .ref (ad D 10)]) rfl q235 q236 q237 mhX6_init mnX6_init dX5_init_44) ?_
  refine G_aast (cb := 5) (n := 44) (t := 6) (nb := 0) (by decide +kernel) (by decide) (by decide) rfl (by unfold vp_in; decide) (by decide +kernel) (by decide) rfl (k_asgS rfl) dX5_init_47 (fun F1 e1 => ?_)
  obtain rfl : F1 = cF 73 74 6672 := e1.trans (cF_wr 73 73 6672 (a := 10) (k := 29) (b := 71) rfl (by decide +kernel))
  refine V_iinc (j := 0) (v := 30) (l1 := [(1, .int 30), (0, .ref (ad D 9))]) dX5_init_48 rfl (by decide) (by decide) rfl ?_
  refine V_goto (tgt := 26) dX5_init_51 (by decide) ?_
  refine V_iload_n dX5_init_26 rfl 0 rfl ?_
  refine V_aload_n dX5_init_27 rfl 1 rfl ?_
  refine H_getr (b := 10) (n := 0) ck4 1 (by decide) (by decide +kernel) (by decide) rfl (by decide +kernel) q257 dX5_init_28 ?_
  refine V_alen (x := 44) (n := 44) (t := 6) (by decide +kernel) (by decide) rfl (by decide) dX5_init_31 ?_
  refine V_icmp_ge (tgt := 54) dX5_init_32 (by decide) (fun c => absurd c (by decide)) (fun _ => ?_)
  refine V_aload_n dX5_init_35 rfl 1 rfl ?_
  refine H_getr (b := 10) (n := 0) ck4 1 (by decide) (by decide +kernel) (by decide) rfl (by decide +kernel) q257 dX5_init_36 ?_
  refine V_iload_n dX5_init_39 rfl 0 rfl ?_
  refine G_new ck5 (by decide) k_df5 q232 q234 q86 dX5_init_40 (fun F1 h1 g1 e1 e2 e3 => ?_)
  obtain rfl : F1 = cF 74 74 6674 := e1.trans (cF_new 73 74 6672 2 (t := (15, 0)) rfl (by decide +kernel))
  obtain rfl : h1 = cH 0 := e2.trans (cH_new 0 73 (by decide +kernel))
  obtain rfl : g1 = cG := e3.trans (cG_new 73)
  refine V_dup dX5_init_43 rfl ?_
  refine C_call (av := [.ref (ad D 73)]) (rest := [.ref (ad D 73), .int 30, .ref (ad D 10)]) ctX6_init_73 mqX6_init q86 (by decide) (Nat.le_of_ble_eq_true rfl) (k_resIN (av := []) (rest := [.ref (ad D 73), .int 30, .ref (ad D 10)]) rfl q235 q236 q237 mhX6_init mnX6_init dX5_init_44) ?_
  refine G_aast (cb := 5) (n := 44) (t := 6) (nb := 0) (by decide +kernel) (by decide) (by decide) rfl (by unfold vp_in; decide) (by decide +kernel) (by decide) rfl (k_asgS rfl) dX5_init_47 (fun F1 e1 => ?_)
  obtain rfl : F1 = cF 75 76 6690 := e1.trans (cF_wr 75 75 6690 (a := 10) (k := 30) (b := 73) rfl (by decide +kernel))
  refine V_iinc (j := 0) (v := 31) (l1 := [(1, .int 31), (0, .ref (ad D 9))]) dX5_init_48 rfl (by decide) (by decide) rfl ?_
  refine V_goto (tgt := 26) dX5_init_51 (by decide) ?_
  refine V_iload_n dX5_init_26 rfl 0 rfl ?_
  refine V_aload_n dX5_init_27 rfl 1 rfl ?_
  refine H_getr (b := 10) (n := 0) ck4 1 (by decide) (by decide +kernel) (by decide) rfl (by decide +kernel) q257 dX5_init_28 ?_
  refine V_alen (x := 44) (n := 44) (t := 6) (by decide +kernel) (by decide) rfl (by decide) dX5_init_31 ?_
  refine V_icmp_ge (tgt := 54) dX5_init_32 (by decide) (fun c => absurd c (by decide)) (fun _ => ?_)
  refine V_aload_n dX5_init_35 rfl 1 rfl ?_
  refine H_getr (b := 10) (n := 0) ck4 1 (by decide) (by decide +kernel) (by decide) rfl (by decide +kernel) q257 dX5_init_36 ?_
  refine V_iload_n dX5_init_39 rfl 0 rfl ?_
  refine G_new ck5 (by decide) k_df5 q232 q234 q86 dX5_init_40 (fun F1 h1 g1 e1 e2 e3 => ?_)
  obtain rfl : F1 = cF 76 76 6692 := e1.trans (cF_new 75 76 6690 2 (t := (15, 0)) rfl (by decide +kernel))
  obtain rfl : h1 = cH 0 := e2.trans (cH_new 0 75 (by decide +kernel))
  obtain rfl : g1 = cG := e3.trans (cG_new 75)
  refine V_dup dX5_init_43 rfl ?_
  refine C_call (av := [.ref (ad D 75)]) (rest := [.ref (ad D 75), .int 31, .ref (ad D 10)]) ctX6_init_75 mqX6_init q86 (by decide) (Nat.le_of_ble_eq_true rfl) (k_resIN (av := []) (rest := [.ref (ad D 75), .int 31, .ref (ad D 10)]) rfl q235 q236 q237 mhX6_init mnX6_init dX5_init_44) ?_
  refine G_aast (cb := 5) (n := 44) (t := 6) (nb := 0) (by decide +kernel) (by decide) (by decide) rfl (by unfold vp_in; decide) (by decide +kernel) (by decide) rfl (k_asgS rfl) dX5_init_47 (fun F1 e1 => ?_)
  obtain rfl : F1 = cF 77 78 6708 := e1.trans (cF_wr 77 77 6708 (a := 10) (k := 31) (b := 75) rfl (by decide +kernel))
  refine V_iinc (j := 0) (v := 32) (l1 := [(1, .int 32), (0, .ref (ad D 9))]) dX5_init_48 rfl (by decide) (by decide) rfl ?_
  refine V_goto (tgt := 26) dX5_init_51 (by decide) ?_
  refine V_iload_n dX5_init_26 rfl 0 rfl ?_
  refine V_aload_n dX5_init_27 rfl 1 rfl ?_
  refine H_getr (b := 10) (n := 0) ck4 1 (by decide) (by decide +kernel) (by decide) rfl (by decide +kernel) q257 dX5_init_28 ?_
  refine V_alen (x := 44) (n := 44) (t := 6) (by decide +kernel) (by decide) rfl (by decide) dX5_init_31 ?_
  refine V_icmp_ge (tgt := 54) dX5_init_32 (by decide) (fun c => absurd c (by decide)) (fun _ => ?_)
  refine V_aload_n dX5_init_35 rfl 1 rfl ?_
  refine H_getr (b := 10) (n := 0) ck4 1 (by decide) (by decide +kernel) (by decide) rfl (by decide +kernel) q257 dX5_init_36 ?_
  refine V_iload_n dX5_init_39 rfl 0 rfl ?_
  refine G_new ck5 (by decide) k_df5 q232 q234 q86 dX5_init_40 (fun F1 h1 g1 e1 e2 e3 => ?_)
  obtain rfl : F1 = cF 78 78 6710 := e1.trans (cF_new 77 78 6708 2 (t := (15, 0)) rfl (by decide +kernel))
  obtain rfl : h1 = cH 0 := e2.trans (cH_new 0 77 (by decide +kernel))
  obtain rfl : g1 = cG := e3.trans (cG_new 77)
  refine V_dup dX5_init_43 rfl ?_
  refine C_call (av := [.ref (ad D 77)]) (rest := [.ref (ad D 77), .int 32, .ref (ad D 10)]) ctX6_init_77 mqX6_init q86 (by decide) (Nat.le_of_ble_eq_true rfl) (k_resIN (av := []) (rest := [.ref (ad D 77), .int 32, .ref (ad D 10)]) rfl q235 q236 q237 mhX6_init mnX6_init dX5_init_44) ?_
  refine G_aast (cb := 5) (n := 44) (t := 6) (nb := 0) (by decide +kernel) (by decide) (by decide) rfl (by unfold vp_in; decide) (by decide +kernel) (by decide) rfl (k_asgS rfl) dX5_init_47 (fun F1 e1 => ?_)
  obtain rfl : F1 = cF 79 80 6726 := e1.trans (cF_wr 79 79 6726 (a := 10) (k := 32) (b := 77) rfl (by decide +kernel))
  refine V_iinc (j := 0) (v := 33) (l1 := [(1, .int 33), (0, .ref (ad D 9))]) dX5_init_48 rfl (by decide) (by decide) rfl ?_
  refine V_goto (tgt := 26) dX5_init_51 (by decide) ?_
  refine V_iload_n dX5_init_26 rfl 0 rfl ?_
  refine V_aload_n dX5_init_27 rfl 1 rfl ?_
  refine H_getr (b := 10) (n := 0) ck4 1 (by decide) (by decide +kernel) (by decide) rfl (by decide +kernel) q257 dX5_init_28 ?_
  refine V_alen (x := 44) (n := 44) (t := 6) (by decide +kernel) (by decide) rfl (by decide) dX5_init_31 ?_
  refine V_icmp_ge (tgt := 54) dX5_init_32 (by decide) (fun c => absurd c (by decide)) (fun _ => ?_)
  refine V_aload_n dX5_init_35 rfl 1 rfl ?_
  refine H_getr (b := 10) (n := 0) ck4 1 (by decide) (by decide +kernel) (by decide) rfl (by decide +kernel) q257 dX5_init_36 ?_
  refine V_iload_n dX5_init_39 rfl 0 rfl ?_
  refine G_new ck5 (by decide) k_df5 q232 q234 q86 dX5_init_40 (fun F1 h1 g1 e1 e2 e3 => ?_)
  obtain rfl : F1 = cF 80 80 6728 := e1.trans (cF_new 79 80 6726 2 (t := (15, 0)) rfl (by decide +kernel))
  obtain rfl : h1 = cH 0 := e2.trans (cH_new 0 79 (by decide +kernel))
  obtain rfl : g1 = cG := e3.trans (cG_new 79)
  refine V_dup dX5_init_43 rfl ?_
  refine C_call (av := [.ref (ad D 79)]) (rest := [.ref (ad D 79), .int 33, .ref (ad D 10)]) ctX6_init_79 mqX6_init q86 (by decide) (Nat.le_of_ble_eq_true rfl) (k_resIN (av := []) (rest := [.ref (ad D 79), .int 33, .ref (ad D 10)]) rfl q235 q236 q237 mhX6_init mnX6_init dX5_init_44) ?_
  refine G_aast (cb := 5) (n := 44) (t := 6) (nb := 0) (by decide +kernel) (by decide) (by decide) rfl (by unfold vp_in; decide) (by decide +kernel) (by decide) rfl (k_asgS rfl) dX5_init_47 (fun F1 e1 => ?_)
  obtain rfl : F1 = cF 81 82 6744 := e1.trans (cF_wr 81 81 6744 (a := 10) (k := 33) (b := 79) rfl (by decide +kernel))
  refine V_iinc (j := 0) (v := 34) (l1 := [(1, .int 34), (0, .ref (ad D 9))]) dX5_init_48 rfl (by decide) (by decide) rfl ?_
  refine V_goto (tgt := 26) dX5_init_51 (by decide) ?_
  refine V_iload_n dX5_init_26 rfl 0 rfl ?_
  refine V_aload_n dX5_init_27 rfl 1 rfl ?_
  refine H_getr (b := 10) (n := 0) ck4 1 (by decide) (by decide +kernel) (by decide) rfl (by decide +kernel) q257 dX5_init_28 ?_
  refine V_alen (x := 44) (n := 44) (t := 6) (by decide +kernel) (by decide) rfl (by decide) dX5_init_31 ?_
  refine V_icmp_ge (tgt := 54) dX5_init_32 (by decide) (fun c => absurd c (by decide)) (fun _ => ?_)
  refine V_aload_n dX5_init_35 rfl 1 rfl ?_
  refine H_getr (b := 10) (n := 0) ck4 1 (by decide) (by decide +kernel) (by decide) rfl (by decide +kernel) q257 dX5_init_36 ?_
  refine V_iload_n dX5_init_39 rfl 0 rfl ?_
  refine G_new ck5 (by decide) k_df5 q232 q234 q86 dX5_init_40 (fun F1 h1 g1 e1 e2 e3 => ?_)
  obtain rfl : F1 = cF 82 82 6746 := e1.trans (cF_new 81 82 6744 2 (t := (15, 0)) rfl (by decide +kernel))
  obtain rfl : h1 = cH 0 := e2.trans (cH_new 0 81 (by decide +kernel))
  obtain rfl : g1 = cG := e3.trans (cG_new 81)
  refine V_dup dX5_init_43 rfl ?_
  refine C_call (av := [.ref (ad D 81)]) (rest := [.ref (ad D 81), .int 34, .ref (ad D 10)]) ctX6_init_81 mqX6_init q86 (by decide) (Nat.le_of_ble_eq_true rfl) (k_resIN (av := []) (rest := [.ref (ad D 81), .int 34, .ref (ad D 10)]) rfl q235 q236 q237 mhX6_init mnX6_init dX5_init_44) ?_
  refine G_aast (cb := 5) (n := 44) (t := 6) (nb := 0) (by decide +kernel) (by decide) (by decide) rfl (by unfold vp_in; decide) (by decide +kernel) (by decide) rfl (k_asgS rfl) dX5_init_47 (fun F1 e1 => ?_)
  obtain rfl : F1 = cF 83 84 6762 := e1.trans (cF_wr 83 83 6762 (a := 10) (k := 34) (b := 81) rfl (by decide +kernel))
  refine V_iinc (j := 0) (v := 35) (l1 := [(1, .int 35), (0, .ref (ad D 9))]) dX5_init_48 rfl (by decide) (by decide) rfl ?_
  refine V_goto (tgt := 26) dX5_init_51 (by decide) ?_
  refine V_iload_n dX5_init_26 rfl 0 rfl ?_
  refine V_aload_n dX5_init_27 rfl 1 rfl ?_
  refine H_getr (b := 10) (n := 0) ck4 1 (by decide) (by decide +kernel) (by decide) rfl (by decide +kernel) q257 dX5_init_28 ?_
  refine V_alen (x := 44) (n := 44) (t := 6) (by decide +kernel) (by decide) rfl (by decide) dX5_init_31 ?_
  refine V_icmp_ge (tgt := 54) dX5_init_32 (by decide) (fun c => absurd c (by decide)) (fun _ => ?_)
  refine V_aload_n dX5_init_35 rfl 1 rfl ?_
  refine H_getr (b := 10) (n := 0) ck4 1 (by decide) (by decide +kernel) (by decide) rfl (by decide +kernel) q257 dX5_init_36 ?_
  refine V_iload_n dX5_init_39 rfl 0 rfl ?_
  refine G_new ck5 (by decide) k_df5 q232 q234 q86 dX5_init_40 (fun F1 h1 g1 e1 e2 e3 => ?_)
  obtain rfl : F1 = cF 84 84 6764 := e1.trans (cF_new 83 84 6762 2 (t := (15, 0)) rfl (by decide +kernel))
  obtain rfl : h1 = cH 0 := e2.trans (cH_new 0 83 (by decide +kernel))
  obtain rfl : g1 = cG := e3.trans (cG_new 83)
  refine V_dup dX5_init_43 rfl ?_
  refine C_call (av := [.ref (ad D 83)]) (rest := [.ref (ad D 83), .int 35, .ref (ad D 10)]) ctX6_init_83 mqX6_init q86 (by decide) (Nat.le_of_ble_eq_true rfl) (k_resIN (av := []) (rest := [.ref (ad D 83), .int 35, .ref (ad D 10)]) rfl q235 q236 q237 mhX6_init mnX6_init dX5_init_44) ?_
  refine G_aast (cb := 5) (n := 44) (t := 6) (nb := 0) (by decide +kernel) (by decide) (by decide) rfl (by unfold vp_in; decide) (by decide +kernel) (by decide) rfl (k_asgS rfl) dX5_init_47 (fun F1 e1 => ?_)
  obtain rfl : F1 = cF 85 86 6780 := e1.trans (cF_wr 85 85 6780 (a := 10) (k := 35) (b := 83) rfl (by decide +kernel))
  refine V_iinc (j := 0) (v := 36) (l1 := [(1, .int 36), (0, .ref (ad D 9))]) dX5_init_48 rfl (by decide) (by decide) rfl ?_
  refine V_goto (tgt := 26) dX5_init_51 (by decide) ?_
  refine V_iload_n dX5_init_26 rfl 0 rfl ?_
  refine V_aload_n dX5_init_27 rfl 1 rfl ?_
  refine H_getr (b := 10) (n := 0) ck4 1 (by decide) (by decide +kernel) (by decide) rfl (by decide +kernel) q257 dX5_init_28 ?_
  refine V_alen (x := 44) (n := 44) (t := 6) (by decide +kernel) (by decide) rfl (by decide) dX5_init_31 ?_
  refine V_icmp_ge (tgt := 54) dX5_init_32 (by decide) (fun c => absurd c (by decide)) (fun _ => ?_)
  refine V_aload_n dX5_init_35 rfl 1 rfl ?_
  refine H_getr (b := 10) (n := 0) ck4 1 (by decide) (by decide +kernel) (by decide) rfl (by decide +kernel) q257 dX5_init_36 ?_
  refine V_iload_n dX5_init_39 rfl 0 rfl ?_
  refine G_new ck5 (by decide) k_df5 q232 q234 q86 dX5_init_40 (fun F1 h1 g1 e1 e2 e3 => ?_)
  obtain rfl : F1 = cF 86 86 6782 := e1.trans (cF_new 85 86 6780 2 (t := (15, 0)) rfl (by decide +kernel))
  obtain rfl : h1 = cH 0 := e2.trans (cH_new 0 85 (by decide +kernel))
  obtain rfl : g1 = cG := e3.trans (cG_new 85)
  refine V_dup dX5_init_43 rfl ?_
  refine C_call (av := [.ref (ad D 85)]) (rest := [.ref (ad D 85), .int 36, .ref (ad D 10)]) ctX6_init_85 mqX6_init q86 (by decide) (Nat.le_of_ble_eq_true rfl) (k_resIN (av := []) (rest := [.ref (ad D 85), .int 36, .ref (ad D 10)]) rfl q235 q236 q237 mhX6_init mnX6_init dX5_init_44) ?_
  refine G_aast (cb := 5) (n := 44) (t := 6) (nb := 0) (by decide +kernel) (by decide) (by decide) rfl (by unfold vp_in; decide) (by decide +kernel) (by decide) rfl (k_asgS rfl) dX5_init_47 (fun F1 e1 => ?_)
  obtain rfl : F1 = cF 87 88 6798 := e1.trans (cF_wr 87 87 6798 (a := 10) (k := 36) (b := 85) rfl (by decide +kernel))
  refine V_iinc (j := 0) (v := 37) (l1 := [(1, .int 37), (0, .ref (ad D 9))]) dX5_init_48 rfl (by decide) (by decide) rfl ?_
  refine V_goto (tgt := 26) dX5_init_51 (by decide) ?_
  refine V_iload_n dX5_init_26 rfl 0 rfl ?_
  refine V_aload_n dX5_init_27 rfl 1 rfl ?_
  refine H_getr (b := 10) (n := 0) ck4 1 (by decide) (by decide +kernel) (by decide) rfl (by decide +kernel) q257 dX5_init_28 ?_
  refine V_alen (x := 44) (n := 44) (t := 6) (by decide +kernel) (by decide) rfl (by decide) dX5_init_31 ?_
  refine V_icmp_ge (tgt := 54) dX5_init_32 (by decide) (fun c => absurd c (by decide)) (fun _ => ?_)
  refine V_aload_n dX5_init_35 rfl 1 rfl ?_
  refine H_getr (b := 10) (n := 0) ck4 1 (by decide) (by decide +kernel) (by decide) rfl (by decide +kernel) q257 dX5_init_36 ?_
  refine V_iload_n dX5_init_39 rfl 0 rfl ?_
  refine G_new ck5 (by decide) k_df5 q232 q234 q86 dX5_init_40 (fun F1 h1 g1 e1 e2 e3 => ?_)
  obtain rfl : F1 = cF 88 88 6800 := e1.trans (cF_new 87 88 6798 2 (t := (15, 0)) rfl (by decide +kernel))
  obtain rfl : h1 = cH 0 := e2.trans (cH_new 0 87 (by decide +kernel))
  obtain rfl : g1 = cG := e3.trans (cG_new 87)
  refine V_dup dX5_init_43 rfl ?_
  refine C_call (av := [.ref (ad D 87)]) (rest := [.ref (ad D 87), .int 37, .ref (ad D 10)]) ctX6_init_87 mqX6_init q86 (by decide) (Nat.le_of_ble_eq_true rfl) (k_resIN (av := []) (rest := [.ref (ad D 87), .int 37, .ref (ad D 10)]) rfl q235 q236 q237 mhX6_init mnX6_init dX5_init_44) ?_
  refine G_aast (cb := 5) (n := 44) (t := 6) (nb := 0) (by decide +kernel) (by decide) (by decide) rfl (by unfold vp_in; decide) (by decide +kernel) (by decide) rfl (k_asgS rfl) dX5_init_47 (fun F1 e1 => ?_)
  obtain rfl : F1 = cF 89 90 6816 := e1.trans (cF_wr 89 89 6816 (a := 10) (k := 37) (b := 87) rfl (by decide +kernel))
  refine V_iinc (j := 0) (v := 38) (l1 := [(1, .int 38), (0, .ref (ad D 9))]) dX5_init_48 rfl (by decide) (by decide) rfl ?_
  refine V_goto (tgt := 26) dX5_init_51 (by decide) ?_
  refine V_iload_n dX5_init_26 rfl 0 rfl ?_
  refine V_aload_n dX5_init_27 rfl 1 rfl ?_
  refine H_getr (b := 10) (n := 0) ck4 1 (by decide) (by decide +kernel) (by decide) rfl (by decide +kernel) q257 dX5_init_28 ?_
  refine V_alen (x := 44) (n := 44) (t := 6) (by decide +kernel) (by decide) rfl (by decide) dX5_init_31 ?_
  refine V_icmp_ge (tgt := 54) dX5_init_32 (by decide) (fun c => absurd c (by decide)) (fun _ => ?_)
  refine V_aload_n dX5_init_35 rfl 1 rfl ?_
  refine H_getr (b := 10) (n := 0) ck4 1 (by decide) (by decide +kernel) (by decide) rfl (by decide +kernel) q257 dX5_init_36 ?_
  refine V_iload_n dX5_init_39 rfl 0 rfl ?_
  refine G_new ck5 (by decide) k_df5 q232 q234 q86 dX5_init_40 (fun F1 h1 g1 e1 e2 e3 => ?_)
  obtain rfl : F1 = cF 90 90 6818 := e1.trans (cF_new 89 90 6816 2 (t := (15, 0)) rfl (by decide +kernel))
  obtain rfl : h1 = cH 0 := e2.trans (cH_new 0 89 (by decide +kernel))
  obtain rfl : g1 = cG := e3.trans (cG_new 89)
  refine V_dup dX5_init_43 rfl ?_
  refine C_call (av := [.ref (ad D 89)]) (rest := [.ref (ad D 89), .int 38, .ref (ad D 10)]) ctX6_init_89 mqX6_init q86 (by decide) (Nat.le_of_ble_eq_true rfl) (k_resIN (av := []) (rest := [.ref (ad D 89), .int 38, .ref (ad D 10)]) rfl q235 q236 q237 mhX6_init mnX6_init dX5_init_44) ?_
  refine G_aast (cb := 5) (n := 44) (t := 6) (nb := 0) (by decide +kernel) (by decide) (by decide) rfl (by unfold vp_in; decide) (by decide +kernel) (by decide) rfl (k_asgS rfl) dX5_init_47 (fun F1 e1 => ?_)
  obtain rfl : F1 = cF 91 92 6834 := e1.trans (cF_wr 91 91 6834 (a := 10) (k := 38) (b := 89) rfl (by decide +kernel))
  refine V_iinc (j := 0) (v := 39) (l1 := [(1, .int 39), (0, .ref (ad D 9))]) dX5_init_48 rfl (by decide) (by decide) rfl ?_
  refine V_goto (tgt := 26) dX5_init_51 (by decide) ?_
  refine V_iload_n dX5_init_26 rfl 0 rfl ?_
  refine V_aload_n dX5_init_27 rfl 1 rfl ?_
  refine H_getr (b := 10) (n := 0) ck4 1 (by decide) (by decide +kernel) (by decide) rfl (by decide +kernel) q257 dX5_init_28 ?_
  refine V_alen (x := 44) (n := 44) (t := 6) (by decide +kernel) (by decide) rfl (by decide) dX5_init_31 ?_
  refine V_icmp_ge (tgt := 54) dX5_init_32 (by decide) (fun c => absurd c (by decide)) (fun _ => ?_)
  refine V_aload_n dX5_init_35 rfl 1 rfl ?_
  refine H_getr (b := 10) (n := 0) ck4 1 (by decide) (by decide +kernel) (by decide) rfl (by decide +kernel) q257 dX5_init_36 ?_
  refine V_iload_n dX5_init_39 rfl 0 rfl ?_
  refine G_new ck5 (by decide) k_df5 q232 q234 q86 dX5_init_40 (fun F1 h1 g1 e1 e2 e3 => ?_)
  obtain rfl : F1 = cF 92 92 6836 := e1.trans (cF_new 91 92 6834 2 (t := (15, 0)) rfl (by decide +kernel))
  obtain rfl : h1 = cH 0 := e2.trans (cH_new 0 91 (by decide +kernel))
  obtain rfl : g1 = cG := e3.trans (cG_new 91)
  refine V_dup dX5_init_43 rfl ?_
  refine C_call (av := [.ref (ad D 91)]) (rest := [.ref (ad D 91), .int 39, .ref (ad D 10)]) ctX6_init_91 mqX6_init q86 (by decide) (Nat.le_of_ble_eq_true rfl) (k_resIN (av := []) (rest := [.ref (ad D 91), .int 39, .ref (ad D 10)]) rfl q235 q236 q237 mhX6_init mnX6_init dX5_init_44) ?_
  refine G_aast (cb := 5) (n := 44) (t := 6) (nb := 0) (by decide +kernel) (by decide) (by decide) rfl (by unfold vp_in; decide) (by decide +kernel) (by decide) rfl (k_asgS rfl) dX5_init_47 (fun F1 e1 => ?_)
  obtain rfl : F1 = cF 93 94 6852 := e1.trans (cF_wr 93 93 6852 (a := 10) (k := 39) (b := 91) rfl (by decide +kernel))
  refine V_iinc (j := 0) (v := 40) (l1 := [(1, .int 40), (0, .ref (ad D 9))]) dX5_init_48 rfl (by decide) (by decide) rfl ?_
  refine V_goto (tgt := 26) dX5_init_51 (by decide) ?_
  refine V_iload_n dX5_init_26 rfl 0 rfl ?_
  refine V_aload_n dX5_init_27 rfl 1 rfl ?_
  refine H_getr (b := 10) (n := 0) ck4 1 (by decide) (by decide +kernel) (by decide) rfl (by decide +kernel) q257 dX5_init_28 ?_
  refine V_alen (x := 44) (n := 44) (t := 6) (by decide +kernel) (by decide) rfl (by decide) dX5_init_31 ?_
  refine V_icmp_ge (tgt := 54) dX5_init_32 (by decide) (fun c => absurd c (by decide)) (fun _ => ?_)
  refine V_aload_n dX5_init_35 rfl 1 rfl ?_
  refine H_getr (b := 10) (n := 0) ck4 1 (by decide) (by decide +kernel) (by decide) rfl (by decide +kernel) q257 dX5_init_36 ?_
  refine V_iload_n dX5_init_39 rfl 0 rfl ?_
  refine G_new ck5 (by decide) k_df5 q232 q234 q86 dX5_init_40 (fun F1 h1 g1 e1 e2 e3 => ?_)
  obtain rfl : F1 = cF 94 94 6854 := e1.trans (cF_new 93 94 6852 2 (t := (15, 0)) rfl (by decide +kernel))
  obtain rfl : h1 = cH 0 := e2.trans (cH_new 0 93 (by decide +kernel))
  obtain rfl : g1 = cG := e3.trans (cG_new 93)
  refine V_dup dX5_init_43 rfl ?_
  refine C_call (av := [.ref (ad D 93)]) (rest := [.ref (ad D 93), .int 40, .ref (ad D 10)]) ctX6_init_93 mqX6_init q86 (by decide) (Nat.le_of_ble_eq_true rfl) (k_resIN (av := []) (rest := [.ref (ad D 93), .int 40, .ref (ad D 10)]) rfl q235 q236 q237 mhX6_init mnX6_init dX5_init_44) ?_
  refine G_aast (cb := 5) (n := 44) (t := 6) (nb := 0) (by decide +kernel) (by decide) (by decide) rfl (by unfold vp_in; decide) (by decide +kernel) (by decide) rfl (k_asgS rfl) dX5_init_47 (fun F1 e1 => ?_)
  obtain rfl : F1 = cF 95 96 6870 := e1.trans (cF_wr 95 95 6870 (a := 10) (k := 40) (b := 93) rfl (by decide +kernel))
  refine V_iinc (j := 0) (v := 41) (l1 := [(1, .int 41), (0, .ref (ad D 9))]) dX5_init_48 rfl (by decide) (by decide) rfl ?_
  refine V_goto (tgt := 26) dX5_init_51 (by decide) ?_
  refine V_iload_n dX5_init_26 rfl 0 rfl ?_
  refine V_aload_n dX5_init_27 rfl 1 rfl ?_
  refine H_getr (b := 10) (n := 0) ck4 1 (by decide) (by decide +kernel) (by decide) rfl (by decide +kernel) q257 dX5_init_28 ?_
  refine V_alen (x := 44) (n := 44) (t := 6) (by decide +kernel) (by decide) rfl (by decide) dX5_init_31 ?_
  refine V_icmp_ge (tgt := 54) dX5_init_32 (by decide) (fun c => absurd c (by decide)) (fun _ => ?_)
  refine V_aload_n dX5_init_35 rfl 1 rfl ?_
  refine H_getr (b := 10) (n := 0) ck4 1 (by decide) (by decide +kernel) (by decide) rfl (by decide +kernel) q257 dX5_init_36 ?_
  refine V_iload_n dX5_init_39 rfl 0 rfl ?_
  refine G_new ck5 (by decide) k_df5 q232 q234 q86 dX5_init_40 (fun F1 h1 g1 e1 e2 e3 => ?_)
  obtain rfl : F1 = cF 96 96 6872 := e1.trans (cF_new 95 96 6870 2 (t := (15, 0)) rfl (by decide +kernel))
  obtain rfl : h1 = cH 0 := e2.trans (cH_new 0 95 (by decide +kernel))
  obtain rfl : g1 = cG := e3.trans (cG_new 95)
  refine V_dup dX5_init_43 rfl ?_
  refine C_call (av := [.ref (ad D 95)]) (rest := [.ref (ad D 95), .int 41, .ref (ad D 10)]) ctX6_init_95 mqX6_init q86 (by decide) (Nat.le_of_ble_eq_true rfl) (k_resIN (av := []) (rest := [.ref (ad D 95), .int 41, .ref (ad D 10)]) rfl q235 q236 q237 mhX6_init mnX6_init dX5_init_44) ?_
  refine G_aast (cb := 5) (n := 44) (t := 6) (nb := 0) (by decide +kernel) (by decide) (by decide) rfl (by unfold vp_in; decide) (by decide +kernel) (by decide) rfl (k_asgS rfl) dX5_init_47 (fun F1 e1 => ?_)
  obtain rfl : F1 = cF 97 98 6888 := e1.trans (cF_wr 97 97 6888 (a := 10) (k := 41) (b := 95) rfl (by decide +kernel))
  refine V_iinc (j := 0) (v := 42) (l1 := [(1, .int 42), (0, .ref (ad D 9))]) dX5_init_48 rfl (by decide) (by decide) rfl ?_
  refine V_goto (tgt := 26) dX5_init_51 (by decide) ?_
  refine V_iload_n dX5_init_26 rfl 0 rfl ?_
  refine V_aload_n dX5_init_27 rfl 1 rfl ?_
  refine H_getr (b := 10) (n := 0) ck4 1 (by decide) (by decide +kernel) (by decide) rfl (by decide +kernel) q257 dX5_init_28 ?_
  refine V_alen (x := 44) (n := 44) (t := 6) (by decide +kernel) (by decide) rfl (by decide) dX5_init_31 ?_
  refine V_icmp_ge (tgt := 54) dX5_init_32 (by decide) (fun c => absurd c (by decide)) (fun _ => ?_)
  refine V_aload_n dX5_init_35 rfl 1 rfl ?_
  refine H_getr (b := 10) (n := 0) ck4 1 (by decide) (by decide +kernel) (by decide) rfl (by decide +kernel) q257 dX5_init_36 ?_
  refine V_iload_n dX5_init_39 rfl 0 rfl ?_
  refine G_new ck5 (by decide) k_df5 q232 q234 q86 dX5_init_40 (fun F1 h1 g1 e1 e2 e3 => ?_)
  obtain rfl : F1 = cF 98 98 6890 := e1.trans (cF_new 97 98 6888 2 (t := (15, 0)) rfl (by decide +kernel))
  obtain rfl : h1 = cH 0 := e2.trans (cH_new 0 97 (by decide +kernel))
  obtain rfl : g1 = cG := e3.trans (cG_new 97)
  refine V_dup dX5_init_43 rfl ?_
  refine C_call (av := [.ref (ad D 97)]) (rest := [.ref (ad D 97), .int 42, .ref (ad D 10)]) ctX6_init_97 mqX6_init q86 (by decide) (Nat.le_of_ble_eq_true rfl) (k_resIN (av := []) (rest := [.ref (ad D 97), .int 42, .ref (ad D 10)]) rfl q235 q236 q237 mhX6_init mnX6_init dX5_init_44) ?_
  refine G_aast (cb := 5) (n := 44) (t := 6) (nb := 0) (by decide +kernel) (by decide) (by decide) rfl (by unfold vp_in; decide) (by decide +kernel) (by decide) rfl (k_asgS rfl) dX5_init_47 (fun F1 e1 => ?_)
  obtain rfl : F1 = cF 99 100 6906 := e1.trans (cF_wr 99 99 6906 (a := 10) (k := 42) (b := 97) rfl (by decide +kernel))
  refine V_iinc (j := 0) (v := 43) (l1 := [(1, .int 43), (0, .ref (ad D 9))]) dX5_init_48 rfl (by decide) (by decide) rfl ?_
  refine V_goto (tgt := 26) dX5_init_51 (by decide) ?_
  refine V_iload_n dX5_init_26 rfl 0 rfl ?_
  refine V_aload_n dX5_init_27 rfl 1 rfl ?_
  refine H_getr (b := 10) (n := 0) ck4 1 (by decide) (by decide +kernel) (by decide) rfl (by decide +kernel) q257 dX5_init_28 ?_
  refine V_alen (x := 44) (n := 44) (t := 6) (by decide +kernel) (by decide) rfl (by decide) dX5_init_31 ?_
  refine V_icmp_ge (tgt := 54) dX5_init_32 (by decide) (fun c => absurd c (by decide)) (fun _ => ?_)
  refine V_aload_n dX5_init_35 rfl 1 rfl ?_
  refine H_getr (b := 10) (n := 0) ck4 1 (by decide) (by decide +kernel) (by decide) rfl (by decide +kernel) q257 dX5_init_36 ?_
  refine V_iload_n dX5_init_39 rfl 0 rfl ?_
  refine G_new ck5 (by decide) k_df5 q232 q234 q86 dX5_init_40 (fun F1 h1 g1 e1 e2 e3 => ?_)
  obtain rfl : F1 = cF 100 100 6908 := e1.trans (cF_new 99 100 6906 2 (t := (15, 0)) rfl (by decide +kernel))
  obtain rfl : h1 = cH 0 := e2.trans (cH_new 0 99 (by decide +kernel))
  obtain rfl : g1 = cG := e3.trans (cG_new 99)
  refine V_dup dX5_init_43 rfl ?_
  refine C_call (av := [.ref (ad D 99)]) (rest := [.ref (ad D 99), .int 43, .ref (ad D 10)]) ctX6_init_99 mqX6_init q86 (by decide) (Nat.le_of_ble_eq_true rfl) (k_resIN (av := []) (rest := [.ref (ad D 99), .int 43, .ref (ad D 10)]) rfl q235 q236 q237 mhX6_init mnX6_init dX5_init_44) ?_
  refine G_aast (cb := 5) (n := 44) (t := 6) (nb := 0) (by decide +kernel) (by decide) (by decide) rfl (by unfold vp_in; decide) (by decide +kernel) (by decide) rfl (k_asgS rfl) dX5_init_47 (fun F1 e1 => ?_)
  obtain rfl : F1 = cF 101 102 6924 := e1.trans (cF_wr 101 101 6924 (a := 10) (k := 43) (b := 99) rfl (by decide +kernel))
  refine V_iinc (j := 0) (v := 44) (l1 := [(1, .int 44), (0, .ref (ad D 9))]) dX5_init_48 rfl (by decide) (by decide) rfl ?_
  refine V_goto (tgt := 26) dX5_init_51 (by decide) ?_
  refine V_iload_n dX5_init_26 rfl 0 rfl ?_
  refine V_aload_n dX5_init_27 rfl 1 rfl ?_
  refine H_getr (b := 10) (n := 0) ck4 1 (by decide) (by decide +kernel) (by decide) rfl (by decide +kernel) q257 dX5_init_28 ?_
  refine V_alen (x := 44) (n := 44) (t := 6) (by decide +kernel) (by decide) rfl (by decide) dX5_init_31 ?_
  refine V_icmp_ge (tgt := 54) dX5_init_32 (by decide) (fun _ => ?_) (fun c => absurd (by decide) c)
  exact V_vret rfl dX5_init_54 ⟨rfl, rfl⟩)
theorem ctX7_init {D : DE} {f : Nat} : Cl D (f + 2) mX7_init [.ref (ad D 101)] (cM 102 103 6947 0) (cQ (cM 111 112 40259 0)) := Cl.ofV (by decide) (Nat.le_of_ble_eq_true rfl) rfl (by
  refine V_aload_n dX7_init_0 rfl 0 rfl ?_
  refine V_objInit (by omega) (Nat.le_of_ble_eq_true rfl) q271 q120 q121 dX7_init_1 ?_
  refine V_aload_n dX7_init_4 rfl 0 rfl ?_
  refine V_sipush (v := 1540) dX7_init_5 (by decide) ?_
  refine G_anew (t := 5) (N := 1540) rfl (by decide) (by decide) q272 (fun _ h => h.2.2.2.1) (by decide) (by decide) (by decide) dX7_init_8 (fun F1 h1 g1 e1 e2 e3 => ?_)
  obtain rfl : F1 = cF 103 103 8487 := e1.trans (cF_new 102 103 6947 1540 (t := (5, 1540)) rfl (by decide +kernel))
  obtain rfl : h1 = cH 0 := e2.trans (cH_new 0 102 (by decide +kernel))
  obtain rfl : g1 = cG := e3.trans (cG_new 102)
  refine G_putrF (n := 0) ck6 0 (by decide) (by decide +kernel) (by decide) rfl (fun _ => rfl) (fun _ => rfl) rfl rfl rfl q274 dX7_init_11 (fun F1 e1 => ?_)
  obtain rfl : F1 = cF 103 104 8487 := e1.trans (cF_wr 103 103 8487 (a := 101) (k := 0) (b := 102) rfl (by decide +kernel))
  refine V_aload_n dX7_init_14 rfl 0 rfl ?_
  refine V_sipush (v := 1540) dX7_init_15 (by decide) ?_
  refine G_newa (t := 0) (N := 1540) rfl (by decide) rfl (fun _ h => h) q171 (by decide) (by decide) (by decide) rfl dX7_init_18 (fun F1 h1 g1 e1 e2 e3 => ?_)
  obtain rfl : F1 = cF 104 104 10027 := e1.trans (cF_new 103 104 8487 1540 (t := (0, 1540)) rfl (by decide +kernel))
  obtain rfl : h1 = cH 0 := e2.trans (cH_new 0 103 (by decide +kernel))
  obtain rfl : g1 = cG := e3.trans (cG_new 103)
  refine G_putrF (n := 0) ck6 1 (by decide) (by decide +kernel) (by decide) rfl (fun _ => rfl) (fun _ => rfl) rfl rfl rfl q275 dX7_init_20 (fun F1 e1 => ?_)
  obtain rfl : F1 = cF 104 105 10027 := e1.trans (cF_wr 104 104 10027 (a := 101) (k := 1) (b := 103) rfl (by decide +kernel))
  refine V_aload_n dX7_init_23 rfl 0 rfl ?_
  refine V_sipush (v := 1540) dX7_init_24 (by decide) ?_
  refine G_newa (t := 1) (N := 1540) rfl (by decide) rfl (fun _ h => h) q170 (by decide) (by decide) (by decide) rfl dX7_init_27 (fun F1 h1 g1 e1 e2 e3 => ?_)
  obtain rfl : F1 = cF 105 105 11567 := e1.trans (cF_new 104 105 10027 1540 (t := (1, 1540)) rfl (by decide +kernel))
  obtain rfl : h1 = cH 0 := e2.trans (cH_new 0 104 (by decide +kernel))
  obtain rfl : g1 = cG := e3.trans (cG_new 104)
  refine G_putrF (n := 0) ck6 2 (by decide) (by decide +kernel) (by decide) rfl (fun _ => rfl) (fun _ => rfl) rfl rfl rfl q276 dX7_init_29 (fun F1 e1 => ?_)
  obtain rfl : F1 = cF 105 106 11567 := e1.trans (cF_wr 105 105 11567 (a := 101) (k := 2) (b := 104) rfl (by decide +kernel))
  refine V_aload_n dX7_init_32 rfl 0 rfl ?_
  refine V_sipush (v := 1540) dX7_init_33 (by decide) ?_
  refine G_newa (t := 0) (N := 1540) rfl (by decide) rfl (fun _ h => h) q171 (by decide) (by decide) (by decide) rfl dX7_init_36 (fun F1 h1 g1 e1 e2 e3 => ?_)
  obtain rfl : F1 = cF 106 106 13107 := e1.trans (cF_new 105 106 11567 1540 (t := (0, 1540)) rfl (by decide +kernel))
  obtain rfl : h1 = cH 0 := e2.trans (cH_new 0 105 (by decide +kernel))
  obtain rfl : g1 = cG := e3.trans (cG_new 105)
  refine G_putrF (n := 0) ck6 3 (by decide) (by decide +kernel) (by decide) rfl (fun _ => rfl) (fun _ => rfl) rfl rfl rfl q278 dX7_init_38 (fun F1 e1 => ?_)
  obtain rfl : F1 = cF 106 107 13107 := e1.trans (cF_wr 106 106 13107 (a := 101) (k := 3) (b := 105) rfl (by decide +kernel))
  refine V_aload_n dX7_init_41 rfl 0 rfl ?_
  refine V_sipush (v := 1540) dX7_init_42 (by decide) ?_
  refine G_newa (t := 0) (N := 1540) rfl (by decide) rfl (fun _ h => h) q171 (by decide) (by decide) (by decide) rfl dX7_init_45 (fun F1 h1 g1 e1 e2 e3 => ?_)
  obtain rfl : F1 = cF 107 107 14647 := e1.trans (cF_new 106 107 13107 1540 (t := (0, 1540)) rfl (by decide +kernel))
  obtain rfl : h1 = cH 0 := e2.trans (cH_new 0 106 (by decide +kernel))
  obtain rfl : g1 = cG := e3.trans (cG_new 106)
  refine G_putrF (n := 0) ck6 5 (by decide) (by decide +kernel) (by decide) rfl (fun _ => rfl) (fun _ => rfl) rfl rfl rfl q282 dX7_init_47 (fun F1 e1 => ?_)
  obtain rfl : F1 = cF 107 108 14647 := e1.trans (cF_wr 107 107 14647 (a := 101) (k := 5) (b := 106) rfl (by decide +kernel))
  refine V_aload_n dX7_init_50 rfl 0 rfl ?_
  refine V_sipush (v := 1540) dX7_init_51 (by decide) ?_
  refine G_newa (t := 0) (N := 1540) rfl (by decide) rfl (fun _ h => h) q171 (by decide) (by decide) (by decide) rfl dX7_init_54 (fun F1 h1 g1 e1 e2 e3 => ?_)
  obtain rfl : F1 = cF 108 108 16187 := e1.trans (cF_new 107 108 14647 1540 (t := (0, 1540)) rfl (by decide +kernel))
  obtain rfl : h1 = cH 0 := e2.trans (cH_new 0 107 (by decide +kernel))
  obtain rfl : g1 = cG := e3.trans (cG_new 107)
  refine G_putrF (n := 0) ck6 6 (by decide) (by decide +kernel) (by decide) rfl (fun _ => rfl) (fun _ => rfl) rfl rfl rfl q285 dX7_init_56 (fun F1 e1 => ?_)
  obtain rfl : F1 = cF 108 109 16187 := e1.trans (cF_wr 108 108 16187 (a := 101) (k := 6) (b := 107) rfl (by decide +kernel))
  refine V_aload_n dX7_init_59 rfl 0 rfl ?_
  refine V_sipush (v := 24016) dX7_init_60 (by decide) ?_
  refine G_newa (t := 0) (N := 24016) rfl (by decide) rfl (fun _ h => h) q171 (by decide) (by decide) (by decide) rfl dX7_init_63 (fun F1 h1 g1 e1 e2 e3 => ?_)
  obtain rfl : F1 = cF 109 109 40203 := e1.trans (cF_new 108 109 16187 24016 (t := (0, 24016)) rfl (by decide +kernel))
  obtain rfl : h1 = cH 0 := e2.trans (cH_new 0 108 (by decide +kernel))
  obtain rfl : g1 = cG := e3.trans (cG_new 108)
  refine G_putrF (n := 0) ck6 8 (by decide) (by decide +kernel) (by decide) rfl (fun _ => rfl) (fun _ => rfl) rfl rfl rfl q290 dX7_init_65 (fun F1 e1 => ?_)
  obtain rfl : F1 = cF 109 110 40203 := e1.trans (cF_wr 109 109 40203 (a := 101) (k := 8) (b := 108) rfl (by decide +kernel))
  refine V_aload_n dX7_init_68 rfl 0 rfl ?_
  refine V_bipush (v := 40) dX7_init_69 (by decide) ?_
  refine G_newa (t := 2) (N := 40) rfl (by decide) rfl (fun _ h => h) q370 (by decide) (by decide) (by decide) rfl dX7_init_71 (fun F1 h1 g1 e1 e2 e3 => ?_)
  obtain rfl : F1 = cF 110 110 40243 := e1.trans (cF_new 109 110 40203 40 (t := (2, 40)) rfl (by decide +kernel))
  obtain rfl : h1 = cH 0 := e2.trans (cH_new 0 109 (by decide +kernel))
  obtain rfl : g1 = cG := e3.trans (cG_new 109)
  refine G_putrF (n := 0) ck6 20 (by decide) (by decide +kernel) (by decide) rfl (fun _ => rfl) (fun _ => rfl) rfl rfl rfl q319 dX7_init_73 (fun F1 e1 => ?_)
  obtain rfl : F1 = cF 110 111 40243 := e1.trans (cF_wr 110 110 40243 (a := 101) (k := 20) (b := 109) rfl (by decide +kernel))
  refine V_aload_n dX7_init_76 rfl 0 rfl ?_
  refine V_bipush (v := 16) dX7_init_77 (by decide) ?_
  refine G_newa (t := 0) (N := 16) rfl (by decide) rfl (fun _ h => h) q171 (by decide) (by decide) (by decide) rfl dX7_init_79 (fun F1 h1 g1 e1 e2 e3 => ?_)
  obtain rfl : F1 = cF 111 111 40259 := e1.trans (cF_new 110 111 40243 16 (t := (0, 16)) rfl (by decide +kernel))
  obtain rfl : h1 = cH 0 := e2.trans (cH_new 0 110 (by decide +kernel))
  obtain rfl : g1 = cG := e3.trans (cG_new 110)
  refine G_putrF (n := 0) ck6 22 (by decide) (by decide +kernel) (by decide) rfl (fun _ => rfl) (fun _ => rfl) rfl rfl rfl q322 dX7_init_81 (fun F1 e1 => ?_)
  obtain rfl : F1 = cF 111 112 40259 := e1.trans (cF_wr 111 111 40259 (a := 101) (k := 22) (b := 110) rfl (by decide +kernel))
  exact V_vret rfl dX7_init_84 ⟨rfl, rfl⟩)
theorem ctX1_init {D : DE} {f : Nat} : Cl D (f + 3) mX1_init [.ref (ad D 0)] (cM 1 0 14 0) (cQ (cM 115 117 44351 1)) := Cl.ofV (by decide) (Nat.le_of_ble_eq_true rfl) rfl (by
  refine V_aload_n dX1_init_0 rfl 0 rfl ?_
  refine V_objInit (by omega) (Nat.le_of_ble_eq_true rfl) q119 q120 q121 dX1_init_1 ?_
  refine V_aload_n dX1_init_4 rfl 0 rfl ?_
  refine G_new ck1 (by decide) k_df1 q122 q123 q82 dX1_init_5 (fun F1 h1 g1 e1 e2 e3 => ?_)
  obtain rfl : F1 = cF 2 0 25 := e1.trans (cF_new 1 0 14 11 (t := (11, 0)) rfl (by decide +kernel))
  obtain rfl : h1 = cH 0 := e2.trans (cH_new 0 1 (by decide +kernel))
  obtain rfl : g1 = cG := e3.trans (cG_new 1)
  refine V_dup dX1_init_8 rfl ?_
  refine C_call (av := [.ref (ad D 1)]) (rest := [.ref (ad D 1), .ref (ad D 0)]) ctX2_init mqX2_init q82 (by decide) (Nat.le_of_ble_eq_true rfl) (k_resIN (av := []) (rest := [.ref (ad D 1), .ref (ad D 0)]) rfl q124 q125 q126 mhX2_init mnX2_init dX1_init_9) ?_
  refine G_putrF (n := 0) ck0 0 (by decide) (by decide +kernel) (by decide) rfl (fun _ => rfl) (fun _ => rfl) rfl rfl rfl q372 dX1_init_12 (fun F1 e1 => ?_)
  obtain rfl : F1 = cF 5 4 6027 := e1.trans (cF_wr 5 3 6027 (a := 0) (k := 0) (b := 1) rfl (by decide +kernel))
  refine V_aload_n dX1_init_15 rfl 0 rfl ?_
  refine G_new ck2 (by decide) k_df2 q172 q173 q83 dX1_init_16 (fun F1 h1 g1 e1 e2 e3 => ?_)
  obtain rfl : F1 = cF 6 4 6032 := e1.trans (cF_new 5 4 6027 5 (t := (12, 0)) rfl (by decide +kernel))
  obtain rfl : h1 = cH 0 := e2.trans (cH_new 0 5 (by decide +kernel))
  obtain rfl : g1 = cG := e3.trans (cG_new 5)
  refine V_dup dX1_init_19 rfl ?_
  refine V_aload_n dX1_init_20 rfl 0 rfl ?_
  refine H_getr (b := 1) (n := 0) ck0 0 (by decide) (by decide +kernel) (by decide) rfl (by decide +kernel) q372 dX1_init_21 ?_
  refine C_call (av := [.ref (ad D 5), .ref (ad D 1)]) (rest := [.ref (ad D 5), .ref (ad D 0)]) ctX3_init mqX3_init q83 (by decide) (Nat.le_of_ble_eq_true rfl) (k_resI (av := [.ref (ad D 1)]) (rest := [.ref (ad D 5), .ref (ad D 0)]) rfl q174 q175 q176 mhX3_init mnX3_init dX1_init_24) ?_
  refine G_putrF (n := 0) ck0 1 (by decide) (by decide +kernel) (by decide) rfl (fun _ => rfl) (fun _ => rfl) rfl rfl rfl q373 dX1_init_27 (fun F1 e1 => ?_)
  obtain rfl : F1 = cF 7 7 6044 := e1.trans (cF_wr 7 6 6044 (a := 0) (k := 1) (b := 5) rfl (by decide +kernel))
  refine V_aload_n dX1_init_30 rfl 0 rfl ?_
  refine G_new ck3 (by decide) k_df3 q198 q199 q84 dX1_init_31 (fun F1 h1 g1 e1 e2 e3 => ?_)
  obtain rfl : F1 = cF 8 7 6050 := e1.trans (cF_new 7 7 6044 6 (t := (13, 0)) rfl (by decide +kernel))
  obtain rfl : h1 = cH 0 := e2.trans (cH_new 0 7 (by decide +kernel))
  obtain rfl : g1 = cG := e3.trans (cG_new 7)
  refine V_dup dX1_init_34 rfl ?_
  refine V_aload_n dX1_init_35 rfl 0 rfl ?_
  refine H_getr (b := 1) (n := 0) ck0 0 (by decide) (by decide +kernel) (by decide) rfl (by decide +kernel) q372 dX1_init_36 ?_
  refine V_aload_n dX1_init_39 rfl 0 rfl ?_
  refine H_getr (b := 5) (n := 0) ck0 1 (by decide) (by decide +kernel) (by decide) rfl (by decide +kernel) q373 dX1_init_40 ?_
  refine H_getrN (b := 6) (n := 0) ck2 1 (by decide) (by decide +kernel) (by decide) rfl (by decide +kernel) q182 dX1_init_43 ?_
  refine C_call (av := [.ref (ad D 7), .ref (ad D 1), .ref (ad D 6)]) (rest := [.ref (ad D 7), .ref (ad D 0)]) ctX4_init mqX4_init q84 (by decide) (Nat.le_of_ble_eq_true rfl) (k_resI (av := [.ref (ad D 1), .ref (ad D 6)]) (rest := [.ref (ad D 7), .ref (ad D 0)]) rfl q200 q201 q202 mhX4_init mnX4_init dX1_init_46) ?_
  refine G_putrF (n := 0) ck0 2 (by decide) (by decide +kernel) (by decide) rfl (fun _ => rfl) (fun _ => rfl) rfl rfl rfl q374 dX1_init_49 (fun F1 e1 => ?_)
  obtain rfl : F1 = cF 9 11 6067 := e1.trans (cF_wr 9 10 6067 (a := 0) (k := 2) (b := 7) rfl (by decide +kernel))
  refine V_aload_n dX1_init_52 rfl 0 rfl ?_
  refine G_new ck4 (by decide) k_df4 q226 q227 q85 dX1_init_53 (fun F1 h1 g1 e1 e2 e3 => ?_)
  obtain rfl : F1 = cF 10 11 6070 := e1.trans (cF_new 9 11 6067 3 (t := (14, 0)) rfl (by decide +kernel))
  obtain rfl : h1 = cH 0 := e2.trans (cH_new 0 9 (by decide +kernel))
  obtain rfl : g1 = cG := e3.trans (cG_new 9)
  refine V_dup dX1_init_56 rfl ?_
  refine C_call (av := [.ref (ad D 9)]) (rest := [.ref (ad D 9), .ref (ad D 0)]) ctX5_init mqX5_init q85 (by decide) (Nat.le_of_ble_eq_true rfl) (k_resI (av := []) (rest := [.ref (ad D 9), .ref (ad D 0)]) rfl q228 q229 q230 mhX5_init mnX5_init dX1_init_57) ?_
  refine G_putrF (n := 0) ck0 3 (by decide) (by decide +kernel) (by decide) rfl (fun _ => rfl) (fun _ => rfl) rfl rfl rfl q375 dX1_init_60 (fun F1 e1 => ?_)
  obtain rfl : F1 = cF 101 103 6924 := e1.trans (cF_wr 101 102 6924 (a := 0) (k := 3) (b := 9) rfl (by decide +kernel))
  refine V_aload_n dX1_init_63 rfl 0 rfl ?_
  refine G_new ck6 (by decide) k_df6 q266 q267 q87 dX1_init_64 (fun F1 h1 g1 e1 e2 e3 => ?_)
  obtain rfl : F1 = cF 102 103 6947 := e1.trans (cF_new 101 103 6924 23 (t := (16, 0)) rfl (by decide +kernel))
  obtain rfl : h1 = cH 0 := e2.trans (cH_new 0 101 (by decide +kernel))
  obtain rfl : g1 = cG := e3.trans (cG_new 101)
  refine V_dup dX1_init_67 rfl ?_
  refine C_call (av := [.ref (ad D 101)]) (rest := [.ref (ad D 101), .ref (ad D 0)]) ctX7_init mqX7_init q87 (by decide) (Nat.le_of_ble_eq_true rfl) (k_resIN (av := []) (rest := [.ref (ad D 101), .ref (ad D 0)]) rfl q268 q269 q270 mhX7_init mnX7_init dX1_init_68) ?_
  refine G_putrF (n := 0) ck0 4 (by decide) (by decide +kernel) (by decide) rfl (fun _ => rfl) (fun _ => rfl) rfl rfl rfl q376 dX1_init_71 (fun F1 e1 => ?_)
  obtain rfl : F1 = cF 111 113 40259 := e1.trans (cF_wr 111 112 40259 (a := 0) (k := 4) (b := 101) rfl (by decide +kernel))
  refine V_aload_n dX1_init_74 rfl 0 rfl ?_
  refine V_sipush (v := 4000) dX1_init_75 (by decide) ?_
  refine G_newa (t := 1) (N := 4000) rfl (by decide) rfl (fun _ h => h) q170 (by decide) (by decide) (by decide) rfl dX1_init_78 (fun F1 h1 g1 e1 e2 e3 => ?_)
  obtain rfl : F1 = cF 112 113 44259 := e1.trans (cF_new 111 113 40259 4000 (t := (1, 4000)) rfl (by decide +kernel))
  obtain rfl : h1 = cH 0 := e2.trans (cH_new 0 111 (by decide +kernel))
  obtain rfl : g1 = cG := e3.trans (cG_new 111)
  refine G_putrF (n := 0) ck0 5 (by decide) (by decide +kernel) (by decide) rfl (fun _ => rfl) (fun _ => rfl) rfl rfl rfl q377 dX1_init_80 (fun F1 e1 => ?_)
  obtain rfl : F1 = cF 112 114 44259 := e1.trans (cF_wr 112 113 44259 (a := 0) (k := 5) (b := 111) rfl (by decide +kernel))
  refine V_aload_n dX1_init_83 rfl 0 rfl ?_
  refine V_iconst (v := (-1)) dX1_init_84 (by decide) ?_
  refine H_puti (n := 0) ck0 7 (by decide) (by decide +kernel) (by decide) rfl rfl q379 dX1_init_85 (fun h1 e1 => ?_)
  obtain rfl : h1 = cH 1 := e1.trans (cH_wr 0 (a := 0) (k := 7) (x := (-1)) rfl (by decide +kernel))
  refine V_aload_n dX1_init_88 rfl 0 rfl ?_
  refine V_bipush (v := 12) dX1_init_89 (by decide) ?_
  refine G_anew (t := 4) (N := 12) rfl (by decide) (by decide) q371 (fun _ h => h.2.2.1) (by decide) (by decide) (by decide) dX1_init_91 (fun F1 h1 g1 e1 e2 e3 => ?_)
  obtain rfl : F1 = cF 113 114 44271 := e1.trans (cF_new 112 114 44259 12 (t := (4, 12)) rfl (by decide +kernel))
  obtain rfl : h1 = cH 1 := e2.trans (cH_new 1 112 (by decide +kernel))
  obtain rfl : g1 = cG := e3.trans (cG_new 112)
  refine G_putrF (n := 0) ck0 8 (by decide) (by decide +kernel) (by decide) rfl (fun _ => rfl) (fun _ => rfl) rfl rfl rfl q380 dX1_init_94 (fun F1 e1 => ?_)
  obtain rfl : F1 = cF 113 115 44271 := e1.trans (cF_wr 113 114 44271 (a := 0) (k := 8) (b := 112) rfl (by decide +kernel))
  refine V_aload_n dX1_init_97 rfl 0 rfl ?_
  refine V_bipush (v := 40) dX1_init_98 (by decide) ?_
  refine G_newa (t := 0) (N := 40) rfl (by decide) rfl (fun _ h => h) q171 (by decide) (by decide) (by decide) rfl dX1_init_100 (fun F1 h1 g1 e1 e2 e3 => ?_)
  obtain rfl : F1 = cF 114 115 44311 := e1.trans (cF_new 113 115 44271 40 (t := (0, 40)) rfl (by decide +kernel))
  obtain rfl : h1 = cH 1 := e2.trans (cH_new 1 113 (by decide +kernel))
  obtain rfl : g1 = cG := e3.trans (cG_new 113)
  refine G_putrF (n := 0) ck0 11 (by decide) (by decide +kernel) (by decide) rfl (fun _ => rfl) (fun _ => rfl) rfl rfl rfl q383 dX1_init_102 (fun F1 e1 => ?_)
  obtain rfl : F1 = cF 114 116 44311 := e1.trans (cF_wr 114 115 44311 (a := 0) (k := 11) (b := 113) rfl (by decide +kernel))
  refine V_aload_n dX1_init_105 rfl 0 rfl ?_
  refine V_bipush (v := 40) dX1_init_106 (by decide) ?_
  refine G_newa (t := 0) (N := 40) rfl (by decide) rfl (fun _ h => h) q171 (by decide) (by decide) (by decide) rfl dX1_init_108 (fun F1 h1 g1 e1 e2 e3 => ?_)
  obtain rfl : F1 = cF 115 116 44351 := e1.trans (cF_new 114 116 44311 40 (t := (0, 40)) rfl (by decide +kernel))
  obtain rfl : h1 = cH 1 := e2.trans (cH_new 1 114 (by decide +kernel))
  obtain rfl : g1 = cG := e3.trans (cG_new 114)
  refine G_putrF (n := 0) ck0 12 (by decide) (by decide +kernel) (by decide) rfl (fun _ => rfl) (fun _ => rfl) rfl rfl rfl q384 dX1_init_110 (fun F1 e1 => ?_)
  obtain rfl : F1 = cF 115 117 44351 := e1.trans (cF_wr 115 116 44351 (a := 0) (k := 12) (b := 114) rfl (by decide +kernel))
  exact V_vret rfl dX1_init_113 ⟨rfl, rfl⟩)
theorem ctX8_init {D : DE} {f : Nat} : Cl D (f + 1) mX8_init [.ref (ad D 115)] (cM 116 117 44434 1) (cQ (cM 159 160 129076 3)) := Cl.ofV (by decide) (Nat.le_of_ble_eq_true rfl) rfl (by
  refine V_aload_n dX8_init_0 rfl 0 rfl ?_
  refine V_objInit (by omega) (Nat.le_of_ble_eq_true rfl) q1457 q120 q121 dX8_init_1 ?_
  refine V_aload_n dX8_init_4 rfl 0 rfl ?_
  refine V_sipush (v := 4000) dX8_init_5 (by decide) ?_
  refine G_newa (t := 0) (N := 4000) rfl (by decide) rfl (fun _ h => h) q171 (by decide) (by decide) (by decide) rfl dX8_init_8 (fun F1 h1 g1 e1 e2 e3 => ?_)
  obtain rfl : F1 = cF 117 117 48434 := e1.trans (cF_new 116 117 44434 4000 (t := (0, 4000)) rfl (by decide +kernel))
  obtain rfl : h1 = cH 1 := e2.trans (cH_new 1 116 (by decide +kernel))
  obtain rfl : g1 = cG := e3.trans (cG_new 116)
  refine G_putrF (n := 0) ck7 1 (by decide) (by decide +kernel) (by decide) rfl (fun _ => rfl) (fun _ => rfl) rfl rfl rfl q1459 dX8_init_10 (fun F1 e1 => ?_)
  obtain rfl : F1 = cF 117 118 48434 := e1.trans (cF_wr 117 117 48434 (a := 115) (k := 1) (b := 116) rfl (by decide +kernel))
  refine V_aload_n dX8_init_13 rfl 0 rfl ?_
  refine V_iconst (v := (-1)) dX8_init_14 (by decide) ?_
  refine H_puti (n := 0) ck7 10 (by decide) (by decide +kernel) (by decide) rfl rfl q1468 dX8_init_15 (fun h1 e1 => ?_)
  obtain rfl : h1 = cH 2 := e1.trans (cH_wr 1 (a := 115) (k := 10) (x := (-1)) rfl (by decide +kernel))
  refine V_aload_n dX8_init_18 rfl 0 rfl ?_
  refine V_bipush (v := 24) dX8_init_19 (by decide) ?_
  refine G_newa (t := 3) (N := 24) rfl (by decide) rfl (fun _ h => h) q1708 (by decide) (by decide) (by decide) rfl dX8_init_21 (fun F1 h1 g1 e1 e2 e3 => ?_)
  obtain rfl : F1 = cF 118 118 48458 := e1.trans (cF_new 117 118 48434 24 (t := (3, 24)) rfl (by decide +kernel))
  obtain rfl : h1 = cH 2 := e2.trans (cH_new 2 117 (by decide +kernel))
  obtain rfl : g1 = cG := e3.trans (cG_new 117)
  refine G_putrF (n := 0) ck7 11 (by decide) (by decide +kernel) (by decide) rfl (fun _ => rfl) (fun _ => rfl) rfl rfl rfl q1469 dX8_init_23 (fun F1 e1 => ?_)
  obtain rfl : F1 = cF 118 119 48458 := e1.trans (cF_wr 118 118 48458 (a := 115) (k := 11) (b := 117) rfl (by decide +kernel))
  refine V_aload_n dX8_init_26 rfl 0 rfl ?_
  refine V_bipush (v := 24) dX8_init_27 (by decide) ?_
  refine G_newa (t := 0) (N := 24) rfl (by decide) rfl (fun _ h => h) q171 (by decide) (by decide) (by decide) rfl dX8_init_29 (fun F1 h1 g1 e1 e2 e3 => ?_)
  obtain rfl : F1 = cF 119 119 48482 := e1.trans (cF_new 118 119 48458 24 (t := (0, 24)) rfl (by decide +kernel))
  obtain rfl : h1 = cH 2 := e2.trans (cH_new 2 118 (by decide +kernel))
  obtain rfl : g1 = cG := e3.trans (cG_new 118)
  refine G_putrF (n := 0) ck7 12 (by decide) (by decide +kernel) (by decide) rfl (fun _ => rfl) (fun _ => rfl) rfl rfl rfl q1470 dX8_init_31 (fun F1 e1 => ?_)
  obtain rfl : F1 = cF 119 120 48482 := e1.trans (cF_wr 119 119 48482 (a := 115) (k := 12) (b := 118) rfl (by decide +kernel))
  refine V_aload_n dX8_init_34 rfl 0 rfl ?_
  refine V_bipush (v := 24) dX8_init_35 (by decide) ?_
  refine G_newa (t := 0) (N := 24) rfl (by decide) rfl (fun _ h => h) q171 (by decide) (by decide) (by decide) rfl dX8_init_37 (fun F1 h1 g1 e1 e2 e3 => ?_)
  obtain rfl : F1 = cF 120 120 48506 := e1.trans (cF_new 119 120 48482 24 (t := (0, 24)) rfl (by decide +kernel))
  obtain rfl : h1 = cH 2 := e2.trans (cH_new 2 119 (by decide +kernel))
  obtain rfl : g1 = cG := e3.trans (cG_new 119)
  refine G_putrF (n := 0) ck7 13 (by decide) (by decide +kernel) (by decide) rfl (fun _ => rfl) (fun _ => rfl) rfl rfl rfl q1471 dX8_init_39 (fun F1 e1 => ?_)
  obtain rfl : F1 = cF 120 121 48506 := e1.trans (cF_wr 120 120 48506 (a := 115) (k := 13) (b := 119) rfl (by decide +kernel))
  refine V_aload_n dX8_init_42 rfl 0 rfl ?_
  refine V_bipush (v := 24) dX8_init_43 (by decide) ?_
  refine G_newa (t := 0) (N := 24) rfl (by decide) rfl (fun _ h => h) q171 (by decide) (by decide) (by decide) rfl dX8_init_45 (fun F1 h1 g1 e1 e2 e3 => ?_)
  obtain rfl : F1 = cF 121 121 48530 := e1.trans (cF_new 120 121 48506 24 (t := (0, 24)) rfl (by decide +kernel))
  obtain rfl : h1 = cH 2 := e2.trans (cH_new 2 120 (by decide +kernel))
  obtain rfl : g1 = cG := e3.trans (cG_new 120)
  refine G_putrF (n := 0) ck7 14 (by decide) (by decide +kernel) (by decide) rfl (fun _ => rfl) (fun _ => rfl) rfl rfl rfl q1472 dX8_init_47 (fun F1 e1 => ?_)
  obtain rfl : F1 = cF 121 122 48530 := e1.trans (cF_wr 121 121 48530 (a := 115) (k := 14) (b := 120) rfl (by decide +kernel))
  refine V_aload_n dX8_init_50 rfl 0 rfl ?_
  refine V_bipush (v := 24) dX8_init_51 (by decide) ?_
  refine G_newa (t := 0) (N := 24) rfl (by decide) rfl (fun _ h => h) q171 (by decide) (by decide) (by decide) rfl dX8_init_53 (fun F1 h1 g1 e1 e2 e3 => ?_)
  obtain rfl : F1 = cF 122 122 48554 := e1.trans (cF_new 121 122 48530 24 (t := (0, 24)) rfl (by decide +kernel))
  obtain rfl : h1 = cH 2 := e2.trans (cH_new 2 121 (by decide +kernel))
  obtain rfl : g1 = cG := e3.trans (cG_new 121)
  refine G_putrF (n := 0) ck7 15 (by decide) (by decide +kernel) (by decide) rfl (fun _ => rfl) (fun _ => rfl) rfl rfl rfl q1473 dX8_init_55 (fun F1 e1 => ?_)
  obtain rfl : F1 = cF 122 123 48554 := e1.trans (cF_wr 122 122 48554 (a := 115) (k := 15) (b := 121) rfl (by decide +kernel))
  refine V_aload_n dX8_init_58 rfl 0 rfl ?_
  refine V_sipush (v := 384) dX8_init_59 (by decide) ?_
  refine G_newa (t := 3) (N := 384) rfl (by decide) rfl (fun _ h => h) q1708 (by decide) (by decide) (by decide) rfl dX8_init_62 (fun F1 h1 g1 e1 e2 e3 => ?_)
  obtain rfl : F1 = cF 123 123 48938 := e1.trans (cF_new 122 123 48554 384 (t := (3, 384)) rfl (by decide +kernel))
  obtain rfl : h1 = cH 2 := e2.trans (cH_new 2 122 (by decide +kernel))
  obtain rfl : g1 = cG := e3.trans (cG_new 122)
  refine G_putrF (n := 0) ck7 16 (by decide) (by decide +kernel) (by decide) rfl (fun _ => rfl) (fun _ => rfl) rfl rfl rfl q1474 dX8_init_64 (fun F1 e1 => ?_)
  obtain rfl : F1 = cF 123 124 48938 := e1.trans (cF_wr 123 123 48938 (a := 115) (k := 16) (b := 122) rfl (by decide +kernel))
  refine V_aload_n dX8_init_67 rfl 0 rfl ?_
  refine V_sipush (v := 384) dX8_init_68 (by decide) ?_
  refine G_newa (t := 0) (N := 384) rfl (by decide) rfl (fun _ h => h) q171 (by decide) (by decide) (by decide) rfl dX8_init_71 (fun F1 h1 g1 e1 e2 e3 => ?_)
  obtain rfl : F1 = cF 124 124 49322 := e1.trans (cF_new 123 124 48938 384 (t := (0, 384)) rfl (by decide +kernel))
  obtain rfl : h1 = cH 2 := e2.trans (cH_new 2 123 (by decide +kernel))
  obtain rfl : g1 = cG := e3.trans (cG_new 123)
  refine G_putrF (n := 0) ck7 17 (by decide) (by decide +kernel) (by decide) rfl (fun _ => rfl) (fun _ => rfl) rfl rfl rfl q1475 dX8_init_73 (fun F1 e1 => ?_)
  obtain rfl : F1 = cF 124 125 49322 := e1.trans (cF_wr 124 124 49322 (a := 115) (k := 17) (b := 123) rfl (by decide +kernel))
  refine V_aload_n dX8_init_76 rfl 0 rfl ?_
  refine V_sipush (v := 2002) dX8_init_77 (by decide) ?_
  refine G_newa (t := 0) (N := 2002) rfl (by decide) rfl (fun _ h => h) q171 (by decide) (by decide) (by decide) rfl dX8_init_80 (fun F1 h1 g1 e1 e2 e3 => ?_)
  obtain rfl : F1 = cF 125 125 51324 := e1.trans (cF_new 124 125 49322 2002 (t := (0, 2002)) rfl (by decide +kernel))
  obtain rfl : h1 = cH 2 := e2.trans (cH_new 2 124 (by decide +kernel))
  obtain rfl : g1 = cG := e3.trans (cG_new 124)
  refine G_putrF (n := 0) ck7 18 (by decide) (by decide +kernel) (by decide) rfl (fun _ => rfl) (fun _ => rfl) rfl rfl rfl q1476 dX8_init_82 (fun F1 e1 => ?_)
  obtain rfl : F1 = cF 125 126 51324 := e1.trans (cF_wr 125 125 51324 (a := 115) (k := 18) (b := 124) rfl (by decide +kernel))
  refine V_aload_n dX8_init_85 rfl 0 rfl ?_
  refine V_sipush (v := 2002) dX8_init_86 (by decide) ?_
  refine G_newa (t := 0) (N := 2002) rfl (by decide) rfl (fun _ h => h) q171 (by decide) (by decide) (by decide) rfl dX8_init_89 (fun F1 h1 g1 e1 e2 e3 => ?_)
  obtain rfl : F1 = cF 126 126 53326 := e1.trans (cF_new 125 126 51324 2002 (t := (0, 2002)) rfl (by decide +kernel))
  obtain rfl : h1 = cH 2 := e2.trans (cH_new 2 125 (by decide +kernel))
  obtain rfl : g1 = cG := e3.trans (cG_new 125)
  refine G_putrF (n := 0) ck7 19 (by decide) (by decide +kernel) (by decide) rfl (fun _ => rfl) (fun _ => rfl) rfl rfl rfl q1477 dX8_init_91 (fun F1 e1 => ?_)
  obtain rfl : F1 = cF 126 127 53326 := e1.trans (cF_wr 126 126 53326 (a := 115) (k := 19) (b := 125) rfl (by decide +kernel))
  refine V_aload_n dX8_init_94 rfl 0 rfl ?_
  refine V_sipush (v := 2002) dX8_init_95 (by decide) ?_
  refine G_newa (t := 0) (N := 2002) rfl (by decide) rfl (fun _ h => h) q171 (by decide) (by decide) (by decide) rfl dX8_init_98 (fun F1 h1 g1 e1 e2 e3 => ?_)
  obtain rfl : F1 = cF 127 127 55328 := e1.trans (cF_new 126 127 53326 2002 (t := (0, 2002)) rfl (by decide +kernel))
  obtain rfl : h1 = cH 2 := e2.trans (cH_new 2 126 (by decide +kernel))
  obtain rfl : g1 = cG := e3.trans (cG_new 126)
  refine G_putrF (n := 0) ck7 20 (by decide) (by decide +kernel) (by decide) rfl (fun _ => rfl) (fun _ => rfl) rfl rfl rfl q1478 dX8_init_100 (fun F1 e1 => ?_)
  obtain rfl : F1 = cF 127 128 55328 := e1.trans (cF_wr 127 127 55328 (a := 115) (k := 20) (b := 126) rfl (by decide +kernel))
  refine V_aload_n dX8_init_103 rfl 0 rfl ?_
  refine V_sipush (v := 2002) dX8_init_104 (by decide) ?_
  refine G_newa (t := 0) (N := 2002) rfl (by decide) rfl (fun _ h => h) q171 (by decide) (by decide) (by decide) rfl dX8_init_107 (fun F1 h1 g1 e1 e2 e3 => ?_)
  obtain rfl : F1 = cF 128 128 57330 := e1.trans (cF_new 127 128 55328 2002 (t := (0, 2002)) rfl (by decide +kernel))
  obtain rfl : h1 = cH 2 := e2.trans (cH_new 2 127 (by decide +kernel))
  obtain rfl : g1 = cG := e3.trans (cG_new 127)
  refine G_putrF (n := 0) ck7 21 (by decide) (by decide +kernel) (by decide) rfl (fun _ => rfl) (fun _ => rfl) rfl rfl rfl q1479 dX8_init_109 (fun F1 e1 => ?_)
  obtain rfl : F1 = cF 128 129 57330 := e1.trans (cF_wr 128 128 57330 (a := 115) (k := 21) (b := 127) rfl (by decide +kernel))
  refine V_aload_n dX8_init_112 rfl 0 rfl ?_
  refine V_sipush (v := 2002) dX8_init_113 (by decide) ?_
  refine G_newa (t := 0) (N := 2002) rfl (by decide) rfl (fun _ h => h) q171 (by decide) (by decide) (by decide) rfl dX8_init_116 (fun F1 h1 g1 e1 e2 e3 => ?_)
  obtain rfl : F1 = cF 129 129 59332 := e1.trans (cF_new 128 129 57330 2002 (t := (0, 2002)) rfl (by decide +kernel))
  obtain rfl : h1 = cH 2 := e2.trans (cH_new 2 128 (by decide +kernel))
  obtain rfl : g1 = cG := e3.trans (cG_new 128)
  refine G_putrF (n := 0) ck7 22 (by decide) (by decide +kernel) (by decide) rfl (fun _ => rfl) (fun _ => rfl) rfl rfl rfl q1480 dX8_init_118 (fun F1 e1 => ?_)
  obtain rfl : F1 = cF 129 130 59332 := e1.trans (cF_wr 129 129 59332 (a := 115) (k := 22) (b := 128) rfl (by decide +kernel))
  refine V_aload_n dX8_init_121 rfl 0 rfl ?_
  refine V_sipush (v := 2002) dX8_init_122 (by decide) ?_
  refine G_newa (t := 0) (N := 2002) rfl (by decide) rfl (fun _ h => h) q171 (by decide) (by decide) (by decide) rfl dX8_init_125 (fun F1 h1 g1 e1 e2 e3 => ?_)
  obtain rfl : F1 = cF 130 130 61334 := e1.trans (cF_new 129 130 59332 2002 (t := (0, 2002)) rfl (by decide +kernel))
  obtain rfl : h1 = cH 2 := e2.trans (cH_new 2 129 (by decide +kernel))
  obtain rfl : g1 = cG := e3.trans (cG_new 129)
  refine G_putrF (n := 0) ck7 23 (by decide) (by decide +kernel) (by decide) rfl (fun _ => rfl) (fun _ => rfl) rfl rfl rfl q1481 dX8_init_127 (fun F1 e1 => ?_)
  obtain rfl : F1 = cF 130 131 61334 := e1.trans (cF_wr 130 130 61334 (a := 115) (k := 23) (b := 129) rfl (by decide +kernel))
  refine V_aload_n dX8_init_130 rfl 0 rfl ?_
  refine V_sipush (v := 2002) dX8_init_131 (by decide) ?_
  refine G_newa (t := 3) (N := 2002) rfl (by decide) rfl (fun _ h => h) q1708 (by decide) (by decide) (by decide) rfl dX8_init_134 (fun F1 h1 g1 e1 e2 e3 => ?_)
  obtain rfl : F1 = cF 131 131 63336 := e1.trans (cF_new 130 131 61334 2002 (t := (3, 2002)) rfl (by decide +kernel))
  obtain rfl : h1 = cH 2 := e2.trans (cH_new 2 130 (by decide +kernel))
  obtain rfl : g1 = cG := e3.trans (cG_new 130)
  refine G_putrF (n := 0) ck7 24 (by decide) (by decide +kernel) (by decide) rfl (fun _ => rfl) (fun _ => rfl) rfl rfl rfl q1482 dX8_init_136 (fun F1 e1 => ?_)
  obtain rfl : F1 = cF 131 132 63336 := e1.trans (cF_wr 131 131 63336 (a := 115) (k := 24) (b := 130) rfl (by decide +kernel))
  refine V_aload_n dX8_init_139 rfl 0 rfl ?_
  refine V_sipush (v := 2002) dX8_init_140 (by decide) ?_
  refine G_newa (t := 0) (N := 2002) rfl (by decide) rfl (fun _ h => h) q171 (by decide) (by decide) (by decide) rfl dX8_init_143 (fun F1 h1 g1 e1 e2 e3 => ?_)
  obtain rfl : F1 = cF 132 132 65338 := e1.trans (cF_new 131 132 63336 2002 (t := (0, 2002)) rfl (by decide +kernel))
  obtain rfl : h1 = cH 2 := e2.trans (cH_new 2 131 (by decide +kernel))
  obtain rfl : g1 = cG := e3.trans (cG_new 131)
  refine G_putrF (n := 0) ck7 25 (by decide) (by decide +kernel) (by decide) rfl (fun _ => rfl) (fun _ => rfl) rfl rfl rfl q1483 dX8_init_145 (fun F1 e1 => ?_)
  obtain rfl : F1 = cF 132 133 65338 := e1.trans (cF_wr 132 132 65338 (a := 115) (k := 25) (b := 131) rfl (by decide +kernel))
  refine V_aload_n dX8_init_148 rfl 0 rfl ?_
  refine V_iconst (v := 2) dX8_init_149 (by decide) ?_
  refine G_newa (t := 0) (N := 2) rfl (by decide) rfl (fun _ h => h) q171 (by decide) (by decide) (by decide) rfl dX8_init_150 (fun F1 h1 g1 e1 e2 e3 => ?_)
  obtain rfl : F1 = cF 133 133 65340 := e1.trans (cF_new 132 133 65338 2 (t := (0, 2)) rfl (by decide +kernel))
  obtain rfl : h1 = cH 2 := e2.trans (cH_new 2 132 (by decide +kernel))
  obtain rfl : g1 = cG := e3.trans (cG_new 132)
  refine G_putrF (n := 0) ck7 26 (by decide) (by decide +kernel) (by decide) rfl (fun _ => rfl) (fun _ => rfl) rfl rfl rfl q1484 dX8_init_152 (fun F1 e1 => ?_)
  obtain rfl : F1 = cF 133 134 65340 := e1.trans (cF_wr 133 133 65340 (a := 115) (k := 26) (b := 132) rfl (by decide +kernel))
  refine V_aload_n dX8_init_155 rfl 0 rfl ?_
  refine V_sipush (v := 1100) dX8_init_156 (by decide) ?_
  refine G_newa (t := 0) (N := 1100) rfl (by decide) rfl (fun _ h => h) q171 (by decide) (by decide) (by decide) rfl dX8_init_159 (fun F1 h1 g1 e1 e2 e3 => ?_)
  obtain rfl : F1 = cF 134 134 66440 := e1.trans (cF_new 133 134 65340 1100 (t := (0, 1100)) rfl (by decide +kernel))
  obtain rfl : h1 = cH 2 := e2.trans (cH_new 2 133 (by decide +kernel))
  obtain rfl : g1 = cG := e3.trans (cG_new 133)
  refine G_putrF (n := 0) ck7 31 (by decide) (by decide +kernel) (by decide) rfl (fun _ => rfl) (fun _ => rfl) rfl rfl rfl q1489 dX8_init_161 (fun F1 e1 => ?_)
  obtain rfl : F1 = cF 134 135 66440 := e1.trans (cF_wr 134 134 66440 (a := 115) (k := 31) (b := 133) rfl (by decide +kernel))
  refine V_aload_n dX8_init_164 rfl 0 rfl ?_
  refine V_sipush (v := 3000) dX8_init_165 (by decide) ?_
  refine G_newa (t := 0) (N := 3000) rfl (by decide) rfl (fun _ h => h) q171 (by decide) (by decide) (by decide) rfl dX8_init_168 (fun F1 h1 g1 e1 e2 e3 => ?_)
  obtain rfl : F1 = cF 135 135 69440 := e1.trans (cF_new 134 135 66440 3000 (t := (0, 3000)) rfl (by decide +kernel))
  obtain rfl : h1 = cH 2 := e2.trans (cH_new 2 134 (by decide +kernel))
  obtain rfl : g1 = cG := e3.trans (cG_new 134)
  refine G_putrF (n := 0) ck7 34 (by decide) (by decide +kernel) (by decide) rfl (fun _ => rfl) (fun _ => rfl) rfl rfl rfl q1492 dX8_init_170 (fun F1 e1 => ?_)
  obtain rfl : F1 = cF 135 136 69440 := e1.trans (cF_wr 135 135 69440 (a := 115) (k := 34) (b := 134) rfl (by decide +kernel))
  refine V_aload_n dX8_init_173 rfl 0 rfl ?_
  refine V_sipush (v := 3000) dX8_init_174 (by decide) ?_
  refine G_newa (t := 0) (N := 3000) rfl (by decide) rfl (fun _ h => h) q171 (by decide) (by decide) (by decide) rfl dX8_init_177 (fun F1 h1 g1 e1 e2 e3 => ?_)
  obtain rfl : F1 = cF 136 136 72440 := e1.trans (cF_new 135 136 69440 3000 (t := (0, 3000)) rfl (by decide +kernel))
  obtain rfl : h1 = cH 2 := e2.trans (cH_new 2 135 (by decide +kernel))
  obtain rfl : g1 = cG := e3.trans (cG_new 135)
  refine G_putrF (n := 0) ck7 35 (by decide) (by decide +kernel) (by decide) rfl (fun _ => rfl) (fun _ => rfl) rfl rfl rfl q1493 dX8_init_179 (fun F1 e1 => ?_)
  obtain rfl : F1 = cF 136 137 72440 := e1.trans (cF_wr 136 136 72440 (a := 115) (k := 35) (b := 135) rfl (by decide +kernel))
  refine V_aload_n dX8_init_182 rfl 0 rfl ?_
  refine V_sipush (v := 1100) dX8_init_183 (by decide) ?_
  refine G_newa (t := 0) (N := 1100) rfl (by decide) rfl (fun _ h => h) q171 (by decide) (by decide) (by decide) rfl dX8_init_186 (fun F1 h1 g1 e1 e2 e3 => ?_)
  obtain rfl : F1 = cF 137 137 73540 := e1.trans (cF_new 136 137 72440 1100 (t := (0, 1100)) rfl (by decide +kernel))
  obtain rfl : h1 = cH 2 := e2.trans (cH_new 2 136 (by decide +kernel))
  obtain rfl : g1 = cG := e3.trans (cG_new 136)
  refine G_putrF (n := 0) ck7 37 (by decide) (by decide +kernel) (by decide) rfl (fun _ => rfl) (fun _ => rfl) rfl rfl rfl q1495 dX8_init_188 (fun F1 e1 => ?_)
  obtain rfl : F1 = cF 137 138 73540 := e1.trans (cF_wr 137 137 73540 (a := 115) (k := 37) (b := 136) rfl (by decide +kernel))
  refine V_aload_n dX8_init_191 rfl 0 rfl ?_
  refine V_bipush (v := 16) dX8_init_192 (by decide) ?_
  refine G_newa (t := 0) (N := 16) rfl (by decide) rfl (fun _ h => h) q171 (by decide) (by decide) (by decide) rfl dX8_init_194 (fun F1 h1 g1 e1 e2 e3 => ?_)
  obtain rfl : F1 = cF 138 138 73556 := e1.trans (cF_new 137 138 73540 16 (t := (0, 16)) rfl (by decide +kernel))
  obtain rfl : h1 = cH 2 := e2.trans (cH_new 2 137 (by decide +kernel))
  obtain rfl : g1 = cG := e3.trans (cG_new 137)
  refine G_putrF (n := 0) ck7 39 (by decide) (by decide +kernel) (by decide) rfl (fun _ => rfl) (fun _ => rfl) rfl rfl rfl q1497 dX8_init_196 (fun F1 e1 => ?_)
  obtain rfl : F1 = cF 138 139 73556 := e1.trans (cF_wr 138 138 73556 (a := 115) (k := 39) (b := 137) rfl (by decide +kernel))
  refine V_aload_n dX8_init_199 rfl 0 rfl ?_
  refine V_sipush (v := 3000) dX8_init_200 (by decide) ?_
  refine G_newa (t := 0) (N := 3000) rfl (by decide) rfl (fun _ h => h) q171 (by decide) (by decide) (by decide) rfl dX8_init_203 (fun F1 h1 g1 e1 e2 e3 => ?_)
  obtain rfl : F1 = cF 139 139 76556 := e1.trans (cF_new 138 139 73556 3000 (t := (0, 3000)) rfl (by decide +kernel))
  obtain rfl : h1 = cH 2 := e2.trans (cH_new 2 138 (by decide +kernel))
  obtain rfl : g1 = cG := e3.trans (cG_new 138)
  refine G_putrF (n := 0) ck7 42 (by decide) (by decide +kernel) (by decide) rfl (fun _ => rfl) (fun _ => rfl) rfl rfl rfl q1500 dX8_init_205 (fun F1 e1 => ?_)
  obtain rfl : F1 = cF 139 140 76556 := e1.trans (cF_wr 139 139 76556 (a := 115) (k := 42) (b := 138) rfl (by decide +kernel))
  refine V_aload_n dX8_init_208 rfl 0 rfl ?_
  refine V_bipush (v := 16) dX8_init_209 (by decide) ?_
  refine G_newa (t := 0) (N := 16) rfl (by decide) rfl (fun _ h => h) q171 (by decide) (by decide) (by decide) rfl dX8_init_211 (fun F1 h1 g1 e1 e2 e3 => ?_)
  obtain rfl : F1 = cF 140 140 76572 := e1.trans (cF_new 139 140 76556 16 (t := (0, 16)) rfl (by decide +kernel))
  obtain rfl : h1 = cH 2 := e2.trans (cH_new 2 139 (by decide +kernel))
  obtain rfl : g1 = cG := e3.trans (cG_new 139)
  refine G_putrF (n := 0) ck7 43 (by decide) (by decide +kernel) (by decide) rfl (fun _ => rfl) (fun _ => rfl) rfl rfl rfl q1501 dX8_init_213 (fun F1 e1 => ?_)
  obtain rfl : F1 = cF 140 141 76572 := e1.trans (cF_wr 140 140 76572 (a := 115) (k := 43) (b := 139) rfl (by decide +kernel))
  refine V_aload_n dX8_init_216 rfl 0 rfl ?_
  refine V_sipush (v := 3000) dX8_init_217 (by decide) ?_
  refine G_newa (t := 0) (N := 3000) rfl (by decide) rfl (fun _ h => h) q171 (by decide) (by decide) (by decide) rfl dX8_init_220 (fun F1 h1 g1 e1 e2 e3 => ?_)
  obtain rfl : F1 = cF 141 141 79572 := e1.trans (cF_new 140 141 76572 3000 (t := (0, 3000)) rfl (by decide +kernel))
  obtain rfl : h1 = cH 2 := e2.trans (cH_new 2 140 (by decide +kernel))
  obtain rfl : g1 = cG := e3.trans (cG_new 140)
  refine G_putrF (n := 0) ck7 48 (by decide) (by decide +kernel) (by decide) rfl (fun _ => rfl) (fun _ => rfl) rfl rfl rfl q1506 dX8_init_222 (fun F1 e1 => ?_)
  obtain rfl : F1 = cF 141 142 79572 := e1.trans (cF_wr 141 141 79572 (a := 115) (k := 48) (b := 140) rfl (by decide +kernel))
  refine V_aload_n dX8_init_225 rfl 0 rfl ?_
  refine V_sipush (v := 8000) dX8_init_226 (by decide) ?_
  refine G_newa (t := 0) (N := 8000) rfl (by decide) rfl (fun _ h => h) q171 (by decide) (by decide) (by decide) rfl dX8_init_229 (fun F1 h1 g1 e1 e2 e3 => ?_)
  obtain rfl : F1 = cF 142 142 87572 := e1.trans (cF_new 141 142 79572 8000 (t := (0, 8000)) rfl (by decide +kernel))
  obtain rfl : h1 = cH 2 := e2.trans (cH_new 2 141 (by decide +kernel))
  obtain rfl : g1 = cG := e3.trans (cG_new 141)
  refine G_putrF (n := 0) ck7 49 (by decide) (by decide +kernel) (by decide) rfl (fun _ => rfl) (fun _ => rfl) rfl rfl rfl q1507 dX8_init_231 (fun F1 e1 => ?_)
  obtain rfl : F1 = cF 142 143 87572 := e1.trans (cF_wr 142 142 87572 (a := 115) (k := 49) (b := 141) rfl (by decide +kernel))
  refine V_aload_n dX8_init_234 rfl 0 rfl ?_
  refine V_sipush (v := 500) dX8_init_235 (by decide) ?_
  refine G_newa (t := 2) (N := 500) rfl (by decide) rfl (fun _ h => h) q370 (by decide) (by decide) (by decide) rfl dX8_init_238 (fun F1 h1 g1 e1 e2 e3 => ?_)
  obtain rfl : F1 = cF 143 143 88072 := e1.trans (cF_new 142 143 87572 500 (t := (2, 500)) rfl (by decide +kernel))
  obtain rfl : h1 = cH 2 := e2.trans (cH_new 2 142 (by decide +kernel))
  obtain rfl : g1 = cG := e3.trans (cG_new 142)
  refine G_putrF (n := 0) ck7 50 (by decide) (by decide +kernel) (by decide) rfl (fun _ => rfl) (fun _ => rfl) rfl rfl rfl q1508 dX8_init_240 (fun F1 e1 => ?_)
  obtain rfl : F1 = cF 143 144 88072 := e1.trans (cF_wr 143 143 88072 (a := 115) (k := 50) (b := 142) rfl (by decide +kernel))
  refine V_aload_n dX8_init_243 rfl 0 rfl ?_
  refine V_sipush (v := 1248) dX8_init_244 (by decide) ?_
  refine G_newa (t := 0) (N := 1248) rfl (by decide) rfl (fun _ h => h) q171 (by decide) (by decide) (by decide) rfl dX8_init_247 (fun F1 h1 g1 e1 e2 e3 => ?_)
  obtain rfl : F1 = cF 144 144 89320 := e1.trans (cF_new 143 144 88072 1248 (t := (0, 1248)) rfl (by decide +kernel))
  obtain rfl : h1 = cH 2 := e2.trans (cH_new 2 143 (by decide +kernel))
  obtain rfl : g1 = cG := e3.trans (cG_new 143)
  refine G_putrF (n := 0) ck7 51 (by decide) (by decide +kernel) (by decide) rfl (fun _ => rfl) (fun _ => rfl) rfl rfl rfl q1509 dX8_init_249 (fun F1 e1 => ?_)
  obtain rfl : F1 = cF 144 145 89320 := e1.trans (cF_wr 144 144 89320 (a := 115) (k := 51) (b := 143) rfl (by decide +kernel))
  refine V_aload_n dX8_init_252 rfl 0 rfl ?_
  refine V_sipush (v := 312) dX8_init_253 (by decide) ?_
  refine G_newa (t := 2) (N := 312) rfl (by decide) rfl (fun _ h => h) q370 (by decide) (by decide) (by decide) rfl dX8_init_256 (fun F1 h1 g1 e1 e2 e3 => ?_)
  obtain rfl : F1 = cF 145 145 89632 := e1.trans (cF_new 144 145 89320 312 (t := (2, 312)) rfl (by decide +kernel))
  obtain rfl : h1 = cH 2 := e2.trans (cH_new 2 144 (by decide +kernel))
  obtain rfl : g1 = cG := e3.trans (cG_new 144)
  refine G_putrF (n := 0) ck7 52 (by decide) (by decide +kernel) (by decide) rfl (fun _ => rfl) (fun _ => rfl) rfl rfl rfl q1510 dX8_init_258 (fun F1 e1 => ?_)
  obtain rfl : F1 = cF 145 146 89632 := e1.trans (cF_wr 145 145 89632 (a := 115) (k := 52) (b := 144) rfl (by decide +kernel))
  refine V_aload_n dX8_init_261 rfl 0 rfl ?_
  refine V_bipush (v := 40) dX8_init_262 (by decide) ?_
  refine G_newa (t := 0) (N := 40) rfl (by decide) rfl (fun _ h => h) q171 (by decide) (by decide) (by decide) rfl dX8_init_264 (fun F1 h1 g1 e1 e2 e3 => ?_)
  obtain rfl : F1 = cF 146 146 89672 := e1.trans (cF_new 145 146 89632 40 (t := (0, 40)) rfl (by decide +kernel))
  obtain rfl : h1 = cH 2 := e2.trans (cH_new 2 145 (by decide +kernel))
  obtain rfl : g1 = cG := e3.trans (cG_new 145)
  refine G_putrF (n := 0) ck7 53 (by decide) (by decide +kernel) (by decide) rfl (fun _ => rfl) (fun _ => rfl) rfl rfl rfl q1511 dX8_init_266 (fun F1 e1 => ?_)
  obtain rfl : F1 = cF 146 147 89672 := e1.trans (cF_wr 146 146 89672 (a := 115) (k := 53) (b := 145) rfl (by decide +kernel))
  refine V_aload_n dX8_init_269 rfl 0 rfl ?_
  refine V_bipush (v := 40) dX8_init_270 (by decide) ?_
  refine G_newa (t := 0) (N := 40) rfl (by decide) rfl (fun _ h => h) q171 (by decide) (by decide) (by decide) rfl dX8_init_272 (fun F1 h1 g1 e1 e2 e3 => ?_)
  obtain rfl : F1 = cF 147 147 89712 := e1.trans (cF_new 146 147 89672 40 (t := (0, 40)) rfl (by decide +kernel))
  obtain rfl : h1 = cH 2 := e2.trans (cH_new 2 146 (by decide +kernel))
  obtain rfl : g1 = cG := e3.trans (cG_new 146)
  refine G_putrF (n := 0) ck7 54 (by decide) (by decide +kernel) (by decide) rfl (fun _ => rfl) (fun _ => rfl) rfl rfl rfl q1512 dX8_init_274 (fun F1 e1 => ?_)
  obtain rfl : F1 = cF 147 148 89712 := e1.trans (cF_wr 147 147 89712 (a := 115) (k := 54) (b := 146) rfl (by decide +kernel))
  refine V_aload_n dX8_init_277 rfl 0 rfl ?_
  refine V_bipush (v := 8) dX8_init_278 (by decide) ?_
  refine G_newa (t := 0) (N := 8) rfl (by decide) rfl (fun _ h => h) q171 (by decide) (by decide) (by decide) rfl dX8_init_280 (fun F1 h1 g1 e1 e2 e3 => ?_)
  obtain rfl : F1 = cF 148 148 89720 := e1.trans (cF_new 147 148 89712 8 (t := (0, 8)) rfl (by decide +kernel))
  obtain rfl : h1 = cH 2 := e2.trans (cH_new 2 147 (by decide +kernel))
  obtain rfl : g1 = cG := e3.trans (cG_new 147)
  refine G_putrF (n := 0) ck7 56 (by decide) (by decide +kernel) (by decide) rfl (fun _ => rfl) (fun _ => rfl) rfl rfl rfl q1514 dX8_init_282 (fun F1 e1 => ?_)
  obtain rfl : F1 = cF 148 149 89720 := e1.trans (cF_wr 148 148 89720 (a := 115) (k := 56) (b := 147) rfl (by decide +kernel))
  refine V_aload_n dX8_init_285 rfl 0 rfl ?_
  refine V_sipush (v := 1540) dX8_init_286 (by decide) ?_
  refine G_newa (t := 0) (N := 1540) rfl (by decide) rfl (fun _ h => h) q171 (by decide) (by decide) (by decide) rfl dX8_init_289 (fun F1 h1 g1 e1 e2 e3 => ?_)
  obtain rfl : F1 = cF 149 149 91260 := e1.trans (cF_new 148 149 89720 1540 (t := (0, 1540)) rfl (by decide +kernel))
  obtain rfl : h1 = cH 2 := e2.trans (cH_new 2 148 (by decide +kernel))
  obtain rfl : g1 = cG := e3.trans (cG_new 148)
  refine G_putrF (n := 0) ck7 57 (by decide) (by decide +kernel) (by decide) rfl (fun _ => rfl) (fun _ => rfl) rfl rfl rfl q1515 dX8_init_291 (fun F1 e1 => ?_)
  obtain rfl : F1 = cF 149 150 91260 := e1.trans (cF_wr 149 149 91260 (a := 115) (k := 57) (b := 148) rfl (by decide +kernel))
  refine V_aload_n dX8_init_294 rfl 0 rfl ?_
  refine V_sipush (v := 1540) dX8_init_295 (by decide) ?_
  refine G_newa (t := 0) (N := 1540) rfl (by decide) rfl (fun _ h => h) q171 (by decide) (by decide) (by decide) rfl dX8_init_298 (fun F1 h1 g1 e1 e2 e3 => ?_)
  obtain rfl : F1 = cF 150 150 92800 := e1.trans (cF_new 149 150 91260 1540 (t := (0, 1540)) rfl (by decide +kernel))
  obtain rfl : h1 = cH 2 := e2.trans (cH_new 2 149 (by decide +kernel))
  obtain rfl : g1 = cG := e3.trans (cG_new 149)
  refine G_putrF (n := 0) ck7 58 (by decide) (by decide +kernel) (by decide) rfl (fun _ => rfl) (fun _ => rfl) rfl rfl rfl q1516 dX8_init_300 (fun F1 e1 => ?_)
  obtain rfl : F1 = cF 150 151 92800 := e1.trans (cF_wr 150 150 92800 (a := 115) (k := 58) (b := 149) rfl (by decide +kernel))
  refine V_aload_n dX8_init_303 rfl 0 rfl ?_
  refine V_sipush (v := 1540) dX8_init_304 (by decide) ?_
  refine G_newa (t := 0) (N := 1540) rfl (by decide) rfl (fun _ h => h) q171 (by decide) (by decide) (by decide) rfl dX8_init_307 (fun F1 h1 g1 e1 e2 e3 => ?_)
  obtain rfl : F1 = cF 151 151 94340 := e1.trans (cF_new 150 151 92800 1540 (t := (0, 1540)) rfl (by decide +kernel))
  obtain rfl : h1 = cH 2 := e2.trans (cH_new 2 150 (by decide +kernel))
  obtain rfl : g1 = cG := e3.trans (cG_new 150)
  refine G_putrF (n := 0) ck7 59 (by decide) (by decide +kernel) (by decide) rfl (fun _ => rfl) (fun _ => rfl) rfl rfl rfl q1517 dX8_init_309 (fun F1 e1 => ?_)
  obtain rfl : F1 = cF 151 152 94340 := e1.trans (cF_wr 151 151 94340 (a := 115) (k := 59) (b := 150) rfl (by decide +kernel))
  refine V_aload_n dX8_init_312 rfl 0 rfl ?_
  refine V_sipush (v := 1540) dX8_init_313 (by decide) ?_
  refine G_newa (t := 0) (N := 1540) rfl (by decide) rfl (fun _ h => h) q171 (by decide) (by decide) (by decide) rfl dX8_init_316 (fun F1 h1 g1 e1 e2 e3 => ?_)
  obtain rfl : F1 = cF 152 152 95880 := e1.trans (cF_new 151 152 94340 1540 (t := (0, 1540)) rfl (by decide +kernel))
  obtain rfl : h1 = cH 2 := e2.trans (cH_new 2 151 (by decide +kernel))
  obtain rfl : g1 = cG := e3.trans (cG_new 151)
  refine G_putrF (n := 0) ck7 60 (by decide) (by decide +kernel) (by decide) rfl (fun _ => rfl) (fun _ => rfl) rfl rfl rfl q1518 dX8_init_318 (fun F1 e1 => ?_)
  obtain rfl : F1 = cF 152 153 95880 := e1.trans (cF_wr 152 152 95880 (a := 115) (k := 60) (b := 151) rfl (by decide +kernel))
  refine V_aload_n dX8_init_321 rfl 0 rfl ?_
  refine V_sipush (v := 1540) dX8_init_322 (by decide) ?_
  refine G_newa (t := 0) (N := 1540) rfl (by decide) rfl (fun _ h => h) q171 (by decide) (by decide) (by decide) rfl dX8_init_325 (fun F1 h1 g1 e1 e2 e3 => ?_)
  obtain rfl : F1 = cF 153 153 97420 := e1.trans (cF_new 152 153 95880 1540 (t := (0, 1540)) rfl (by decide +kernel))
  obtain rfl : h1 = cH 2 := e2.trans (cH_new 2 152 (by decide +kernel))
  obtain rfl : g1 = cG := e3.trans (cG_new 152)
  refine G_putrF (n := 0) ck7 61 (by decide) (by decide +kernel) (by decide) rfl (fun _ => rfl) (fun _ => rfl) rfl rfl rfl q1519 dX8_init_327 (fun F1 e1 => ?_)
  obtain rfl : F1 = cF 153 154 97420 := e1.trans (cF_wr 153 153 97420 (a := 115) (k := 61) (b := 152) rfl (by decide +kernel))
  refine V_aload_n dX8_init_330 rfl 0 rfl ?_
  refine V_sipush (v := 1540) dX8_init_331 (by decide) ?_
  refine G_newa (t := 2) (N := 1540) rfl (by decide) rfl (fun _ h => h) q370 (by decide) (by decide) (by decide) rfl dX8_init_334 (fun F1 h1 g1 e1 e2 e3 => ?_)
  obtain rfl : F1 = cF 154 154 98960 := e1.trans (cF_new 153 154 97420 1540 (t := (2, 1540)) rfl (by decide +kernel))
  obtain rfl : h1 = cH 2 := e2.trans (cH_new 2 153 (by decide +kernel))
  obtain rfl : g1 = cG := e3.trans (cG_new 153)
  refine G_putrF (n := 0) ck7 62 (by decide) (by decide +kernel) (by decide) rfl (fun _ => rfl) (fun _ => rfl) rfl rfl rfl q1520 dX8_init_336 (fun F1 e1 => ?_)
  obtain rfl : F1 = cF 154 155 98960 := e1.trans (cF_wr 154 154 98960 (a := 115) (k := 62) (b := 153) rfl (by decide +kernel))
  refine V_aload_n dX8_init_339 rfl 0 rfl ?_
  refine V_sipush (v := 1540) dX8_init_340 (by decide) ?_
  refine G_newa (t := 0) (N := 1540) rfl (by decide) rfl (fun _ h => h) q171 (by decide) (by decide) (by decide) rfl dX8_init_343 (fun F1 h1 g1 e1 e2 e3 => ?_)
  obtain rfl : F1 = cF 155 155 100500 := e1.trans (cF_new 154 155 98960 1540 (t := (0, 1540)) rfl (by decide +kernel))
  obtain rfl : h1 = cH 2 := e2.trans (cH_new 2 154 (by decide +kernel))
  obtain rfl : g1 = cG := e3.trans (cG_new 154)
  refine G_putrF (n := 0) ck7 63 (by decide) (by decide +kernel) (by decide) rfl (fun _ => rfl) (fun _ => rfl) rfl rfl rfl q1521 dX8_init_345 (fun F1 e1 => ?_)
  obtain rfl : F1 = cF 155 156 100500 := e1.trans (cF_wr 155 155 100500 (a := 115) (k := 63) (b := 154) rfl (by decide +kernel))
  refine V_aload_n dX8_init_348 rfl 0 rfl ?_
  refine V_sipush (v := 1540) dX8_init_349 (by decide) ?_
  refine G_newa (t := 0) (N := 1540) rfl (by decide) rfl (fun _ h => h) q171 (by decide) (by decide) (by decide) rfl dX8_init_352 (fun F1 h1 g1 e1 e2 e3 => ?_)
  obtain rfl : F1 = cF 156 156 102040 := e1.trans (cF_new 155 156 100500 1540 (t := (0, 1540)) rfl (by decide +kernel))
  obtain rfl : h1 = cH 2 := e2.trans (cH_new 2 155 (by decide +kernel))
  obtain rfl : g1 = cG := e3.trans (cG_new 155)
  refine G_putrF (n := 0) ck7 64 (by decide) (by decide +kernel) (by decide) rfl (fun _ => rfl) (fun _ => rfl) rfl rfl rfl q1522 dX8_init_354 (fun F1 e1 => ?_)
  obtain rfl : F1 = cF 156 157 102040 := e1.trans (cF_wr 156 156 102040 (a := 115) (k := 64) (b := 155) rfl (by decide +kernel))
  refine V_aload_n dX8_init_357 rfl 0 rfl ?_
  refine V_sipush (v := 24032) dX8_init_358 (by decide) ?_
  refine G_newa (t := 0) (N := 24032) rfl (by decide) rfl (fun _ h => h) q171 (by decide) (by decide) (by decide) rfl dX8_init_361 (fun F1 h1 g1 e1 e2 e3 => ?_)
  obtain rfl : F1 = cF 157 157 126072 := e1.trans (cF_new 156 157 102040 24032 (t := (0, 24032)) rfl (by decide +kernel))
  obtain rfl : h1 = cH 2 := e2.trans (cH_new 2 156 (by decide +kernel))
  obtain rfl : g1 = cG := e3.trans (cG_new 156)
  refine G_putrF (n := 0) ck7 65 (by decide) (by decide +kernel) (by decide) rfl (fun _ => rfl) (fun _ => rfl) rfl rfl rfl q1523 dX8_init_363 (fun F1 e1 => ?_)
  obtain rfl : F1 = cF 157 158 126072 := e1.trans (cF_wr 157 157 126072 (a := 115) (k := 65) (b := 156) rfl (by decide +kernel))
  refine V_aload_n dX8_init_366 rfl 0 rfl ?_
  refine V_iconst (v := 4) dX8_init_367 (by decide) ?_
  refine G_newa (t := 0) (N := 4) rfl (by decide) rfl (fun _ h => h) q171 (by decide) (by decide) (by decide) rfl dX8_init_368 (fun F1 h1 g1 e1 e2 e3 => ?_)
  obtain rfl : F1 = cF 158 158 126076 := e1.trans (cF_new 157 158 126072 4 (t := (0, 4)) rfl (by decide +kernel))
  obtain rfl : h1 = cH 2 := e2.trans (cH_new 2 157 (by decide +kernel))
  obtain rfl : g1 = cG := e3.trans (cG_new 157)
  refine G_putrF (n := 0) ck7 66 (by decide) (by decide +kernel) (by decide) rfl (fun _ => rfl) (fun _ => rfl) rfl rfl rfl q1524 dX8_init_370 (fun F1 e1 => ?_)
  obtain rfl : F1 = cF 158 159 126076 := e1.trans (cF_wr 158 158 126076 (a := 115) (k := 66) (b := 157) rfl (by decide +kernel))
  refine V_aload_n dX8_init_373 rfl 0 rfl ?_
  refine V_iconst (v := (-1)) dX8_init_374 (by decide) ?_
  refine H_puti (n := 0) ck7 75 (by decide) (by decide +kernel) (by decide) rfl rfl q1533 dX8_init_375 (fun h1 e1 => ?_)
  obtain rfl : h1 = cH 3 := e1.trans (cH_wr 2 (a := 115) (k := 75) (x := (-1)) rfl (by decide +kernel))
  refine V_aload_n dX8_init_378 rfl 0 rfl ?_
  refine V_sipush (v := 3000) dX8_init_379 (by decide) ?_
  refine G_newa (t := 0) (N := 3000) rfl (by decide) rfl (fun _ h => h) q171 (by decide) (by decide) (by decide) rfl dX8_init_382 (fun F1 h1 g1 e1 e2 e3 => ?_)
  obtain rfl : F1 = cF 159 159 129076 := e1.trans (cF_new 158 159 126076 3000 (t := (0, 3000)) rfl (by decide +kernel))
  obtain rfl : h1 = cH 3 := e2.trans (cH_new 3 158 (by decide +kernel))
  obtain rfl : g1 = cG := e3.trans (cG_new 158)
  refine G_putrF (n := 0) ck7 81 (by decide) (by decide +kernel) (by decide) rfl (fun _ => rfl) (fun _ => rfl) rfl rfl rfl q1539 dX8_init_384 (fun F1 e1 => ?_)
  obtain rfl : F1 = cF 159 160 129076 := e1.trans (cF_wr 159 159 129076 (a := 115) (k := 81) (b := 158) rfl (by decide +kernel))
  exact V_vret rfl dX8_init_387 ⟨rfl, rfl⟩)
/- the law's start: cM 0 0 0 0; after StrictProofs: cM 115 117 44351 1; the Model's cell: cM 116 117 44434 1; after it: cM 159 160 129076 3; with long[1]: cM 160 160 129077 3 -/
abbrev cEnd : Mem := cM 160 160 129077 3
theorem cEnd_fix : k_Fix cEnd.1 := by
  refine ⟨fun a t h => ?_, fun i q h => ?_⟩
  · show (fx_sh.take 160).getD a (99, 0) = t
    rw [List.take_of_length_le (by decide +kernel), List.getD_eq_getElem?_getD, h]
    rfl
  · have h1 : fx_rf.all (fun q => decide (cR (cx_rf.take 160) q.1 q.2.1 = some q.2.2)) = true := by decide +kernel
    exact of_decide_eq_true (List.all_eq_true.mp h1 q (List.mem_of_getElem? h))
