/-! walks of the component, printed by gen/mkcomp.py -/
set_option maxRecDepth 100000
theorem dX1_left_0 : decode cX1_left 0 = .ok (.iload_n 0, 1) := by decide +kernel
theorem dX1_left_1 : decode cX1_left 1 = .ok (.iconst 1, 1) := by decide +kernel
theorem dX1_left_2 : decode cX1_left 2 = .ok (.isub, 1) := by decide +kernel
theorem dX1_left_3 : decode cX1_left 3 = .ok (.iconst 1, 1) := by decide +kernel
theorem dX1_left_4 : decode cX1_left 4 = .ok (.ishr, 1) := by decide +kernel
theorem dX1_left_5 : decode cX1_left 5 = .ok (.ireturn, 1) := by decide +kernel
abbrev JX1_left_0 (D : DE) (f : Nat) (Q : Int32 → HI → HL → Prop) (F : Frm) (h : HI) (g : HL) (x0 : Int32) : Prop := Q ((x0 - 1) >>> (1 &&& 31)) h g
theorem bX1_left_0 {D : DE} {f : Nat} {Q : Int32 → HI → HL → Prop} {F : Frm} {h : HI} {g : HL} (hF : k_Fix F) (x0 : Int32) (H : JX1_left_0 D f Q F h g x0) : V D mX1_left f (qi F Q) 0 [(0, .int x0)] [] (F, h, g) := by
  refine V_iload_n dX1_left_0 rfl 0 rfl ?_
  refine V_iconst (v := 1) dX1_left_1 (by decide) ?_
  refine V_isub dX1_left_2 ?_
  refine V_iconst (v := 1) dX1_left_3 (by decide) ?_
  refine V_ishr dX1_left_4 ?_
  exact H_iret rfl dX1_left_5 H
theorem wX1_left {D : DE} {f : Nat} {Q : Int32 → HI → HL → Prop} {F : Frm} {h : HI} {g : HL} (hF : k_Fix F) (x0 : Int32) (H : JX1_left_0 D f Q F h g x0) : Si D f mX1_left [.int x0] F h g Q := Cl.ofV (by decide) (Nat.le_of_ble_eq_true rfl) rfl (bX1_left_0 hF x0 H)
theorem dX1_right_0 : decode cX1_right 0 = .ok (.iload_n 0, 1) := by decide +kernel
theorem dX1_right_1 : decode cX1_right 1 = .ok (.iconst 1, 1) := by decide +kernel
theorem dX1_right_2 : decode cX1_right 2 = .ok (.isub, 1) := by decide +kernel
theorem dX1_right_3 : decode cX1_right 3 = .ok (.iconst 1, 1) := by decide +kernel
theorem dX1_right_4 : decode cX1_right 4 = .ok (.iand, 1) := by decide +kernel
theorem dX1_right_5 : decode cX1_right 5 = .ok (.ireturn, 1) := by decide +kernel
abbrev JX1_right_0 (D : DE) (f : Nat) (Q : Int32 → HI → HL → Prop) (F : Frm) (h : HI) (g : HL) (x0 : Int32) : Prop := Q ((x0 - 1) &&& 1) h g
theorem bX1_right_0 {D : DE} {f : Nat} {Q : Int32 → HI → HL → Prop} {F : Frm} {h : HI} {g : HL} (hF : k_Fix F) (x0 : Int32) (H : JX1_right_0 D f Q F h g x0) : V D mX1_right f (qi F Q) 0 [(0, .int x0)] [] (F, h, g) := by
  refine V_iload_n dX1_right_0 rfl 0 rfl ?_
  refine V_iconst (v := 1) dX1_right_1 (by decide) ?_
  refine V_isub dX1_right_2 ?_
  refine V_iconst (v := 1) dX1_right_3 (by decide) ?_
  refine V_iand dX1_right_4 ?_
  exact H_iret rfl dX1_right_5 H
theorem wX1_right {D : DE} {f : Nat} {Q : Int32 → HI → HL → Prop} {F : Frm} {h : HI} {g : HL} (hF : k_Fix F) (x0 : Int32) (H : JX1_right_0 D f Q F h g x0) : Si D f mX1_right [.int x0] F h g Q := Cl.ofV (by decide) (Nat.le_of_ble_eq_true rfl) rfl (bX1_right_0 hF x0 H)
theorem dX1_pairOf_0 : decode cX1_pairOf 0 = .ok (.iload_n 0, 1) := by decide +kernel
theorem dX1_pairOf_1 : decode cX1_pairOf 1 = .ok (.iconst 1, 1) := by decide +kernel
theorem dX1_pairOf_2 : decode cX1_pairOf 2 = .ok (.if_icmp .gt 8, 3) := by decide +kernel
theorem dX1_pairOf_5 : decode cX1_pairOf 5 = .ok (.iload_n 1, 1) := by decide +kernel
theorem dX1_pairOf_6 : decode cX1_pairOf 6 = .ok (.iconst 1, 1) := by decide +kernel
theorem dX1_pairOf_7 : decode cX1_pairOf 7 = .ok (.if_icmp .le 7, 3) := by decide +kernel
theorem dX1_pairOf_10 : decode cX1_pairOf 10 = .ok (.iconst (-1), 1) := by decide +kernel
theorem dX1_pairOf_11 : decode cX1_pairOf 11 = .ok (.goto 10, 3) := by decide +kernel
theorem dX1_pairOf_14 : decode cX1_pairOf 14 = .ok (.iconst 1, 1) := by decide +kernel
theorem dX1_pairOf_15 : decode cX1_pairOf 15 = .ok (.iconst 2, 1) := by decide +kernel
theorem dX1_pairOf_16 : decode cX1_pairOf 16 = .ok (.iload_n 0, 1) := by decide +kernel
theorem dX1_pairOf_17 : decode cX1_pairOf 17 = .ok (.imul, 1) := by decide +kernel
theorem dX1_pairOf_18 : decode cX1_pairOf 18 = .ok (.iadd, 1) := by decide +kernel
theorem dX1_pairOf_19 : decode cX1_pairOf 19 = .ok (.iload_n 1, 1) := by decide +kernel
theorem dX1_pairOf_20 : decode cX1_pairOf 20 = .ok (.iadd, 1) := by decide +kernel
theorem dX1_pairOf_21 : decode cX1_pairOf 21 = .ok (.ireturn, 1) := by decide +kernel
abbrev JX1_pairOf_0 (D : DE) (f : Nat) (Q : Int32 → HI → HL → Prop) (F : Frm) (h : HI) (g : HL) (x0 : Int32) (x1 : Int32) : Prop := ((1 < x0 → Q (-1) h g) ∧ (¬ 1 < x0 → ((x1 ≤ 1 → Q ((1 + (2 * x0)) + x1) h g) ∧ (¬ x1 ≤ 1 → Q (-1) h g))))
theorem bX1_pairOf_0 {D : DE} {f : Nat} {Q : Int32 → HI → HL → Prop} {F : Frm} {h : HI} {g : HL} (hF : k_Fix F) (x0 : Int32) (x1 : Int32) (H : JX1_pairOf_0 D f Q F h g x0 x1) : V D mX1_pairOf f (qi F Q) 0 [(0, .int x0), (1, .int x1)] [] (F, h, g) := by
  refine V_iload_n dX1_pairOf_0 rfl 0 rfl ?_
  refine V_iconst (v := 1) dX1_pairOf_1 (by decide) ?_
  refine V_icmp_gt (tgt := 10) dX1_pairOf_2 (by decide) (fun c1 => ?_) (fun c1 => ?_)
  · have H := H.1 c1
    refine V_iconst (v := (-1)) dX1_pairOf_10 (by decide) ?_
    refine V_goto (tgt := 21) dX1_pairOf_11 (by decide) ?_
    exact H_iret rfl dX1_pairOf_21 H
  · have H := H.2 c1
    refine V_iload_n dX1_pairOf_5 rfl 1 rfl ?_
    refine V_iconst (v := 1) dX1_pairOf_6 (by decide) ?_
    refine V_icmp_le (tgt := 14) dX1_pairOf_7 (by decide) (fun c2 => ?_) (fun c2 => ?_)
    · have H := H.1 c2
      refine V_iconst (v := 1) dX1_pairOf_14 (by decide) ?_
      refine V_iconst (v := 2) dX1_pairOf_15 (by decide) ?_
      refine V_iload_n dX1_pairOf_16 rfl 0 rfl ?_
      refine V_imul dX1_pairOf_17 ?_
      refine V_iadd dX1_pairOf_18 ?_
      refine V_iload_n dX1_pairOf_19 rfl 1 rfl ?_
      refine V_iadd dX1_pairOf_20 ?_
      exact H_iret rfl dX1_pairOf_21 H
    · have H := H.2 c2
      refine V_iconst (v := (-1)) dX1_pairOf_10 (by decide) ?_
      refine V_goto (tgt := 21) dX1_pairOf_11 (by decide) ?_
      exact H_iret rfl dX1_pairOf_21 H
theorem wX1_pairOf {D : DE} {f : Nat} {Q : Int32 → HI → HL → Prop} {F : Frm} {h : HI} {g : HL} (hF : k_Fix F) (x0 : Int32) (x1 : Int32) (H : JX1_pairOf_0 D f Q F h g x0 x1) : Si D f mX1_pairOf [.int x0, .int x1] F h g Q := Cl.ofV (by decide) (Nat.le_of_ble_eq_true rfl) rfl (bX1_pairOf_0 hF x0 x1 H)
theorem dX1_all_0 : decode cX1_all 0 = .ok (.iload_n 0, 1) := by decide +kernel
theorem dX1_all_1 : decode cX1_all 1 = .ok (.invokestatic 7, 3) := by decide +kernel
theorem dX1_all_4 : decode cX1_all 4 = .ok (.iconst 1, 1) := by decide +kernel
theorem dX1_all_5 : decode cX1_all 5 = .ok (.isub, 1) := by decide +kernel
theorem dX1_all_6 : decode cX1_all 6 = .ok (.ireturn, 1) := by decide +kernel
abbrev JX1_all_0 (D : DE) (f : Nat) (Q : Int32 → HI → HL → Prop) (F : Frm) (h : HI) (g : HL) (x0 : Int32) : Prop := Si D f mX1_sizeOf [.int x0] F h g (fun y1 h2 g3 => Q (y1 - 1) h2 g3)
theorem bX1_all_0 {D : DE} {f : Nat} {Q : Int32 → HI → HL → Prop} {F : Frm} {h : HI} {g : HL} (hF : k_Fix F) (x0 : Int32) (H : JX1_all_0 D f Q F h g x0) : V D mX1_all (f + 1) (qi F Q) 0 [(0, .int x0)] [] (F, h, g) := by
  refine V_iload_n dX1_all_0 rfl 0 rfl ?_
  refine H_calli (av := [.int x0]) (rest := []) H mqX1_sizeOf q81 (by decide) (Nat.le_of_ble_eq_true rfl) (k_resS (av := [.int x0]) (rest := []) (M1 := mX1_sizeOf) rfl q1161 q1162 q81 mqX1_sizeOf (fun _ _ h => mW_named h) mhX1_sizeOf mnX1_sizeOf dX1_all_1) (fun y1 h2 g3 H => ?_)
  refine V_iconst (v := 1) dX1_all_4 (by decide) ?_
  refine V_isub dX1_all_5 ?_
  exact H_iret rfl dX1_all_6 H
theorem wX1_all {D : DE} {f : Nat} {Q : Int32 → HI → HL → Prop} {F : Frm} {h : HI} {g : HL} (hF : k_Fix F) (x0 : Int32) (H : JX1_all_0 D f Q F h g x0) : Si D (f + 1) mX1_all [.int x0] F h g Q := Cl.ofV (by decide) (Nat.le_of_ble_eq_true rfl) rfl (bX1_all_0 hF x0 H)
theorem dX1_first_0 : decode cX1_first 0 = .ok (.iload_n 1, 1) := by decide +kernel
theorem dX1_first_1 : decode cX1_first 1 = .ok (.iconst 1, 1) := by decide +kernel
theorem dX1_first_2 : decode cX1_first 2 = .ok (.isub, 1) := by decide +kernel
theorem dX1_first_3 : decode cX1_first 3 = .ok (.iload_n 0, 1) := by decide +kernel
theorem dX1_first_4 : decode cX1_first 4 = .ok (.invokestatic 11, 3) := by decide +kernel
theorem dX1_first_7 : decode cX1_first 7 = .ok (.invokestatic 7, 3) := by decide +kernel
theorem dX1_first_10 : decode cX1_first 10 = .ok (.idiv, 1) := by decide +kernel
theorem dX1_first_11 : decode cX1_first 11 = .ok (.ireturn, 1) := by decide +kernel
abbrev JX1_first_0 (D : DE) (f : Nat) (Q : Int32 → HI → HL → Prop) (F : Frm) (h : HI) (g : HL) (x0 : Int32) (x1 : Int32) : Prop := Si D f mX1_right [.int x0] F h g (fun y1 h2 g3 => Si D f mX1_sizeOf [.int y1] F h2 g3 (fun y4 h5 g6 => (¬ y4 = 0) ∧ Q ((x1 - 1) / y4) h5 g6))
theorem bX1_first_0 {D : DE} {f : Nat} {Q : Int32 → HI → HL → Prop} {F : Frm} {h : HI} {g : HL} (hF : k_Fix F) (x0 : Int32) (x1 : Int32) (H : JX1_first_0 D f Q F h g x0 x1) : V D mX1_first (f + 1) (qi F Q) 0 [(0, .int x0), (1, .int x1)] [] (F, h, g) := by
  refine V_iload_n dX1_first_0 rfl 1 rfl ?_
  refine V_iconst (v := 1) dX1_first_1 (by decide) ?_
  refine V_isub dX1_first_2 ?_
  refine V_iload_n dX1_first_3 rfl 0 rfl ?_
  refine H_calli (av := [.int x0]) (rest := [.int (x1 - 1)]) H mqX1_right q81 (by decide) (Nat.le_of_ble_eq_true rfl) (k_resS (av := [.int x0]) (rest := [.int (x1 - 1)]) (M1 := mX1_right) rfl q1217 q1008 q81 mqX1_right (fun _ _ h => mW_named h) mhX1_right mnX1_right dX1_first_4) (fun y1 h2 g3 H => ?_)
  refine H_calli (av := [.int y1]) (rest := [.int (x1 - 1)]) H mqX1_sizeOf q81 (by decide) (Nat.le_of_ble_eq_true rfl) (k_resS (av := [.int y1]) (rest := [.int (x1 - 1)]) (M1 := mX1_sizeOf) rfl q1161 q1162 q81 mqX1_sizeOf (fun _ _ h => mW_named h) mhX1_sizeOf mnX1_sizeOf dX1_first_7) (fun y4 h5 g6 H => ?_)
  obtain ⟨z7, H⟩ := H
  refine V_idiv dX1_first_10 z7 ?_
  exact H_iret rfl dX1_first_11 H
theorem wX1_first {D : DE} {f : Nat} {Q : Int32 → HI → HL → Prop} {F : Frm} {h : HI} {g : HL} (hF : k_Fix F) (x0 : Int32) (x1 : Int32) (H : JX1_first_0 D f Q F h g x0 x1) : Si D (f + 1) mX1_first [.int x0, .int x1] F h g Q := Cl.ofV (by decide) (Nat.le_of_ble_eq_true rfl) rfl (bX1_first_0 hF x0 x1 H)
theorem dX1_second_0 : decode cX1_second 0 = .ok (.iload_n 1, 1) := by decide +kernel
theorem dX1_second_1 : decode cX1_second 1 = .ok (.iconst 1, 1) := by decide +kernel
theorem dX1_second_2 : decode cX1_second 2 = .ok (.isub, 1) := by decide +kernel
theorem dX1_second_3 : decode cX1_second 3 = .ok (.iload_n 0, 1) := by decide +kernel
theorem dX1_second_4 : decode cX1_second 4 = .ok (.invokestatic 11, 3) := by decide +kernel
theorem dX1_second_7 : decode cX1_second 7 = .ok (.invokestatic 7, 3) := by decide +kernel
theorem dX1_second_10 : decode cX1_second 10 = .ok (.irem, 1) := by decide +kernel
theorem dX1_second_11 : decode cX1_second 11 = .ok (.ireturn, 1) := by decide +kernel
abbrev JX1_second_0 (D : DE) (f : Nat) (Q : Int32 → HI → HL → Prop) (F : Frm) (h : HI) (g : HL) (x0 : Int32) (x1 : Int32) : Prop := Si D f mX1_right [.int x0] F h g (fun y1 h2 g3 => Si D f mX1_sizeOf [.int y1] F h2 g3 (fun y4 h5 g6 => (¬ y4 = 0) ∧ Q ((x1 - 1) - (x1 - 1) / y4 * y4) h5 g6))
theorem bX1_second_0 {D : DE} {f : Nat} {Q : Int32 → HI → HL → Prop} {F : Frm} {h : HI} {g : HL} (hF : k_Fix F) (x0 : Int32) (x1 : Int32) (H : JX1_second_0 D f Q F h g x0 x1) : V D mX1_second (f + 1) (qi F Q) 0 [(0, .int x0), (1, .int x1)] [] (F, h, g) := by
  refine V_iload_n dX1_second_0 rfl 1 rfl ?_
  refine V_iconst (v := 1) dX1_second_1 (by decide) ?_
  refine V_isub dX1_second_2 ?_
  refine V_iload_n dX1_second_3 rfl 0 rfl ?_
  refine H_calli (av := [.int x0]) (rest := [.int (x1 - 1)]) H mqX1_right q81 (by decide) (Nat.le_of_ble_eq_true rfl) (k_resS (av := [.int x0]) (rest := [.int (x1 - 1)]) (M1 := mX1_right) rfl q1217 q1008 q81 mqX1_right (fun _ _ h => mW_named h) mhX1_right mnX1_right dX1_second_4) (fun y1 h2 g3 H => ?_)
  refine H_calli (av := [.int y1]) (rest := [.int (x1 - 1)]) H mqX1_sizeOf q81 (by decide) (Nat.le_of_ble_eq_true rfl) (k_resS (av := [.int y1]) (rest := [.int (x1 - 1)]) (M1 := mX1_sizeOf) rfl q1161 q1162 q81 mqX1_sizeOf (fun _ _ h => mW_named h) mhX1_sizeOf mnX1_sizeOf dX1_second_7) (fun y4 h5 g6 H => ?_)
  obtain ⟨z7, H⟩ := H
  refine V_irem dX1_second_10 z7 ?_
  exact H_iret rfl dX1_second_11 H
theorem wX1_second {D : DE} {f : Nat} {Q : Int32 → HI → HL → Prop} {F : Frm} {h : HI} {g : HL} (hF : k_Fix F) (x0 : Int32) (x1 : Int32) (H : JX1_second_0 D f Q F h g x0 x1) : Si D (f + 1) mX1_second [.int x0, .int x1] F h g Q := Cl.ofV (by decide) (Nat.le_of_ble_eq_true rfl) rfl (bX1_second_0 hF x0 x1 H)
theorem dX1_both_0 : decode cX1_both 0 = .ok (.iconst 1, 1) := by decide +kernel
theorem dX1_both_1 : decode cX1_both 1 = .ok (.iload_n 1, 1) := by decide +kernel
theorem dX1_both_2 : decode cX1_both 2 = .ok (.iload_n 0, 1) := by decide +kernel
theorem dX1_both_3 : decode cX1_both 3 = .ok (.invokestatic 11, 3) := by decide +kernel
theorem dX1_both_6 : decode cX1_both 6 = .ok (.invokestatic 7, 3) := by decide +kernel
theorem dX1_both_9 : decode cX1_both 9 = .ok (.imul, 1) := by decide +kernel
theorem dX1_both_10 : decode cX1_both 10 = .ok (.iadd, 1) := by decide +kernel
theorem dX1_both_11 : decode cX1_both 11 = .ok (.iload_n 2, 1) := by decide +kernel
theorem dX1_both_12 : decode cX1_both 12 = .ok (.iadd, 1) := by decide +kernel
theorem dX1_both_13 : decode cX1_both 13 = .ok (.ireturn, 1) := by decide +kernel
abbrev JX1_both_0 (D : DE) (f : Nat) (Q : Int32 → HI → HL → Prop) (F : Frm) (h : HI) (g : HL) (x0 : Int32) (x1 : Int32) (x2 : Int32) : Prop := Si D f mX1_right [.int x0] F h g (fun y1 h2 g3 => Si D f mX1_sizeOf [.int y1] F h2 g3 (fun y4 h5 g6 => Q ((1 + (x1 * y4)) + x2) h5 g6))
theorem bX1_both_0 {D : DE} {f : Nat} {Q : Int32 → HI → HL → Prop} {F : Frm} {h : HI} {g : HL} (hF : k_Fix F) (x0 : Int32) (x1 : Int32) (x2 : Int32) (H : JX1_both_0 D f Q F h g x0 x1 x2) : V D mX1_both (f + 1) (qi F Q) 0 [(0, .int x0), (1, .int x1), (2, .int x2)] [] (F, h, g) := by
  refine V_iconst (v := 1) dX1_both_0 (by decide) ?_
  refine V_iload_n dX1_both_1 rfl 1 rfl ?_
  refine V_iload_n dX1_both_2 rfl 0 rfl ?_
  refine H_calli (av := [.int x0]) (rest := [.int x1, .int 1]) H mqX1_right q81 (by decide) (Nat.le_of_ble_eq_true rfl) (k_resS (av := [.int x0]) (rest := [.int x1, .int 1]) (M1 := mX1_right) rfl q1217 q1008 q81 mqX1_right (fun _ _ h => mW_named h) mhX1_right mnX1_right dX1_both_3) (fun y1 h2 g3 H => ?_)
  refine H_calli (av := [.int y1]) (rest := [.int x1, .int 1]) H mqX1_sizeOf q81 (by decide) (Nat.le_of_ble_eq_true rfl) (k_resS (av := [.int y1]) (rest := [.int x1, .int 1]) (M1 := mX1_sizeOf) rfl q1161 q1162 q81 mqX1_sizeOf (fun _ _ h => mW_named h) mhX1_sizeOf mnX1_sizeOf dX1_both_6) (fun y4 h5 g6 H => ?_)
  refine V_imul dX1_both_9 ?_
  refine V_iadd dX1_both_10 ?_
  refine V_iload_n dX1_both_11 rfl 2 rfl ?_
  refine V_iadd dX1_both_12 ?_
  exact H_iret rfl dX1_both_13 H
theorem wX1_both {D : DE} {f : Nat} {Q : Int32 → HI → HL → Prop} {F : Frm} {h : HI} {g : HL} (hF : k_Fix F) (x0 : Int32) (x1 : Int32) (x2 : Int32) (H : JX1_both_0 D f Q F h g x0 x1 x2) : Si D (f + 1) mX1_both [.int x0, .int x1, .int x2] F h g Q := Cl.ofV (by decide) (Nat.le_of_ble_eq_true rfl) rfl (bX1_both_0 hF x0 x1 x2 H)
theorem dX1_together_0 : decode cX1_together 0 = .ok (.iload_n 1, 1) := by decide +kernel
theorem dX1_together_1 : decode cX1_together 1 = .ok (.ifCond .eq 11, 3) := by decide +kernel
theorem dX1_together_4 : decode cX1_together 4 = .ok (.iload_n 2, 1) := by decide +kernel
theorem dX1_together_5 : decode cX1_together 5 = .ok (.ifCond .eq 7, 3) := by decide +kernel
theorem dX1_together_8 : decode cX1_together 8 = .ok (.iload_n 0, 1) := by decide +kernel
theorem dX1_together_9 : decode cX1_together 9 = .ok (.ifCond .ne 9, 3) := by decide +kernel
theorem dX1_together_12 : decode cX1_together 12 = .ok (.iload_n 1, 1) := by decide +kernel
theorem dX1_together_13 : decode cX1_together 13 = .ok (.iload_n 2, 1) := by decide +kernel
theorem dX1_together_14 : decode cX1_together 14 = .ok (.invokestatic 14, 3) := by decide +kernel
theorem dX1_together_17 : decode cX1_together 17 = .ok (.ireturn, 1) := by decide +kernel
theorem dX1_together_18 : decode cX1_together 18 = .ok (.iload_n 0, 1) := by decide +kernel
theorem dX1_together_19 : decode cX1_together 19 = .ok (.iload_n 0, 1) := by decide +kernel
theorem dX1_together_20 : decode cX1_together 20 = .ok (.invokestatic 20, 3) := by decide +kernel
theorem dX1_together_23 : decode cX1_together 23 = .ok (.iload_n 0, 1) := by decide +kernel
theorem dX1_together_24 : decode cX1_together 24 = .ok (.iload_n 1, 1) := by decide +kernel
theorem dX1_together_25 : decode cX1_together 25 = .ok (.invokestatic 23, 3) := by decide +kernel
theorem dX1_together_28 : decode cX1_together 28 = .ok (.iload_n 0, 1) := by decide +kernel
theorem dX1_together_29 : decode cX1_together 29 = .ok (.iload_n 2, 1) := by decide +kernel
theorem dX1_together_30 : decode cX1_together 30 = .ok (.invokestatic 23, 3) := by decide +kernel
theorem dX1_together_33 : decode cX1_together 33 = .ok (.invokestatic 26, 3) := by decide +kernel
theorem dX1_together_36 : decode cX1_together 36 = .ok (.iload_n 0, 1) := by decide +kernel
theorem dX1_together_37 : decode cX1_together 37 = .ok (.invokestatic 11, 3) := by decide +kernel
theorem dX1_together_40 : decode cX1_together 40 = .ok (.iload_n 0, 1) := by decide +kernel
theorem dX1_together_41 : decode cX1_together 41 = .ok (.iload_n 1, 1) := by decide +kernel
theorem dX1_together_42 : decode cX1_together 42 = .ok (.invokestatic 30, 3) := by decide +kernel
theorem dX1_together_45 : decode cX1_together 45 = .ok (.iload_n 0, 1) := by decide +kernel
theorem dX1_together_46 : decode cX1_together 46 = .ok (.iload_n 2, 1) := by decide +kernel
theorem dX1_together_47 : decode cX1_together 47 = .ok (.invokestatic 30, 3) := by decide +kernel
theorem dX1_together_50 : decode cX1_together 50 = .ok (.invokestatic 26, 3) := by decide +kernel
theorem dX1_together_53 : decode cX1_together 53 = .ok (.invokestatic 33, 3) := by decide +kernel
theorem dX1_together_56 : decode cX1_together 56 = .ok (.ireturn, 1) := by decide +kernel
abbrev JX1_together_0 (D : DE) (f : Nat) (Q : Int32 → HI → HL → Prop) (F : Frm) (h : HI) (g : HL) (x0 : Int32) (x1 : Int32) (x2 : Int32) : Prop := ((x1 = 0 → ∀ y2 : Int32, y2 = (if x1 < x2 then x2 else x1) → Q y2 h g) ∧ (¬ x1 = 0 → ((x2 = 0 → ∀ y5 : Int32, y5 = (if x1 < x2 then x2 else x1) → Q y5 h g) ∧ (¬ x2 = 0 → ((¬ x0 = 0 → Si D f mX1_left [.int x0] F h g (fun y8 h9 g10 => Si D f mX1_first [.int x0, .int x1] F h9 g10 (fun y11 h12 g13 => Si D f mX1_first [.int x0, .int x2] F h12 g13 (fun y14 h15 g16 => Si D f mX1_together [.int y8, .int y11, .int y14] F h15 g16 (fun y17 h18 g19 => Si D f mX1_right [.int x0] F h18 g19 (fun y20 h21 g22 => Si D f mX1_second [.int x0, .int x1] F h21 g22 (fun y23 h24 g25 => Si D f mX1_second [.int x0, .int x2] F h24 g25 (fun y26 h27 g28 => Si D f mX1_together [.int y20, .int y23, .int y26] F h27 g28 (fun y29 h30 g31 => Si D f mX1_both [.int x0, .int y17, .int y29] F h30 g31 (fun y32 h33 g34 => Q y32 h33 g34)))))))))) ∧ (x0 = 0 → ∀ y35 : Int32, y35 = (if x1 < x2 then x2 else x1) → Q y35 h g))))))
theorem bX1_together_0 {D : DE} {f : Nat} {Q : Int32 → HI → HL → Prop} {F : Frm} {h : HI} {g : HL} (hF : k_Fix F) (x0 : Int32) (x1 : Int32) (x2 : Int32) (H : JX1_together_0 D f Q F h g x0 x1 x2) : V D mX1_together (f + 1) (qi F Q) 0 [(0, .int x0), (1, .int x1), (2, .int x2)] [] (F, h, g) := by
  refine V_iload_n dX1_together_0 rfl 1 rfl ?_
  refine V_if_eq (tgt := 12) dX1_together_1 (by decide) (fun c1 => ?_) (fun c1 => ?_)
  · have H := H.1 c1
    refine V_iload_n dX1_together_12 rfl 1 rfl ?_
    refine V_iload_n dX1_together_13 rfl 2 rfl ?_
    refine H_max (by omega) (Nat.le_of_ble_eq_true rfl) q1212 q523 q99 q524 dX1_together_14 ?_
    refine V_topi (fun y2 e3 => ?_)
    have H := H y2 e3
    exact H_iret rfl dX1_together_17 H
  · have H := H.2 c1
    refine V_iload_n dX1_together_4 rfl 2 rfl ?_
    refine V_if_eq (tgt := 12) dX1_together_5 (by decide) (fun c4 => ?_) (fun c4 => ?_)
    · have H := H.1 c4
      refine V_iload_n dX1_together_12 rfl 1 rfl ?_
      refine V_iload_n dX1_together_13 rfl 2 rfl ?_
      refine H_max (by omega) (Nat.le_of_ble_eq_true rfl) q1212 q523 q99 q524 dX1_together_14 ?_
      refine V_topi (fun y5 e6 => ?_)
      have H := H y5 e6
      exact H_iret rfl dX1_together_17 H
    · have H := H.2 c4
      refine V_iload_n dX1_together_8 rfl 0 rfl ?_
      refine V_if_ne (tgt := 18) dX1_together_9 (by decide) (fun c7 => ?_) (fun c7 => ?_)
      · have H := H.1 c7
        refine V_iload_n dX1_together_18 rfl 0 rfl ?_
        refine V_iload_n dX1_together_19 rfl 0 rfl ?_
        refine H_calli (av := [.int x0]) (rest := [.int x0]) H mqX1_left q81 (by decide) (Nat.le_of_ble_eq_true rfl) (k_resS (av := [.int x0]) (rest := [.int x0]) (M1 := mX1_left) rfl q1213 q1005 q81 mqX1_left (fun _ _ h => mW_named h) mhX1_left mnX1_left dX1_together_20) (fun y8 h9 g10 H => ?_)
        refine V_iload_n dX1_together_23 rfl 0 rfl ?_
        refine V_iload_n dX1_together_24 rfl 1 rfl ?_
        refine H_calli (av := [.int x0, .int x1]) (rest := [.int y8, .int x0]) H mqX1_first q81 (by decide) (Nat.le_of_ble_eq_true rfl) (k_resS (av := [.int x0, .int x1]) (rest := [.int y8, .int x0]) (M1 := mX1_first) rfl q1214 q1215 q81 mqX1_first (fun _ _ h => mW_named h) mhX1_first mnX1_first dX1_together_25) (fun y11 h12 g13 H => ?_)
        refine V_iload_n dX1_together_28 rfl 0 rfl ?_
        refine V_iload_n dX1_together_29 rfl 2 rfl ?_
        refine H_calli (av := [.int x0, .int x2]) (rest := [.int y11, .int y8, .int x0]) H mqX1_first q81 (by decide) (Nat.le_of_ble_eq_true rfl) (k_resS (av := [.int x0, .int x2]) (rest := [.int y11, .int y8, .int x0]) (M1 := mX1_first) rfl q1214 q1215 q81 mqX1_first (fun _ _ h => mW_named h) mhX1_first mnX1_first dX1_together_30) (fun y14 h15 g16 H => ?_)
        refine H_calli (av := [.int y8, .int y11, .int y14]) (rest := [.int x0]) H mqX1_together q81 (by decide) (Nat.le_of_ble_eq_true rfl) (k_resS (av := [.int y8, .int y11, .int y14]) (rest := [.int x0]) (M1 := mX1_together) rfl q1218 q1210 q81 mqX1_together (fun _ _ h => mW_named h) mhX1_together mnX1_together dX1_together_33) (fun y17 h18 g19 H => ?_)
        refine V_iload_n dX1_together_36 rfl 0 rfl ?_
        refine H_calli (av := [.int x0]) (rest := [.int y17, .int x0]) H mqX1_right q81 (by decide) (Nat.le_of_ble_eq_true rfl) (k_resS (av := [.int x0]) (rest := [.int y17, .int x0]) (M1 := mX1_right) rfl q1217 q1008 q81 mqX1_right (fun _ _ h => mW_named h) mhX1_right mnX1_right dX1_together_37) (fun y20 h21 g22 H => ?_)
        refine V_iload_n dX1_together_40 rfl 0 rfl ?_
        refine V_iload_n dX1_together_41 rfl 1 rfl ?_
        refine H_calli (av := [.int x0, .int x1]) (rest := [.int y20, .int y17, .int x0]) H mqX1_second q81 (by decide) (Nat.le_of_ble_eq_true rfl) (k_resS (av := [.int x0, .int x1]) (rest := [.int y20, .int y17, .int x0]) (M1 := mX1_second) rfl q1219 q1220 q81 mqX1_second (fun _ _ h => mW_named h) mhX1_second mnX1_second dX1_together_42) (fun y23 h24 g25 H => ?_)
        refine V_iload_n dX1_together_45 rfl 0 rfl ?_
        refine V_iload_n dX1_together_46 rfl 2 rfl ?_
        refine H_calli (av := [.int x0, .int x2]) (rest := [.int y23, .int y20, .int y17, .int x0]) H mqX1_second q81 (by decide) (Nat.le_of_ble_eq_true rfl) (k_resS (av := [.int x0, .int x2]) (rest := [.int y23, .int y20, .int y17, .int x0]) (M1 := mX1_second) rfl q1219 q1220 q81 mqX1_second (fun _ _ h => mW_named h) mhX1_second mnX1_second dX1_together_47) (fun y26 h27 g28 H => ?_)
        refine H_calli (av := [.int y20, .int y23, .int y26]) (rest := [.int y17, .int x0]) H mqX1_together q81 (by decide) (Nat.le_of_ble_eq_true rfl) (k_resS (av := [.int y20, .int y23, .int y26]) (rest := [.int y17, .int x0]) (M1 := mX1_together) rfl q1218 q1210 q81 mqX1_together (fun _ _ h => mW_named h) mhX1_together mnX1_together dX1_together_50) (fun y29 h30 g31 H => ?_)
        refine H_calli (av := [.int x0, .int y17, .int y29]) (rest := []) H mqX1_both q81 (by decide) (Nat.le_of_ble_eq_true rfl) (k_resS (av := [.int x0, .int y17, .int y29]) (rest := []) (M1 := mX1_both) rfl q1222 q1223 q81 mqX1_both (fun _ _ h => mW_named h) mhX1_both mnX1_both dX1_together_53) (fun y32 h33 g34 H => ?_)
        exact H_iret rfl dX1_together_56 H
      · have H := H.2 c7
        refine V_iload_n dX1_together_12 rfl 1 rfl ?_
        refine V_iload_n dX1_together_13 rfl 2 rfl ?_
        refine H_max (by omega) (Nat.le_of_ble_eq_true rfl) q1212 q523 q99 q524 dX1_together_14 ?_
        refine V_topi (fun y35 e36 => ?_)
        have H := H y35 e36
        exact H_iret rfl dX1_together_17 H
theorem wX1_together {D : DE} {f : Nat} {Q : Int32 → HI → HL → Prop} {F : Frm} {h : HI} {g : HL} (hF : k_Fix F) (x0 : Int32) (x1 : Int32) (x2 : Int32) (H : JX1_together_0 D f Q F h g x0 x1 x2) : Si D (f + 1) mX1_together [.int x0, .int x1, .int x2] F h g Q := Cl.ofV (by decide) (Nat.le_of_ble_eq_true rfl) rfl (bX1_together_0 hF x0 x1 x2 H)
theorem dX1_either_0 : decode cX1_either 0 = .ok (.iload_n 1, 1) := by decide +kernel
theorem dX1_either_1 : decode cX1_either 1 = .ok (.ifCond .eq 11, 3) := by decide +kernel
theorem dX1_either_4 : decode cX1_either 4 = .ok (.iload_n 2, 1) := by decide +kernel
theorem dX1_either_5 : decode cX1_either 5 = .ok (.ifCond .eq 7, 3) := by decide +kernel
theorem dX1_either_8 : decode cX1_either 8 = .ok (.iload_n 0, 1) := by decide +kernel
theorem dX1_either_9 : decode cX1_either 9 = .ok (.ifCond .ne 9, 3) := by decide +kernel
theorem dX1_either_12 : decode cX1_either 12 = .ok (.iload_n 1, 1) := by decide +kernel
theorem dX1_either_13 : decode cX1_either 13 = .ok (.iload_n 2, 1) := by decide +kernel
theorem dX1_either_14 : decode cX1_either 14 = .ok (.invokestatic 36, 3) := by decide +kernel
theorem dX1_either_17 : decode cX1_either 17 = .ok (.ireturn, 1) := by decide +kernel
theorem dX1_either_18 : decode cX1_either 18 = .ok (.iload_n 0, 1) := by decide +kernel
theorem dX1_either_19 : decode cX1_either 19 = .ok (.iload_n 0, 1) := by decide +kernel
theorem dX1_either_20 : decode cX1_either 20 = .ok (.invokestatic 20, 3) := by decide +kernel
theorem dX1_either_23 : decode cX1_either 23 = .ok (.iload_n 0, 1) := by decide +kernel
theorem dX1_either_24 : decode cX1_either 24 = .ok (.iload_n 1, 1) := by decide +kernel
theorem dX1_either_25 : decode cX1_either 25 = .ok (.invokestatic 23, 3) := by decide +kernel
theorem dX1_either_28 : decode cX1_either 28 = .ok (.iload_n 0, 1) := by decide +kernel
theorem dX1_either_29 : decode cX1_either 29 = .ok (.iload_n 2, 1) := by decide +kernel
theorem dX1_either_30 : decode cX1_either 30 = .ok (.invokestatic 23, 3) := by decide +kernel
theorem dX1_either_33 : decode cX1_either 33 = .ok (.invokestatic 39, 3) := by decide +kernel
theorem dX1_either_36 : decode cX1_either 36 = .ok (.iload_n 0, 1) := by decide +kernel
theorem dX1_either_37 : decode cX1_either 37 = .ok (.invokestatic 11, 3) := by decide +kernel
theorem dX1_either_40 : decode cX1_either 40 = .ok (.iload_n 0, 1) := by decide +kernel
theorem dX1_either_41 : decode cX1_either 41 = .ok (.iload_n 1, 1) := by decide +kernel
theorem dX1_either_42 : decode cX1_either 42 = .ok (.invokestatic 30, 3) := by decide +kernel
theorem dX1_either_45 : decode cX1_either 45 = .ok (.iload_n 0, 1) := by decide +kernel
theorem dX1_either_46 : decode cX1_either 46 = .ok (.iload_n 2, 1) := by decide +kernel
theorem dX1_either_47 : decode cX1_either 47 = .ok (.invokestatic 30, 3) := by decide +kernel
theorem dX1_either_50 : decode cX1_either 50 = .ok (.invokestatic 39, 3) := by decide +kernel
theorem dX1_either_53 : decode cX1_either 53 = .ok (.invokestatic 33, 3) := by decide +kernel
theorem dX1_either_56 : decode cX1_either 56 = .ok (.ireturn, 1) := by decide +kernel
abbrev JX1_either_0 (D : DE) (f : Nat) (Q : Int32 → HI → HL → Prop) (F : Frm) (h : HI) (g : HL) (x0 : Int32) (x1 : Int32) (x2 : Int32) : Prop := ((x1 = 0 → ∀ y2 : Int32, y2 = (if x2 < x1 then x2 else x1) → Q y2 h g) ∧ (¬ x1 = 0 → ((x2 = 0 → ∀ y5 : Int32, y5 = (if x2 < x1 then x2 else x1) → Q y5 h g) ∧ (¬ x2 = 0 → ((¬ x0 = 0 → Si D f mX1_left [.int x0] F h g (fun y8 h9 g10 => Si D f mX1_first [.int x0, .int x1] F h9 g10 (fun y11 h12 g13 => Si D f mX1_first [.int x0, .int x2] F h12 g13 (fun y14 h15 g16 => Si D f mX1_either [.int y8, .int y11, .int y14] F h15 g16 (fun y17 h18 g19 => Si D f mX1_right [.int x0] F h18 g19 (fun y20 h21 g22 => Si D f mX1_second [.int x0, .int x1] F h21 g22 (fun y23 h24 g25 => Si D f mX1_second [.int x0, .int x2] F h24 g25 (fun y26 h27 g28 => Si D f mX1_either [.int y20, .int y23, .int y26] F h27 g28 (fun y29 h30 g31 => Si D f mX1_both [.int x0, .int y17, .int y29] F h30 g31 (fun y32 h33 g34 => Q y32 h33 g34)))))))))) ∧ (x0 = 0 → ∀ y35 : Int32, y35 = (if x2 < x1 then x2 else x1) → Q y35 h g))))))
theorem bX1_either_0 {D : DE} {f : Nat} {Q : Int32 → HI → HL → Prop} {F : Frm} {h : HI} {g : HL} (hF : k_Fix F) (x0 : Int32) (x1 : Int32) (x2 : Int32) (H : JX1_either_0 D f Q F h g x0 x1 x2) : V D mX1_either (f + 1) (qi F Q) 0 [(0, .int x0), (1, .int x1), (2, .int x2)] [] (F, h, g) := by
  refine V_iload_n dX1_either_0 rfl 1 rfl ?_
  refine V_if_eq (tgt := 12) dX1_either_1 (by decide) (fun c1 => ?_) (fun c1 => ?_)
  · have H := H.1 c1
    refine V_iload_n dX1_either_12 rfl 1 rfl ?_
    refine V_iload_n dX1_either_13 rfl 2 rfl ?_
    refine H_min (by omega) (Nat.le_of_ble_eq_true rfl) q1246 q526 q99 q527 dX1_either_14 ?_
    refine V_topi (fun y2 e3 => ?_)
    have H := H y2 e3
    exact H_iret rfl dX1_either_17 H
  · have H := H.2 c1
    refine V_iload_n dX1_either_4 rfl 2 rfl ?_
    refine V_if_eq (tgt := 12) dX1_either_5 (by decide) (fun c4 => ?_) (fun c4 => ?_)
    · have H := H.1 c4
      refine V_iload_n dX1_either_12 rfl 1 rfl ?_
      refine V_iload_n dX1_either_13 rfl 2 rfl ?_
      refine H_min (by omega) (Nat.le_of_ble_eq_true rfl) q1246 q526 q99 q527 dX1_either_14 ?_
      refine V_topi (fun y5 e6 => ?_)
      have H := H y5 e6
      exact H_iret rfl dX1_either_17 H
    · have H := H.2 c4
      refine V_iload_n dX1_either_8 rfl 0 rfl ?_
      refine V_if_ne (tgt := 18) dX1_either_9 (by decide) (fun c7 => ?_) (fun c7 => ?_)
      · have H := H.1 c7
        refine V_iload_n dX1_either_18 rfl 0 rfl ?_
        refine V_iload_n dX1_either_19 rfl 0 rfl ?_
        refine H_calli (av := [.int x0]) (rest := [.int x0]) H mqX1_left q81 (by decide) (Nat.le_of_ble_eq_true rfl) (k_resS (av := [.int x0]) (rest := [.int x0]) (M1 := mX1_left) rfl q1213 q1005 q81 mqX1_left (fun _ _ h => mW_named h) mhX1_left mnX1_left dX1_either_20) (fun y8 h9 g10 H => ?_)
        refine V_iload_n dX1_either_23 rfl 0 rfl ?_
        refine V_iload_n dX1_either_24 rfl 1 rfl ?_
        refine H_calli (av := [.int x0, .int x1]) (rest := [.int y8, .int x0]) H mqX1_first q81 (by decide) (Nat.le_of_ble_eq_true rfl) (k_resS (av := [.int x0, .int x1]) (rest := [.int y8, .int x0]) (M1 := mX1_first) rfl q1214 q1215 q81 mqX1_first (fun _ _ h => mW_named h) mhX1_first mnX1_first dX1_either_25) (fun y11 h12 g13 H => ?_)
        refine V_iload_n dX1_either_28 rfl 0 rfl ?_
        refine V_iload_n dX1_either_29 rfl 2 rfl ?_
        refine H_calli (av := [.int x0, .int x2]) (rest := [.int y11, .int y8, .int x0]) H mqX1_first q81 (by decide) (Nat.le_of_ble_eq_true rfl) (k_resS (av := [.int x0, .int x2]) (rest := [.int y11, .int y8, .int x0]) (M1 := mX1_first) rfl q1214 q1215 q81 mqX1_first (fun _ _ h => mW_named h) mhX1_first mnX1_first dX1_either_30) (fun y14 h15 g16 H => ?_)
        refine H_calli (av := [.int y8, .int y11, .int y14]) (rest := [.int x0]) H mqX1_either q81 (by decide) (Nat.le_of_ble_eq_true rfl) (k_resS (av := [.int y8, .int y11, .int y14]) (rest := [.int x0]) (M1 := mX1_either) rfl q1247 q1244 q81 mqX1_either (fun _ _ h => mW_named h) mhX1_either mnX1_either dX1_either_33) (fun y17 h18 g19 H => ?_)
        refine V_iload_n dX1_either_36 rfl 0 rfl ?_
        refine H_calli (av := [.int x0]) (rest := [.int y17, .int x0]) H mqX1_right q81 (by decide) (Nat.le_of_ble_eq_true rfl) (k_resS (av := [.int x0]) (rest := [.int y17, .int x0]) (M1 := mX1_right) rfl q1217 q1008 q81 mqX1_right (fun _ _ h => mW_named h) mhX1_right mnX1_right dX1_either_37) (fun y20 h21 g22 H => ?_)
        refine V_iload_n dX1_either_40 rfl 0 rfl ?_
        refine V_iload_n dX1_either_41 rfl 1 rfl ?_
        refine H_calli (av := [.int x0, .int x1]) (rest := [.int y20, .int y17, .int x0]) H mqX1_second q81 (by decide) (Nat.le_of_ble_eq_true rfl) (k_resS (av := [.int x0, .int x1]) (rest := [.int y20, .int y17, .int x0]) (M1 := mX1_second) rfl q1219 q1220 q81 mqX1_second (fun _ _ h => mW_named h) mhX1_second mnX1_second dX1_either_42) (fun y23 h24 g25 H => ?_)
        refine V_iload_n dX1_either_45 rfl 0 rfl ?_
        refine V_iload_n dX1_either_46 rfl 2 rfl ?_
        refine H_calli (av := [.int x0, .int x2]) (rest := [.int y23, .int y20, .int y17, .int x0]) H mqX1_second q81 (by decide) (Nat.le_of_ble_eq_true rfl) (k_resS (av := [.int x0, .int x2]) (rest := [.int y23, .int y20, .int y17, .int x0]) (M1 := mX1_second) rfl q1219 q1220 q81 mqX1_second (fun _ _ h => mW_named h) mhX1_second mnX1_second dX1_either_47) (fun y26 h27 g28 H => ?_)
        refine H_calli (av := [.int y20, .int y23, .int y26]) (rest := [.int y17, .int x0]) H mqX1_either q81 (by decide) (Nat.le_of_ble_eq_true rfl) (k_resS (av := [.int y20, .int y23, .int y26]) (rest := [.int y17, .int x0]) (M1 := mX1_either) rfl q1247 q1244 q81 mqX1_either (fun _ _ h => mW_named h) mhX1_either mnX1_either dX1_either_50) (fun y29 h30 g31 H => ?_)
        refine H_calli (av := [.int x0, .int y17, .int y29]) (rest := []) H mqX1_both q81 (by decide) (Nat.le_of_ble_eq_true rfl) (k_resS (av := [.int x0, .int y17, .int y29]) (rest := []) (M1 := mX1_both) rfl q1222 q1223 q81 mqX1_both (fun _ _ h => mW_named h) mhX1_both mnX1_both dX1_either_53) (fun y32 h33 g34 H => ?_)
        exact H_iret rfl dX1_either_56 H
      · have H := H.2 c7
        refine V_iload_n dX1_either_12 rfl 1 rfl ?_
        refine V_iload_n dX1_either_13 rfl 2 rfl ?_
        refine H_min (by omega) (Nat.le_of_ble_eq_true rfl) q1246 q526 q99 q527 dX1_either_14 ?_
        refine V_topi (fun y35 e36 => ?_)
        have H := H y35 e36
        exact H_iret rfl dX1_either_17 H
theorem wX1_either {D : DE} {f : Nat} {Q : Int32 → HI → HL → Prop} {F : Frm} {h : HI} {g : HL} (hF : k_Fix F) (x0 : Int32) (x1 : Int32) (x2 : Int32) (H : JX1_either_0 D f Q F h g x0 x1 x2) : Si D (f + 1) mX1_either [.int x0, .int x1, .int x2] F h g Q := Cl.ofV (by decide) (Nat.le_of_ble_eq_true rfl) rfl (bX1_either_0 hF x0 x1 x2 H)
theorem dX1_may_0 : decode cX1_may 0 = .ok (.iload_n 0, 1) := by decide +kernel
theorem dX1_may_1 : decode cX1_may 1 = .ok (.ifCond .ne 11, 3) := by decide +kernel
theorem dX1_may_4 : decode cX1_may 4 = .ok (.new 108, 3) := by decide +kernel
theorem dX1_may_7 : decode cX1_may 7 = .ok (.dup, 1) := by decide +kernel
theorem dX1_may_8 : decode cX1_may 8 = .ok (.invokespecial 110, 3) := by decide +kernel
theorem dX1_may_11 : decode cX1_may 11 = .ok (.athrow, 1) := by decide +kernel
theorem dX1_may_12 : decode cX1_may 12 = .ok (.return_, 1) := by decide +kernel
abbrev JX1_may_0 (D : DE) (f : Nat) (Q : Frm → HI → HL → Prop) (T : Nat → Frm → HI → HL → Prop) (F : Frm) (h : HI) (g : HL) (x0 : Int32) : Prop := ((¬ x0 = 0 → Q F h g) ∧ (x0 = 0 → 160 ≤ F.1.1 ∧ T 0 (fnx F 0) h g))
theorem bX1_may_0 {D : DE} {f : Nat} {Q : Frm → HI → HL → Prop} {T : Nat → Frm → HI → HL → Prop} {F : Frm} {h : HI} {g : HL} (hF : k_Fix F) (x0 : Int32) (hf : 6 ≤ (f + 1)) (H : JX1_may_0 D f Q T F h g x0) : V D mX1_may (f + 1) (gv Q T) 0 [(0, .int x0)] [] (F, h, g) := by
  refine V_iload_n dX1_may_0 rfl 0 rfl ?_
  refine V_if_ne (tgt := 12) dX1_may_1 (by decide) (fun c1 => ?_) (fun c1 => ?_)
  · have H := H.1 c1
    exact G_vret hF rfl dX1_may_12 H
  · have H := H.2 c1
    obtain ⟨z2, H⟩ := H
    exact G_throw_v0 hF z2 hf rfl (Nat.le_of_ble_eq_true rfl) q426 q1068 dX1_may_4 dX1_may_7 dX1_may_8 dX1_may_11 H
theorem wX1_may {D : DE} {f : Nat} {Q : Frm → HI → HL → Prop} {T : Nat → Frm → HI → HL → Prop} {F : Frm} {h : HI} {g : HL} (hF : k_Fix F) (x0 : Int32) (hf : 6 ≤ (f + 1)) (H : JX1_may_0 D f Q T F h g x0) : Gv D (f + 1) mX1_may [.int x0] F h g Q T := Cl.ofV (by decide) (Nat.le_of_ble_eq_true rfl) rfl (bX1_may_0 hF x0 hf H)
theorem dX1_lies_0 : decode cX1_lies 0 = .ok (.iload_n 0, 1) := by decide +kernel
theorem dX1_lies_1 : decode cX1_lies 1 = .ok (.ifCond .ne 11, 3) := by decide +kernel
theorem dX1_lies_4 : decode cX1_lies 4 = .ok (.new 111, 3) := by decide +kernel
theorem dX1_lies_7 : decode cX1_lies 7 = .ok (.dup, 1) := by decide +kernel
theorem dX1_lies_8 : decode cX1_lies 8 = .ok (.invokespecial 113, 3) := by decide +kernel
theorem dX1_lies_11 : decode cX1_lies 11 = .ok (.athrow, 1) := by decide +kernel
theorem dX1_lies_12 : decode cX1_lies 12 = .ok (.return_, 1) := by decide +kernel
abbrev JX1_lies_0 (D : DE) (f : Nat) (Q : Frm → HI → HL → Prop) (T : Nat → Frm → HI → HL → Prop) (F : Frm) (h : HI) (g : HL) (x0 : Int32) : Prop := ((¬ x0 = 0 → Q F h g) ∧ (x0 = 0 → 160 ≤ F.1.1 ∧ T 2 (fnx F 2) h g))
theorem bX1_lies_0 {D : DE} {f : Nat} {Q : Frm → HI → HL → Prop} {T : Nat → Frm → HI → HL → Prop} {F : Frm} {h : HI} {g : HL} (hF : k_Fix F) (x0 : Int32) (hf : 6 ≤ (f + 1)) (H : JX1_lies_0 D f Q T F h g x0) : V D mX1_lies (f + 1) (gv Q T) 0 [(0, .int x0)] [] (F, h, g) := by
  refine V_iload_n dX1_lies_0 rfl 0 rfl ?_
  refine V_if_ne (tgt := 12) dX1_lies_1 (by decide) (fun c1 => ?_) (fun c1 => ?_)
  · have H := H.1 c1
    exact G_vret hF rfl dX1_lies_12 H
  · have H := H.2 c1
    obtain ⟨z2, H⟩ := H
    exact G_throw_v2 hF z2 hf rfl (Nat.le_of_ble_eq_true rfl) q1146 q1155 dX1_lies_4 dX1_lies_7 dX1_lies_8 dX1_lies_11 H
theorem wX1_lies {D : DE} {f : Nat} {Q : Frm → HI → HL → Prop} {T : Nat → Frm → HI → HL → Prop} {F : Frm} {h : HI} {g : HL} (hF : k_Fix F) (x0 : Int32) (hf : 6 ≤ (f + 1)) (H : JX1_lies_0 D f Q T F h g x0) : Gv D (f + 1) mX1_lies [.int x0] F h g Q T := Cl.ofV (by decide) (Nat.le_of_ble_eq_true rfl) rfl (bX1_lies_0 hF x0 hf H)
theorem dX1_fits_0 : decode cX1_fits 0 = .ok (.iload_n 0, 1) := by decide +kernel
theorem dX1_fits_1 : decode cX1_fits 1 = .ok (.ifCond .ne 11, 3) := by decide +kernel
theorem dX1_fits_4 : decode cX1_fits 4 = .ok (.new 114, 3) := by decide +kernel
theorem dX1_fits_7 : decode cX1_fits 7 = .ok (.dup, 1) := by decide +kernel
theorem dX1_fits_8 : decode cX1_fits 8 = .ok (.invokespecial 116, 3) := by decide +kernel
theorem dX1_fits_11 : decode cX1_fits 11 = .ok (.athrow, 1) := by decide +kernel
theorem dX1_fits_12 : decode cX1_fits 12 = .ok (.return_, 1) := by decide +kernel
abbrev JX1_fits_0 (D : DE) (f : Nat) (Q : Frm → HI → HL → Prop) (T : Nat → Frm → HI → HL → Prop) (F : Frm) (h : HI) (g : HL) (x0 : Int32) : Prop := ((¬ x0 = 0 → Q F h g) ∧ (x0 = 0 → 160 ≤ F.1.1 ∧ T 1 (fnx F 1) h g))
theorem bX1_fits_0 {D : DE} {f : Nat} {Q : Frm → HI → HL → Prop} {T : Nat → Frm → HI → HL → Prop} {F : Frm} {h : HI} {g : HL} (hF : k_Fix F) (x0 : Int32) (hf : 6 ≤ (f + 1)) (H : JX1_fits_0 D f Q T F h g x0) : V D mX1_fits (f + 1) (gv Q T) 0 [(0, .int x0)] [] (F, h, g) := by
  refine V_iload_n dX1_fits_0 rfl 0 rfl ?_
  refine V_if_ne (tgt := 12) dX1_fits_1 (by decide) (fun c1 => ?_) (fun c1 => ?_)
  · have H := H.1 c1
    exact G_vret hF rfl dX1_fits_12 H
  · have H := H.2 c1
    obtain ⟨z2, H⟩ := H
    exact G_throw_v1 hF z2 hf rfl (Nat.le_of_ble_eq_true rfl) q1093 q1102 dX1_fits_4 dX1_fits_7 dX1_fits_8 dX1_fits_11 H
theorem wX1_fits {D : DE} {f : Nat} {Q : Frm → HI → HL → Prop} {T : Nat → Frm → HI → HL → Prop} {F : Frm} {h : HI} {g : HL} (hF : k_Fix F) (x0 : Int32) (hf : 6 ≤ (f + 1)) (H : JX1_fits_0 D f Q T F h g x0) : Gv D (f + 1) mX1_fits [.int x0] F h g Q T := Cl.ofV (by decide) (Nat.le_of_ble_eq_true rfl) rfl (bX1_fits_0 hF x0 hf H)
theorem dX1_lay_0 : decode cX1_lay 0 = .ok (.bipush 24, 2) := by decide +kernel
theorem dX1_lay_2 : decode cX1_lay 2 = .ok (.istore_n 2, 1) := by decide +kernel
theorem dX1_lay_3 : decode cX1_lay 3 = .ok (.iload_n 2, 1) := by decide +kernel
theorem dX1_lay_4 : decode cX1_lay 4 = .ok (.ifCond .lt 32, 3) := by decide +kernel
theorem dX1_lay_7 : decode cX1_lay 7 = .ok (.aload_n 0, 1) := by decide +kernel
theorem dX1_lay_8 : decode cX1_lay 8 = .ok (.getfield 91, 3) := by decide +kernel
theorem dX1_lay_11 : decode cX1_lay 11 = .ok (.aload_n 0, 1) := by decide +kernel
theorem dX1_lay_12 : decode cX1_lay 12 = .ok (.getfield 117, 3) := by decide +kernel
theorem dX1_lay_15 : decode cX1_lay 15 = .ok (.iload_n 1, 1) := by decide +kernel
theorem dX1_lay_16 : decode cX1_lay 16 = .ok (.iload_n 2, 1) := by decide +kernel
theorem dX1_lay_17 : decode cX1_lay 17 = .ok (.ishr, 1) := by decide +kernel
theorem dX1_lay_18 : decode cX1_lay 18 = .ok (.i2b, 1) := by decide +kernel
theorem dX1_lay_19 : decode cX1_lay 19 = .ok (.bastore, 1) := by decide +kernel
theorem dX1_lay_20 : decode cX1_lay 20 = .ok (.aload_n 0, 1) := by decide +kernel
theorem dX1_lay_21 : decode cX1_lay 21 = .ok (.dup, 1) := by decide +kernel
theorem dX1_lay_22 : decode cX1_lay 22 = .ok (.getfield 117, 3) := by decide +kernel
theorem dX1_lay_25 : decode cX1_lay 25 = .ok (.iconst 1, 1) := by decide +kernel
theorem dX1_lay_26 : decode cX1_lay 26 = .ok (.iadd, 1) := by decide +kernel
theorem dX1_lay_27 : decode cX1_lay 27 = .ok (.putfield 117, 3) := by decide +kernel
theorem dX1_lay_30 : decode cX1_lay 30 = .ok (.iinc 2 (-8), 3) := by decide +kernel
theorem dX1_lay_33 : decode cX1_lay 33 = .ok (.goto (-30), 3) := by decide +kernel
theorem dX1_lay_36 : decode cX1_lay 36 = .ok (.return_, 1) := by decide +kernel
abbrev JX1_lay_3 (D : DE) (f : Nat) (Q : HI → HL → Prop) (F : Frm) (h : HI) (g : HL) (x1 : Int32) (x2 : Int32) : Prop := ((x2 < 0 → Q h g) ∧ (¬ x2 < 0 → vp_in (h 0 6) 4000 ∧ ∀ h3, h3 = up2 h 111 (ix (h 0 6)) ((x1 >>> (x2 &&& 31)).toInt8.toInt32).toInt8.toInt32 → ∀ h5, h5 = up2 h3 0 6 ((h3 0 6) + 1) → ∀ y7 : Int32, y7 = x2 + (-8) → V D mX1_lay f (qv F Q) 3 [(0, .ref (ad D 0)), (1, .int x1), (2, .int y7)] [] (F, h5, g)))
theorem bX1_lay_3 {D : DE} {f : Nat} {Q : HI → HL → Prop} {F : Frm} {h : HI} {g : HL} (hF : k_Fix F) (x1 : Int32) (x2 : Int32) (H : JX1_lay_3 D f Q F h g x1 x2) : V D mX1_lay f (qv F Q) 3 [(0, .ref (ad D 0)), (1, .int x1), (2, .int x2)] [] (F, h, g) := by
  refine V_iload_n dX1_lay_3 rfl 2 rfl ?_
  refine V_if_lt (tgt := 36) dX1_lay_4 (by decide) (fun c1 => ?_) (fun c1 => ?_)
  · have H := H.1 c1
    exact H_vret rfl dX1_lay_36 H
  · have H := H.2 c1
    refine V_aload_n dX1_lay_7 rfl 0 rfl ?_
    refine H_getr ck0 5 (by decide) (fs_0 hF) (by decide) rfl (fr_0_5 hF) q377 dX1_lay_8 ?_
    refine V_aload_n dX1_lay_11 rfl 0 rfl ?_
    refine H_geti ck0 6 (by decide) (fs_0 hF) (by decide) rfl q378 dX1_lay_12 ?_
    refine V_iload_n dX1_lay_15 rfl 1 rfl ?_
    refine V_iload_n dX1_lay_16 rfl 2 rfl ?_
    refine V_ishr dX1_lay_17 ?_
    refine V_i2b dX1_lay_18 ?_
    obtain ⟨i2, H⟩ := H
    refine H_bast (fs_111 hF) i2 dX1_lay_19 (fun h3 e4 => ?_)
    have H := H h3 e4
    refine V_aload_n dX1_lay_20 rfl 0 rfl ?_
    refine V_dup dX1_lay_21 rfl ?_
    refine H_geti ck0 6 (by decide) (fs_0 hF) (by decide) rfl q378 dX1_lay_22 ?_
    refine V_iconst (v := 1) dX1_lay_25 (by decide) ?_
    refine V_iadd dX1_lay_26 ?_
    refine H_puti ck0 6 (by decide) (fs_0 hF) (by decide) rfl rfl q378 dX1_lay_27 (fun h5 e6 => ?_)
    have H := H h5 e6
    obtain ⟨y7, e8⟩ : ∃ y : Int32, y = x2 + (-8) := ⟨_, rfl⟩
    have H := H y7 e8
    refine V_iinc (j := 2) (v := y7) (l1 := [(2, .int y7), (0, .ref (ad D 0)), (1, .int x1)]) dX1_lay_30 rfl (by rw [e8]; rfl) (by decide) rfl ?_
    refine V_goto (tgt := 3) dX1_lay_33 (by decide) ?_
    refine V.sub [1, 2, 0] rfl ?_
    exact H
abbrev JX1_lay_0 (D : DE) (f : Nat) (Q : HI → HL → Prop) (F : Frm) (h : HI) (g : HL) (x1 : Int32) : Prop := V D mX1_lay f (qv F Q) 3 [(0, .ref (ad D 0)), (1, .int x1), (2, .int 24)] [] (F, h, g)
theorem bX1_lay_0 {D : DE} {f : Nat} {Q : HI → HL → Prop} {F : Frm} {h : HI} {g : HL} (hF : k_Fix F) (x1 : Int32) (H : JX1_lay_0 D f Q F h g x1) : V D mX1_lay f (qv F Q) 0 [(0, .ref (ad D 0)), (1, .int x1)] [] (F, h, g) := by
  refine V_bipush (v := 24) dX1_lay_0 (by decide) ?_
  refine V_istore_n (l1 := [(2, .int 24), (0, .ref (ad D 0)), (1, .int x1)]) dX1_lay_2 rfl (by decide) rfl ?_
  refine V.sub [1, 2, 0] rfl ?_
  exact H
theorem wX1_lay {D : DE} {f : Nat} {Q : HI → HL → Prop} {F : Frm} {h : HI} {g : HL} (hF : k_Fix F) (x1 : Int32) (H : JX1_lay_0 D f Q F h g x1) : Sv D f mX1_lay [.ref (ad D 0), .int x1] F h g Q := Cl.ofV (by decide) (Nat.le_of_ble_eq_true rfl) rfl (bX1_lay_0 hF x1 H)
theorem dX1_feed_0 : decode cX1_feed 0 = .ok (.aload_n 0, 1) := by decide +kernel
theorem dX1_feed_1 : decode cX1_feed 1 = .ok (.getfield 117, 3) := by decide +kernel
theorem dX1_feed_4 : decode cX1_feed 4 = .ok (.bipush 20, 2) := by decide +kernel
theorem dX1_feed_6 : decode cX1_feed 6 = .ok (.iadd, 1) := by decide +kernel
theorem dX1_feed_7 : decode cX1_feed 7 = .ok (.sipush 4000, 3) := by decide +kernel
theorem dX1_feed_10 : decode cX1_feed 10 = .ok (.if_icmp .gt 7, 3) := by decide +kernel
theorem dX1_feed_13 : decode cX1_feed 13 = .ok (.iconst 1, 1) := by decide +kernel
theorem dX1_feed_14 : decode cX1_feed 14 = .ok (.goto 4, 3) := by decide +kernel
theorem dX1_feed_17 : decode cX1_feed 17 = .ok (.iconst 0, 1) := by decide +kernel
theorem dX1_feed_18 : decode cX1_feed 18 = .ok (.invokestatic 120, 3) := by decide +kernel
theorem dX1_feed_21 : decode cX1_feed 21 = .ok (.aload_n 0, 1) := by decide +kernel
theorem dX1_feed_22 : decode cX1_feed 22 = .ok (.iload_n 1, 1) := by decide +kernel
theorem dX1_feed_23 : decode cX1_feed 23 = .ok (.invokevirtual 124, 3) := by decide +kernel
theorem dX1_feed_26 : decode cX1_feed 26 = .ok (.aload_n 0, 1) := by decide +kernel
theorem dX1_feed_27 : decode cX1_feed 27 = .ok (.iload_n 2, 1) := by decide +kernel
theorem dX1_feed_28 : decode cX1_feed 28 = .ok (.invokevirtual 124, 3) := by decide +kernel
theorem dX1_feed_31 : decode cX1_feed 31 = .ok (.aload_n 0, 1) := by decide +kernel
theorem dX1_feed_32 : decode cX1_feed 32 = .ok (.iload_n 3, 1) := by decide +kernel
theorem dX1_feed_33 : decode cX1_feed 33 = .ok (.invokevirtual 124, 3) := by decide +kernel
theorem dX1_feed_36 : decode cX1_feed 36 = .ok (.aload_n 0, 1) := by decide +kernel
theorem dX1_feed_37 : decode cX1_feed 37 = .ok (.iload 4, 2) := by decide +kernel
theorem dX1_feed_39 : decode cX1_feed 39 = .ok (.invokevirtual 124, 3) := by decide +kernel
theorem dX1_feed_42 : decode cX1_feed 42 = .ok (.aload_n 0, 1) := by decide +kernel
theorem dX1_feed_43 : decode cX1_feed 43 = .ok (.iload 5, 2) := by decide +kernel
theorem dX1_feed_45 : decode cX1_feed 45 = .ok (.invokevirtual 124, 3) := by decide +kernel
theorem dX1_feed_48 : decode cX1_feed 48 = .ok (.aload_n 0, 1) := by decide +kernel
theorem dX1_feed_49 : decode cX1_feed 49 = .ok (.getfield 117, 3) := by decide +kernel
theorem dX1_feed_52 : decode cX1_feed 52 = .ok (.ireturn, 1) := by decide +kernel
abbrev JX1_feed_18 (D : DE) (f : Nat) (Q : Int32 → Frm → HI → HL → Prop) (T : Nat → Frm → HI → HL → Prop) (F : Frm) (h : HI) (g : HL) (x1 : Int32) (x2 : Int32) (x3 : Int32) (x4 : Int32) (x5 : Int32) (s0 : Int32) : Prop := Gv D f mX1_may [.int s0] F h g (fun F3 h1 g2 => Sv D f mX1_lay [.ref (ad D 0), .int x1] F3 h1 g2 (fun h6 g7 => Sv D f mX1_lay [.ref (ad D 0), .int x2] F3 h6 g7 (fun h8 g9 => Sv D f mX1_lay [.ref (ad D 0), .int x3] F3 h8 g9 (fun h10 g11 => Sv D f mX1_lay [.ref (ad D 0), .int x4] F3 h10 g11 (fun h12 g13 => Sv D f mX1_lay [.ref (ad D 0), .int x5] F3 h12 g13 (fun h14 g15 => Q (h14 0 6) F3 h14 g15)))))) T
theorem bX1_feed_18 {D : DE} {f : Nat} {Q : Int32 → Frm → HI → HL → Prop} {T : Nat → Frm → HI → HL → Prop} {F : Frm} {h : HI} {g : HL} (hF : k_Fix F) (x1 : Int32) (x2 : Int32) (x3 : Int32) (x4 : Int32) (x5 : Int32) (s0 : Int32) (H : JX1_feed_18 D f Q T F h g x1 x2 x3 x4 x5 s0) : V D mX1_feed (f + 1) (gi Q T) 18 [(0, .ref (ad D 0)), (1, .int x1), (2, .int x2), (3, .int x3), (4, .int x4), (5, .int x5)] [.int s0] (F, h, g) := by
  refine G_callv (av := [.int s0]) (rest := []) H mqX1_may q81 (by decide) (Nat.le_of_ble_eq_true rfl) (k_resS (av := [.int s0]) (rest := []) (M1 := mX1_may) rfl q1065 q1066 q81 mqX1_may (fun _ _ h => mW_named h) mhX1_may mnX1_may dX1_feed_18) (fun F3 h1 g2 hF4 H => ?_) (fun a e F1 h1 g1 hF1 ha ht => GT_i hF1 rfl ha ht)
  refine V_aload_n dX1_feed_21 rfl 0 rfl ?_
  refine V_iload_n dX1_feed_22 rfl 1 rfl ?_
  refine H_callv (av := [.ref (ad D 0), .int x1]) (rest := []) H mqX1_lay q81 (by decide) (Nat.le_of_ble_eq_true rfl) (k_resV (ci := 0) (av := [.int x1]) (rest := []) (fs_0 hF4) (by decide) rfl rfl q1078 q1080 qs22 q1081 mhX1_lay mnX1_lay dX1_feed_23) (fun h6 g7 H => ?_)
  refine V_aload_n dX1_feed_26 rfl 0 rfl ?_
  refine V_iload_n dX1_feed_27 rfl 2 rfl ?_
  refine H_callv (av := [.ref (ad D 0), .int x2]) (rest := []) H mqX1_lay q81 (by decide) (Nat.le_of_ble_eq_true rfl) (k_resV (ci := 0) (av := [.int x2]) (rest := []) (fs_0 hF4) (by decide) rfl rfl q1078 q1080 qs22 q1081 mhX1_lay mnX1_lay dX1_feed_28) (fun h8 g9 H => ?_)
  refine V_aload_n dX1_feed_31 rfl 0 rfl ?_
  refine V_iload_n dX1_feed_32 rfl 3 rfl ?_
  refine H_callv (av := [.ref (ad D 0), .int x3]) (rest := []) H mqX1_lay q81 (by decide) (Nat.le_of_ble_eq_true rfl) (k_resV (ci := 0) (av := [.int x3]) (rest := []) (fs_0 hF4) (by decide) rfl rfl q1078 q1080 qs22 q1081 mhX1_lay mnX1_lay dX1_feed_33) (fun h10 g11 H => ?_)
  refine V_aload_n dX1_feed_36 rfl 0 rfl ?_
  refine V_iload dX1_feed_37 4 rfl ?_
  refine H_callv (av := [.ref (ad D 0), .int x4]) (rest := []) H mqX1_lay q81 (by decide) (Nat.le_of_ble_eq_true rfl) (k_resV (ci := 0) (av := [.int x4]) (rest := []) (fs_0 hF4) (by decide) rfl rfl q1078 q1080 qs22 q1081 mhX1_lay mnX1_lay dX1_feed_39) (fun h12 g13 H => ?_)
  refine V_aload_n dX1_feed_42 rfl 0 rfl ?_
  refine V_iload dX1_feed_43 5 rfl ?_
  refine H_callv (av := [.ref (ad D 0), .int x5]) (rest := []) H mqX1_lay q81 (by decide) (Nat.le_of_ble_eq_true rfl) (k_resV (ci := 0) (av := [.int x5]) (rest := []) (fs_0 hF4) (by decide) rfl rfl q1078 q1080 qs22 q1081 mhX1_lay mnX1_lay dX1_feed_45) (fun h14 g15 H => ?_)
  refine V_aload_n dX1_feed_48 rfl 0 rfl ?_
  refine H_geti ck0 6 (by decide) (fs_0 hF4) (by decide) rfl q378 dX1_feed_49 ?_
  exact G_iret hF4 rfl dX1_feed_52 H
abbrev JX1_feed_0 (D : DE) (f : Nat) (Q : Int32 → Frm → HI → HL → Prop) (T : Nat → Frm → HI → HL → Prop) (F : Frm) (h : HI) (g : HL) (x1 : Int32) (x2 : Int32) (x3 : Int32) (x4 : Int32) (x5 : Int32) : Prop := ((4000 < ((h 0 6) + 20) → JX1_feed_18 D f Q T F h g x1 x2 x3 x4 x5 0) ∧ (¬ 4000 < ((h 0 6) + 20) → JX1_feed_18 D f Q T F h g x1 x2 x3 x4 x5 1))
theorem bX1_feed_0 {D : DE} {f : Nat} {Q : Int32 → Frm → HI → HL → Prop} {T : Nat → Frm → HI → HL → Prop} {F : Frm} {h : HI} {g : HL} (hF : k_Fix F) (x1 : Int32) (x2 : Int32) (x3 : Int32) (x4 : Int32) (x5 : Int32) (H : JX1_feed_0 D f Q T F h g x1 x2 x3 x4 x5) : V D mX1_feed (f + 1) (gi Q T) 0 [(0, .ref (ad D 0)), (1, .int x1), (2, .int x2), (3, .int x3), (4, .int x4), (5, .int x5)] [] (F, h, g) := by
  refine V_aload_n dX1_feed_0 rfl 0 rfl ?_
  refine H_geti ck0 6 (by decide) (fs_0 hF) (by decide) rfl q378 dX1_feed_1 ?_
  refine V_bipush (v := 20) dX1_feed_4 (by decide) ?_
  refine V_iadd dX1_feed_6 ?_
  refine V_sipush (v := 4000) dX1_feed_7 (by decide) ?_
  refine V_icmp_gt (tgt := 17) dX1_feed_10 (by decide) (fun c1 => ?_) (fun c1 => ?_)
  · have H := H.1 c1
    refine V_iconst (v := 0) dX1_feed_17 (by decide) ?_
    exact bX1_feed_18 hF x1 x2 x3 x4 x5 0 H
  · have H := H.2 c1
    refine V_iconst (v := 1) dX1_feed_13 (by decide) ?_
    refine V_goto (tgt := 18) dX1_feed_14 (by decide) ?_
    exact bX1_feed_18 hF x1 x2 x3 x4 x5 1 H
theorem wX1_feed {D : DE} {f : Nat} {Q : Int32 → Frm → HI → HL → Prop} {T : Nat → Frm → HI → HL → Prop} {F : Frm} {h : HI} {g : HL} (hF : k_Fix F) (x1 : Int32) (x2 : Int32) (x3 : Int32) (x4 : Int32) (x5 : Int32) (H : JX1_feed_0 D f Q T F h g x1 x2 x3 x4 x5) : Gi D (f + 1) mX1_feed [.ref (ad D 0), .int x1, .int x2, .int x3, .int x4, .int x5] F h g Q T := Cl.ofV (by decide) (Nat.le_of_ble_eq_true rfl) rfl (bX1_feed_0 hF x1 x2 x3 x4 x5 H)
theorem dX1_cut_0 : decode cX1_cut 0 = .ok (.iload_n 1, 1) := by decide +kernel
theorem dX1_cut_1 : decode cX1_cut 1 = .ok (.ifCond .lt 15, 3) := by decide +kernel
theorem dX1_cut_4 : decode cX1_cut 4 = .ok (.iload_n 1, 1) := by decide +kernel
theorem dX1_cut_5 : decode cX1_cut 5 = .ok (.aload_n 0, 1) := by decide +kernel
theorem dX1_cut_6 : decode cX1_cut 6 = .ok (.getfield 117, 3) := by decide +kernel
theorem dX1_cut_9 : decode cX1_cut 9 = .ok (.if_icmp .gt 7, 3) := by decide +kernel
theorem dX1_cut_12 : decode cX1_cut 12 = .ok (.iconst 1, 1) := by decide +kernel
theorem dX1_cut_13 : decode cX1_cut 13 = .ok (.goto 4, 3) := by decide +kernel
theorem dX1_cut_16 : decode cX1_cut 16 = .ok (.iconst 0, 1) := by decide +kernel
theorem dX1_cut_17 : decode cX1_cut 17 = .ok (.invokestatic 128, 3) := by decide +kernel
theorem dX1_cut_20 : decode cX1_cut 20 = .ok (.aload_n 0, 1) := by decide +kernel
theorem dX1_cut_21 : decode cX1_cut 21 = .ok (.getfield 117, 3) := by decide +kernel
theorem dX1_cut_24 : decode cX1_cut 24 = .ok (.iload_n 1, 1) := by decide +kernel
theorem dX1_cut_25 : decode cX1_cut 25 = .ok (.isub, 1) := by decide +kernel
theorem dX1_cut_26 : decode cX1_cut 26 = .ok (.istore_n 2, 1) := by decide +kernel
theorem dX1_cut_27 : decode cX1_cut 27 = .ok (.aload_n 0, 1) := by decide +kernel
theorem dX1_cut_28 : decode cX1_cut 28 = .ok (.iload_n 1, 1) := by decide +kernel
theorem dX1_cut_29 : decode cX1_cut 29 = .ok (.putfield 117, 3) := by decide +kernel
theorem dX1_cut_32 : decode cX1_cut 32 = .ok (.iload_n 2, 1) := by decide +kernel
theorem dX1_cut_33 : decode cX1_cut 33 = .ok (.ireturn, 1) := by decide +kernel
abbrev JX1_cut_17 (D : DE) (f : Nat) (Q : Int32 → Frm → HI → HL → Prop) (T : Nat → Frm → HI → HL → Prop) (F : Frm) (h : HI) (g : HL) (x1 : Int32) (s0 : Int32) : Prop := Gv D f mX1_fits [.int s0] F h g (fun F3 h1 g2 => ∀ y6 : Int32, y6 = ((h1 0 6) - x1) → ∀ h8, h8 = up2 h1 0 6 x1 → Q y6 F3 h8 g2) T
theorem bX1_cut_17 {D : DE} {f : Nat} {Q : Int32 → Frm → HI → HL → Prop} {T : Nat → Frm → HI → HL → Prop} {F : Frm} {h : HI} {g : HL} (hF : k_Fix F) (x1 : Int32) (s0 : Int32) (H : JX1_cut_17 D f Q T F h g x1 s0) : V D mX1_cut (f + 1) (gi Q T) 17 [(0, .ref (ad D 0)), (1, .int x1)] [.int s0] (F, h, g) := by
  refine G_callv (av := [.int s0]) (rest := []) H mqX1_fits q81 (by decide) (Nat.le_of_ble_eq_true rfl) (k_resS (av := [.int s0]) (rest := []) (M1 := mX1_fits) rfl q1090 q1091 q81 mqX1_fits (fun _ _ h => mW_named h) mhX1_fits mnX1_fits dX1_cut_17) (fun F3 h1 g2 hF4 H => ?_) (fun a e F1 h1 g1 hF1 ha ht => GT_i hF1 rfl ha ht)
  refine V_aload_n dX1_cut_20 rfl 0 rfl ?_
  refine H_geti ck0 6 (by decide) (fs_0 hF4) (by decide) rfl q378 dX1_cut_21 ?_
  refine V_iload_n dX1_cut_24 rfl 1 rfl ?_
  refine V_isub dX1_cut_25 ?_
  refine V_topi (fun y6 e7 => ?_)
  have H := H y6 e7
  refine V_istore_n (l1 := [(2, .int y6), (0, .ref (ad D 0)), (1, .int x1)]) dX1_cut_26 rfl (by decide) rfl ?_
  refine V_aload_n dX1_cut_27 rfl 1 rfl ?_
  refine V_iload_n dX1_cut_28 rfl 2 rfl ?_
  refine H_puti ck0 6 (by decide) (fs_0 hF4) (by decide) rfl rfl q378 dX1_cut_29 (fun h8 e9 => ?_)
  have H := H h8 e9
  refine V_iload_n dX1_cut_32 rfl 0 rfl ?_
  exact G_iret hF4 rfl dX1_cut_33 H
abbrev JX1_cut_16 (D : DE) (f : Nat) (Q : Int32 → Frm → HI → HL → Prop) (T : Nat → Frm → HI → HL → Prop) (F : Frm) (h : HI) (g : HL) (x1 : Int32) : Prop := JX1_cut_17 D f Q T F h g x1 0
theorem bX1_cut_16 {D : DE} {f : Nat} {Q : Int32 → Frm → HI → HL → Prop} {T : Nat → Frm → HI → HL → Prop} {F : Frm} {h : HI} {g : HL} (hF : k_Fix F) (x1 : Int32) (H : JX1_cut_16 D f Q T F h g x1) : V D mX1_cut (f + 1) (gi Q T) 16 [(0, .ref (ad D 0)), (1, .int x1)] [] (F, h, g) := by
  refine V_iconst (v := 0) dX1_cut_16 (by decide) ?_
  exact bX1_cut_17 hF x1 0 H
abbrev JX1_cut_0 (D : DE) (f : Nat) (Q : Int32 → Frm → HI → HL → Prop) (T : Nat → Frm → HI → HL → Prop) (F : Frm) (h : HI) (g : HL) (x1 : Int32) : Prop := ((x1 < 0 → JX1_cut_16 D f Q T F h g x1) ∧ (¬ x1 < 0 → (((h 0 6) < x1 → JX1_cut_16 D f Q T F h g x1) ∧ (¬ (h 0 6) < x1 → JX1_cut_17 D f Q T F h g x1 1))))
theorem bX1_cut_0 {D : DE} {f : Nat} {Q : Int32 → Frm → HI → HL → Prop} {T : Nat → Frm → HI → HL → Prop} {F : Frm} {h : HI} {g : HL} (hF : k_Fix F) (x1 : Int32) (H : JX1_cut_0 D f Q T F h g x1) : V D mX1_cut (f + 1) (gi Q T) 0 [(0, .ref (ad D 0)), (1, .int x1)] [] (F, h, g) := by
  refine V_iload_n dX1_cut_0 rfl 1 rfl ?_
  refine V_if_lt (tgt := 16) dX1_cut_1 (by decide) (fun c1 => ?_) (fun c1 => ?_)
  · have H := H.1 c1
    exact bX1_cut_16 hF x1 H
  · have H := H.2 c1
    refine V_iload_n dX1_cut_4 rfl 1 rfl ?_
    refine V_aload_n dX1_cut_5 rfl 0 rfl ?_
    refine H_geti ck0 6 (by decide) (fs_0 hF) (by decide) rfl q378 dX1_cut_6 ?_
    refine V_icmp_gt (tgt := 16) dX1_cut_9 (by decide) (fun c2 => ?_) (fun c2 => ?_)
    · have H := H.1 c2
      exact bX1_cut_16 hF x1 H
    · have H := H.2 c2
      refine V_iconst (v := 1) dX1_cut_12 (by decide) ?_
      refine V_goto (tgt := 17) dX1_cut_13 (by decide) ?_
      exact bX1_cut_17 hF x1 1 H
theorem wX1_cut {D : DE} {f : Nat} {Q : Int32 → Frm → HI → HL → Prop} {T : Nat → Frm → HI → HL → Prop} {F : Frm} {h : HI} {g : HL} (hF : k_Fix F) (x1 : Int32) (H : JX1_cut_0 D f Q T F h g x1) : Gi D (f + 1) mX1_cut [.ref (ad D 0), .int x1] F h g Q T := Cl.ofV (by decide) (Nat.le_of_ble_eq_true rfl) rfl (bX1_cut_0 hF x1 H)
theorem dX1_place_0 : decode cX1_place 0 = .ok (.aload_n 0, 1) := by decide +kernel
theorem dX1_place_1 : decode cX1_place 1 = .ok (.getfield 95, 3) := by decide +kernel
theorem dX1_place_4 : decode cX1_place 4 = .ok (.ireturn, 1) := by decide +kernel
abbrev JX1_place_0 (D : DE) (f : Nat) (Q : Int32 → HI → HL → Prop) (F : Frm) (h : HI) (g : HL) : Prop := Q (h 0 7) h g
theorem bX1_place_0 {D : DE} {f : Nat} {Q : Int32 → HI → HL → Prop} {F : Frm} {h : HI} {g : HL} (hF : k_Fix F)  (H : JX1_place_0 D f Q F h g ) : V D mX1_place f (qi F Q) 0 [(0, .ref (ad D 0))] [] (F, h, g) := by
  refine V_aload_n dX1_place_0 rfl 0 rfl ?_
  refine H_geti ck0 7 (by decide) (fs_0 hF) (by decide) rfl q379 dX1_place_1 ?_
  exact H_iret rfl dX1_place_4 H
theorem wX1_place {D : DE} {f : Nat} {Q : Int32 → HI → HL → Prop} {F : Frm} {h : HI} {g : HL} (hF : k_Fix F)  (H : JX1_place_0 D f Q F h g ) : Si D f mX1_place [.ref (ad D 0)] F h g Q := Cl.ofV (by decide) (Nat.le_of_ble_eq_true rfl) rfl (bX1_place_0 hF  H)
theorem dX1_functionAt_0 : decode cX1_functionAt 0 = .ok (.iload_n 1, 1) := by decide +kernel
theorem dX1_functionAt_1 : decode cX1_functionAt 1 = .ok (.ifCond .lt 15, 3) := by decide +kernel
theorem dX1_functionAt_4 : decode cX1_functionAt 4 = .ok (.iload_n 1, 1) := by decide +kernel
theorem dX1_functionAt_5 : decode cX1_functionAt 5 = .ok (.aload_n 0, 1) := by decide +kernel
theorem dX1_functionAt_6 : decode cX1_functionAt 6 = .ok (.getfield 162, 3) := by decide +kernel
theorem dX1_functionAt_9 : decode cX1_functionAt 9 = .ok (.if_icmp .ge 7, 3) := by decide +kernel
theorem dX1_functionAt_12 : decode cX1_functionAt 12 = .ok (.iconst 1, 1) := by decide +kernel
theorem dX1_functionAt_13 : decode cX1_functionAt 13 = .ok (.goto 4, 3) := by decide +kernel
theorem dX1_functionAt_16 : decode cX1_functionAt 16 = .ok (.iconst 0, 1) := by decide +kernel
theorem dX1_functionAt_17 : decode cX1_functionAt 17 = .ok (.invokestatic 170, 3) := by decide +kernel
theorem dX1_functionAt_20 : decode cX1_functionAt 20 = .ok (.aload_n 0, 1) := by decide +kernel
theorem dX1_functionAt_21 : decode cX1_functionAt 21 = .ok (.getfield 101, 3) := by decide +kernel
theorem dX1_functionAt_24 : decode cX1_functionAt 24 = .ok (.iload_n 1, 1) := by decide +kernel
theorem dX1_functionAt_25 : decode cX1_functionAt 25 = .ok (.aaload, 1) := by decide +kernel
theorem dX1_functionAt_26 : decode cX1_functionAt 26 = .ok (.areturn, 1) := by decide +kernel
abbrev JX1_functionAt_17 (D : DE) (f : Nat) (Q : Nat → Frm → HI → HL → Prop) (T : Nat → Frm → HI → HL → Prop) (F : Frm) (h : HI) (g : HL) (x1 : Int32) (s0 : Int32) : Prop := Gv D f mX1_lies [.int s0] F h g (fun F3 h1 g2 => vp_in x1 12 ∧ ∃ b7 : Nat, F3.2.2 112 (ix x1) = some b7 ∧ Q b7 F3 h1 g2) T
theorem bX1_functionAt_17 {D : DE} {f : Nat} {Q : Nat → Frm → HI → HL → Prop} {T : Nat → Frm → HI → HL → Prop} {F : Frm} {h : HI} {g : HL} (hF : k_Fix F) (x1 : Int32) (s0 : Int32) (H : JX1_functionAt_17 D f Q T F h g x1 s0) : V D mX1_functionAt (f + 1) (gr D Q T) 17 [(0, .ref (ad D 0)), (1, .int x1)] [.int s0] (F, h, g) := by
  refine G_callv (av := [.int s0]) (rest := []) H mqX1_lies q81 (by decide) (Nat.le_of_ble_eq_true rfl) (k_resS (av := [.int s0]) (rest := []) (M1 := mX1_lies) rfl q1143 q1144 q81 mqX1_lies (fun _ _ h => mW_named h) mhX1_lies mnX1_lies dX1_functionAt_17) (fun F3 h1 g2 hF4 H => ?_) (fun a e F1 h1 g1 hF1 ha ht => GT_r hF1 rfl ha ht)
  refine V_aload_n dX1_functionAt_20 rfl 0 rfl ?_
  refine H_getr ck0 8 (by decide) (fs_0 hF4) (by decide) rfl (fr_0_8 hF4) q380 dX1_functionAt_21 ?_
  refine V_iload_n dX1_functionAt_24 rfl 1 rfl ?_
  obtain ⟨i6, H⟩ := H
  obtain ⟨b7, z8, H⟩ := H
  refine H_aald (fs_112 hF4) (by decide) (by decide) rfl i6 z8 dX1_functionAt_25 ?_
  exact G_aret hF4 rfl dX1_functionAt_26 H
abbrev JX1_functionAt_16 (D : DE) (f : Nat) (Q : Nat → Frm → HI → HL → Prop) (T : Nat → Frm → HI → HL → Prop) (F : Frm) (h : HI) (g : HL) (x1 : Int32) : Prop := JX1_functionAt_17 D f Q T F h g x1 0
theorem bX1_functionAt_16 {D : DE} {f : Nat} {Q : Nat → Frm → HI → HL → Prop} {T : Nat → Frm → HI → HL → Prop} {F : Frm} {h : HI} {g : HL} (hF : k_Fix F) (x1 : Int32) (H : JX1_functionAt_16 D f Q T F h g x1) : V D mX1_functionAt (f + 1) (gr D Q T) 16 [(0, .ref (ad D 0)), (1, .int x1)] [] (F, h, g) := by
  refine V_iconst (v := 0) dX1_functionAt_16 (by decide) ?_
  exact bX1_functionAt_17 hF x1 0 H
abbrev JX1_functionAt_0 (D : DE) (f : Nat) (Q : Nat → Frm → HI → HL → Prop) (T : Nat → Frm → HI → HL → Prop) (F : Frm) (h : HI) (g : HL) (x1 : Int32) : Prop := ((x1 < 0 → JX1_functionAt_16 D f Q T F h g x1) ∧ (¬ x1 < 0 → (((h 0 9) ≤ x1 → JX1_functionAt_16 D f Q T F h g x1) ∧ (¬ (h 0 9) ≤ x1 → JX1_functionAt_17 D f Q T F h g x1 1))))
theorem bX1_functionAt_0 {D : DE} {f : Nat} {Q : Nat → Frm → HI → HL → Prop} {T : Nat → Frm → HI → HL → Prop} {F : Frm} {h : HI} {g : HL} (hF : k_Fix F) (x1 : Int32) (H : JX1_functionAt_0 D f Q T F h g x1) : V D mX1_functionAt (f + 1) (gr D Q T) 0 [(0, .ref (ad D 0)), (1, .int x1)] [] (F, h, g) := by
  refine V_iload_n dX1_functionAt_0 rfl 1 rfl ?_
  refine V_if_lt (tgt := 16) dX1_functionAt_1 (by decide) (fun c1 => ?_) (fun c1 => ?_)
  · have H := H.1 c1
    exact bX1_functionAt_16 hF x1 H
  · have H := H.2 c1
    refine V_iload_n dX1_functionAt_4 rfl 1 rfl ?_
    refine V_aload_n dX1_functionAt_5 rfl 0 rfl ?_
    refine H_geti ck0 9 (by decide) (fs_0 hF) (by decide) rfl q381 dX1_functionAt_6 ?_
    refine V_icmp_ge (tgt := 16) dX1_functionAt_9 (by decide) (fun c2 => ?_) (fun c2 => ?_)
    · have H := H.1 c2
      exact bX1_functionAt_16 hF x1 H
    · have H := H.2 c2
      refine V_iconst (v := 1) dX1_functionAt_12 (by decide) ?_
      refine V_goto (tgt := 17) dX1_functionAt_13 (by decide) ?_
      exact bX1_functionAt_17 hF x1 1 H
theorem wX1_functionAt {D : DE} {f : Nat} {Q : Nat → Frm → HI → HL → Prop} {T : Nat → Frm → HI → HL → Prop} {F : Frm} {h : HI} {g : HL} (hF : k_Fix F) (x1 : Int32) (H : JX1_functionAt_0 D f Q T F h g x1) : Gr D (f + 1) mX1_functionAt [.ref (ad D 0), .int x1] F h g Q T := Cl.ofV (by decide) (Nat.le_of_ble_eq_true rfl) rfl (bX1_functionAt_0 hF x1 H)
theorem dX1_function_0 : decode cX1_function 0 = .ok (.aload_n 0, 1) := by decide +kernel
theorem dX1_function_1 : decode cX1_function 1 = .ok (.iload_n 1, 1) := by decide +kernel
theorem dX1_function_2 : decode cX1_function 2 = .ok (.invokevirtual 173, 3) := by decide +kernel
theorem dX1_function_5 : decode cX1_function 5 = .ok (.astore_n 3, 1) := by decide +kernel
theorem dX1_function_6 : decode cX1_function 6 = .ok (.iload_n 2, 1) := by decide +kernel
theorem dX1_function_7 : decode cX1_function 7 = .ok (.ifCond .lt 17, 3) := by decide +kernel
theorem dX1_function_10 : decode cX1_function 10 = .ok (.iload_n 2, 1) := by decide +kernel
theorem dX1_function_11 : decode cX1_function 11 = .ok (.iconst 3, 1) := by decide +kernel
theorem dX1_function_12 : decode cX1_function 12 = .ok (.aload_n 3, 1) := by decide +kernel
theorem dX1_function_13 : decode cX1_function 13 = .ok (.getfield 177, 3) := by decide +kernel
theorem dX1_function_16 : decode cX1_function 16 = .ok (.iadd, 1) := by decide +kernel
theorem dX1_function_17 : decode cX1_function 17 = .ok (.if_icmp .ge 7, 3) := by decide +kernel
theorem dX1_function_20 : decode cX1_function 20 = .ok (.iconst 1, 1) := by decide +kernel
theorem dX1_function_21 : decode cX1_function 21 = .ok (.goto 4, 3) := by decide +kernel
theorem dX1_function_24 : decode cX1_function 24 = .ok (.iconst 0, 1) := by decide +kernel
theorem dX1_function_25 : decode cX1_function 25 = .ok (.invokestatic 170, 3) := by decide +kernel
theorem dX1_function_28 : decode cX1_function 28 = .ok (.iload_n 2, 1) := by decide +kernel
theorem dX1_function_29 : decode cX1_function 29 = .ok (.ifCond .ne 10, 3) := by decide +kernel
theorem dX1_function_32 : decode cX1_function 32 = .ok (.aload_n 3, 1) := by decide +kernel
theorem dX1_function_33 : decode cX1_function 33 = .ok (.getfield 177, 3) := by decide +kernel
theorem dX1_function_36 : decode cX1_function 36 = .ok (.goto 38, 3) := by decide +kernel
theorem dX1_function_39 : decode cX1_function 39 = .ok (.iload_n 2, 1) := by decide +kernel
theorem dX1_function_40 : decode cX1_function 40 = .ok (.iconst 1, 1) := by decide +kernel
theorem dX1_function_41 : decode cX1_function 41 = .ok (.if_icmp .ne 10, 3) := by decide +kernel
theorem dX1_function_44 : decode cX1_function 44 = .ok (.aload_n 3, 1) := by decide +kernel
theorem dX1_function_45 : decode cX1_function 45 = .ok (.getfield 180, 3) := by decide +kernel
theorem dX1_function_48 : decode cX1_function 48 = .ok (.goto 26, 3) := by decide +kernel
theorem dX1_function_51 : decode cX1_function 51 = .ok (.iload_n 2, 1) := by decide +kernel
theorem dX1_function_52 : decode cX1_function 52 = .ok (.iconst 2, 1) := by decide +kernel
theorem dX1_function_53 : decode cX1_function 53 = .ok (.if_icmp .ne 10, 3) := by decide +kernel
theorem dX1_function_56 : decode cX1_function 56 = .ok (.aload_n 3, 1) := by decide +kernel
theorem dX1_function_57 : decode cX1_function 57 = .ok (.getfield 183, 3) := by decide +kernel
theorem dX1_function_60 : decode cX1_function 60 = .ok (.goto 11, 3) := by decide +kernel
theorem dX1_function_63 : decode cX1_function 63 = .ok (.aload_n 3, 1) := by decide +kernel
theorem dX1_function_64 : decode cX1_function 64 = .ok (.getfield 186, 3) := by decide +kernel
theorem dX1_function_67 : decode cX1_function 67 = .ok (.iload_n 2, 1) := by decide +kernel
theorem dX1_function_68 : decode cX1_function 68 = .ok (.iconst 3, 1) := by decide +kernel
theorem dX1_function_69 : decode cX1_function 69 = .ok (.isub, 1) := by decide +kernel
theorem dX1_function_70 : decode cX1_function 70 = .ok (.iaload, 1) := by decide +kernel
theorem dX1_function_71 : decode cX1_function 71 = .ok (.invokestatic 7, 3) := by decide +kernel
theorem dX1_function_74 : decode cX1_function 74 = .ok (.ireturn, 1) := by decide +kernel
abbrev JX1_function_25 (D : DE) (f : Nat) (Q : Int32 → Frm → HI → HL → Prop) (T : Nat → Frm → HI → HL → Prop) (F : Frm) (h : HI) (g : HL) (x2 : Int32) (x3 : Nat) (s0 : Int32) : Prop := Gv D f mX1_lies [.int s0] F h g (fun F3 h1 g2 => ((¬ x2 = 0 → ((¬ x2 = 1 → ((¬ x2 = 2 → F3.2.1 x3 = (18, 0) ∧ ∃ b10 : Nat, F3.2.2 x3 5 = some b10 ∧ ∃ m12 : Nat, F3.2.1 b10 = (0, m12) ∧ vp_in (x2 - 3) m12 ∧ Si D f mX1_sizeOf [.int (h1 b10 (ix (x2 - 3)))] F3 h1 g2 (fun y15 h16 g17 => Q y15 F3 h16 g17)) ∧ (x2 = 2 → F3.2.1 x3 = (18, 0) ∧ Si D f mX1_sizeOf [.int (h1 x3 3)] F3 h1 g2 (fun y19 h20 g21 => Q y19 F3 h20 g21)))) ∧ (x2 = 1 → F3.2.1 x3 = (18, 0) ∧ Q (h1 x3 2) F3 h1 g2))) ∧ (x2 = 0 → F3.2.1 x3 = (18, 0) ∧ Q (h1 x3 1) F3 h1 g2))) T
theorem bX1_function_25 {D : DE} {f : Nat} {Q : Int32 → Frm → HI → HL → Prop} {T : Nat → Frm → HI → HL → Prop} {F : Frm} {h : HI} {g : HL} (hF : k_Fix F) (x2 : Int32) (x3 : Nat) (s0 : Int32) (H : JX1_function_25 D f Q T F h g x2 x3 s0) : V D mX1_function (f + 1) (gi Q T) 25 [(2, .int x2), (3, .ref (ad D x3))] [.int s0] (F, h, g) := by
  refine G_callv (av := [.int s0]) (rest := []) H mqX1_lies q81 (by decide) (Nat.le_of_ble_eq_true rfl) (k_resS (av := [.int s0]) (rest := []) (M1 := mX1_lies) rfl q1143 q1144 q81 mqX1_lies (fun _ _ h => mW_named h) mhX1_lies mnX1_lies dX1_function_25) (fun F3 h1 g2 hF4 H => ?_) (fun a e F1 h1 g1 hF1 ha ht => GT_i hF1 rfl ha ht)
  refine V_iload_n dX1_function_28 rfl 0 rfl ?_
  refine V_if_ne (tgt := 39) dX1_function_29 (by decide) (fun c6 => ?_) (fun c6 => ?_)
  · have H := H.1 c6
    refine V_iload_n dX1_function_39 rfl 0 rfl ?_
    refine V_iconst (v := 1) dX1_function_40 (by decide) ?_
    refine V_icmp_ne (tgt := 51) dX1_function_41 (by decide) (fun c7 => ?_) (fun c7 => ?_)
    · have H := H.1 c7
      refine V_iload_n dX1_function_51 rfl 0 rfl ?_
      refine V_iconst (v := 2) dX1_function_52 (by decide) ?_
      refine V_icmp_ne (tgt := 63) dX1_function_53 (by decide) (fun c8 => ?_) (fun c8 => ?_)
      · have H := H.1 c8
        refine V_aload_n dX1_function_63 rfl 1 rfl ?_
        obtain ⟨z9, H⟩ := H
        obtain ⟨b10, z11, H⟩ := H
        refine H_getrN ck8 5 (by decide) z9 (by decide) rfl z11 q688 dX1_function_64 ?_
        refine V_iload_n dX1_function_67 rfl 0 rfl ?_
        refine V_iconst (v := 3) dX1_function_68 (by decide) ?_
        refine V_isub dX1_function_69 ?_
        obtain ⟨m12, z13, H⟩ := H
        obtain ⟨i14, H⟩ := H
        refine H_iald z13 i14 dX1_function_70 ?_
        refine H_calli (av := [.int (h1 b10 (ix (x2 - 3)))]) (rest := []) H mqX1_sizeOf q81 (by decide) (Nat.le_of_ble_eq_true rfl) (k_resS (av := [.int (h1 b10 (ix (x2 - 3)))]) (rest := []) (M1 := mX1_sizeOf) rfl q1161 q1162 q81 mqX1_sizeOf (fun _ _ h => mW_named h) mhX1_sizeOf mnX1_sizeOf dX1_function_71) (fun y15 h16 g17 H => ?_)
        exact G_iret hF4 rfl dX1_function_74 H
      · have H := H.2 c8
        refine V_aload_n dX1_function_56 rfl 1 rfl ?_
        obtain ⟨z18, H⟩ := H
        refine H_getiN ck8 3 (by decide) z18 (by decide) rfl q675 dX1_function_57 ?_
        refine V_goto (tgt := 71) dX1_function_60 (by decide) ?_
        refine H_calli (av := [.int (h1 x3 3)]) (rest := []) H mqX1_sizeOf q81 (by decide) (Nat.le_of_ble_eq_true rfl) (k_resS (av := [.int (h1 x3 3)]) (rest := []) (M1 := mX1_sizeOf) rfl q1161 q1162 q81 mqX1_sizeOf (fun _ _ h => mW_named h) mhX1_sizeOf mnX1_sizeOf dX1_function_71) (fun y19 h20 g21 H => ?_)
        exact G_iret hF4 rfl dX1_function_74 H
    · have H := H.2 c7
      refine V_aload_n dX1_function_44 rfl 1 rfl ?_
      obtain ⟨z22, H⟩ := H
      refine H_getiN ck8 2 (by decide) z22 (by decide) rfl q670 dX1_function_45 ?_
      refine V_goto (tgt := 74) dX1_function_48 (by decide) ?_
      exact G_iret hF4 rfl dX1_function_74 H
  · have H := H.2 c6
    refine V_aload_n dX1_function_32 rfl 1 rfl ?_
    obtain ⟨z23, H⟩ := H
    refine H_getiN ck8 1 (by decide) z23 (by decide) rfl q667 dX1_function_33 ?_
    refine V_goto (tgt := 74) dX1_function_36 (by decide) ?_
    exact G_iret hF4 rfl dX1_function_74 H
abbrev JX1_function_24 (D : DE) (f : Nat) (Q : Int32 → Frm → HI → HL → Prop) (T : Nat → Frm → HI → HL → Prop) (F : Frm) (h : HI) (g : HL) (x2 : Int32) (x3 : Nat) : Prop := JX1_function_25 D f Q T F h g x2 x3 0
theorem bX1_function_24 {D : DE} {f : Nat} {Q : Int32 → Frm → HI → HL → Prop} {T : Nat → Frm → HI → HL → Prop} {F : Frm} {h : HI} {g : HL} (hF : k_Fix F) (x2 : Int32) (x3 : Nat) (H : JX1_function_24 D f Q T F h g x2 x3) : V D mX1_function (f + 1) (gi Q T) 24 [(2, .int x2), (3, .ref (ad D x3))] [] (F, h, g) := by
  refine V_iconst (v := 0) dX1_function_24 (by decide) ?_
  exact bX1_function_25 hF x2 x3 0 H
abbrev JX1_function_0 (D : DE) (f : Nat) (Q : Int32 → Frm → HI → HL → Prop) (T : Nat → Frm → HI → HL → Prop) (F : Frm) (h : HI) (g : HL) (x1 : Int32) (x2 : Int32) : Prop := Gr D f mX1_functionAt [.ref (ad D 0), .int x1] F h g (fun b1 F4 h2 g3 => ((x2 < 0 → JX1_function_24 D f Q T F4 h2 g3 x2 b1) ∧ (¬ x2 < 0 → F4.2.1 b1 = (18, 0) ∧ (((3 + (h2 b1 1)) ≤ x2 → JX1_function_24 D f Q T F4 h2 g3 x2 b1) ∧ (¬ (3 + (h2 b1 1)) ≤ x2 → JX1_function_25 D f Q T F4 h2 g3 x2 b1 1))))) T
theorem bX1_function_0 {D : DE} {f : Nat} {Q : Int32 → Frm → HI → HL → Prop} {T : Nat → Frm → HI → HL → Prop} {F : Frm} {h : HI} {g : HL} (hF : k_Fix F) (x1 : Int32) (x2 : Int32) (H : JX1_function_0 D f Q T F h g x1 x2) : V D mX1_function (f + 1) (gi Q T) 0 [(0, .ref (ad D 0)), (1, .int x1), (2, .int x2)] [] (F, h, g) := by
  refine V_aload_n dX1_function_0 rfl 0 rfl ?_
  refine V_iload_n dX1_function_1 rfl 1 rfl ?_
  refine G_callr (av := [.ref (ad D 0), .int x1]) (rest := []) H mqX1_functionAt q81 (by decide) (Nat.le_of_ble_eq_true rfl) (k_resV (ci := 0) (av := [.int x1]) (rest := []) (fs_0 hF) (by decide) rfl rfl q1139 q1141 qs23 q1142 mhX1_functionAt mnX1_functionAt dX1_function_2) (fun b1 F4 h2 g3 hF5 H => ?_) (fun a e F1 h1 g1 hF1 ha ht => GT_i hF1 rfl ha ht)
  refine V_astore_n (l1 := [(3, .ref (ad D b1)), (0, .ref (ad D 0)), (1, .int x1), (2, .int x2)]) dX1_function_5 rfl (by decide) rfl ?_
  refine V_iload_n dX1_function_6 rfl 3 rfl ?_
  refine V_if_lt (tgt := 24) dX1_function_7 (by decide) (fun c7 => ?_) (fun c7 => ?_)
  · have H := H.1 c7
    refine V.sub [3, 0] rfl ?_
    exact bX1_function_24 hF5 x2 b1 H
  · have H := H.2 c7
    refine V_iload_n dX1_function_10 rfl 3 rfl ?_
    refine V_iconst (v := 3) dX1_function_11 (by decide) ?_
    refine V_aload_n dX1_function_12 rfl 0 rfl ?_
    obtain ⟨z8, H⟩ := H
    refine H_getiN ck8 1 (by decide) z8 (by decide) rfl q667 dX1_function_13 ?_
    refine V_iadd dX1_function_16 ?_
    refine V_icmp_ge (tgt := 24) dX1_function_17 (by decide) (fun c9 => ?_) (fun c9 => ?_)
    · have H := H.1 c9
      refine V.sub [3, 0] rfl ?_
      exact bX1_function_24 hF5 x2 b1 H
    · have H := H.2 c9
      refine V_iconst (v := 1) dX1_function_20 (by decide) ?_
      refine V_goto (tgt := 25) dX1_function_21 (by decide) ?_
      refine V.sub [3, 0] rfl ?_
      exact bX1_function_25 hF5 x2 b1 1 H
theorem wX1_function {D : DE} {f : Nat} {Q : Int32 → Frm → HI → HL → Prop} {T : Nat → Frm → HI → HL → Prop} {F : Frm} {h : HI} {g : HL} (hF : k_Fix F) (x1 : Int32) (x2 : Int32) (H : JX1_function_0 D f Q T F h g x1 x2) : Gi D (f + 1) mX1_function [.ref (ad D 0), .int x1, .int x2] F h g Q T := Cl.ofV (by decide) (Nat.le_of_ble_eq_true rfl) rfl (bX1_function_0 hF x1 x2 H)
theorem dX1_rounds_0 : decode cX1_rounds 0 = .ok (.aload_n 0, 1) := by decide +kernel
theorem dX1_rounds_1 : decode cX1_rounds 1 = .ok (.getfield 162, 3) := by decide +kernel
theorem dX1_rounds_4 : decode cX1_rounds 4 = .ok (.ifCond .le 7, 3) := by decide +kernel
theorem dX1_rounds_7 : decode cX1_rounds 7 = .ok (.iconst 1, 1) := by decide +kernel
theorem dX1_rounds_8 : decode cX1_rounds 8 = .ok (.goto 4, 3) := by decide +kernel
theorem dX1_rounds_11 : decode cX1_rounds 11 = .ok (.iconst 0, 1) := by decide +kernel
theorem dX1_rounds_12 : decode cX1_rounds 12 = .ok (.invokestatic 120, 3) := by decide +kernel
theorem dX1_rounds_15 : decode cX1_rounds 15 = .ok (.iconst 0, 1) := by decide +kernel
theorem dX1_rounds_16 : decode cX1_rounds 16 = .ok (.istore_n 1, 1) := by decide +kernel
theorem dX1_rounds_17 : decode cX1_rounds 17 = .ok (.iload_n 1, 1) := by decide +kernel
theorem dX1_rounds_18 : decode cX1_rounds 18 = .ok (.aload_n 0, 1) := by decide +kernel
theorem dX1_rounds_19 : decode cX1_rounds 19 = .ok (.getfield 162, 3) := by decide +kernel
theorem dX1_rounds_22 : decode cX1_rounds 22 = .ok (.if_icmp .ge 45, 3) := by decide +kernel
theorem dX1_rounds_25 : decode cX1_rounds 25 = .ok (.iconst 1, 1) := by decide +kernel
theorem dX1_rounds_26 : decode cX1_rounds 26 = .ok (.istore_n 2, 1) := by decide +kernel
theorem dX1_rounds_27 : decode cX1_rounds 27 = .ok (.iload_n 2, 1) := by decide +kernel
theorem dX1_rounds_28 : decode cX1_rounds 28 = .ok (.aload_n 0, 1) := by decide +kernel
theorem dX1_rounds_29 : decode cX1_rounds 29 = .ok (.getfield 101, 3) := by decide +kernel
theorem dX1_rounds_32 : decode cX1_rounds 32 = .ok (.iload_n 1, 1) := by decide +kernel
theorem dX1_rounds_33 : decode cX1_rounds 33 = .ok (.aaload, 1) := by decide +kernel
theorem dX1_rounds_34 : decode cX1_rounds 34 = .ok (.getfield 183, 3) := by decide +kernel
theorem dX1_rounds_37 : decode cX1_rounds 37 = .ok (.invokestatic 7, 3) := by decide +kernel
theorem dX1_rounds_40 : decode cX1_rounds 40 = .ok (.if_icmp .ge 21, 3) := by decide +kernel
theorem dX1_rounds_43 : decode cX1_rounds 43 = .ok (.aload_n 0, 1) := by decide +kernel
theorem dX1_rounds_44 : decode cX1_rounds 44 = .ok (.getfield 101, 3) := by decide +kernel
theorem dX1_rounds_47 : decode cX1_rounds 47 = .ok (.iload_n 1, 1) := by decide +kernel
theorem dX1_rounds_48 : decode cX1_rounds 48 = .ok (.aaload, 1) := by decide +kernel
theorem dX1_rounds_49 : decode cX1_rounds 49 = .ok (.getfield 189, 3) := by decide +kernel
theorem dX1_rounds_52 : decode cX1_rounds 52 = .ok (.iload_n 2, 1) := by decide +kernel
theorem dX1_rounds_53 : decode cX1_rounds 53 = .ok (.iconst 1, 1) := by decide +kernel
theorem dX1_rounds_54 : decode cX1_rounds 54 = .ok (.bastore, 1) := by decide +kernel
theorem dX1_rounds_55 : decode cX1_rounds 55 = .ok (.iinc 2 1, 3) := by decide +kernel
theorem dX1_rounds_58 : decode cX1_rounds 58 = .ok (.goto (-31), 3) := by decide +kernel
theorem dX1_rounds_61 : decode cX1_rounds 61 = .ok (.iinc 1 1, 3) := by decide +kernel
theorem dX1_rounds_64 : decode cX1_rounds 64 = .ok (.goto (-47), 3) := by decide +kernel
theorem dX1_rounds_67 : decode cX1_rounds 67 = .ok (.iconst 0, 1) := by decide +kernel
theorem dX1_rounds_68 : decode cX1_rounds 68 = .ok (.istore_n 1, 1) := by decide +kernel
theorem dX1_rounds_69 : decode cX1_rounds 69 = .ok (.iconst 1, 1) := by decide +kernel
theorem dX1_rounds_70 : decode cX1_rounds 70 = .ok (.istore_n 2, 1) := by decide +kernel
theorem dX1_rounds_71 : decode cX1_rounds 71 = .ok (.iload_n 2, 1) := by decide +kernel
theorem dX1_rounds_72 : decode cX1_rounds 72 = .ok (.ifCond .eq 14, 3) := by decide +kernel
theorem dX1_rounds_75 : decode cX1_rounds 75 = .ok (.aload_n 0, 1) := by decide +kernel
theorem dX1_rounds_76 : decode cX1_rounds 76 = .ok (.invokevirtual 193, 3) := by decide +kernel
theorem dX1_rounds_79 : decode cX1_rounds 79 = .ok (.istore_n 2, 1) := by decide +kernel
theorem dX1_rounds_80 : decode cX1_rounds 80 = .ok (.iinc 1 1, 3) := by decide +kernel
theorem dX1_rounds_83 : decode cX1_rounds 83 = .ok (.goto (-12), 3) := by decide +kernel
theorem dX1_rounds_86 : decode cX1_rounds 86 = .ok (.aload_n 0, 1) := by decide +kernel
theorem dX1_rounds_87 : decode cX1_rounds 87 = .ok (.iconst 1, 1) := by decide +kernel
theorem dX1_rounds_88 : decode cX1_rounds 88 = .ok (.putfield 163, 3) := by decide +kernel
theorem dX1_rounds_91 : decode cX1_rounds 91 = .ok (.iload_n 1, 1) := by decide +kernel
theorem dX1_rounds_92 : decode cX1_rounds 92 = .ok (.ireturn, 1) := by decide +kernel
abbrev JX1_rounds_71 (D : DE) (f : Nat) (Q : Int32 → Frm → HI → HL → Prop) (T : Nat → Frm → HI → HL → Prop) (F : Frm) (h : HI) (g : HL) (x1 : Int32) (x2 : Int32) : Prop := ((x2 = 0 → ∀ h2, h2 = up2 h 0 10 1 → Q x1 F h2 g) ∧ (¬ x2 = 0 → Gi D f mX1_round [.ref (ad D 0)] F h g (fun y4 F7 h5 g6 => ∀ y10 : Int32, y10 = x1 + 1 → V D mX1_rounds (f + 1) (gi Q T) 71 [(0, .ref (ad D 0)), (1, .int y10), (2, .int y4)] [] (F7, h5, g6)) T))
theorem bX1_rounds_71 {D : DE} {f : Nat} {Q : Int32 → Frm → HI → HL → Prop} {T : Nat → Frm → HI → HL → Prop} {F : Frm} {h : HI} {g : HL} (hF : k_Fix F) (x1 : Int32) (x2 : Int32) (H : JX1_rounds_71 D f Q T F h g x1 x2) : V D mX1_rounds (f + 1) (gi Q T) 71 [(0, .ref (ad D 0)), (1, .int x1), (2, .int x2)] [] (F, h, g) := by
  refine V_iload_n dX1_rounds_71 rfl 2 rfl ?_
  refine V_if_eq (tgt := 86) dX1_rounds_72 (by decide) (fun c1 => ?_) (fun c1 => ?_)
  · have H := H.1 c1
    refine V_aload_n dX1_rounds_86 rfl 0 rfl ?_
    refine V_iconst (v := 1) dX1_rounds_87 (by decide) ?_
    refine H_putz ck0 10 (by decide) (fs_0 hF) (by decide) rfl isB1 rfl q382 dX1_rounds_88 (fun h2 e3 => ?_)
    have H := H h2 e3
    refine V_iload_n dX1_rounds_91 rfl 1 rfl ?_
    exact G_iret hF rfl dX1_rounds_92 H
  · have H := H.2 c1
    refine V_aload_n dX1_rounds_75 rfl 0 rfl ?_
    refine G_calli (av := [.ref (ad D 0)]) (rest := []) H mqX1_round q81 (by decide) (Nat.le_of_ble_eq_true rfl) (k_resV (ci := 0) (av := []) (rest := []) (fs_0 hF) (by decide) rfl rfl q1173 q1175 qs24 q1176 mhX1_round mnX1_round dX1_rounds_76) (fun y4 F7 h5 g6 hF8 H => ?_) (fun a e F1 h1 g1 hF1 ha ht => GT_i hF1 rfl ha ht)
    refine V_istore_n (l1 := [(2, .int y4), (0, .ref (ad D 0)), (1, .int x1)]) dX1_rounds_79 rfl (by decide) rfl ?_
    obtain ⟨y10, e11⟩ : ∃ y : Int32, y = x1 + 1 := ⟨_, rfl⟩
    have H := H y10 e11
    refine V_iinc (j := 2) (v := y10) (l1 := [(1, .int y10), (2, .int y4), (0, .ref (ad D 0))]) dX1_rounds_80 rfl (by rw [e11]; rfl) (by decide) rfl ?_
    refine V_goto (tgt := 71) dX1_rounds_83 (by decide) ?_
    refine V.sub [2, 0, 1] rfl ?_
    exact H
abbrev JX1_rounds_27 (D : DE) (f : Nat) (Q : Int32 → Frm → HI → HL → Prop) (T : Nat → Frm → HI → HL → Prop) (F : Frm) (h : HI) (g : HL) (x1 : Int32) (x2 : Int32) : Prop := vp_in x1 12 ∧ ∃ b2 : Nat, F.2.2 112 (ix x1) = some b2 ∧ F.2.1 b2 = (18, 0) ∧ Si D f mX1_sizeOf [.int (h b2 3)] F h g (fun y5 h6 g7 => ((y5 ≤ x2 → ∀ y9 : Int32, y9 = x1 + 1 → V D mX1_rounds (f + 1) (gi Q T) 17 [(0, .ref (ad D 0)), (1, .int y9)] [] (F, h6, g7)) ∧ (¬ y5 ≤ x2 → vp_in x1 12 ∧ ∃ b12 : Nat, F.2.2 112 (ix x1) = some b12 ∧ F.2.1 b12 = (18, 0) ∧ ∃ b15 : Nat, F.2.2 b12 7 = some b15 ∧ ∃ m17 : Nat, F.2.1 b15 = (2, m17) ∧ vp_in x2 m17 ∧ ∀ h20, h20 = up2 h6 b15 (ix x2) 1 → ∀ y22 : Int32, y22 = x2 + 1 → V D mX1_rounds (f + 1) (gi Q T) 27 [(0, .ref (ad D 0)), (1, .int x1), (2, .int y22)] [] (F, h20, g7))))
theorem bX1_rounds_27 {D : DE} {f : Nat} {Q : Int32 → Frm → HI → HL → Prop} {T : Nat → Frm → HI → HL → Prop} {F : Frm} {h : HI} {g : HL} (hF : k_Fix F) (x1 : Int32) (x2 : Int32) (H : JX1_rounds_27 D f Q T F h g x1 x2) : V D mX1_rounds (f + 1) (gi Q T) 27 [(0, .ref (ad D 0)), (1, .int x1), (2, .int x2)] [] (F, h, g) := by
  refine V_iload_n dX1_rounds_27 rfl 2 rfl ?_
  refine V_aload_n dX1_rounds_28 rfl 0 rfl ?_
  refine H_getr ck0 8 (by decide) (fs_0 hF) (by decide) rfl (fr_0_8 hF) q380 dX1_rounds_29 ?_
  refine V_iload_n dX1_rounds_32 rfl 1 rfl ?_
  obtain ⟨i1, H⟩ := H
  obtain ⟨b2, z3, H⟩ := H
  refine H_aald (fs_112 hF) (by decide) (by decide) rfl i1 z3 dX1_rounds_33 ?_
  obtain ⟨z4, H⟩ := H
  refine H_getiN ck8 3 (by decide) z4 (by decide) rfl q675 dX1_rounds_34 ?_
  refine H_calli (av := [.int (h b2 3)]) (rest := [.int x2]) H mqX1_sizeOf q81 (by decide) (Nat.le_of_ble_eq_true rfl) (k_resS (av := [.int (h b2 3)]) (rest := [.int x2]) (M1 := mX1_sizeOf) rfl q1161 q1162 q81 mqX1_sizeOf (fun _ _ h => mW_named h) mhX1_sizeOf mnX1_sizeOf dX1_rounds_37) (fun y5 h6 g7 H => ?_)
  refine V_icmp_ge (tgt := 61) dX1_rounds_40 (by decide) (fun c8 => ?_) (fun c8 => ?_)
  · have H := H.1 c8
    obtain ⟨y9, e10⟩ : ∃ y : Int32, y = x1 + 1 := ⟨_, rfl⟩
    have H := H y9 e10
    refine V_iinc (j := 1) (v := y9) (l1 := [(1, .int y9), (0, .ref (ad D 0)), (2, .int x2)]) dX1_rounds_61 rfl (by rw [e10]; rfl) (by decide) rfl ?_
    refine V_goto (tgt := 17) dX1_rounds_64 (by decide) ?_
    refine V.sub [1, 0] rfl ?_
    exact H
  · have H := H.2 c8
    refine V_aload_n dX1_rounds_43 rfl 0 rfl ?_
    refine H_getr ck0 8 (by decide) (fs_0 hF) (by decide) rfl (fr_0_8 hF) q380 dX1_rounds_44 ?_
    refine V_iload_n dX1_rounds_47 rfl 1 rfl ?_
    obtain ⟨i11, H⟩ := H
    obtain ⟨b12, z13, H⟩ := H
    refine H_aald (fs_112 hF) (by decide) (by decide) rfl i11 z13 dX1_rounds_48 ?_
    obtain ⟨z14, H⟩ := H
    obtain ⟨b15, z16, H⟩ := H
    refine H_getrN ck8 7 (by decide) z14 (by decide) rfl z16 q696 dX1_rounds_49 ?_
    refine V_iload_n dX1_rounds_52 rfl 2 rfl ?_
    refine V_iconst (v := 1) dX1_rounds_53 (by decide) ?_
    obtain ⟨m17, z18, H⟩ := H
    obtain ⟨i19, H⟩ := H
    refine H_zast z18 i19 isB1 dX1_rounds_54 (fun h20 e21 => ?_)
    have H := H h20 e21
    obtain ⟨y22, e23⟩ : ∃ y : Int32, y = x2 + 1 := ⟨_, rfl⟩
    have H := H y22 e23
    refine V_iinc (j := 2) (v := y22) (l1 := [(2, .int y22), (0, .ref (ad D 0)), (1, .int x1)]) dX1_rounds_55 rfl (by rw [e23]; rfl) (by decide) rfl ?_
    refine V_goto (tgt := 27) dX1_rounds_58 (by decide) ?_
    refine V.sub [1, 2, 0] rfl ?_
    exact H
abbrev JX1_rounds_17 (D : DE) (f : Nat) (Q : Int32 → Frm → HI → HL → Prop) (T : Nat → Frm → HI → HL → Prop) (F : Frm) (h : HI) (g : HL) (x1 : Int32) : Prop := (((h 0 9) ≤ x1 → V D mX1_rounds (f + 1) (gi Q T) 71 [(0, .ref (ad D 0)), (1, .int 0), (2, .int 1)] [] (F, h, g)) ∧ (¬ (h 0 9) ≤ x1 → V D mX1_rounds (f + 1) (gi Q T) 27 [(0, .ref (ad D 0)), (1, .int x1), (2, .int 1)] [] (F, h, g)))
theorem bX1_rounds_17 {D : DE} {f : Nat} {Q : Int32 → Frm → HI → HL → Prop} {T : Nat → Frm → HI → HL → Prop} {F : Frm} {h : HI} {g : HL} (hF : k_Fix F) (x1 : Int32) (H : JX1_rounds_17 D f Q T F h g x1) : V D mX1_rounds (f + 1) (gi Q T) 17 [(0, .ref (ad D 0)), (1, .int x1)] [] (F, h, g) := by
  refine V_iload_n dX1_rounds_17 rfl 1 rfl ?_
  refine V_aload_n dX1_rounds_18 rfl 0 rfl ?_
  refine H_geti ck0 9 (by decide) (fs_0 hF) (by decide) rfl q381 dX1_rounds_19 ?_
  refine V_icmp_ge (tgt := 67) dX1_rounds_22 (by decide) (fun c1 => ?_) (fun c1 => ?_)
  · have H := H.1 c1
    refine V_iconst (v := 0) dX1_rounds_67 (by decide) ?_
    refine V_istore_n (l1 := [(1, .int 0), (0, .ref (ad D 0))]) dX1_rounds_68 rfl (by decide) rfl ?_
    refine V_iconst (v := 1) dX1_rounds_69 (by decide) ?_
    refine V_istore_n (l1 := [(2, .int 1), (1, .int 0), (0, .ref (ad D 0))]) dX1_rounds_70 rfl (by decide) rfl ?_
    refine V.sub [2, 1, 0] rfl ?_
    exact H
  · have H := H.2 c1
    refine V_iconst (v := 1) dX1_rounds_25 (by decide) ?_
    refine V_istore_n (l1 := [(2, .int 1), (0, .ref (ad D 0)), (1, .int x1)]) dX1_rounds_26 rfl (by decide) rfl ?_
    refine V.sub [1, 2, 0] rfl ?_
    exact H
abbrev JX1_rounds_12 (D : DE) (f : Nat) (Q : Int32 → Frm → HI → HL → Prop) (T : Nat → Frm → HI → HL → Prop) (F : Frm) (h : HI) (g : HL) (s0 : Int32) : Prop := Gv D f mX1_may [.int s0] F h g (fun F3 h1 g2 => V D mX1_rounds (f + 1) (gi Q T) 17 [(0, .ref (ad D 0)), (1, .int 0)] [] (F3, h1, g2)) T
theorem bX1_rounds_12 {D : DE} {f : Nat} {Q : Int32 → Frm → HI → HL → Prop} {T : Nat → Frm → HI → HL → Prop} {F : Frm} {h : HI} {g : HL} (hF : k_Fix F) (s0 : Int32) (H : JX1_rounds_12 D f Q T F h g s0) : V D mX1_rounds (f + 1) (gi Q T) 12 [(0, .ref (ad D 0))] [.int s0] (F, h, g) := by
  refine G_callv (av := [.int s0]) (rest := []) H mqX1_may q81 (by decide) (Nat.le_of_ble_eq_true rfl) (k_resS (av := [.int s0]) (rest := []) (M1 := mX1_may) rfl q1065 q1066 q81 mqX1_may (fun _ _ h => mW_named h) mhX1_may mnX1_may dX1_rounds_12) (fun F3 h1 g2 hF4 H => ?_) (fun a e F1 h1 g1 hF1 ha ht => GT_i hF1 rfl ha ht)
  refine V_iconst (v := 0) dX1_rounds_15 (by decide) ?_
  refine V_istore_n (l1 := [(1, .int 0), (0, .ref (ad D 0))]) dX1_rounds_16 rfl (by decide) rfl ?_
  refine V.sub [1, 0] rfl ?_
  exact H
abbrev JX1_rounds_0 (D : DE) (f : Nat) (Q : Int32 → Frm → HI → HL → Prop) (T : Nat → Frm → HI → HL → Prop) (F : Frm) (h : HI) (g : HL) : Prop := (((h 0 9) ≤ 0 → JX1_rounds_12 D f Q T F h g 0) ∧ (¬ (h 0 9) ≤ 0 → JX1_rounds_12 D f Q T F h g 1))
theorem bX1_rounds_0 {D : DE} {f : Nat} {Q : Int32 → Frm → HI → HL → Prop} {T : Nat → Frm → HI → HL → Prop} {F : Frm} {h : HI} {g : HL} (hF : k_Fix F)  (H : JX1_rounds_0 D f Q T F h g ) : V D mX1_rounds (f + 1) (gi Q T) 0 [(0, .ref (ad D 0))] [] (F, h, g) := by
  refine V_aload_n dX1_rounds_0 rfl 0 rfl ?_
  refine H_geti ck0 9 (by decide) (fs_0 hF) (by decide) rfl q381 dX1_rounds_1 ?_
  refine V_if_le (tgt := 11) dX1_rounds_4 (by decide) (fun c1 => ?_) (fun c1 => ?_)
  · have H := H.1 c1
    refine V_iconst (v := 0) dX1_rounds_11 (by decide) ?_
    exact bX1_rounds_12 hF 0 H
  · have H := H.2 c1
    refine V_iconst (v := 1) dX1_rounds_7 (by decide) ?_
    refine V_goto (tgt := 12) dX1_rounds_8 (by decide) ?_
    exact bX1_rounds_12 hF 1 H
theorem wX1_rounds {D : DE} {f : Nat} {Q : Int32 → Frm → HI → HL → Prop} {T : Nat → Frm → HI → HL → Prop} {F : Frm} {h : HI} {g : HL} (hF : k_Fix F)  (H : JX1_rounds_0 D f Q T F h g ) : Gi D (f + 1) mX1_rounds [.ref (ad D 0)] F h g Q T := Cl.ofV (by decide) (Nat.le_of_ble_eq_true rfl) rfl (bX1_rounds_0 hF  H)
theorem dX1_round_0 : decode cX1_round 0 = .ok (.iconst 0, 1) := by decide +kernel
theorem dX1_round_1 : decode cX1_round 1 = .ok (.istore_n 1, 1) := by decide +kernel
theorem dX1_round_2 : decode cX1_round 2 = .ok (.iconst 0, 1) := by decide +kernel
theorem dX1_round_3 : decode cX1_round 3 = .ok (.istore_n 2, 1) := by decide +kernel
theorem dX1_round_4 : decode cX1_round 4 = .ok (.iload_n 2, 1) := by decide +kernel
theorem dX1_round_5 : decode cX1_round 5 = .ok (.aload_n 0, 1) := by decide +kernel
theorem dX1_round_6 : decode cX1_round 6 = .ok (.getfield 162, 3) := by decide +kernel
theorem dX1_round_9 : decode cX1_round 9 = .ok (.if_icmp .ge 153, 3) := by decide +kernel
theorem dX1_round_12 : decode cX1_round 12 = .ok (.aload_n 0, 1) := by decide +kernel
theorem dX1_round_13 : decode cX1_round 13 = .ok (.getfield 101, 3) := by decide +kernel
theorem dX1_round_16 : decode cX1_round 16 = .ok (.iload_n 2, 1) := by decide +kernel
theorem dX1_round_17 : decode cX1_round 17 = .ok (.aaload, 1) := by decide +kernel
theorem dX1_round_18 : decode cX1_round 18 = .ok (.astore_n 3, 1) := by decide +kernel
theorem dX1_round_19 : decode cX1_round 19 = .ok (.iconst 1, 1) := by decide +kernel
theorem dX1_round_20 : decode cX1_round 20 = .ok (.istore 4, 2) := by decide +kernel
theorem dX1_round_22 : decode cX1_round 22 = .ok (.iload 4, 2) := by decide +kernel
theorem dX1_round_24 : decode cX1_round 24 = .ok (.aload_n 3, 1) := by decide +kernel
theorem dX1_round_25 : decode cX1_round 25 = .ok (.getfield 183, 3) := by decide +kernel
theorem dX1_round_28 : decode cX1_round 28 = .ok (.invokestatic 7, 3) := by decide +kernel
theorem dX1_round_31 : decode cX1_round 31 = .ok (.if_icmp .ge 125, 3) := by decide +kernel
theorem dX1_round_34 : decode cX1_round 34 = .ok (.aload_n 0, 1) := by decide +kernel
theorem dX1_round_35 : decode cX1_round 35 = .ok (.getfield 80, 3) := by decide +kernel
theorem dX1_round_38 : decode cX1_round 38 = .ok (.aload_n 3, 1) := by decide +kernel
theorem dX1_round_39 : decode cX1_round 39 = .ok (.iload 4, 2) := by decide +kernel
theorem dX1_round_41 : decode cX1_round 41 = .ok (.invokevirtual 196, 3) := by decide +kernel
theorem dX1_round_44 : decode cX1_round 44 = .ok (.astore 5, 2) := by decide +kernel
theorem dX1_round_46 : decode cX1_round 46 = .ok (.iload_n 1, 1) := by decide +kernel
theorem dX1_round_47 : decode cX1_round 47 = .ok (.aload 5, 2) := by decide +kernel
theorem dX1_round_49 : decode cX1_round 49 = .ok (.getfield 200, 3) := by decide +kernel
theorem dX1_round_52 : decode cX1_round 52 = .ok (.aload_n 3, 1) := by decide +kernel
theorem dX1_round_53 : decode cX1_round 53 = .ok (.getfield 189, 3) := by decide +kernel
theorem dX1_round_56 : decode cX1_round 56 = .ok (.iload 4, 2) := by decide +kernel
theorem dX1_round_58 : decode cX1_round 58 = .ok (.baload, 1) := by decide +kernel
theorem dX1_round_59 : decode cX1_round 59 = .ok (.if_icmp .eq 7, 3) := by decide +kernel
theorem dX1_round_62 : decode cX1_round 62 = .ok (.iconst 1, 1) := by decide +kernel
theorem dX1_round_63 : decode cX1_round 63 = .ok (.goto 4, 3) := by decide +kernel
theorem dX1_round_66 : decode cX1_round 66 = .ok (.iconst 0, 1) := by decide +kernel
theorem dX1_round_67 : decode cX1_round 67 = .ok (.ior, 1) := by decide +kernel
theorem dX1_round_68 : decode cX1_round 68 = .ok (.istore_n 1, 1) := by decide +kernel
theorem dX1_round_69 : decode cX1_round 69 = .ok (.iconst 0, 1) := by decide +kernel
theorem dX1_round_70 : decode cX1_round 70 = .ok (.istore 6, 2) := by decide +kernel
theorem dX1_round_72 : decode cX1_round 72 = .ok (.iload 6, 2) := by decide +kernel
theorem dX1_round_74 : decode cX1_round 74 = .ok (.aload_n 3, 1) := by decide +kernel
theorem dX1_round_75 : decode cX1_round 75 = .ok (.getfield 177, 3) := by decide +kernel
theorem dX1_round_78 : decode cX1_round 78 = .ok (.if_icmp .ge 60, 3) := by decide +kernel
theorem dX1_round_81 : decode cX1_round 81 = .ok (.aload_n 3, 1) := by decide +kernel
theorem dX1_round_82 : decode cX1_round 82 = .ok (.iload 4, 2) := by decide +kernel
theorem dX1_round_84 : decode cX1_round 84 = .ok (.iload 6, 2) := by decide +kernel
theorem dX1_round_86 : decode cX1_round 86 = .ok (.invokestatic 205, 3) := by decide +kernel
theorem dX1_round_89 : decode cX1_round 89 = .ok (.istore 7, 2) := by decide +kernel
theorem dX1_round_91 : decode cX1_round 91 = .ok (.iload_n 1, 1) := by decide +kernel
theorem dX1_round_92 : decode cX1_round 92 = .ok (.aload 5, 2) := by decide +kernel
theorem dX1_round_94 : decode cX1_round 94 = .ok (.getfield 209, 3) := by decide +kernel
theorem dX1_round_97 : decode cX1_round 97 = .ok (.iload 6, 2) := by decide +kernel
theorem dX1_round_99 : decode cX1_round 99 = .ok (.iaload, 1) := by decide +kernel
theorem dX1_round_100 : decode cX1_round 100 = .ok (.iload 7, 2) := by decide +kernel
theorem dX1_round_102 : decode cX1_round 102 = .ok (.if_icmp .eq 7, 3) := by decide +kernel
theorem dX1_round_105 : decode cX1_round 105 = .ok (.iconst 1, 1) := by decide +kernel
theorem dX1_round_106 : decode cX1_round 106 = .ok (.goto 4, 3) := by decide +kernel
theorem dX1_round_109 : decode cX1_round 109 = .ok (.iconst 0, 1) := by decide +kernel
theorem dX1_round_110 : decode cX1_round 110 = .ok (.ior, 1) := by decide +kernel
theorem dX1_round_111 : decode cX1_round 111 = .ok (.istore_n 1, 1) := by decide +kernel
theorem dX1_round_112 : decode cX1_round 112 = .ok (.aload_n 3, 1) := by decide +kernel
theorem dX1_round_113 : decode cX1_round 113 = .ok (.getfield 212, 3) := by decide +kernel
theorem dX1_round_116 : decode cX1_round 116 = .ok (.iconst 4, 1) := by decide +kernel
theorem dX1_round_117 : decode cX1_round 117 = .ok (.iload 4, 2) := by decide +kernel
theorem dX1_round_119 : decode cX1_round 119 = .ok (.imul, 1) := by decide +kernel
theorem dX1_round_120 : decode cX1_round 120 = .ok (.iload 6, 2) := by decide +kernel
theorem dX1_round_122 : decode cX1_round 122 = .ok (.iadd, 1) := by decide +kernel
theorem dX1_round_123 : decode cX1_round 123 = .ok (.aload 5, 2) := by decide +kernel
theorem dX1_round_125 : decode cX1_round 125 = .ok (.getfield 209, 3) := by decide +kernel
theorem dX1_round_128 : decode cX1_round 128 = .ok (.iload 6, 2) := by decide +kernel
theorem dX1_round_130 : decode cX1_round 130 = .ok (.iaload, 1) := by decide +kernel
theorem dX1_round_131 : decode cX1_round 131 = .ok (.iastore, 1) := by decide +kernel
theorem dX1_round_132 : decode cX1_round 132 = .ok (.iinc 6 1, 3) := by decide +kernel
theorem dX1_round_135 : decode cX1_round 135 = .ok (.goto (-63), 3) := by decide +kernel
theorem dX1_round_138 : decode cX1_round 138 = .ok (.aload_n 3, 1) := by decide +kernel
theorem dX1_round_139 : decode cX1_round 139 = .ok (.getfield 189, 3) := by decide +kernel
theorem dX1_round_142 : decode cX1_round 142 = .ok (.iload 4, 2) := by decide +kernel
theorem dX1_round_144 : decode cX1_round 144 = .ok (.aload 5, 2) := by decide +kernel
theorem dX1_round_146 : decode cX1_round 146 = .ok (.getfield 200, 3) := by decide +kernel
theorem dX1_round_149 : decode cX1_round 149 = .ok (.bastore, 1) := by decide +kernel
theorem dX1_round_150 : decode cX1_round 150 = .ok (.iinc 4 1, 3) := by decide +kernel
theorem dX1_round_153 : decode cX1_round 153 = .ok (.goto (-131), 3) := by decide +kernel
theorem dX1_round_156 : decode cX1_round 156 = .ok (.iinc 2 1, 3) := by decide +kernel
theorem dX1_round_159 : decode cX1_round 159 = .ok (.goto (-155), 3) := by decide +kernel
theorem dX1_round_162 : decode cX1_round 162 = .ok (.iload_n 1, 1) := by decide +kernel
theorem dX1_round_163 : decode cX1_round 163 = .ok (.ireturn, 1) := by decide +kernel
abbrev JX1_round_110 (D : DE) (f : Nat) (Q : Int32 → Frm → HI → HL → Prop) (T : Nat → Frm → HI → HL → Prop) (F : Frm) (h : HI) (g : HL) (x2 : Int32) (x3 : Nat) (x4 : Int32) (x5 : Nat) (x6 : Int32) (s0 : Int32) (s1 : Int32) : Prop := ∀ y1 : Int32, y1 = (s0 ||| s1) → F.2.1 x3 = (18, 0) ∧ ∃ b4 : Nat, F.2.2 x3 8 = some b4 ∧ F.2.1 x5 = (15, 0) ∧ ∃ b7 : Nat, F.2.2 x5 0 = some b7 ∧ ∃ m9 : Nat, F.2.1 b7 = (0, m9) ∧ vp_in x6 m9 ∧ ∃ m12 : Nat, F.2.1 b4 = (0, m12) ∧ vp_in ((4 * x4) + x6) m12 ∧ ∀ h15, h15 = up2 h b4 (ix ((4 * x4) + x6)) (h b7 (ix x6)) → ∀ y17 : Int32, y17 = x6 + 1 → V D mX1_round (f + 1) (gi Q T) 72 [(0, .ref (ad D 0)), (1, .int y1), (2, .int x2), (3, .ref (ad D x3)), (4, .int x4), (5, .ref (ad D x5)), (6, .int y17)] [] (F, h15, g)
theorem bX1_round_110 {D : DE} {f : Nat} {Q : Int32 → Frm → HI → HL → Prop} {T : Nat → Frm → HI → HL → Prop} {F : Frm} {h : HI} {g : HL} (hF : k_Fix F) (x2 : Int32) (x3 : Nat) (x4 : Int32) (x5 : Nat) (x6 : Int32) (s0 : Int32) (s1 : Int32) (H : JX1_round_110 D f Q T F h g x2 x3 x4 x5 x6 s0 s1) : V D mX1_round (f + 1) (gi Q T) 110 [(0, .ref (ad D 0)), (2, .int x2), (3, .ref (ad D x3)), (4, .int x4), (5, .ref (ad D x5)), (6, .int x6)] [.int s1, .int s0] (F, h, g) := by
  refine V_ior dX1_round_110 ?_
  refine V_topi (fun y1 e2 => ?_)
  have H := H y1 e2
  refine V_istore_n (l1 := [(1, .int y1), (0, .ref (ad D 0)), (2, .int x2), (3, .ref (ad D x3)), (4, .int x4), (5, .ref (ad D x5)), (6, .int x6)]) dX1_round_111 rfl (by decide) rfl ?_
  refine V_aload_n dX1_round_112 rfl 3 rfl ?_
  obtain ⟨z3, H⟩ := H
  obtain ⟨b4, z5, H⟩ := H
  refine H_getrN ck8 8 (by decide) z3 (by decide) rfl z5 q699 dX1_round_113 ?_
  refine V_iconst (v := 4) dX1_round_116 (by decide) ?_
  refine V_iload dX1_round_117 4 rfl ?_
  refine V_imul dX1_round_119 ?_
  refine V_iload dX1_round_120 6 rfl ?_
  refine V_iadd dX1_round_122 ?_
  refine V_aload dX1_round_123 5 rfl ?_
  obtain ⟨z6, H⟩ := H
  obtain ⟨b7, z8, H⟩ := H
  refine H_getrN ck5 0 (by decide) z6 (by decide) rfl z8 q243 dX1_round_125 ?_
  refine V_iload dX1_round_128 6 rfl ?_
  obtain ⟨m9, z10, H⟩ := H
  obtain ⟨i11, H⟩ := H
  refine H_iald z10 i11 dX1_round_130 ?_
  obtain ⟨m12, z13, H⟩ := H
  obtain ⟨i14, H⟩ := H
  refine H_iast z13 i14 dX1_round_131 (fun h15 e16 => ?_)
  have H := H h15 e16
  obtain ⟨y17, e18⟩ : ∃ y : Int32, y = x6 + 1 := ⟨_, rfl⟩
  have H := H y17 e18
  refine V_iinc (j := 6) (v := y17) (l1 := [(6, .int y17), (1, .int y1), (0, .ref (ad D 0)), (2, .int x2), (3, .ref (ad D x3)), (4, .int x4), (5, .ref (ad D x5))]) dX1_round_132 rfl (by rw [e18]; rfl) (by decide) rfl ?_
  refine V_goto (tgt := 72) dX1_round_135 (by decide) ?_
  refine V.sub [2, 1, 3, 4, 5, 6, 0] rfl ?_
  exact H
abbrev JX1_round_72 (D : DE) (f : Nat) (Q : Int32 → Frm → HI → HL → Prop) (T : Nat → Frm → HI → HL → Prop) (F : Frm) (h : HI) (g : HL) (x1 : Int32) (x2 : Int32) (x3 : Nat) (x4 : Int32) (x5 : Nat) (x6 : Int32) : Prop := F.2.1 x3 = (18, 0) ∧ (((h x3 1) ≤ x6 → ∃ b3 : Nat, F.2.2 x3 7 = some b3 ∧ F.2.1 x5 = (15, 0) ∧ ∃ m6 : Nat, F.2.1 b3 = (2, m6) ∧ vp_in x4 m6 ∧ isB (h x5 1) ∧ ∀ h10, h10 = up2 h b3 (ix x4) (h x5 1) → ∀ y12 : Int32, y12 = x4 + 1 → V D mX1_round (f + 1) (gi Q T) 22 [(0, .ref (ad D 0)), (1, .int x1), (2, .int x2), (3, .ref (ad D x3)), (4, .int y12)] [] (F, h10, g)) ∧ (¬ (h x3 1) ≤ x6 → Si D f mX1_rowOf [.ref (ad D x3), .int x4, .int x6] F h g (fun y14 h15 g16 => F.2.1 x5 = (15, 0) ∧ ∃ b18 : Nat, F.2.2 x5 0 = some b18 ∧ ∃ m20 : Nat, F.2.1 b18 = (0, m20) ∧ vp_in x6 m20 ∧ (((h15 b18 (ix x6)) = y14 → JX1_round_110 D f Q T F h15 g16 x2 x3 x4 x5 x6 x1 0) ∧ (¬ (h15 b18 (ix x6)) = y14 → JX1_round_110 D f Q T F h15 g16 x2 x3 x4 x5 x6 x1 1)))))
theorem bX1_round_72 {D : DE} {f : Nat} {Q : Int32 → Frm → HI → HL → Prop} {T : Nat → Frm → HI → HL → Prop} {F : Frm} {h : HI} {g : HL} (hF : k_Fix F) (x1 : Int32) (x2 : Int32) (x3 : Nat) (x4 : Int32) (x5 : Nat) (x6 : Int32) (H : JX1_round_72 D f Q T F h g x1 x2 x3 x4 x5 x6) : V D mX1_round (f + 1) (gi Q T) 72 [(0, .ref (ad D 0)), (1, .int x1), (2, .int x2), (3, .ref (ad D x3)), (4, .int x4), (5, .ref (ad D x5)), (6, .int x6)] [] (F, h, g) := by
  refine V_iload dX1_round_72 6 rfl ?_
  refine V_aload_n dX1_round_74 rfl 3 rfl ?_
  obtain ⟨z1, H⟩ := H
  refine H_getiN ck8 1 (by decide) z1 (by decide) rfl q667 dX1_round_75 ?_
  refine V_icmp_ge (tgt := 138) dX1_round_78 (by decide) (fun c2 => ?_) (fun c2 => ?_)
  · have H := H.1 c2
    refine V_aload_n dX1_round_138 rfl 3 rfl ?_
    obtain ⟨b3, z4, H⟩ := H
    refine H_getrN ck8 7 (by decide) z1 (by decide) rfl z4 q696 dX1_round_139 ?_
    refine V_iload dX1_round_142 4 rfl ?_
    refine V_aload dX1_round_144 5 rfl ?_
    obtain ⟨z5, H⟩ := H
    refine H_getiN ck5 1 (by decide) z5 (by decide) rfl q248 dX1_round_146 ?_
    obtain ⟨m6, z7, H⟩ := H
    obtain ⟨i8, H⟩ := H
    obtain ⟨z9, H⟩ := H
    refine H_zast z7 i8 z9 dX1_round_149 (fun h10 e11 => ?_)
    have H := H h10 e11
    obtain ⟨y12, e13⟩ : ∃ y : Int32, y = x4 + 1 := ⟨_, rfl⟩
    have H := H y12 e13
    refine V_iinc (j := 4) (v := y12) (l1 := [(4, .int y12), (0, .ref (ad D 0)), (1, .int x1), (2, .int x2), (3, .ref (ad D x3)), (5, .ref (ad D x5)), (6, .int x6)]) dX1_round_150 rfl (by rw [e13]; rfl) (by decide) rfl ?_
    refine V_goto (tgt := 22) dX1_round_153 (by decide) ?_
    refine V.sub [1, 2, 3, 4, 0] rfl ?_
    exact H
  · have H := H.2 c2
    refine V_aload_n dX1_round_81 rfl 3 rfl ?_
    refine V_iload dX1_round_82 4 rfl ?_
    refine V_iload dX1_round_84 6 rfl ?_
    refine H_calli (av := [.ref (ad D x3), .int x4, .int x6]) (rest := []) H mqX1_rowOf q81 (by decide) (Nat.le_of_ble_eq_true rfl) (k_resS (av := [.ref (ad D x3), .int x4, .int x6]) (rest := []) (M1 := mX1_rowOf) rfl q1261 q1262 q81 mqX1_rowOf (fun _ _ h => mW_named h) mhX1_rowOf mnX1_rowOf dX1_round_86) (fun y14 h15 g16 H => ?_)
    refine V_istore (l1 := [(7, .int y14), (0, .ref (ad D 0)), (1, .int x1), (2, .int x2), (3, .ref (ad D x3)), (4, .int x4), (5, .ref (ad D x5)), (6, .int x6)]) dX1_round_89 (by decide) rfl ?_
    refine V_iload_n dX1_round_91 rfl 2 rfl ?_
    refine V_aload dX1_round_92 6 rfl ?_
    obtain ⟨z17, H⟩ := H
    obtain ⟨b18, z19, H⟩ := H
    refine H_getrN ck5 0 (by decide) z17 (by decide) rfl z19 q243 dX1_round_94 ?_
    refine V_iload dX1_round_97 7 rfl ?_
    obtain ⟨m20, z21, H⟩ := H
    obtain ⟨i22, H⟩ := H
    refine H_iald z21 i22 dX1_round_99 ?_
    refine V_iload dX1_round_100 0 rfl ?_
    refine V_icmp_eq (tgt := 109) dX1_round_102 (by decide) (fun c23 => ?_) (fun c23 => ?_)
    · have H := H.1 c23
      refine V_iconst (v := 0) dX1_round_109 (by decide) ?_
      refine V.sub [1, 3, 4, 5, 6, 7] rfl ?_
      exact bX1_round_110 hF x2 x3 x4 x5 x6 x1 0 H
    · have H := H.2 c23
      refine V_iconst (v := 1) dX1_round_105 (by decide) ?_
      refine V_goto (tgt := 110) dX1_round_106 (by decide) ?_
      refine V.sub [1, 3, 4, 5, 6, 7] rfl ?_
      exact bX1_round_110 hF x2 x3 x4 x5 x6 x1 1 H
abbrev JX1_round_67 (D : DE) (f : Nat) (Q : Int32 → Frm → HI → HL → Prop) (T : Nat → Frm → HI → HL → Prop) (F : Frm) (h : HI) (g : HL) (x2 : Int32) (x3 : Nat) (x4 : Int32) (x5 : Nat) (s0 : Int32) (s1 : Int32) : Prop := ∀ y1 : Int32, y1 = (s0 ||| s1) → V D mX1_round (f + 1) (gi Q T) 72 [(0, .ref (ad D 0)), (1, .int y1), (2, .int x2), (3, .ref (ad D x3)), (4, .int x4), (5, .ref (ad D x5)), (6, .int 0)] [] (F, h, g)
theorem bX1_round_67 {D : DE} {f : Nat} {Q : Int32 → Frm → HI → HL → Prop} {T : Nat → Frm → HI → HL → Prop} {F : Frm} {h : HI} {g : HL} (hF : k_Fix F) (x2 : Int32) (x3 : Nat) (x4 : Int32) (x5 : Nat) (s0 : Int32) (s1 : Int32) (H : JX1_round_67 D f Q T F h g x2 x3 x4 x5 s0 s1) : V D mX1_round (f + 1) (gi Q T) 67 [(0, .ref (ad D 0)), (2, .int x2), (3, .ref (ad D x3)), (4, .int x4), (5, .ref (ad D x5))] [.int s1, .int s0] (F, h, g) := by
  refine V_ior dX1_round_67 ?_
  refine V_topi (fun y1 e2 => ?_)
  have H := H y1 e2
  refine V_istore_n (l1 := [(1, .int y1), (0, .ref (ad D 0)), (2, .int x2), (3, .ref (ad D x3)), (4, .int x4), (5, .ref (ad D x5))]) dX1_round_68 rfl (by decide) rfl ?_
  refine V_iconst (v := 0) dX1_round_69 (by decide) ?_
  refine V_istore (l1 := [(6, .int 0), (1, .int y1), (0, .ref (ad D 0)), (2, .int x2), (3, .ref (ad D x3)), (4, .int x4), (5, .ref (ad D x5))]) dX1_round_70 (by decide) rfl ?_
  refine V.sub [2, 1, 3, 4, 5, 6, 0] rfl ?_
  exact H
abbrev JX1_round_22 (D : DE) (f : Nat) (Q : Int32 → Frm → HI → HL → Prop) (T : Nat → Frm → HI → HL → Prop) (F : Frm) (h : HI) (g : HL) (x1 : Int32) (x2 : Int32) (x3 : Nat) (x4 : Int32) : Prop := F.2.1 x3 = (18, 0) ∧ Si D f mX1_sizeOf [.int (h x3 3)] F h g (fun y2 h3 g4 => ((y2 ≤ x4 → ∀ y6 : Int32, y6 = x2 + 1 → V D mX1_round (f + 1) (gi Q T) 4 [(0, .ref (ad D 0)), (1, .int x1), (2, .int y6)] [] (F, h3, g4)) ∧ (¬ y2 ≤ x4 → Gr D f mX5_of [.ref (ad D 9), .ref (ad D x3), .int x4] F h3 g4 (fun b8 F11 h9 g10 => F11.2.1 b8 = (15, 0) ∧ F11.2.1 x3 = (18, 0) ∧ ∃ b16 : Nat, F11.2.2 x3 7 = some b16 ∧ ∃ m18 : Nat, F11.2.1 b16 = (2, m18) ∧ vp_in x4 m18 ∧ (((h9 b8 1) = (h9 b16 (ix x4)) → JX1_round_67 D f Q T F11 h9 g10 x2 x3 x4 b8 x1 0) ∧ (¬ (h9 b8 1) = (h9 b16 (ix x4)) → JX1_round_67 D f Q T F11 h9 g10 x2 x3 x4 b8 x1 1))) T)))
theorem bX1_round_22 {D : DE} {f : Nat} {Q : Int32 → Frm → HI → HL → Prop} {T : Nat → Frm → HI → HL → Prop} {F : Frm} {h : HI} {g : HL} (hF : k_Fix F) (x1 : Int32) (x2 : Int32) (x3 : Nat) (x4 : Int32) (H : JX1_round_22 D f Q T F h g x1 x2 x3 x4) : V D mX1_round (f + 1) (gi Q T) 22 [(0, .ref (ad D 0)), (1, .int x1), (2, .int x2), (3, .ref (ad D x3)), (4, .int x4)] [] (F, h, g) := by
  refine V_iload dX1_round_22 4 rfl ?_
  refine V_aload_n dX1_round_24 rfl 3 rfl ?_
  obtain ⟨z1, H⟩ := H
  refine H_getiN ck8 3 (by decide) z1 (by decide) rfl q675 dX1_round_25 ?_
  refine H_calli (av := [.int (h x3 3)]) (rest := [.int x4]) H mqX1_sizeOf q81 (by decide) (Nat.le_of_ble_eq_true rfl) (k_resS (av := [.int (h x3 3)]) (rest := [.int x4]) (M1 := mX1_sizeOf) rfl q1161 q1162 q81 mqX1_sizeOf (fun _ _ h => mW_named h) mhX1_sizeOf mnX1_sizeOf dX1_round_28) (fun y2 h3 g4 H => ?_)
  refine V_icmp_ge (tgt := 156) dX1_round_31 (by decide) (fun c5 => ?_) (fun c5 => ?_)
  · have H := H.1 c5
    obtain ⟨y6, e7⟩ : ∃ y : Int32, y = x2 + 1 := ⟨_, rfl⟩
    have H := H y6 e7
    refine V_iinc (j := 2) (v := y6) (l1 := [(2, .int y6), (0, .ref (ad D 0)), (1, .int x1), (3, .ref (ad D x3)), (4, .int x4)]) dX1_round_156 rfl (by rw [e7]; rfl) (by decide) rfl ?_
    refine V_goto (tgt := 4) dX1_round_159 (by decide) ?_
    refine V.sub [1, 2, 0] rfl ?_
    exact H
  · have H := H.2 c5
    refine V_aload_n dX1_round_34 rfl 0 rfl ?_
    refine H_getr ck0 3 (by decide) (fs_0 hF) (by decide) rfl (fr_0_3 hF) q375 dX1_round_35 ?_
    refine V_aload_n dX1_round_38 rfl 3 rfl ?_
    refine V_iload dX1_round_39 4 rfl ?_
    refine G_callr (av := [.ref (ad D 9), .ref (ad D x3), .int x4]) (rest := []) H mqX5_of q85 (by decide) (Nat.le_of_ble_eq_true rfl) (k_resV (ci := 4) (av := [.ref (ad D x3), .int x4]) (rest := []) (fs_9 hF) (by decide) rfl rfl q1177 q1178 q1179 q1180 mhX5_of mnX5_of dX1_round_41) (fun b8 F11 h9 g10 hF12 H => ?_) (fun a e F1 h1 g1 hF1 ha ht => GT_i hF1 rfl ha ht)
    refine V_astore (l1 := [(5, .ref (ad D b8)), (0, .ref (ad D 0)), (1, .int x1), (2, .int x2), (3, .ref (ad D x3)), (4, .int x4)]) dX1_round_44 (by decide) rfl ?_
    refine V_iload_n dX1_round_46 rfl 2 rfl ?_
    refine V_aload dX1_round_47 0 rfl ?_
    obtain ⟨z14, H⟩ := H
    refine H_getiN ck5 1 (by decide) z14 (by decide) rfl q248 dX1_round_49 ?_
    refine V_aload_n dX1_round_52 rfl 4 rfl ?_
    obtain ⟨z15, H⟩ := H
    obtain ⟨b16, z17, H⟩ := H
    refine H_getrN ck8 7 (by decide) z15 (by decide) rfl z17 q696 dX1_round_53 ?_
    refine V_iload dX1_round_56 5 rfl ?_
    obtain ⟨m18, z19, H⟩ := H
    obtain ⟨i20, H⟩ := H
    refine H_zald z19 i20 dX1_round_58 ?_
    refine V_icmp_eq (tgt := 66) dX1_round_59 (by decide) (fun c21 => ?_) (fun c21 => ?_)
    · have H := H.1 c21
      refine V_iconst (v := 0) dX1_round_66 (by decide) ?_
      refine V.sub [1, 3, 4, 5, 0] rfl ?_
      exact bX1_round_67 hF12 x2 x3 x4 b8 x1 0 H
    · have H := H.2 c21
      refine V_iconst (v := 1) dX1_round_62 (by decide) ?_
      refine V_goto (tgt := 67) dX1_round_63 (by decide) ?_
      refine V.sub [1, 3, 4, 5, 0] rfl ?_
      exact bX1_round_67 hF12 x2 x3 x4 b8 x1 1 H
abbrev JX1_round_4 (D : DE) (f : Nat) (Q : Int32 → Frm → HI → HL → Prop) (T : Nat → Frm → HI → HL → Prop) (F : Frm) (h : HI) (g : HL) (x1 : Int32) (x2 : Int32) : Prop := (((h 0 9) ≤ x2 → (isB x1 ∧ Q x1 F h g)) ∧ (¬ (h 0 9) ≤ x2 → vp_in x2 12 ∧ ∃ b3 : Nat, F.2.2 112 (ix x2) = some b3 ∧ V D mX1_round (f + 1) (gi Q T) 22 [(0, .ref (ad D 0)), (1, .int x1), (2, .int x2), (3, .ref (ad D b3)), (4, .int 1)] [] (F, h, g)))
theorem bX1_round_4 {D : DE} {f : Nat} {Q : Int32 → Frm → HI → HL → Prop} {T : Nat → Frm → HI → HL → Prop} {F : Frm} {h : HI} {g : HL} (hF : k_Fix F) (x1 : Int32) (x2 : Int32) (H : JX1_round_4 D f Q T F h g x1 x2) : V D mX1_round (f + 1) (gi Q T) 4 [(0, .ref (ad D 0)), (1, .int x1), (2, .int x2)] [] (F, h, g) := by
  refine V_iload_n dX1_round_4 rfl 2 rfl ?_
  refine V_aload_n dX1_round_5 rfl 0 rfl ?_
  refine H_geti ck0 9 (by decide) (fs_0 hF) (by decide) rfl q381 dX1_round_6 ?_
  refine V_icmp_ge (tgt := 162) dX1_round_9 (by decide) (fun c1 => ?_) (fun c1 => ?_)
  · have H := H.1 c1
    refine V_iload_n dX1_round_162 rfl 1 rfl ?_
    exact G_zret hF rfl H.1 dX1_round_163 H.2
  · have H := H.2 c1
    refine V_aload_n dX1_round_12 rfl 0 rfl ?_
    refine H_getr ck0 8 (by decide) (fs_0 hF) (by decide) rfl (fr_0_8 hF) q380 dX1_round_13 ?_
    refine V_iload_n dX1_round_16 rfl 2 rfl ?_
    obtain ⟨i2, H⟩ := H
    obtain ⟨b3, z4, H⟩ := H
    refine H_aald (fs_112 hF) (by decide) (by decide) rfl i2 z4 dX1_round_17 ?_
    refine V_astore_n (l1 := [(3, .ref (ad D b3)), (0, .ref (ad D 0)), (1, .int x1), (2, .int x2)]) dX1_round_18 rfl (by decide) rfl ?_
    refine V_iconst (v := 1) dX1_round_19 (by decide) ?_
    refine V_istore (l1 := [(4, .int 1), (3, .ref (ad D b3)), (0, .ref (ad D 0)), (1, .int x1), (2, .int x2)]) dX1_round_20 (by decide) rfl ?_
    refine V.sub [2, 3, 4, 1, 0] rfl ?_
    exact H
abbrev JX1_round_0 (D : DE) (f : Nat) (Q : Int32 → Frm → HI → HL → Prop) (T : Nat → Frm → HI → HL → Prop) (F : Frm) (h : HI) (g : HL) : Prop := V D mX1_round (f + 1) (gi Q T) 4 [(0, .ref (ad D 0)), (1, .int 0), (2, .int 0)] [] (F, h, g)
theorem bX1_round_0 {D : DE} {f : Nat} {Q : Int32 → Frm → HI → HL → Prop} {T : Nat → Frm → HI → HL → Prop} {F : Frm} {h : HI} {g : HL} (hF : k_Fix F)  (H : JX1_round_0 D f Q T F h g ) : V D mX1_round (f + 1) (gi Q T) 0 [(0, .ref (ad D 0))] [] (F, h, g) := by
  refine V_iconst (v := 0) dX1_round_0 (by decide) ?_
  refine V_istore_n (l1 := [(1, .int 0), (0, .ref (ad D 0))]) dX1_round_1 rfl (by decide) rfl ?_
  refine V_iconst (v := 0) dX1_round_2 (by decide) ?_
  refine V_istore_n (l1 := [(2, .int 0), (1, .int 0), (0, .ref (ad D 0))]) dX1_round_3 rfl (by decide) rfl ?_
  refine V.sub [2, 1, 0] rfl ?_
  exact H
theorem wX1_round {D : DE} {f : Nat} {Q : Int32 → Frm → HI → HL → Prop} {T : Nat → Frm → HI → HL → Prop} {F : Frm} {h : HI} {g : HL} (hF : k_Fix F)  (H : JX1_round_0 D f Q T F h g ) : Gi D (f + 1) mX1_round [.ref (ad D 0)] F h g Q T := Cl.ofV (by decide) (Nat.le_of_ble_eq_true rfl) rfl (bX1_round_0 hF  H)
theorem dX1_rowOf_0 : decode cX1_rowOf 0 = .ok (.aload_n 0, 1) := by decide +kernel
theorem dX1_rowOf_1 : decode cX1_rowOf 1 = .ok (.getfield 189, 3) := by decide +kernel
theorem dX1_rowOf_4 : decode cX1_rowOf 4 = .ok (.iload_n 1, 1) := by decide +kernel
theorem dX1_rowOf_5 : decode cX1_rowOf 5 = .ok (.baload, 1) := by decide +kernel
theorem dX1_rowOf_6 : decode cX1_rowOf 6 = .ok (.ifCond .eq 15, 3) := by decide +kernel
theorem dX1_rowOf_9 : decode cX1_rowOf 9 = .ok (.aload_n 0, 1) := by decide +kernel
theorem dX1_rowOf_10 : decode cX1_rowOf 10 = .ok (.getfield 186, 3) := by decide +kernel
theorem dX1_rowOf_13 : decode cX1_rowOf 13 = .ok (.iload_n 2, 1) := by decide +kernel
theorem dX1_rowOf_14 : decode cX1_rowOf 14 = .ok (.iaload, 1) := by decide +kernel
theorem dX1_rowOf_15 : decode cX1_rowOf 15 = .ok (.invokestatic 213, 3) := by decide +kernel
theorem dX1_rowOf_18 : decode cX1_rowOf 18 = .ok (.goto 13, 3) := by decide +kernel
theorem dX1_rowOf_21 : decode cX1_rowOf 21 = .ok (.aload_n 0, 1) := by decide +kernel
theorem dX1_rowOf_22 : decode cX1_rowOf 22 = .ok (.getfield 212, 3) := by decide +kernel
theorem dX1_rowOf_25 : decode cX1_rowOf 25 = .ok (.iconst 4, 1) := by decide +kernel
theorem dX1_rowOf_26 : decode cX1_rowOf 26 = .ok (.iload_n 1, 1) := by decide +kernel
theorem dX1_rowOf_27 : decode cX1_rowOf 27 = .ok (.imul, 1) := by decide +kernel
theorem dX1_rowOf_28 : decode cX1_rowOf 28 = .ok (.iload_n 2, 1) := by decide +kernel
theorem dX1_rowOf_29 : decode cX1_rowOf 29 = .ok (.iadd, 1) := by decide +kernel
theorem dX1_rowOf_30 : decode cX1_rowOf 30 = .ok (.iaload, 1) := by decide +kernel
theorem dX1_rowOf_31 : decode cX1_rowOf 31 = .ok (.ireturn, 1) := by decide +kernel
abbrev JX1_rowOf_0 (D : DE) (f : Nat) (Q : Int32 → HI → HL → Prop) (F : Frm) (h : HI) (g : HL) (x0 : Nat) (x1 : Int32) (x2 : Int32) : Prop := F.2.1 x0 = (18, 0) ∧ ∃ b2 : Nat, F.2.2 x0 7 = some b2 ∧ ∃ m4 : Nat, F.2.1 b2 = (2, m4) ∧ vp_in x1 m4 ∧ (((h b2 (ix x1)) = 0 → ∃ b8 : Nat, F.2.2 x0 8 = some b8 ∧ ∃ m10 : Nat, F.2.1 b8 = (0, m10) ∧ vp_in ((4 * x1) + x2) m10 ∧ Q (h b8 (ix ((4 * x1) + x2))) h g) ∧ (¬ (h b2 (ix x1)) = 0 → ∃ b13 : Nat, F.2.2 x0 5 = some b13 ∧ ∃ m15 : Nat, F.2.1 b13 = (0, m15) ∧ vp_in x2 m15 ∧ Si D f mX1_all [.int (h b13 (ix x2))] F h g (fun y18 h19 g20 => Q y18 h19 g20)))
theorem bX1_rowOf_0 {D : DE} {f : Nat} {Q : Int32 → HI → HL → Prop} {F : Frm} {h : HI} {g : HL} (hF : k_Fix F) (x0 : Nat) (x1 : Int32) (x2 : Int32) (H : JX1_rowOf_0 D f Q F h g x0 x1 x2) : V D mX1_rowOf (f + 1) (qi F Q) 0 [(0, .ref (ad D x0)), (1, .int x1), (2, .int x2)] [] (F, h, g) := by
  refine V_aload_n dX1_rowOf_0 rfl 0 rfl ?_
  obtain ⟨z1, H⟩ := H
  obtain ⟨b2, z3, H⟩ := H
  refine H_getrN ck8 7 (by decide) z1 (by decide) rfl z3 q696 dX1_rowOf_1 ?_
  refine V_iload_n dX1_rowOf_4 rfl 1 rfl ?_
  obtain ⟨m4, z5, H⟩ := H
  obtain ⟨i6, H⟩ := H
  refine H_zald z5 i6 dX1_rowOf_5 ?_
  refine V_if_eq (tgt := 21) dX1_rowOf_6 (by decide) (fun c7 => ?_) (fun c7 => ?_)
  · have H := H.1 c7
    refine V_aload_n dX1_rowOf_21 rfl 0 rfl ?_
    obtain ⟨b8, z9, H⟩ := H
    refine H_getrN ck8 8 (by decide) z1 (by decide) rfl z9 q699 dX1_rowOf_22 ?_
    refine V_iconst (v := 4) dX1_rowOf_25 (by decide) ?_
    refine V_iload_n dX1_rowOf_26 rfl 1 rfl ?_
    refine V_imul dX1_rowOf_27 ?_
    refine V_iload_n dX1_rowOf_28 rfl 2 rfl ?_
    refine V_iadd dX1_rowOf_29 ?_
    obtain ⟨m10, z11, H⟩ := H
    obtain ⟨i12, H⟩ := H
    refine H_iald z11 i12 dX1_rowOf_30 ?_
    exact H_iret rfl dX1_rowOf_31 H
  · have H := H.2 c7
    refine V_aload_n dX1_rowOf_9 rfl 0 rfl ?_
    obtain ⟨b13, z14, H⟩ := H
    refine H_getrN ck8 5 (by decide) z1 (by decide) rfl z14 q688 dX1_rowOf_10 ?_
    refine V_iload_n dX1_rowOf_13 rfl 2 rfl ?_
    obtain ⟨m15, z16, H⟩ := H
    obtain ⟨i17, H⟩ := H
    refine H_iald z16 i17 dX1_rowOf_14 ?_
    refine H_calli (av := [.int (h b13 (ix x2))]) (rest := []) H mqX1_all q81 (by decide) (Nat.le_of_ble_eq_true rfl) (k_resS (av := [.int (h b13 (ix x2))]) (rest := []) (M1 := mX1_all) rfl q1264 q1259 q81 mqX1_all (fun _ _ h => mW_named h) mhX1_all mnX1_all dX1_rowOf_15) (fun y18 h19 g20 H => ?_)
    refine V_goto (tgt := 31) dX1_rowOf_18 (by decide) ?_
    exact H_iret rfl dX1_rowOf_31 H
theorem wX1_rowOf {D : DE} {f : Nat} {Q : Int32 → HI → HL → Prop} {F : Frm} {h : HI} {g : HL} (hF : k_Fix F) (x0 : Nat) (x1 : Int32) (x2 : Int32) (H : JX1_rowOf_0 D f Q F h g x0 x1 x2) : Si D (f + 1) mX1_rowOf [.ref (ad D x0), .int x1, .int x2] F h g Q := Cl.ofV (by decide) (Nat.le_of_ble_eq_true rfl) rfl (bX1_rowOf_0 hF x0 x1 x2 H)
theorem dX1_rowAt_0 : decode cX1_rowAt 0 = .ok (.aload_n 0, 1) := by decide +kernel
theorem dX1_rowAt_1 : decode cX1_rowAt 1 = .ok (.getfield 163, 3) := by decide +kernel
theorem dX1_rowAt_4 : decode cX1_rowAt 4 = .ok (.invokestatic 120, 3) := by decide +kernel
theorem dX1_rowAt_7 : decode cX1_rowAt 7 = .ok (.aload_n 0, 1) := by decide +kernel
theorem dX1_rowAt_8 : decode cX1_rowAt 8 = .ok (.iload_n 1, 1) := by decide +kernel
theorem dX1_rowAt_9 : decode cX1_rowAt 9 = .ok (.invokevirtual 173, 3) := by decide +kernel
theorem dX1_rowAt_12 : decode cX1_rowAt 12 = .ok (.astore_n 3, 1) := by decide +kernel
theorem dX1_rowAt_13 : decode cX1_rowAt 13 = .ok (.iload_n 2, 1) := by decide +kernel
theorem dX1_rowAt_14 : decode cX1_rowAt 14 = .ok (.iconst 1, 1) := by decide +kernel
theorem dX1_rowAt_15 : decode cX1_rowAt 15 = .ok (.if_icmp .lt 18, 3) := by decide +kernel
theorem dX1_rowAt_18 : decode cX1_rowAt 18 = .ok (.iload_n 2, 1) := by decide +kernel
theorem dX1_rowAt_19 : decode cX1_rowAt 19 = .ok (.aload_n 3, 1) := by decide +kernel
theorem dX1_rowAt_20 : decode cX1_rowAt 20 = .ok (.getfield 183, 3) := by decide +kernel
theorem dX1_rowAt_23 : decode cX1_rowAt 23 = .ok (.invokestatic 7, 3) := by decide +kernel
theorem dX1_rowAt_26 : decode cX1_rowAt 26 = .ok (.if_icmp .ge 7, 3) := by decide +kernel
theorem dX1_rowAt_29 : decode cX1_rowAt 29 = .ok (.iconst 1, 1) := by decide +kernel
theorem dX1_rowAt_30 : decode cX1_rowAt 30 = .ok (.goto 4, 3) := by decide +kernel
theorem dX1_rowAt_33 : decode cX1_rowAt 33 = .ok (.iconst 0, 1) := by decide +kernel
theorem dX1_rowAt_34 : decode cX1_rowAt 34 = .ok (.invokestatic 170, 3) := by decide +kernel
theorem dX1_rowAt_37 : decode cX1_rowAt 37 = .ok (.aload_n 3, 1) := by decide +kernel
theorem dX1_rowAt_38 : decode cX1_rowAt 38 = .ok (.areturn, 1) := by decide +kernel
abbrev JX1_rowAt_0 (D : DE) (f : Nat) (Q : Nat → Frm → HI → HL → Prop) (T : Nat → Frm → HI → HL → Prop) (F : Frm) (h : HI) (g : HL) (x1 : Int32) (x2 : Int32) : Prop := Gv D f mX1_may [.int (h 0 10)] F h g (fun F3 h1 g2 => Gr D f mX1_functionAt [.ref (ad D 0), .int x1] F3 h1 g2 (fun b6 F9 h7 g8 => ((x2 < 1 → Gv D f mX1_lies [.int 0] F9 h7 g8 (fun F15 h13 g14 => Q b6 F15 h13 g14) T) ∧ (¬ x2 < 1 → F9.2.1 b6 = (18, 0) ∧ Si D f mX1_sizeOf [.int (h7 b6 3)] F9 h7 g8 (fun y19 h20 g21 => ((y19 ≤ x2 → Gv D f mX1_lies [.int 0] F9 h20 g21 (fun F25 h23 g24 => Q b6 F25 h23 g24) T) ∧ (¬ y19 ≤ x2 → Gv D f mX1_lies [.int 1] F9 h20 g21 (fun F30 h28 g29 => Q b6 F30 h28 g29) T)))))) T) T
theorem bX1_rowAt_0 {D : DE} {f : Nat} {Q : Nat → Frm → HI → HL → Prop} {T : Nat → Frm → HI → HL → Prop} {F : Frm} {h : HI} {g : HL} (hF : k_Fix F) (x1 : Int32) (x2 : Int32) (H : JX1_rowAt_0 D f Q T F h g x1 x2) : V D mX1_rowAt (f + 1) (gr D Q T) 0 [(0, .ref (ad D 0)), (1, .int x1), (2, .int x2)] [] (F, h, g) := by
  refine V_aload_n dX1_rowAt_0 rfl 0 rfl ?_
  refine H_geti ck0 10 (by decide) (fs_0 hF) (by decide) rfl q382 dX1_rowAt_1 ?_
  refine G_callv (av := [.int (h 0 10)]) (rest := []) H mqX1_may q81 (by decide) (Nat.le_of_ble_eq_true rfl) (k_resS (av := [.int (h 0 10)]) (rest := []) (M1 := mX1_may) rfl q1065 q1066 q81 mqX1_may (fun _ _ h => mW_named h) mhX1_may mnX1_may dX1_rowAt_4) (fun F3 h1 g2 hF4 H => ?_) (fun a e F1 h1 g1 hF1 ha ht => GT_r hF1 rfl ha ht)
  refine V_aload_n dX1_rowAt_7 rfl 0 rfl ?_
  refine V_iload_n dX1_rowAt_8 rfl 1 rfl ?_
  refine G_callr (av := [.ref (ad D 0), .int x1]) (rest := []) H mqX1_functionAt q81 (by decide) (Nat.le_of_ble_eq_true rfl) (k_resV (ci := 0) (av := [.int x1]) (rest := []) (fs_0 hF4) (by decide) rfl rfl q1139 q1141 qs23 q1142 mhX1_functionAt mnX1_functionAt dX1_rowAt_9) (fun b6 F9 h7 g8 hF10 H => ?_) (fun a e F1 h1 g1 hF1 ha ht => GT_r hF1 rfl ha ht)
  refine V_astore_n (l1 := [(3, .ref (ad D b6)), (0, .ref (ad D 0)), (1, .int x1), (2, .int x2)]) dX1_rowAt_12 rfl (by decide) rfl ?_
  refine V_iload_n dX1_rowAt_13 rfl 3 rfl ?_
  refine V_iconst (v := 1) dX1_rowAt_14 (by decide) ?_
  refine V_icmp_lt (tgt := 33) dX1_rowAt_15 (by decide) (fun c12 => ?_) (fun c12 => ?_)
  · have H := H.1 c12
    refine V_iconst (v := 0) dX1_rowAt_33 (by decide) ?_
    refine G_callv (av := [.int 0]) (rest := []) H mqX1_lies q81 (by decide) (Nat.le_of_ble_eq_true rfl) (k_resS (av := [.int 0]) (rest := []) (M1 := mX1_lies) rfl q1143 q1144 q81 mqX1_lies (fun _ _ h => mW_named h) mhX1_lies mnX1_lies dX1_rowAt_34) (fun F15 h13 g14 hF16 H => ?_) (fun a e F1 h1 g1 hF1 ha ht => GT_r hF1 rfl ha ht)
    refine V_aload_n dX1_rowAt_37 rfl 0 rfl ?_
    exact G_aret hF16 rfl dX1_rowAt_38 H
  · have H := H.2 c12
    refine V_iload_n dX1_rowAt_18 rfl 3 rfl ?_
    refine V_aload_n dX1_rowAt_19 rfl 0 rfl ?_
    obtain ⟨z18, H⟩ := H
    refine H_getiN ck8 3 (by decide) z18 (by decide) rfl q675 dX1_rowAt_20 ?_
    refine H_calli (av := [.int (h7 b6 3)]) (rest := [.int x2]) H mqX1_sizeOf q81 (by decide) (Nat.le_of_ble_eq_true rfl) (k_resS (av := [.int (h7 b6 3)]) (rest := [.int x2]) (M1 := mX1_sizeOf) rfl q1161 q1162 q81 mqX1_sizeOf (fun _ _ h => mW_named h) mhX1_sizeOf mnX1_sizeOf dX1_rowAt_23) (fun y19 h20 g21 H => ?_)
    refine V_icmp_ge (tgt := 33) dX1_rowAt_26 (by decide) (fun c22 => ?_) (fun c22 => ?_)
    · have H := H.1 c22
      refine V_iconst (v := 0) dX1_rowAt_33 (by decide) ?_
      refine G_callv (av := [.int 0]) (rest := []) H mqX1_lies q81 (by decide) (Nat.le_of_ble_eq_true rfl) (k_resS (av := [.int 0]) (rest := []) (M1 := mX1_lies) rfl q1143 q1144 q81 mqX1_lies (fun _ _ h => mW_named h) mhX1_lies mnX1_lies dX1_rowAt_34) (fun F25 h23 g24 hF26 H => ?_) (fun a e F1 h1 g1 hF1 ha ht => GT_r hF1 rfl ha ht)
      refine V_aload_n dX1_rowAt_37 rfl 0 rfl ?_
      exact G_aret hF26 rfl dX1_rowAt_38 H
    · have H := H.2 c22
      refine V_iconst (v := 1) dX1_rowAt_29 (by decide) ?_
      refine V_goto (tgt := 34) dX1_rowAt_30 (by decide) ?_
      refine G_callv (av := [.int 1]) (rest := []) H mqX1_lies q81 (by decide) (Nat.le_of_ble_eq_true rfl) (k_resS (av := [.int 1]) (rest := []) (M1 := mX1_lies) rfl q1143 q1144 q81 mqX1_lies (fun _ _ h => mW_named h) mhX1_lies mnX1_lies dX1_rowAt_34) (fun F30 h28 g29 hF31 H => ?_) (fun a e F1 h1 g1 hF1 ha ht => GT_r hF1 rfl ha ht)
      refine V_aload_n dX1_rowAt_37 rfl 0 rfl ?_
      exact G_aret hF31 rfl dX1_rowAt_38 H
theorem wX1_rowAt {D : DE} {f : Nat} {Q : Nat → Frm → HI → HL → Prop} {T : Nat → Frm → HI → HL → Prop} {F : Frm} {h : HI} {g : HL} (hF : k_Fix F) (x1 : Int32) (x2 : Int32) (H : JX1_rowAt_0 D f Q T F h g x1 x2) : Gr D (f + 1) mX1_rowAt [.ref (ad D 0), .int x1, .int x2] F h g Q T := Cl.ofV (by decide) (Nat.le_of_ble_eq_true rfl) rfl (bX1_rowAt_0 hF x1 x2 H)
theorem dX1_dead_0 : decode cX1_dead 0 = .ok (.aload_n 0, 1) := by decide +kernel
theorem dX1_dead_1 : decode cX1_dead 1 = .ok (.iload_n 1, 1) := by decide +kernel
theorem dX1_dead_2 : decode cX1_dead 2 = .ok (.iload_n 2, 1) := by decide +kernel
theorem dX1_dead_3 : decode cX1_dead 3 = .ok (.invokevirtual 215, 3) := by decide +kernel
theorem dX1_dead_6 : decode cX1_dead 6 = .ok (.getfield 189, 3) := by decide +kernel
theorem dX1_dead_9 : decode cX1_dead 9 = .ok (.iload_n 2, 1) := by decide +kernel
theorem dX1_dead_10 : decode cX1_dead 10 = .ok (.baload, 1) := by decide +kernel
theorem dX1_dead_11 : decode cX1_dead 11 = .ok (.ireturn, 1) := by decide +kernel
abbrev JX1_dead_0 (D : DE) (f : Nat) (Q : Int32 → Frm → HI → HL → Prop) (T : Nat → Frm → HI → HL → Prop) (F : Frm) (h : HI) (g : HL) (x1 : Int32) (x2 : Int32) : Prop := Gr D f mX1_rowAt [.ref (ad D 0), .int x1, .int x2] F h g (fun b1 F4 h2 g3 => F4.2.1 b1 = (18, 0) ∧ ∃ b8 : Nat, F4.2.2 b1 7 = some b8 ∧ ∃ m10 : Nat, F4.2.1 b8 = (2, m10) ∧ vp_in x2 m10 ∧ (isB (h2 b8 (ix x2)) ∧ Q (h2 b8 (ix x2)) F4 h2 g3)) T
theorem bX1_dead_0 {D : DE} {f : Nat} {Q : Int32 → Frm → HI → HL → Prop} {T : Nat → Frm → HI → HL → Prop} {F : Frm} {h : HI} {g : HL} (hF : k_Fix F) (x1 : Int32) (x2 : Int32) (H : JX1_dead_0 D f Q T F h g x1 x2) : V D mX1_dead (f + 1) (gi Q T) 0 [(0, .ref (ad D 0)), (1, .int x1), (2, .int x2)] [] (F, h, g) := by
  refine V_aload_n dX1_dead_0 rfl 0 rfl ?_
  refine V_iload_n dX1_dead_1 rfl 1 rfl ?_
  refine V_iload_n dX1_dead_2 rfl 2 rfl ?_
  refine G_callr (av := [.ref (ad D 0), .int x1, .int x2]) (rest := []) H mqX1_rowAt q81 (by decide) (Nat.le_of_ble_eq_true rfl) (k_resV (ci := 0) (av := [.int x1, .int x2]) (rest := []) (fs_0 hF) (by decide) rfl rfl q1272 q1274 qs25 q1275 mhX1_rowAt mnX1_rowAt dX1_dead_3) (fun b1 F4 h2 g3 hF5 H => ?_) (fun a e F1 h1 g1 hF1 ha ht => GT_i hF1 rfl ha ht)
  obtain ⟨z7, H⟩ := H
  obtain ⟨b8, z9, H⟩ := H
  refine H_getrN ck8 7 (by decide) z7 (by decide) rfl z9 q696 dX1_dead_6 ?_
  refine V_iload_n dX1_dead_9 rfl 2 rfl ?_
  obtain ⟨m10, z11, H⟩ := H
  obtain ⟨i12, H⟩ := H
  refine H_zald z11 i12 dX1_dead_10 ?_
  exact G_zret hF5 rfl H.1 dX1_dead_11 H.2
theorem wX1_dead {D : DE} {f : Nat} {Q : Int32 → Frm → HI → HL → Prop} {T : Nat → Frm → HI → HL → Prop} {F : Frm} {h : HI} {g : HL} (hF : k_Fix F) (x1 : Int32) (x2 : Int32) (H : JX1_dead_0 D f Q T F h g x1 x2) : Gi D (f + 1) mX1_dead [.ref (ad D 0), .int x1, .int x2] F h g Q T := Cl.ofV (by decide) (Nat.le_of_ble_eq_true rfl) rfl (bX1_dead_0 hF x1 x2 H)
theorem dX1_asks_0 : decode cX1_asks 0 = .ok (.aload_n 0, 1) := by decide +kernel
theorem dX1_asks_1 : decode cX1_asks 1 = .ok (.iload_n 1, 1) := by decide +kernel
theorem dX1_asks_2 : decode cX1_asks 2 = .ok (.iload_n 2, 1) := by decide +kernel
theorem dX1_asks_3 : decode cX1_asks 3 = .ok (.invokevirtual 215, 3) := by decide +kernel
theorem dX1_asks_6 : decode cX1_asks 6 = .ok (.astore 4, 2) := by decide +kernel
theorem dX1_asks_8 : decode cX1_asks 8 = .ok (.iload_n 3, 1) := by decide +kernel
theorem dX1_asks_9 : decode cX1_asks 9 = .ok (.ifCond .lt 16, 3) := by decide +kernel
theorem dX1_asks_12 : decode cX1_asks 12 = .ok (.iload_n 3, 1) := by decide +kernel
theorem dX1_asks_13 : decode cX1_asks 13 = .ok (.aload 4, 2) := by decide +kernel
theorem dX1_asks_15 : decode cX1_asks 15 = .ok (.getfield 177, 3) := by decide +kernel
theorem dX1_asks_18 : decode cX1_asks 18 = .ok (.if_icmp .ge 7, 3) := by decide +kernel
theorem dX1_asks_21 : decode cX1_asks 21 = .ok (.iconst 1, 1) := by decide +kernel
theorem dX1_asks_22 : decode cX1_asks 22 = .ok (.goto 4, 3) := by decide +kernel
theorem dX1_asks_25 : decode cX1_asks 25 = .ok (.iconst 0, 1) := by decide +kernel
theorem dX1_asks_26 : decode cX1_asks 26 = .ok (.invokestatic 170, 3) := by decide +kernel
theorem dX1_asks_29 : decode cX1_asks 29 = .ok (.aload 4, 2) := by decide +kernel
theorem dX1_asks_31 : decode cX1_asks 31 = .ok (.iload_n 2, 1) := by decide +kernel
theorem dX1_asks_32 : decode cX1_asks 32 = .ok (.iload_n 3, 1) := by decide +kernel
theorem dX1_asks_33 : decode cX1_asks 33 = .ok (.invokestatic 205, 3) := by decide +kernel
theorem dX1_asks_36 : decode cX1_asks 36 = .ok (.ireturn, 1) := by decide +kernel
abbrev JX1_asks_26 (D : DE) (f : Nat) (Q : Int32 → Frm → HI → HL → Prop) (T : Nat → Frm → HI → HL → Prop) (F : Frm) (h : HI) (g : HL) (x2 : Int32) (x3 : Int32) (x4 : Nat) (s0 : Int32) : Prop := Gv D f mX1_lies [.int s0] F h g (fun F3 h1 g2 => Si D f mX1_rowOf [.ref (ad D x4), .int x2, .int x3] F3 h1 g2 (fun y6 h7 g8 => Q y6 F3 h7 g8)) T
theorem bX1_asks_26 {D : DE} {f : Nat} {Q : Int32 → Frm → HI → HL → Prop} {T : Nat → Frm → HI → HL → Prop} {F : Frm} {h : HI} {g : HL} (hF : k_Fix F) (x2 : Int32) (x3 : Int32) (x4 : Nat) (s0 : Int32) (H : JX1_asks_26 D f Q T F h g x2 x3 x4 s0) : V D mX1_asks (f + 1) (gi Q T) 26 [(2, .int x2), (3, .int x3), (4, .ref (ad D x4))] [.int s0] (F, h, g) := by
  refine G_callv (av := [.int s0]) (rest := []) H mqX1_lies q81 (by decide) (Nat.le_of_ble_eq_true rfl) (k_resS (av := [.int s0]) (rest := []) (M1 := mX1_lies) rfl q1143 q1144 q81 mqX1_lies (fun _ _ h => mW_named h) mhX1_lies mnX1_lies dX1_asks_26) (fun F3 h1 g2 hF4 H => ?_) (fun a e F1 h1 g1 hF1 ha ht => GT_i hF1 rfl ha ht)
  refine V_aload dX1_asks_29 2 rfl ?_
  refine V_iload_n dX1_asks_31 rfl 0 rfl ?_
  refine V_iload_n dX1_asks_32 rfl 1 rfl ?_
  refine H_calli (av := [.ref (ad D x4), .int x2, .int x3]) (rest := []) H mqX1_rowOf q81 (by decide) (Nat.le_of_ble_eq_true rfl) (k_resS (av := [.ref (ad D x4), .int x2, .int x3]) (rest := []) (M1 := mX1_rowOf) rfl q1261 q1262 q81 mqX1_rowOf (fun _ _ h => mW_named h) mhX1_rowOf mnX1_rowOf dX1_asks_33) (fun y6 h7 g8 H => ?_)
  exact G_iret hF4 rfl dX1_asks_36 H
abbrev JX1_asks_25 (D : DE) (f : Nat) (Q : Int32 → Frm → HI → HL → Prop) (T : Nat → Frm → HI → HL → Prop) (F : Frm) (h : HI) (g : HL) (x2 : Int32) (x3 : Int32) (x4 : Nat) : Prop := JX1_asks_26 D f Q T F h g x2 x3 x4 0
theorem bX1_asks_25 {D : DE} {f : Nat} {Q : Int32 → Frm → HI → HL → Prop} {T : Nat → Frm → HI → HL → Prop} {F : Frm} {h : HI} {g : HL} (hF : k_Fix F) (x2 : Int32) (x3 : Int32) (x4 : Nat) (H : JX1_asks_25 D f Q T F h g x2 x3 x4) : V D mX1_asks (f + 1) (gi Q T) 25 [(2, .int x2), (3, .int x3), (4, .ref (ad D x4))] [] (F, h, g) := by
  refine V_iconst (v := 0) dX1_asks_25 (by decide) ?_
  exact bX1_asks_26 hF x2 x3 x4 0 H
abbrev JX1_asks_0 (D : DE) (f : Nat) (Q : Int32 → Frm → HI → HL → Prop) (T : Nat → Frm → HI → HL → Prop) (F : Frm) (h : HI) (g : HL) (x1 : Int32) (x2 : Int32) (x3 : Int32) : Prop := Gr D f mX1_rowAt [.ref (ad D 0), .int x1, .int x2] F h g (fun b1 F4 h2 g3 => ((x3 < 0 → JX1_asks_25 D f Q T F4 h2 g3 x2 x3 b1) ∧ (¬ x3 < 0 → F4.2.1 b1 = (18, 0) ∧ (((h2 b1 1) ≤ x3 → JX1_asks_25 D f Q T F4 h2 g3 x2 x3 b1) ∧ (¬ (h2 b1 1) ≤ x3 → JX1_asks_26 D f Q T F4 h2 g3 x2 x3 b1 1))))) T
theorem bX1_asks_0 {D : DE} {f : Nat} {Q : Int32 → Frm → HI → HL → Prop} {T : Nat → Frm → HI → HL → Prop} {F : Frm} {h : HI} {g : HL} (hF : k_Fix F) (x1 : Int32) (x2 : Int32) (x3 : Int32) (H : JX1_asks_0 D f Q T F h g x1 x2 x3) : V D mX1_asks (f + 1) (gi Q T) 0 [(0, .ref (ad D 0)), (1, .int x1), (2, .int x2), (3, .int x3)] [] (F, h, g) := by
  refine V_aload_n dX1_asks_0 rfl 0 rfl ?_
  refine V_iload_n dX1_asks_1 rfl 1 rfl ?_
  refine V_iload_n dX1_asks_2 rfl 2 rfl ?_
  refine G_callr (av := [.ref (ad D 0), .int x1, .int x2]) (rest := []) H mqX1_rowAt q81 (by decide) (Nat.le_of_ble_eq_true rfl) (k_resV (ci := 0) (av := [.int x1, .int x2]) (rest := []) (fs_0 hF) (by decide) rfl rfl q1272 q1274 qs25 q1275 mhX1_rowAt mnX1_rowAt dX1_asks_3) (fun b1 F4 h2 g3 hF5 H => ?_) (fun a e F1 h1 g1 hF1 ha ht => GT_i hF1 rfl ha ht)
  refine V_astore (l1 := [(4, .ref (ad D b1)), (0, .ref (ad D 0)), (1, .int x1), (2, .int x2), (3, .int x3)]) dX1_asks_6 (by decide) rfl ?_
  refine V_iload_n dX1_asks_8 rfl 4 rfl ?_
  refine V_if_lt (tgt := 25) dX1_asks_9 (by decide) (fun c7 => ?_) (fun c7 => ?_)
  · have H := H.1 c7
    refine V.sub [3, 4, 0] rfl ?_
    exact bX1_asks_25 hF5 x2 x3 b1 H
  · have H := H.2 c7
    refine V_iload_n dX1_asks_12 rfl 4 rfl ?_
    refine V_aload dX1_asks_13 0 rfl ?_
    obtain ⟨z8, H⟩ := H
    refine H_getiN ck8 1 (by decide) z8 (by decide) rfl q667 dX1_asks_15 ?_
    refine V_icmp_ge (tgt := 25) dX1_asks_18 (by decide) (fun c9 => ?_) (fun c9 => ?_)
    · have H := H.1 c9
      refine V.sub [3, 4, 0] rfl ?_
      exact bX1_asks_25 hF5 x2 x3 b1 H
    · have H := H.2 c9
      refine V_iconst (v := 1) dX1_asks_21 (by decide) ?_
      refine V_goto (tgt := 26) dX1_asks_22 (by decide) ?_
      refine V.sub [3, 4, 0] rfl ?_
      exact bX1_asks_26 hF5 x2 x3 b1 1 H
theorem wX1_asks {D : DE} {f : Nat} {Q : Int32 → Frm → HI → HL → Prop} {T : Nat → Frm → HI → HL → Prop} {F : Frm} {h : HI} {g : HL} (hF : k_Fix F) (x1 : Int32) (x2 : Int32) (x3 : Int32) (H : JX1_asks_0 D f Q T F h g x1 x2 x3) : Gi D (f + 1) mX1_asks [.ref (ad D 0), .int x1, .int x2, .int x3] F h g Q T := Cl.ofV (by decide) (Nat.le_of_ble_eq_true rfl) rfl (bX1_asks_0 hF x1 x2 x3 H)
theorem dX1_strict_0 : decode cX1_strict 0 = .ok (.aload_n 0, 1) := by decide +kernel
theorem dX1_strict_1 : decode cX1_strict 1 = .ok (.iload_n 1, 1) := by decide +kernel
theorem dX1_strict_2 : decode cX1_strict 2 = .ok (.iconst 1, 1) := by decide +kernel
theorem dX1_strict_3 : decode cX1_strict 3 = .ok (.iload_n 2, 1) := by decide +kernel
theorem dX1_strict_4 : decode cX1_strict 4 = .ok (.invokevirtual 219, 3) := by decide +kernel
theorem dX1_strict_7 : decode cX1_strict 7 = .ok (.ifCond .eq 7, 3) := by decide +kernel
theorem dX1_strict_10 : decode cX1_strict 10 = .ok (.iconst 1, 1) := by decide +kernel
theorem dX1_strict_11 : decode cX1_strict 11 = .ok (.goto 4, 3) := by decide +kernel
theorem dX1_strict_14 : decode cX1_strict 14 = .ok (.iconst 0, 1) := by decide +kernel
theorem dX1_strict_15 : decode cX1_strict 15 = .ok (.ireturn, 1) := by decide +kernel
abbrev JX1_strict_0 (D : DE) (f : Nat) (Q : Int32 → Frm → HI → HL → Prop) (T : Nat → Frm → HI → HL → Prop) (F : Frm) (h : HI) (g : HL) (x1 : Int32) (x2 : Int32) : Prop := Gi D f mX1_asks [.ref (ad D 0), .int x1, .int 1, .int x2] F h g (fun y1 F4 h2 g3 => ((y1 = 0 → Q 0 F4 h2 g3) ∧ (¬ y1 = 0 → Q 1 F4 h2 g3))) T
theorem bX1_strict_0 {D : DE} {f : Nat} {Q : Int32 → Frm → HI → HL → Prop} {T : Nat → Frm → HI → HL → Prop} {F : Frm} {h : HI} {g : HL} (hF : k_Fix F) (x1 : Int32) (x2 : Int32) (H : JX1_strict_0 D f Q T F h g x1 x2) : V D mX1_strict (f + 1) (gi Q T) 0 [(0, .ref (ad D 0)), (1, .int x1), (2, .int x2)] [] (F, h, g) := by
  refine V_aload_n dX1_strict_0 rfl 0 rfl ?_
  refine V_iload_n dX1_strict_1 rfl 1 rfl ?_
  refine V_iconst (v := 1) dX1_strict_2 (by decide) ?_
  refine V_iload_n dX1_strict_3 rfl 2 rfl ?_
  refine G_calli (av := [.ref (ad D 0), .int x1, .int 1, .int x2]) (rest := []) H mqX1_asks q81 (by decide) (Nat.le_of_ble_eq_true rfl) (k_resV (ci := 0) (av := [.int x1, .int 1, .int x2]) (rest := []) (fs_0 hF) (by decide) rfl rfl q1290 q1280 q1281 q1282 mhX1_asks mnX1_asks dX1_strict_4) (fun y1 F4 h2 g3 hF5 H => ?_) (fun a e F1 h1 g1 hF1 ha ht => GT_i hF1 rfl ha ht)
  refine V_if_eq (tgt := 14) dX1_strict_7 (by decide) (fun c7 => ?_) (fun c7 => ?_)
  · have H := H.1 c7
    refine V_iconst (v := 0) dX1_strict_14 (by decide) ?_
    exact G_zret hF5 rfl isB0 dX1_strict_15 H
  · have H := H.2 c7
    refine V_iconst (v := 1) dX1_strict_10 (by decide) ?_
    refine V_goto (tgt := 15) dX1_strict_11 (by decide) ?_
    exact G_zret hF5 rfl isB1 dX1_strict_15 H
theorem wX1_strict {D : DE} {f : Nat} {Q : Int32 → Frm → HI → HL → Prop} {T : Nat → Frm → HI → HL → Prop} {F : Frm} {h : HI} {g : HL} (hF : k_Fix F) (x1 : Int32) (x2 : Int32) (H : JX1_strict_0 D f Q T F h g x1 x2) : Gi D (f + 1) mX1_strict [.ref (ad D 0), .int x1, .int x2] F h g Q T := Cl.ofV (by decide) (Nat.le_of_ble_eq_true rfl) rfl (bX1_strict_0 hF x1 x2 H)
theorem dX1_plant_0 : decode cX1_plant 0 = .ok (.aload_n 0, 1) := by decide +kernel
theorem dX1_plant_1 : decode cX1_plant 1 = .ok (.iload_n 1, 1) := by decide +kernel
theorem dX1_plant_2 : decode cX1_plant 2 = .ok (.iload_n 2, 1) := by decide +kernel
theorem dX1_plant_3 : decode cX1_plant 3 = .ok (.iload_n 3, 1) := by decide +kernel
theorem dX1_plant_4 : decode cX1_plant 4 = .ok (.invokevirtual 219, 3) := by decide +kernel
theorem dX1_plant_7 : decode cX1_plant 7 = .ok (.istore 5, 2) := by decide +kernel
theorem dX1_plant_9 : decode cX1_plant 9 = .ok (.aload_n 0, 1) := by decide +kernel
theorem dX1_plant_10 : decode cX1_plant 10 = .ok (.getfield 101, 3) := by decide +kernel
theorem dX1_plant_13 : decode cX1_plant 13 = .ok (.iload_n 1, 1) := by decide +kernel
theorem dX1_plant_14 : decode cX1_plant 14 = .ok (.aaload, 1) := by decide +kernel
theorem dX1_plant_15 : decode cX1_plant 15 = .ok (.astore 6, 2) := by decide +kernel
theorem dX1_plant_17 : decode cX1_plant 17 = .ok (.iload 4, 2) := by decide +kernel
theorem dX1_plant_19 : decode cX1_plant 19 = .ok (.ifCond .lt 22, 3) := by decide +kernel
theorem dX1_plant_22 : decode cX1_plant 22 = .ok (.iload 4, 2) := by decide +kernel
theorem dX1_plant_24 : decode cX1_plant 24 = .ok (.aload 6, 2) := by decide +kernel
theorem dX1_plant_26 : decode cX1_plant 26 = .ok (.getfield 186, 3) := by decide +kernel
theorem dX1_plant_29 : decode cX1_plant 29 = .ok (.iload_n 3, 1) := by decide +kernel
theorem dX1_plant_30 : decode cX1_plant 30 = .ok (.iaload, 1) := by decide +kernel
theorem dX1_plant_31 : decode cX1_plant 31 = .ok (.invokestatic 7, 3) := by decide +kernel
theorem dX1_plant_34 : decode cX1_plant 34 = .ok (.if_icmp .ge 7, 3) := by decide +kernel
theorem dX1_plant_37 : decode cX1_plant 37 = .ok (.iconst 1, 1) := by decide +kernel
theorem dX1_plant_38 : decode cX1_plant 38 = .ok (.goto 4, 3) := by decide +kernel
theorem dX1_plant_41 : decode cX1_plant 41 = .ok (.iconst 0, 1) := by decide +kernel
theorem dX1_plant_42 : decode cX1_plant 42 = .ok (.invokestatic 128, 3) := by decide +kernel
theorem dX1_plant_45 : decode cX1_plant 45 = .ok (.iconst 0, 1) := by decide +kernel
theorem dX1_plant_46 : decode cX1_plant 46 = .ok (.istore 7, 2) := by decide +kernel
theorem dX1_plant_48 : decode cX1_plant 48 = .ok (.iload 7, 2) := by decide +kernel
theorem dX1_plant_50 : decode cX1_plant 50 = .ok (.aload 6, 2) := by decide +kernel
theorem dX1_plant_52 : decode cX1_plant 52 = .ok (.getfield 177, 3) := by decide +kernel
theorem dX1_plant_55 : decode cX1_plant 55 = .ok (.if_icmp .ge 29, 3) := by decide +kernel
theorem dX1_plant_58 : decode cX1_plant 58 = .ok (.aload 6, 2) := by decide +kernel
theorem dX1_plant_60 : decode cX1_plant 60 = .ok (.getfield 212, 3) := by decide +kernel
theorem dX1_plant_63 : decode cX1_plant 63 = .ok (.iconst 4, 1) := by decide +kernel
theorem dX1_plant_64 : decode cX1_plant 64 = .ok (.iload_n 2, 1) := by decide +kernel
theorem dX1_plant_65 : decode cX1_plant 65 = .ok (.imul, 1) := by decide +kernel
theorem dX1_plant_66 : decode cX1_plant 66 = .ok (.iload 7, 2) := by decide +kernel
theorem dX1_plant_68 : decode cX1_plant 68 = .ok (.iadd, 1) := by decide +kernel
theorem dX1_plant_69 : decode cX1_plant 69 = .ok (.aload 6, 2) := by decide +kernel
theorem dX1_plant_71 : decode cX1_plant 71 = .ok (.iload_n 2, 1) := by decide +kernel
theorem dX1_plant_72 : decode cX1_plant 72 = .ok (.iload 7, 2) := by decide +kernel
theorem dX1_plant_74 : decode cX1_plant 74 = .ok (.invokestatic 205, 3) := by decide +kernel
theorem dX1_plant_77 : decode cX1_plant 77 = .ok (.iastore, 1) := by decide +kernel
theorem dX1_plant_78 : decode cX1_plant 78 = .ok (.iinc 7 1, 3) := by decide +kernel
theorem dX1_plant_81 : decode cX1_plant 81 = .ok (.goto (-33), 3) := by decide +kernel
theorem dX1_plant_84 : decode cX1_plant 84 = .ok (.aload 6, 2) := by decide +kernel
theorem dX1_plant_86 : decode cX1_plant 86 = .ok (.getfield 189, 3) := by decide +kernel
theorem dX1_plant_89 : decode cX1_plant 89 = .ok (.iload_n 2, 1) := by decide +kernel
theorem dX1_plant_90 : decode cX1_plant 90 = .ok (.iconst 0, 1) := by decide +kernel
theorem dX1_plant_91 : decode cX1_plant 91 = .ok (.bastore, 1) := by decide +kernel
theorem dX1_plant_92 : decode cX1_plant 92 = .ok (.aload 6, 2) := by decide +kernel
theorem dX1_plant_94 : decode cX1_plant 94 = .ok (.getfield 212, 3) := by decide +kernel
theorem dX1_plant_97 : decode cX1_plant 97 = .ok (.iconst 4, 1) := by decide +kernel
theorem dX1_plant_98 : decode cX1_plant 98 = .ok (.iload_n 2, 1) := by decide +kernel
theorem dX1_plant_99 : decode cX1_plant 99 = .ok (.imul, 1) := by decide +kernel
theorem dX1_plant_100 : decode cX1_plant 100 = .ok (.iload_n 3, 1) := by decide +kernel
theorem dX1_plant_101 : decode cX1_plant 101 = .ok (.iadd, 1) := by decide +kernel
theorem dX1_plant_102 : decode cX1_plant 102 = .ok (.iload 4, 2) := by decide +kernel
theorem dX1_plant_104 : decode cX1_plant 104 = .ok (.iastore, 1) := by decide +kernel
theorem dX1_plant_105 : decode cX1_plant 105 = .ok (.iload 5, 2) := by decide +kernel
theorem dX1_plant_107 : decode cX1_plant 107 = .ok (.ireturn, 1) := by decide +kernel
abbrev JX1_plant_48 (D : DE) (f : Nat) (Q : Int32 → Frm → HI → HL → Prop) (T : Nat → Frm → HI → HL → Prop) (F : Frm) (h : HI) (g : HL) (x2 : Int32) (x3 : Int32) (x4 : Int32) (x5 : Int32) (x6 : Nat) (x7 : Int32) : Prop := F.2.1 x6 = (18, 0) ∧ (((h x6 1) ≤ x7 → ∃ b3 : Nat, F.2.2 x6 7 = some b3 ∧ ∃ m5 : Nat, F.2.1 b3 = (2, m5) ∧ vp_in x2 m5 ∧ ∀ h8, h8 = up2 h b3 (ix x2) 0 → ∃ b10 : Nat, F.2.2 x6 8 = some b10 ∧ ∃ m12 : Nat, F.2.1 b10 = (0, m12) ∧ vp_in ((4 * x2) + x3) m12 ∧ ∀ h15, h15 = up2 h8 b10 (ix ((4 * x2) + x3)) x4 → Q x5 F h15 g) ∧ (¬ (h x6 1) ≤ x7 → ∃ b17 : Nat, F.2.2 x6 8 = some b17 ∧ Si D f mX1_rowOf [.ref (ad D x6), .int x2, .int x7] F h g (fun y19 h20 g21 => ∃ m22 : Nat, F.2.1 b17 = (0, m22) ∧ vp_in ((4 * x2) + x7) m22 ∧ ∀ h25, h25 = up2 h20 b17 (ix ((4 * x2) + x7)) y19 → ∀ y27 : Int32, y27 = x7 + 1 → V D mX1_plant (f + 1) (gi Q T) 48 [(2, .int x2), (3, .int x3), (4, .int x4), (5, .int x5), (6, .ref (ad D x6)), (7, .int y27)] [] (F, h25, g21))))
theorem bX1_plant_48 {D : DE} {f : Nat} {Q : Int32 → Frm → HI → HL → Prop} {T : Nat → Frm → HI → HL → Prop} {F : Frm} {h : HI} {g : HL} (hF : k_Fix F) (x2 : Int32) (x3 : Int32) (x4 : Int32) (x5 : Int32) (x6 : Nat) (x7 : Int32) (H : JX1_plant_48 D f Q T F h g x2 x3 x4 x5 x6 x7) : V D mX1_plant (f + 1) (gi Q T) 48 [(2, .int x2), (3, .int x3), (4, .int x4), (5, .int x5), (6, .ref (ad D x6)), (7, .int x7)] [] (F, h, g) := by
  refine V_iload dX1_plant_48 5 rfl ?_
  refine V_aload dX1_plant_50 4 rfl ?_
  obtain ⟨z1, H⟩ := H
  refine H_getiN ck8 1 (by decide) z1 (by decide) rfl q667 dX1_plant_52 ?_
  refine V_icmp_ge (tgt := 84) dX1_plant_55 (by decide) (fun c2 => ?_) (fun c2 => ?_)
  · have H := H.1 c2
    refine V_aload dX1_plant_84 4 rfl ?_
    obtain ⟨b3, z4, H⟩ := H
    refine H_getrN ck8 7 (by decide) z1 (by decide) rfl z4 q696 dX1_plant_86 ?_
    refine V_iload_n dX1_plant_89 rfl 0 rfl ?_
    refine V_iconst (v := 0) dX1_plant_90 (by decide) ?_
    obtain ⟨m5, z6, H⟩ := H
    obtain ⟨i7, H⟩ := H
    refine H_zast z6 i7 isB0 dX1_plant_91 (fun h8 e9 => ?_)
    have H := H h8 e9
    refine V_aload dX1_plant_92 4 rfl ?_
    obtain ⟨b10, z11, H⟩ := H
    refine H_getrN ck8 8 (by decide) z1 (by decide) rfl z11 q699 dX1_plant_94 ?_
    refine V_iconst (v := 4) dX1_plant_97 (by decide) ?_
    refine V_iload_n dX1_plant_98 rfl 0 rfl ?_
    refine V_imul dX1_plant_99 ?_
    refine V_iload_n dX1_plant_100 rfl 1 rfl ?_
    refine V_iadd dX1_plant_101 ?_
    refine V_iload dX1_plant_102 2 rfl ?_
    obtain ⟨m12, z13, H⟩ := H
    obtain ⟨i14, H⟩ := H
    refine H_iast z13 i14 dX1_plant_104 (fun h15 e16 => ?_)
    have H := H h15 e16
    refine V_iload dX1_plant_105 3 rfl ?_
    exact G_iret hF rfl dX1_plant_107 H
  · have H := H.2 c2
    refine V_aload dX1_plant_58 4 rfl ?_
    obtain ⟨b17, z18, H⟩ := H
    refine H_getrN ck8 8 (by decide) z1 (by decide) rfl z18 q699 dX1_plant_60 ?_
    refine V_iconst (v := 4) dX1_plant_63 (by decide) ?_
    refine V_iload_n dX1_plant_64 rfl 0 rfl ?_
    refine V_imul dX1_plant_65 ?_
    refine V_iload dX1_plant_66 5 rfl ?_
    refine V_iadd dX1_plant_68 ?_
    refine V_aload dX1_plant_69 4 rfl ?_
    refine V_iload_n dX1_plant_71 rfl 0 rfl ?_
    refine V_iload dX1_plant_72 5 rfl ?_
    refine H_calli (av := [.ref (ad D x6), .int x2, .int x7]) (rest := [.int ((4 * x2) + x7), .ref (ad D b17)]) H mqX1_rowOf q81 (by decide) (Nat.le_of_ble_eq_true rfl) (k_resS (av := [.ref (ad D x6), .int x2, .int x7]) (rest := [.int ((4 * x2) + x7), .ref (ad D b17)]) (M1 := mX1_rowOf) rfl q1261 q1262 q81 mqX1_rowOf (fun _ _ h => mW_named h) mhX1_rowOf mnX1_rowOf dX1_plant_74) (fun y19 h20 g21 H => ?_)
    obtain ⟨m22, z23, H⟩ := H
    obtain ⟨i24, H⟩ := H
    refine H_iast z23 i24 dX1_plant_77 (fun h25 e26 => ?_)
    have H := H h25 e26
    obtain ⟨y27, e28⟩ : ∃ y : Int32, y = x7 + 1 := ⟨_, rfl⟩
    have H := H y27 e28
    refine V_iinc (j := 5) (v := y27) (l1 := [(7, .int y27), (2, .int x2), (3, .int x3), (4, .int x4), (5, .int x5), (6, .ref (ad D x6))]) dX1_plant_78 rfl (by rw [e28]; rfl) (by decide) rfl ?_
    refine V_goto (tgt := 48) dX1_plant_81 (by decide) ?_
    refine V.sub [1, 2, 3, 4, 5, 0] rfl ?_
    exact H
abbrev JX1_plant_42 (D : DE) (f : Nat) (Q : Int32 → Frm → HI → HL → Prop) (T : Nat → Frm → HI → HL → Prop) (F : Frm) (h : HI) (g : HL) (x2 : Int32) (x3 : Int32) (x4 : Int32) (x5 : Int32) (x6 : Nat) (s0 : Int32) : Prop := Gv D f mX1_fits [.int s0] F h g (fun F3 h1 g2 => V D mX1_plant (f + 1) (gi Q T) 48 [(2, .int x2), (3, .int x3), (4, .int x4), (5, .int x5), (6, .ref (ad D x6)), (7, .int 0)] [] (F3, h1, g2)) T
theorem bX1_plant_42 {D : DE} {f : Nat} {Q : Int32 → Frm → HI → HL → Prop} {T : Nat → Frm → HI → HL → Prop} {F : Frm} {h : HI} {g : HL} (hF : k_Fix F) (x2 : Int32) (x3 : Int32) (x4 : Int32) (x5 : Int32) (x6 : Nat) (s0 : Int32) (H : JX1_plant_42 D f Q T F h g x2 x3 x4 x5 x6 s0) : V D mX1_plant (f + 1) (gi Q T) 42 [(2, .int x2), (3, .int x3), (4, .int x4), (5, .int x5), (6, .ref (ad D x6))] [.int s0] (F, h, g) := by
  refine G_callv (av := [.int s0]) (rest := []) H mqX1_fits q81 (by decide) (Nat.le_of_ble_eq_true rfl) (k_resS (av := [.int s0]) (rest := []) (M1 := mX1_fits) rfl q1090 q1091 q81 mqX1_fits (fun _ _ h => mW_named h) mhX1_fits mnX1_fits dX1_plant_42) (fun F3 h1 g2 hF4 H => ?_) (fun a e F1 h1 g1 hF1 ha ht => GT_i hF1 rfl ha ht)
  refine V_iconst (v := 0) dX1_plant_45 (by decide) ?_
  refine V_istore (l1 := [(7, .int 0), (2, .int x2), (3, .int x3), (4, .int x4), (5, .int x5), (6, .ref (ad D x6))]) dX1_plant_46 (by decide) rfl ?_
  refine V.sub [1, 2, 3, 4, 5, 0] rfl ?_
  exact H
abbrev JX1_plant_41 (D : DE) (f : Nat) (Q : Int32 → Frm → HI → HL → Prop) (T : Nat → Frm → HI → HL → Prop) (F : Frm) (h : HI) (g : HL) (x2 : Int32) (x3 : Int32) (x4 : Int32) (x5 : Int32) (x6 : Nat) : Prop := JX1_plant_42 D f Q T F h g x2 x3 x4 x5 x6 0
theorem bX1_plant_41 {D : DE} {f : Nat} {Q : Int32 → Frm → HI → HL → Prop} {T : Nat → Frm → HI → HL → Prop} {F : Frm} {h : HI} {g : HL} (hF : k_Fix F) (x2 : Int32) (x3 : Int32) (x4 : Int32) (x5 : Int32) (x6 : Nat) (H : JX1_plant_41 D f Q T F h g x2 x3 x4 x5 x6) : V D mX1_plant (f + 1) (gi Q T) 41 [(2, .int x2), (3, .int x3), (4, .int x4), (5, .int x5), (6, .ref (ad D x6))] [] (F, h, g) := by
  refine V_iconst (v := 0) dX1_plant_41 (by decide) ?_
  exact bX1_plant_42 hF x2 x3 x4 x5 x6 0 H
abbrev JX1_plant_0 (D : DE) (f : Nat) (Q : Int32 → Frm → HI → HL → Prop) (T : Nat → Frm → HI → HL → Prop) (F : Frm) (h : HI) (g : HL) (x1 : Int32) (x2 : Int32) (x3 : Int32) (x4 : Int32) : Prop := Gi D f mX1_asks [.ref (ad D 0), .int x1, .int x2, .int x3] F h g (fun y1 F4 h2 g3 => vp_in x1 12 ∧ ∃ b8 : Nat, F4.2.2 112 (ix x1) = some b8 ∧ ((x4 < 0 → JX1_plant_41 D f Q T F4 h2 g3 x2 x3 x4 y1 b8) ∧ (¬ x4 < 0 → F4.2.1 b8 = (18, 0) ∧ ∃ b12 : Nat, F4.2.2 b8 5 = some b12 ∧ ∃ m14 : Nat, F4.2.1 b12 = (0, m14) ∧ vp_in x3 m14 ∧ Si D f mX1_sizeOf [.int (h2 b12 (ix x3))] F4 h2 g3 (fun y17 h18 g19 => ((y17 ≤ x4 → JX1_plant_41 D f Q T F4 h18 g19 x2 x3 x4 y1 b8) ∧ (¬ y17 ≤ x4 → JX1_plant_42 D f Q T F4 h18 g19 x2 x3 x4 y1 b8 1)))))) T
theorem bX1_plant_0 {D : DE} {f : Nat} {Q : Int32 → Frm → HI → HL → Prop} {T : Nat → Frm → HI → HL → Prop} {F : Frm} {h : HI} {g : HL} (hF : k_Fix F) (x1 : Int32) (x2 : Int32) (x3 : Int32) (x4 : Int32) (H : JX1_plant_0 D f Q T F h g x1 x2 x3 x4) : V D mX1_plant (f + 1) (gi Q T) 0 [(0, .ref (ad D 0)), (1, .int x1), (2, .int x2), (3, .int x3), (4, .int x4)] [] (F, h, g) := by
  refine V_aload_n dX1_plant_0 rfl 0 rfl ?_
  refine V_iload_n dX1_plant_1 rfl 1 rfl ?_
  refine V_iload_n dX1_plant_2 rfl 2 rfl ?_
  refine V_iload_n dX1_plant_3 rfl 3 rfl ?_
  refine G_calli (av := [.ref (ad D 0), .int x1, .int x2, .int x3]) (rest := []) H mqX1_asks q81 (by decide) (Nat.le_of_ble_eq_true rfl) (k_resV (ci := 0) (av := [.int x1, .int x2, .int x3]) (rest := []) (fs_0 hF) (by decide) rfl rfl q1290 q1280 q1281 q1282 mhX1_asks mnX1_asks dX1_plant_4) (fun y1 F4 h2 g3 hF5 H => ?_) (fun a e F1 h1 g1 hF1 ha ht => GT_i hF1 rfl ha ht)
  refine V_istore (l1 := [(5, .int y1), (0, .ref (ad D 0)), (1, .int x1), (2, .int x2), (3, .int x3), (4, .int x4)]) dX1_plant_7 (by decide) rfl ?_
  refine V_aload_n dX1_plant_9 rfl 1 rfl ?_
  refine H_getr ck0 8 (by decide) (fs_0 hF5) (by decide) rfl (fr_0_8 hF5) q380 dX1_plant_10 ?_
  refine V_iload_n dX1_plant_13 rfl 2 rfl ?_
  obtain ⟨i7, H⟩ := H
  obtain ⟨b8, z9, H⟩ := H
  refine H_aald (fs_112 hF5) (by decide) (by decide) rfl i7 z9 dX1_plant_14 ?_
  refine V_astore (l1 := [(6, .ref (ad D b8)), (5, .int y1), (0, .ref (ad D 0)), (1, .int x1), (2, .int x2), (3, .int x3), (4, .int x4)]) dX1_plant_15 (by decide) rfl ?_
  refine V_iload dX1_plant_17 6 rfl ?_
  refine V_if_lt (tgt := 41) dX1_plant_19 (by decide) (fun c10 => ?_) (fun c10 => ?_)
  · have H := H.1 c10
    refine V.sub [4, 5, 6, 1, 0] rfl ?_
    exact bX1_plant_41 hF5 x2 x3 x4 y1 b8 H
  · have H := H.2 c10
    refine V_iload dX1_plant_22 6 rfl ?_
    refine V_aload dX1_plant_24 0 rfl ?_
    obtain ⟨z11, H⟩ := H
    obtain ⟨b12, z13, H⟩ := H
    refine H_getrN ck8 5 (by decide) z11 (by decide) rfl z13 q688 dX1_plant_26 ?_
    refine V_iload_n dX1_plant_29 rfl 5 rfl ?_
    obtain ⟨m14, z15, H⟩ := H
    obtain ⟨i16, H⟩ := H
    refine H_iald z15 i16 dX1_plant_30 ?_
    refine H_calli (av := [.int (h2 b12 (ix x3))]) (rest := [.int x4]) H mqX1_sizeOf q81 (by decide) (Nat.le_of_ble_eq_true rfl) (k_resS (av := [.int (h2 b12 (ix x3))]) (rest := [.int x4]) (M1 := mX1_sizeOf) rfl q1161 q1162 q81 mqX1_sizeOf (fun _ _ h => mW_named h) mhX1_sizeOf mnX1_sizeOf dX1_plant_31) (fun y17 h18 g19 H => ?_)
    refine V_icmp_ge (tgt := 41) dX1_plant_34 (by decide) (fun c20 => ?_) (fun c20 => ?_)
    · have H := H.1 c20
      refine V.sub [4, 5, 6, 1, 0] rfl ?_
      exact bX1_plant_41 hF5 x2 x3 x4 y1 b8 H
    · have H := H.2 c20
      refine V_iconst (v := 1) dX1_plant_37 (by decide) ?_
      refine V_goto (tgt := 42) dX1_plant_38 (by decide) ?_
      refine V.sub [4, 5, 6, 1, 0] rfl ?_
      exact bX1_plant_42 hF5 x2 x3 x4 y1 b8 1 H
theorem wX1_plant {D : DE} {f : Nat} {Q : Int32 → Frm → HI → HL → Prop} {T : Nat → Frm → HI → HL → Prop} {F : Frm} {h : HI} {g : HL} (hF : k_Fix F) (x1 : Int32) (x2 : Int32) (x3 : Int32) (x4 : Int32) (H : JX1_plant_0 D f Q T F h g x1 x2 x3 x4) : Gi D (f + 1) mX1_plant [.ref (ad D 0), .int x1, .int x2, .int x3, .int x4] F h g Q T := Cl.ofV (by decide) (Nat.le_of_ble_eq_true rfl) rfl (bX1_plant_0 hF x1 x2 x3 x4 H)
theorem dX1_check_0 : decode cX1_check 0 = .ok (.aload_n 0, 1) := by decide +kernel
theorem dX1_check_1 : decode cX1_check 1 = .ok (.getfield 163, 3) := by decide +kernel
theorem dX1_check_4 : decode cX1_check 4 = .ok (.invokestatic 120, 3) := by decide +kernel
theorem dX1_check_7 : decode cX1_check 7 = .ok (.iconst 0, 1) := by decide +kernel
theorem dX1_check_8 : decode cX1_check 8 = .ok (.istore_n 1, 1) := by decide +kernel
theorem dX1_check_9 : decode cX1_check 9 = .ok (.iload_n 1, 1) := by decide +kernel
theorem dX1_check_10 : decode cX1_check 10 = .ok (.aload_n 0, 1) := by decide +kernel
theorem dX1_check_11 : decode cX1_check 11 = .ok (.getfield 162, 3) := by decide +kernel
theorem dX1_check_14 : decode cX1_check 14 = .ok (.if_icmp .ge 144, 3) := by decide +kernel
theorem dX1_check_17 : decode cX1_check 17 = .ok (.aload_n 0, 1) := by decide +kernel
theorem dX1_check_18 : decode cX1_check 18 = .ok (.getfield 101, 3) := by decide +kernel
theorem dX1_check_21 : decode cX1_check 21 = .ok (.iload_n 1, 1) := by decide +kernel
theorem dX1_check_22 : decode cX1_check 22 = .ok (.aaload, 1) := by decide +kernel
theorem dX1_check_23 : decode cX1_check 23 = .ok (.astore_n 2, 1) := by decide +kernel
theorem dX1_check_24 : decode cX1_check 24 = .ok (.iconst 1, 1) := by decide +kernel
theorem dX1_check_25 : decode cX1_check 25 = .ok (.istore_n 3, 1) := by decide +kernel
theorem dX1_check_26 : decode cX1_check 26 = .ok (.iload_n 3, 1) := by decide +kernel
theorem dX1_check_27 : decode cX1_check 27 = .ok (.aload_n 2, 1) := by decide +kernel
theorem dX1_check_28 : decode cX1_check 28 = .ok (.getfield 183, 3) := by decide +kernel
theorem dX1_check_31 : decode cX1_check 31 = .ok (.invokestatic 7, 3) := by decide +kernel
theorem dX1_check_34 : decode cX1_check 34 = .ok (.if_icmp .ge 118, 3) := by decide +kernel
theorem dX1_check_37 : decode cX1_check 37 = .ok (.aload_n 0, 1) := by decide +kernel
theorem dX1_check_38 : decode cX1_check 38 = .ok (.getfield 80, 3) := by decide +kernel
theorem dX1_check_41 : decode cX1_check 41 = .ok (.aload_n 2, 1) := by decide +kernel
theorem dX1_check_42 : decode cX1_check 42 = .ok (.iload_n 3, 1) := by decide +kernel
theorem dX1_check_43 : decode cX1_check 43 = .ok (.invokevirtual 196, 3) := by decide +kernel
theorem dX1_check_46 : decode cX1_check 46 = .ok (.astore 4, 2) := by decide +kernel
theorem dX1_check_48 : decode cX1_check 48 = .ok (.aload 4, 2) := by decide +kernel
theorem dX1_check_50 : decode cX1_check 50 = .ok (.getfield 200, 3) := by decide +kernel
theorem dX1_check_53 : decode cX1_check 53 = .ok (.ifCond .ne 12, 3) := by decide +kernel
theorem dX1_check_56 : decode cX1_check 56 = .ok (.aload_n 2, 1) := by decide +kernel
theorem dX1_check_57 : decode cX1_check 57 = .ok (.getfield 189, 3) := by decide +kernel
theorem dX1_check_60 : decode cX1_check 60 = .ok (.iload_n 3, 1) := by decide +kernel
theorem dX1_check_61 : decode cX1_check 61 = .ok (.baload, 1) := by decide +kernel
theorem dX1_check_62 : decode cX1_check 62 = .ok (.ifCond .ne 7, 3) := by decide +kernel
theorem dX1_check_65 : decode cX1_check 65 = .ok (.iconst 1, 1) := by decide +kernel
theorem dX1_check_66 : decode cX1_check 66 = .ok (.goto 4, 3) := by decide +kernel
theorem dX1_check_69 : decode cX1_check 69 = .ok (.iconst 0, 1) := by decide +kernel
theorem dX1_check_70 : decode cX1_check 70 = .ok (.istore 5, 2) := by decide +kernel
theorem dX1_check_72 : decode cX1_check 72 = .ok (.iconst 0, 1) := by decide +kernel
theorem dX1_check_73 : decode cX1_check 73 = .ok (.istore 6, 2) := by decide +kernel
theorem dX1_check_75 : decode cX1_check 75 = .ok (.iload 6, 2) := by decide +kernel
theorem dX1_check_77 : decode cX1_check 77 = .ok (.aload_n 2, 1) := by decide +kernel
theorem dX1_check_78 : decode cX1_check 78 = .ok (.getfield 177, 3) := by decide +kernel
theorem dX1_check_81 : decode cX1_check 81 = .ok (.if_icmp .ge 53, 3) := by decide +kernel
theorem dX1_check_84 : decode cX1_check 84 = .ok (.aload_n 2, 1) := by decide +kernel
theorem dX1_check_85 : decode cX1_check 85 = .ok (.iload_n 3, 1) := by decide +kernel
theorem dX1_check_86 : decode cX1_check 86 = .ok (.iload 6, 2) := by decide +kernel
theorem dX1_check_88 : decode cX1_check 88 = .ok (.invokestatic 205, 3) := by decide +kernel
theorem dX1_check_91 : decode cX1_check 91 = .ok (.istore 7, 2) := by decide +kernel
theorem dX1_check_93 : decode cX1_check 93 = .ok (.iload 5, 2) := by decide +kernel
theorem dX1_check_95 : decode cX1_check 95 = .ok (.aload_n 2, 1) := by decide +kernel
theorem dX1_check_96 : decode cX1_check 96 = .ok (.getfield 186, 3) := by decide +kernel
theorem dX1_check_99 : decode cX1_check 99 = .ok (.iload 6, 2) := by decide +kernel
theorem dX1_check_101 : decode cX1_check 101 = .ok (.iaload, 1) := by decide +kernel
theorem dX1_check_102 : decode cX1_check 102 = .ok (.iload 7, 2) := by decide +kernel
theorem dX1_check_104 : decode cX1_check 104 = .ok (.aload 4, 2) := by decide +kernel
theorem dX1_check_106 : decode cX1_check 106 = .ok (.getfield 209, 3) := by decide +kernel
theorem dX1_check_109 : decode cX1_check 109 = .ok (.iload 6, 2) := by decide +kernel
theorem dX1_check_111 : decode cX1_check 111 = .ok (.iaload, 1) := by decide +kernel
theorem dX1_check_112 : decode cX1_check 112 = .ok (.invokestatic 39, 3) := by decide +kernel
theorem dX1_check_115 : decode cX1_check 115 = .ok (.iload 7, 2) := by decide +kernel
theorem dX1_check_117 : decode cX1_check 117 = .ok (.if_icmp .ne 7, 3) := by decide +kernel
theorem dX1_check_120 : decode cX1_check 120 = .ok (.iconst 1, 1) := by decide +kernel
theorem dX1_check_121 : decode cX1_check 121 = .ok (.goto 4, 3) := by decide +kernel
theorem dX1_check_124 : decode cX1_check 124 = .ok (.iconst 0, 1) := by decide +kernel
theorem dX1_check_125 : decode cX1_check 125 = .ok (.iand, 1) := by decide +kernel
theorem dX1_check_126 : decode cX1_check 126 = .ok (.istore 5, 2) := by decide +kernel
theorem dX1_check_128 : decode cX1_check 128 = .ok (.iinc 6 1, 3) := by decide +kernel
theorem dX1_check_131 : decode cX1_check 131 = .ok (.goto (-56), 3) := by decide +kernel
theorem dX1_check_134 : decode cX1_check 134 = .ok (.iload 5, 2) := by decide +kernel
theorem dX1_check_136 : decode cX1_check 136 = .ok (.ifCond .ne 10, 3) := by decide +kernel
theorem dX1_check_139 : decode cX1_check 139 = .ok (.bipush 32, 2) := by decide +kernel
theorem dX1_check_141 : decode cX1_check 141 = .ok (.iload_n 1, 1) := by decide +kernel
theorem dX1_check_142 : decode cX1_check 142 = .ok (.imul, 1) := by decide +kernel
theorem dX1_check_143 : decode cX1_check 143 = .ok (.iload_n 3, 1) := by decide +kernel
theorem dX1_check_144 : decode cX1_check 144 = .ok (.iadd, 1) := by decide +kernel
theorem dX1_check_145 : decode cX1_check 145 = .ok (.ireturn, 1) := by decide +kernel
theorem dX1_check_146 : decode cX1_check 146 = .ok (.iinc 3 1, 3) := by decide +kernel
theorem dX1_check_149 : decode cX1_check 149 = .ok (.goto (-123), 3) := by decide +kernel
theorem dX1_check_152 : decode cX1_check 152 = .ok (.iinc 1 1, 3) := by decide +kernel
theorem dX1_check_155 : decode cX1_check 155 = .ok (.goto (-146), 3) := by decide +kernel
theorem dX1_check_158 : decode cX1_check 158 = .ok (.iconst (-1), 1) := by decide +kernel
theorem dX1_check_159 : decode cX1_check 159 = .ok (.ireturn, 1) := by decide +kernel
abbrev JX1_check_125 (D : DE) (f : Nat) (Q : Int32 → Frm → HI → HL → Prop) (T : Nat → Frm → HI → HL → Prop) (F : Frm) (h : HI) (g : HL) (x1 : Int32) (x2 : Nat) (x3 : Int32) (x4 : Nat) (x6 : Int32) (s0 : Int32) (s1 : Int32) : Prop := ∀ y1 : Int32, y1 = (s0 &&& s1) → ∀ y3 : Int32, y3 = x6 + 1 → V D mX1_check (f + 1) (gi Q T) 75 [(0, .ref (ad D 0)), (1, .int x1), (2, .ref (ad D x2)), (3, .int x3), (4, .ref (ad D x4)), (5, .int y1), (6, .int y3)] [] (F, h, g)
theorem bX1_check_125 {D : DE} {f : Nat} {Q : Int32 → Frm → HI → HL → Prop} {T : Nat → Frm → HI → HL → Prop} {F : Frm} {h : HI} {g : HL} (hF : k_Fix F) (x1 : Int32) (x2 : Nat) (x3 : Int32) (x4 : Nat) (x6 : Int32) (s0 : Int32) (s1 : Int32) (H : JX1_check_125 D f Q T F h g x1 x2 x3 x4 x6 s0 s1) : V D mX1_check (f + 1) (gi Q T) 125 [(0, .ref (ad D 0)), (1, .int x1), (2, .ref (ad D x2)), (3, .int x3), (4, .ref (ad D x4)), (6, .int x6)] [.int s1, .int s0] (F, h, g) := by
  refine V_iand dX1_check_125 ?_
  refine V_topi (fun y1 e2 => ?_)
  have H := H y1 e2
  refine V_istore (l1 := [(5, .int y1), (0, .ref (ad D 0)), (1, .int x1), (2, .ref (ad D x2)), (3, .int x3), (4, .ref (ad D x4)), (6, .int x6)]) dX1_check_126 (by decide) rfl ?_
  obtain ⟨y3, e4⟩ : ∃ y : Int32, y = x6 + 1 := ⟨_, rfl⟩
  have H := H y3 e4
  refine V_iinc (j := 6) (v := y3) (l1 := [(6, .int y3), (5, .int y1), (0, .ref (ad D 0)), (1, .int x1), (2, .ref (ad D x2)), (3, .int x3), (4, .ref (ad D x4))]) dX1_check_128 rfl (by rw [e4]; rfl) (by decide) rfl ?_
  refine V_goto (tgt := 75) dX1_check_131 (by decide) ?_
  refine V.sub [2, 3, 4, 5, 6, 1, 0] rfl ?_
  exact H
abbrev JX1_check_75 (D : DE) (f : Nat) (Q : Int32 → Frm → HI → HL → Prop) (T : Nat → Frm → HI → HL → Prop) (F : Frm) (h : HI) (g : HL) (x1 : Int32) (x2 : Nat) (x3 : Int32) (x4 : Nat) (x5 : Int32) (x6 : Int32) : Prop := F.2.1 x2 = (18, 0) ∧ (((h x2 1) ≤ x6 → ((¬ x5 = 0 → ∀ y4 : Int32, y4 = x3 + 1 → V D mX1_check (f + 1) (gi Q T) 26 [(0, .ref (ad D 0)), (1, .int x1), (2, .ref (ad D x2)), (3, .int y4)] [] (F, h, g)) ∧ (x5 = 0 → Q ((32 * x1) + x3) F h g))) ∧ (¬ (h x2 1) ≤ x6 → Si D f mX1_rowOf [.ref (ad D x2), .int x3, .int x6] F h g (fun y6 h7 g8 => ∃ b9 : Nat, F.2.2 x2 5 = some b9 ∧ ∃ m11 : Nat, F.2.1 b9 = (0, m11) ∧ vp_in x6 m11 ∧ F.2.1 x4 = (15, 0) ∧ ∃ b15 : Nat, F.2.2 x4 0 = some b15 ∧ ∃ m17 : Nat, F.2.1 b15 = (0, m17) ∧ vp_in x6 m17 ∧ Si D f mX1_either [.int (h7 b9 (ix x6)), .int y6, .int (h7 b15 (ix x6))] F h7 g8 (fun y20 h21 g22 => ((¬ y20 = y6 → JX1_check_125 D f Q T F h21 g22 x1 x2 x3 x4 x6 x5 0) ∧ (y20 = y6 → JX1_check_125 D f Q T F h21 g22 x1 x2 x3 x4 x6 x5 1))))))
theorem bX1_check_75 {D : DE} {f : Nat} {Q : Int32 → Frm → HI → HL → Prop} {T : Nat → Frm → HI → HL → Prop} {F : Frm} {h : HI} {g : HL} (hF : k_Fix F) (x1 : Int32) (x2 : Nat) (x3 : Int32) (x4 : Nat) (x5 : Int32) (x6 : Int32) (H : JX1_check_75 D f Q T F h g x1 x2 x3 x4 x5 x6) : V D mX1_check (f + 1) (gi Q T) 75 [(0, .ref (ad D 0)), (1, .int x1), (2, .ref (ad D x2)), (3, .int x3), (4, .ref (ad D x4)), (5, .int x5), (6, .int x6)] [] (F, h, g) := by
  refine V_iload dX1_check_75 6 rfl ?_
  refine V_aload_n dX1_check_77 rfl 2 rfl ?_
  obtain ⟨z1, H⟩ := H
  refine H_getiN ck8 1 (by decide) z1 (by decide) rfl q667 dX1_check_78 ?_
  refine V_icmp_ge (tgt := 134) dX1_check_81 (by decide) (fun c2 => ?_) (fun c2 => ?_)
  · have H := H.1 c2
    refine V_iload dX1_check_134 5 rfl ?_
    refine V_if_ne (tgt := 146) dX1_check_136 (by decide) (fun c3 => ?_) (fun c3 => ?_)
    · have H := H.1 c3
      obtain ⟨y4, e5⟩ : ∃ y : Int32, y = x3 + 1 := ⟨_, rfl⟩
      have H := H y4 e5
      refine V_iinc (j := 3) (v := y4) (l1 := [(3, .int y4), (0, .ref (ad D 0)), (1, .int x1), (2, .ref (ad D x2)), (4, .ref (ad D x4)), (5, .int x5), (6, .int x6)]) dX1_check_146 rfl (by rw [e5]; rfl) (by decide) rfl ?_
      refine V_goto (tgt := 26) dX1_check_149 (by decide) ?_
      refine V.sub [1, 2, 3, 0] rfl ?_
      exact H
    · have H := H.2 c3
      refine V_bipush (v := 32) dX1_check_139 (by decide) ?_
      refine V_iload_n dX1_check_141 rfl 1 rfl ?_
      refine V_imul dX1_check_142 ?_
      refine V_iload_n dX1_check_143 rfl 3 rfl ?_
      refine V_iadd dX1_check_144 ?_
      exact G_iret hF rfl dX1_check_145 H
  · have H := H.2 c2
    refine V_aload_n dX1_check_84 rfl 2 rfl ?_
    refine V_iload_n dX1_check_85 rfl 3 rfl ?_
    refine V_iload dX1_check_86 6 rfl ?_
    refine H_calli (av := [.ref (ad D x2), .int x3, .int x6]) (rest := []) H mqX1_rowOf q81 (by decide) (Nat.le_of_ble_eq_true rfl) (k_resS (av := [.ref (ad D x2), .int x3, .int x6]) (rest := []) (M1 := mX1_rowOf) rfl q1261 q1262 q81 mqX1_rowOf (fun _ _ h => mW_named h) mhX1_rowOf mnX1_rowOf dX1_check_88) (fun y6 h7 g8 H => ?_)
    refine V_istore (l1 := [(7, .int y6), (0, .ref (ad D 0)), (1, .int x1), (2, .ref (ad D x2)), (3, .int x3), (4, .ref (ad D x4)), (5, .int x5), (6, .int x6)]) dX1_check_91 (by decide) rfl ?_
    refine V_iload dX1_check_93 6 rfl ?_
    refine V_aload_n dX1_check_95 rfl 3 rfl ?_
    obtain ⟨b9, z10, H⟩ := H
    refine H_getrN ck8 5 (by decide) z1 (by decide) rfl z10 q688 dX1_check_96 ?_
    refine V_iload dX1_check_99 7 rfl ?_
    obtain ⟨m11, z12, H⟩ := H
    obtain ⟨i13, H⟩ := H
    refine H_iald z12 i13 dX1_check_101 ?_
    refine V_iload dX1_check_102 0 rfl ?_
    refine V_aload dX1_check_104 5 rfl ?_
    obtain ⟨z14, H⟩ := H
    obtain ⟨b15, z16, H⟩ := H
    refine H_getrN ck5 0 (by decide) z14 (by decide) rfl z16 q243 dX1_check_106 ?_
    refine V_iload dX1_check_109 7 rfl ?_
    obtain ⟨m17, z18, H⟩ := H
    obtain ⟨i19, H⟩ := H
    refine H_iald z18 i19 dX1_check_111 ?_
    refine H_calli (av := [.int (h7 b9 (ix x6)), .int y6, .int (h7 b15 (ix x6))]) (rest := [.int x5]) H mqX1_either q81 (by decide) (Nat.le_of_ble_eq_true rfl) (k_resS (av := [.int (h7 b9 (ix x6)), .int y6, .int (h7 b15 (ix x6))]) (rest := [.int x5]) (M1 := mX1_either) rfl q1247 q1244 q81 mqX1_either (fun _ _ h => mW_named h) mhX1_either mnX1_either dX1_check_112) (fun y20 h21 g22 H => ?_)
    refine V_iload dX1_check_115 0 rfl ?_
    refine V_icmp_ne (tgt := 124) dX1_check_117 (by decide) (fun c23 => ?_) (fun c23 => ?_)
    · have H := H.1 c23
      refine V_iconst (v := 0) dX1_check_124 (by decide) ?_
      refine V.sub [1, 2, 3, 4, 5, 7] rfl ?_
      exact bX1_check_125 hF x1 x2 x3 x4 x6 x5 0 H
    · have H := H.2 c23
      refine V_iconst (v := 1) dX1_check_120 (by decide) ?_
      refine V_goto (tgt := 125) dX1_check_121 (by decide) ?_
      refine V.sub [1, 2, 3, 4, 5, 7] rfl ?_
      exact bX1_check_125 hF x1 x2 x3 x4 x6 x5 1 H
abbrev JX1_check_70 (D : DE) (f : Nat) (Q : Int32 → Frm → HI → HL → Prop) (T : Nat → Frm → HI → HL → Prop) (F : Frm) (h : HI) (g : HL) (x1 : Int32) (x2 : Nat) (x3 : Int32) (x4 : Nat) (s0 : Int32) : Prop := V D mX1_check (f + 1) (gi Q T) 75 [(0, .ref (ad D 0)), (1, .int x1), (2, .ref (ad D x2)), (3, .int x3), (4, .ref (ad D x4)), (5, .int s0), (6, .int 0)] [] (F, h, g)
theorem bX1_check_70 {D : DE} {f : Nat} {Q : Int32 → Frm → HI → HL → Prop} {T : Nat → Frm → HI → HL → Prop} {F : Frm} {h : HI} {g : HL} (hF : k_Fix F) (x1 : Int32) (x2 : Nat) (x3 : Int32) (x4 : Nat) (s0 : Int32) (H : JX1_check_70 D f Q T F h g x1 x2 x3 x4 s0) : V D mX1_check (f + 1) (gi Q T) 70 [(0, .ref (ad D 0)), (1, .int x1), (2, .ref (ad D x2)), (3, .int x3), (4, .ref (ad D x4))] [.int s0] (F, h, g) := by
  refine V_istore (l1 := [(5, .int s0), (0, .ref (ad D 0)), (1, .int x1), (2, .ref (ad D x2)), (3, .int x3), (4, .ref (ad D x4))]) dX1_check_70 (by decide) rfl ?_
  refine V_iconst (v := 0) dX1_check_72 (by decide) ?_
  refine V_istore (l1 := [(6, .int 0), (5, .int s0), (0, .ref (ad D 0)), (1, .int x1), (2, .ref (ad D x2)), (3, .int x3), (4, .ref (ad D x4))]) dX1_check_73 (by decide) rfl ?_
  refine V.sub [2, 3, 4, 5, 6, 1, 0] rfl ?_
  exact H
abbrev JX1_check_65 (D : DE) (f : Nat) (Q : Int32 → Frm → HI → HL → Prop) (T : Nat → Frm → HI → HL → Prop) (F : Frm) (h : HI) (g : HL) (x1 : Int32) (x2 : Nat) (x3 : Int32) (x4 : Nat) : Prop := JX1_check_70 D f Q T F h g x1 x2 x3 x4 1
theorem bX1_check_65 {D : DE} {f : Nat} {Q : Int32 → Frm → HI → HL → Prop} {T : Nat → Frm → HI → HL → Prop} {F : Frm} {h : HI} {g : HL} (hF : k_Fix F) (x1 : Int32) (x2 : Nat) (x3 : Int32) (x4 : Nat) (H : JX1_check_65 D f Q T F h g x1 x2 x3 x4) : V D mX1_check (f + 1) (gi Q T) 65 [(0, .ref (ad D 0)), (1, .int x1), (2, .ref (ad D x2)), (3, .int x3), (4, .ref (ad D x4))] [] (F, h, g) := by
  refine V_iconst (v := 1) dX1_check_65 (by decide) ?_
  refine V_goto (tgt := 70) dX1_check_66 (by decide) ?_
  exact bX1_check_70 hF x1 x2 x3 x4 1 H
abbrev JX1_check_26 (D : DE) (f : Nat) (Q : Int32 → Frm → HI → HL → Prop) (T : Nat → Frm → HI → HL → Prop) (F : Frm) (h : HI) (g : HL) (x1 : Int32) (x2 : Nat) (x3 : Int32) : Prop := F.2.1 x2 = (18, 0) ∧ Si D f mX1_sizeOf [.int (h x2 3)] F h g (fun y2 h3 g4 => ((y2 ≤ x3 → ∀ y6 : Int32, y6 = x1 + 1 → V D mX1_check (f + 1) (gi Q T) 9 [(0, .ref (ad D 0)), (1, .int y6)] [] (F, h3, g4)) ∧ (¬ y2 ≤ x3 → Gr D f mX5_of [.ref (ad D 9), .ref (ad D x2), .int x3] F h3 g4 (fun b8 F11 h9 g10 => F11.2.1 b8 = (15, 0) ∧ ((¬ (h9 b8 1) = 0 → JX1_check_65 D f Q T F11 h9 g10 x1 x2 x3 b8) ∧ ((h9 b8 1) = 0 → F11.2.1 x2 = (18, 0) ∧ ∃ b17 : Nat, F11.2.2 x2 7 = some b17 ∧ ∃ m19 : Nat, F11.2.1 b17 = (2, m19) ∧ vp_in x3 m19 ∧ ((¬ (h9 b17 (ix x3)) = 0 → JX1_check_70 D f Q T F11 h9 g10 x1 x2 x3 b8 0) ∧ ((h9 b17 (ix x3)) = 0 → JX1_check_65 D f Q T F11 h9 g10 x1 x2 x3 b8))))) T)))
theorem bX1_check_26 {D : DE} {f : Nat} {Q : Int32 → Frm → HI → HL → Prop} {T : Nat → Frm → HI → HL → Prop} {F : Frm} {h : HI} {g : HL} (hF : k_Fix F) (x1 : Int32) (x2 : Nat) (x3 : Int32) (H : JX1_check_26 D f Q T F h g x1 x2 x3) : V D mX1_check (f + 1) (gi Q T) 26 [(0, .ref (ad D 0)), (1, .int x1), (2, .ref (ad D x2)), (3, .int x3)] [] (F, h, g) := by
  refine V_iload_n dX1_check_26 rfl 3 rfl ?_
  refine V_aload_n dX1_check_27 rfl 2 rfl ?_
  obtain ⟨z1, H⟩ := H
  refine H_getiN ck8 3 (by decide) z1 (by decide) rfl q675 dX1_check_28 ?_
  refine H_calli (av := [.int (h x2 3)]) (rest := [.int x3]) H mqX1_sizeOf q81 (by decide) (Nat.le_of_ble_eq_true rfl) (k_resS (av := [.int (h x2 3)]) (rest := [.int x3]) (M1 := mX1_sizeOf) rfl q1161 q1162 q81 mqX1_sizeOf (fun _ _ h => mW_named h) mhX1_sizeOf mnX1_sizeOf dX1_check_31) (fun y2 h3 g4 H => ?_)
  refine V_icmp_ge (tgt := 152) dX1_check_34 (by decide) (fun c5 => ?_) (fun c5 => ?_)
  · have H := H.1 c5
    obtain ⟨y6, e7⟩ : ∃ y : Int32, y = x1 + 1 := ⟨_, rfl⟩
    have H := H y6 e7
    refine V_iinc (j := 1) (v := y6) (l1 := [(1, .int y6), (0, .ref (ad D 0)), (2, .ref (ad D x2)), (3, .int x3)]) dX1_check_152 rfl (by rw [e7]; rfl) (by decide) rfl ?_
    refine V_goto (tgt := 9) dX1_check_155 (by decide) ?_
    refine V.sub [1, 0] rfl ?_
    exact H
  · have H := H.2 c5
    refine V_aload_n dX1_check_37 rfl 0 rfl ?_
    refine H_getr ck0 3 (by decide) (fs_0 hF) (by decide) rfl (fr_0_3 hF) q375 dX1_check_38 ?_
    refine V_aload_n dX1_check_41 rfl 2 rfl ?_
    refine V_iload_n dX1_check_42 rfl 3 rfl ?_
    refine G_callr (av := [.ref (ad D 9), .ref (ad D x2), .int x3]) (rest := []) H mqX5_of q85 (by decide) (Nat.le_of_ble_eq_true rfl) (k_resV (ci := 4) (av := [.ref (ad D x2), .int x3]) (rest := []) (fs_9 hF) (by decide) rfl rfl q1177 q1178 q1179 q1180 mhX5_of mnX5_of dX1_check_43) (fun b8 F11 h9 g10 hF12 H => ?_) (fun a e F1 h1 g1 hF1 ha ht => GT_i hF1 rfl ha ht)
    refine V_astore (l1 := [(4, .ref (ad D b8)), (0, .ref (ad D 0)), (1, .int x1), (2, .ref (ad D x2)), (3, .int x3)]) dX1_check_46 (by decide) rfl ?_
    refine V_aload dX1_check_48 0 rfl ?_
    obtain ⟨z14, H⟩ := H
    refine H_getiN ck5 1 (by decide) z14 (by decide) rfl q248 dX1_check_50 ?_
    refine V_if_ne (tgt := 65) dX1_check_53 (by decide) (fun c15 => ?_) (fun c15 => ?_)
    · have H := H.1 c15
      refine V.sub [1, 2, 3, 4, 0] rfl ?_
      exact bX1_check_65 hF12 x1 x2 x3 b8 H
    · have H := H.2 c15
      refine V_aload_n dX1_check_56 rfl 3 rfl ?_
      obtain ⟨z16, H⟩ := H
      obtain ⟨b17, z18, H⟩ := H
      refine H_getrN ck8 7 (by decide) z16 (by decide) rfl z18 q696 dX1_check_57 ?_
      refine V_iload_n dX1_check_60 rfl 4 rfl ?_
      obtain ⟨m19, z20, H⟩ := H
      obtain ⟨i21, H⟩ := H
      refine H_zald z20 i21 dX1_check_61 ?_
      refine V_if_ne (tgt := 69) dX1_check_62 (by decide) (fun c22 => ?_) (fun c22 => ?_)
      · have H := H.1 c22
        refine V_iconst (v := 0) dX1_check_69 (by decide) ?_
        refine V.sub [1, 2, 3, 4, 0] rfl ?_
        exact bX1_check_70 hF12 x1 x2 x3 b8 0 H
      · have H := H.2 c22
        refine V.sub [1, 2, 3, 4, 0] rfl ?_
        exact bX1_check_65 hF12 x1 x2 x3 b8 H
abbrev JX1_check_9 (D : DE) (f : Nat) (Q : Int32 → Frm → HI → HL → Prop) (T : Nat → Frm → HI → HL → Prop) (F : Frm) (h : HI) (g : HL) (x1 : Int32) : Prop := (((h 0 9) ≤ x1 → Q (-1) F h g) ∧ (¬ (h 0 9) ≤ x1 → vp_in x1 12 ∧ ∃ b3 : Nat, F.2.2 112 (ix x1) = some b3 ∧ V D mX1_check (f + 1) (gi Q T) 26 [(0, .ref (ad D 0)), (1, .int x1), (2, .ref (ad D b3)), (3, .int 1)] [] (F, h, g)))
theorem bX1_check_9 {D : DE} {f : Nat} {Q : Int32 → Frm → HI → HL → Prop} {T : Nat → Frm → HI → HL → Prop} {F : Frm} {h : HI} {g : HL} (hF : k_Fix F) (x1 : Int32) (H : JX1_check_9 D f Q T F h g x1) : V D mX1_check (f + 1) (gi Q T) 9 [(0, .ref (ad D 0)), (1, .int x1)] [] (F, h, g) := by
  refine V_iload_n dX1_check_9 rfl 1 rfl ?_
  refine V_aload_n dX1_check_10 rfl 0 rfl ?_
  refine H_geti ck0 9 (by decide) (fs_0 hF) (by decide) rfl q381 dX1_check_11 ?_
  refine V_icmp_ge (tgt := 158) dX1_check_14 (by decide) (fun c1 => ?_) (fun c1 => ?_)
  · have H := H.1 c1
    refine V_iconst (v := (-1)) dX1_check_158 (by decide) ?_
    exact G_iret hF rfl dX1_check_159 H
  · have H := H.2 c1
    refine V_aload_n dX1_check_17 rfl 0 rfl ?_
    refine H_getr ck0 8 (by decide) (fs_0 hF) (by decide) rfl (fr_0_8 hF) q380 dX1_check_18 ?_
    refine V_iload_n dX1_check_21 rfl 1 rfl ?_
    obtain ⟨i2, H⟩ := H
    obtain ⟨b3, z4, H⟩ := H
    refine H_aald (fs_112 hF) (by decide) (by decide) rfl i2 z4 dX1_check_22 ?_
    refine V_astore_n (l1 := [(2, .ref (ad D b3)), (0, .ref (ad D 0)), (1, .int x1)]) dX1_check_23 rfl (by decide) rfl ?_
    refine V_iconst (v := 1) dX1_check_24 (by decide) ?_
    refine V_istore_n (l1 := [(3, .int 1), (2, .ref (ad D b3)), (0, .ref (ad D 0)), (1, .int x1)]) dX1_check_25 rfl (by decide) rfl ?_
    refine V.sub [2, 3, 1, 0] rfl ?_
    exact H
abbrev JX1_check_0 (D : DE) (f : Nat) (Q : Int32 → Frm → HI → HL → Prop) (T : Nat → Frm → HI → HL → Prop) (F : Frm) (h : HI) (g : HL) : Prop := Gv D f mX1_may [.int (h 0 10)] F h g (fun F3 h1 g2 => V D mX1_check (f + 1) (gi Q T) 9 [(0, .ref (ad D 0)), (1, .int 0)] [] (F3, h1, g2)) T
theorem bX1_check_0 {D : DE} {f : Nat} {Q : Int32 → Frm → HI → HL → Prop} {T : Nat → Frm → HI → HL → Prop} {F : Frm} {h : HI} {g : HL} (hF : k_Fix F)  (H : JX1_check_0 D f Q T F h g ) : V D mX1_check (f + 1) (gi Q T) 0 [(0, .ref (ad D 0))] [] (F, h, g) := by
  refine V_aload_n dX1_check_0 rfl 0 rfl ?_
  refine H_geti ck0 10 (by decide) (fs_0 hF) (by decide) rfl q382 dX1_check_1 ?_
  refine G_callv (av := [.int (h 0 10)]) (rest := []) H mqX1_may q81 (by decide) (Nat.le_of_ble_eq_true rfl) (k_resS (av := [.int (h 0 10)]) (rest := []) (M1 := mX1_may) rfl q1065 q1066 q81 mqX1_may (fun _ _ h => mW_named h) mhX1_may mnX1_may dX1_check_4) (fun F3 h1 g2 hF4 H => ?_) (fun a e F1 h1 g1 hF1 ha ht => GT_i hF1 rfl ha ht)
  refine V_iconst (v := 0) dX1_check_7 (by decide) ?_
  refine V_istore_n (l1 := [(1, .int 0), (0, .ref (ad D 0))]) dX1_check_8 rfl (by decide) rfl ?_
  refine V.sub [1, 0] rfl ?_
  exact H
theorem wX1_check {D : DE} {f : Nat} {Q : Int32 → Frm → HI → HL → Prop} {T : Nat → Frm → HI → HL → Prop} {F : Frm} {h : HI} {g : HL} (hF : k_Fix F)  (H : JX1_check_0 D f Q T F h g ) : Gi D (f + 1) mX1_check [.ref (ad D 0)] F h g Q T := Cl.ofV (by decide) (Nat.le_of_ble_eq_true rfl) rfl (bX1_check_0 hF  H)
theorem dX1_input_0 : decode cX1_input 0 = .ok (.iload_n 1, 1) := by decide +kernel
theorem dX1_input_1 : decode cX1_input 1 = .ok (.ifCond .lt 12, 3) := by decide +kernel
theorem dX1_input_4 : decode cX1_input 4 = .ok (.iload_n 1, 1) := by decide +kernel
theorem dX1_input_5 : decode cX1_input 5 = .ok (.iconst 2, 1) := by decide +kernel
theorem dX1_input_6 : decode cX1_input 6 = .ok (.if_icmp .gt 7, 3) := by decide +kernel
theorem dX1_input_9 : decode cX1_input 9 = .ok (.iconst 1, 1) := by decide +kernel
theorem dX1_input_10 : decode cX1_input 10 = .ok (.goto 4, 3) := by decide +kernel
theorem dX1_input_13 : decode cX1_input 13 = .ok (.iconst 0, 1) := by decide +kernel
theorem dX1_input_14 : decode cX1_input 14 = .ok (.invokestatic 128, 3) := by decide +kernel
theorem dX1_input_17 : decode cX1_input 17 = .ok (.aload_n 0, 1) := by decide +kernel
theorem dX1_input_18 : decode cX1_input 18 = .ok (.getfield 221, 3) := by decide +kernel
theorem dX1_input_21 : decode cX1_input 21 = .ok (.bipush 40, 2) := by decide +kernel
theorem dX1_input_23 : decode cX1_input 23 = .ok (.if_icmp .ge 7, 3) := by decide +kernel
theorem dX1_input_26 : decode cX1_input 26 = .ok (.iconst 1, 1) := by decide +kernel
theorem dX1_input_27 : decode cX1_input 27 = .ok (.goto 4, 3) := by decide +kernel
theorem dX1_input_30 : decode cX1_input 30 = .ok (.iconst 0, 1) := by decide +kernel
theorem dX1_input_31 : decode cX1_input 31 = .ok (.invokestatic 120, 3) := by decide +kernel
theorem dX1_input_34 : decode cX1_input 34 = .ok (.aload_n 0, 1) := by decide +kernel
theorem dX1_input_35 : decode cX1_input 35 = .ok (.getfield 102, 3) := by decide +kernel
theorem dX1_input_38 : decode cX1_input 38 = .ok (.aload_n 0, 1) := by decide +kernel
theorem dX1_input_39 : decode cX1_input 39 = .ok (.getfield 221, 3) := by decide +kernel
theorem dX1_input_42 : decode cX1_input 42 = .ok (.iload_n 1, 1) := by decide +kernel
theorem dX1_input_43 : decode cX1_input 43 = .ok (.iastore, 1) := by decide +kernel
theorem dX1_input_44 : decode cX1_input 44 = .ok (.aload_n 0, 1) := by decide +kernel
theorem dX1_input_45 : decode cX1_input 45 = .ok (.getfield 105, 3) := by decide +kernel
theorem dX1_input_48 : decode cX1_input 48 = .ok (.aload_n 0, 1) := by decide +kernel
theorem dX1_input_49 : decode cX1_input 49 = .ok (.getfield 221, 3) := by decide +kernel
theorem dX1_input_52 : decode cX1_input 52 = .ok (.iload_n 2, 1) := by decide +kernel
theorem dX1_input_53 : decode cX1_input 53 = .ok (.iastore, 1) := by decide +kernel
theorem dX1_input_54 : decode cX1_input 54 = .ok (.aload_n 0, 1) := by decide +kernel
theorem dX1_input_55 : decode cX1_input 55 = .ok (.dup, 1) := by decide +kernel
theorem dX1_input_56 : decode cX1_input 56 = .ok (.getfield 221, 3) := by decide +kernel
theorem dX1_input_59 : decode cX1_input 59 = .ok (.iconst 1, 1) := by decide +kernel
theorem dX1_input_60 : decode cX1_input 60 = .ok (.iadd, 1) := by decide +kernel
theorem dX1_input_61 : decode cX1_input 61 = .ok (.putfield 221, 3) := by decide +kernel
theorem dX1_input_64 : decode cX1_input 64 = .ok (.aload_n 0, 1) := by decide +kernel
theorem dX1_input_65 : decode cX1_input 65 = .ok (.getfield 221, 3) := by decide +kernel
theorem dX1_input_68 : decode cX1_input 68 = .ok (.ireturn, 1) := by decide +kernel
abbrev JX1_input_31 (D : DE) (f : Nat) (Q : Int32 → Frm → HI → HL → Prop) (T : Nat → Frm → HI → HL → Prop) (F : Frm) (h : HI) (g : HL) (x1 : Int32) (x2 : Int32) (s0 : Int32) : Prop := Gv D f mX1_may [.int s0] F h g (fun F3 h1 g2 => vp_in (h1 0 13) 40 ∧ ∀ h7, h7 = up2 h1 113 (ix (h1 0 13)) x1 → vp_in (h7 0 13) 40 ∧ ∀ h10, h10 = up2 h7 114 (ix (h7 0 13)) x2 → ∀ h12, h12 = up2 h10 0 13 ((h10 0 13) + 1) → Q (h12 0 13) F3 h12 g2) T
theorem bX1_input_31 {D : DE} {f : Nat} {Q : Int32 → Frm → HI → HL → Prop} {T : Nat → Frm → HI → HL → Prop} {F : Frm} {h : HI} {g : HL} (hF : k_Fix F) (x1 : Int32) (x2 : Int32) (s0 : Int32) (H : JX1_input_31 D f Q T F h g x1 x2 s0) : V D mX1_input (f + 1) (gi Q T) 31 [(0, .ref (ad D 0)), (1, .int x1), (2, .int x2)] [.int s0] (F, h, g) := by
  refine G_callv (av := [.int s0]) (rest := []) H mqX1_may q81 (by decide) (Nat.le_of_ble_eq_true rfl) (k_resS (av := [.int s0]) (rest := []) (M1 := mX1_may) rfl q1065 q1066 q81 mqX1_may (fun _ _ h => mW_named h) mhX1_may mnX1_may dX1_input_31) (fun F3 h1 g2 hF4 H => ?_) (fun a e F1 h1 g1 hF1 ha ht => GT_i hF1 rfl ha ht)
  refine V_aload_n dX1_input_34 rfl 0 rfl ?_
  refine H_getr ck0 11 (by decide) (fs_0 hF4) (by decide) rfl (fr_0_11 hF4) q383 dX1_input_35 ?_
  refine V_aload_n dX1_input_38 rfl 0 rfl ?_
  refine H_geti ck0 13 (by decide) (fs_0 hF4) (by decide) rfl q385 dX1_input_39 ?_
  refine V_iload_n dX1_input_42 rfl 1 rfl ?_
  obtain ⟨i6, H⟩ := H
  refine H_iast (fs_113 hF4) i6 dX1_input_43 (fun h7 e8 => ?_)
  have H := H h7 e8
  refine V_aload_n dX1_input_44 rfl 0 rfl ?_
  refine H_getr ck0 12 (by decide) (fs_0 hF4) (by decide) rfl (fr_0_12 hF4) q384 dX1_input_45 ?_
  refine V_aload_n dX1_input_48 rfl 0 rfl ?_
  refine H_geti ck0 13 (by decide) (fs_0 hF4) (by decide) rfl q385 dX1_input_49 ?_
  refine V_iload_n dX1_input_52 rfl 2 rfl ?_
  obtain ⟨i9, H⟩ := H
  refine H_iast (fs_114 hF4) i9 dX1_input_53 (fun h10 e11 => ?_)
  have H := H h10 e11
  refine V_aload_n dX1_input_54 rfl 0 rfl ?_
  refine V_dup dX1_input_55 rfl ?_
  refine H_geti ck0 13 (by decide) (fs_0 hF4) (by decide) rfl q385 dX1_input_56 ?_
  refine V_iconst (v := 1) dX1_input_59 (by decide) ?_
  refine V_iadd dX1_input_60 ?_
  refine H_puti ck0 13 (by decide) (fs_0 hF4) (by decide) rfl rfl q385 dX1_input_61 (fun h12 e13 => ?_)
  have H := H h12 e13
  refine V_aload_n dX1_input_64 rfl 0 rfl ?_
  refine H_geti ck0 13 (by decide) (fs_0 hF4) (by decide) rfl q385 dX1_input_65 ?_
  exact G_iret hF4 rfl dX1_input_68 H
abbrev JX1_input_14 (D : DE) (f : Nat) (Q : Int32 → Frm → HI → HL → Prop) (T : Nat → Frm → HI → HL → Prop) (F : Frm) (h : HI) (g : HL) (x1 : Int32) (x2 : Int32) (s0 : Int32) : Prop := Gv D f mX1_fits [.int s0] F h g (fun F3 h1 g2 => ((40 ≤ (h1 0 13) → JX1_input_31 D f Q T F3 h1 g2 x1 x2 0) ∧ (¬ 40 ≤ (h1 0 13) → JX1_input_31 D f Q T F3 h1 g2 x1 x2 1))) T
theorem bX1_input_14 {D : DE} {f : Nat} {Q : Int32 → Frm → HI → HL → Prop} {T : Nat → Frm → HI → HL → Prop} {F : Frm} {h : HI} {g : HL} (hF : k_Fix F) (x1 : Int32) (x2 : Int32) (s0 : Int32) (H : JX1_input_14 D f Q T F h g x1 x2 s0) : V D mX1_input (f + 1) (gi Q T) 14 [(0, .ref (ad D 0)), (1, .int x1), (2, .int x2)] [.int s0] (F, h, g) := by
  refine G_callv (av := [.int s0]) (rest := []) H mqX1_fits q81 (by decide) (Nat.le_of_ble_eq_true rfl) (k_resS (av := [.int s0]) (rest := []) (M1 := mX1_fits) rfl q1090 q1091 q81 mqX1_fits (fun _ _ h => mW_named h) mhX1_fits mnX1_fits dX1_input_14) (fun F3 h1 g2 hF4 H => ?_) (fun a e F1 h1 g1 hF1 ha ht => GT_i hF1 rfl ha ht)
  refine V_aload_n dX1_input_17 rfl 0 rfl ?_
  refine H_geti ck0 13 (by decide) (fs_0 hF4) (by decide) rfl q385 dX1_input_18 ?_
  refine V_bipush (v := 40) dX1_input_21 (by decide) ?_
  refine V_icmp_ge (tgt := 30) dX1_input_23 (by decide) (fun c6 => ?_) (fun c6 => ?_)
  · have H := H.1 c6
    refine V_iconst (v := 0) dX1_input_30 (by decide) ?_
    exact bX1_input_31 hF4 x1 x2 0 H
  · have H := H.2 c6
    refine V_iconst (v := 1) dX1_input_26 (by decide) ?_
    refine V_goto (tgt := 31) dX1_input_27 (by decide) ?_
    exact bX1_input_31 hF4 x1 x2 1 H
abbrev JX1_input_13 (D : DE) (f : Nat) (Q : Int32 → Frm → HI → HL → Prop) (T : Nat → Frm → HI → HL → Prop) (F : Frm) (h : HI) (g : HL) (x1 : Int32) (x2 : Int32) : Prop := JX1_input_14 D f Q T F h g x1 x2 0
theorem bX1_input_13 {D : DE} {f : Nat} {Q : Int32 → Frm → HI → HL → Prop} {T : Nat → Frm → HI → HL → Prop} {F : Frm} {h : HI} {g : HL} (hF : k_Fix F) (x1 : Int32) (x2 : Int32) (H : JX1_input_13 D f Q T F h g x1 x2) : V D mX1_input (f + 1) (gi Q T) 13 [(0, .ref (ad D 0)), (1, .int x1), (2, .int x2)] [] (F, h, g) := by
  refine V_iconst (v := 0) dX1_input_13 (by decide) ?_
  exact bX1_input_14 hF x1 x2 0 H
abbrev JX1_input_0 (D : DE) (f : Nat) (Q : Int32 → Frm → HI → HL → Prop) (T : Nat → Frm → HI → HL → Prop) (F : Frm) (h : HI) (g : HL) (x1 : Int32) (x2 : Int32) : Prop := ((x1 < 0 → JX1_input_13 D f Q T F h g x1 x2) ∧ (¬ x1 < 0 → ((2 < x1 → JX1_input_13 D f Q T F h g x1 x2) ∧ (¬ 2 < x1 → JX1_input_14 D f Q T F h g x1 x2 1))))
theorem bX1_input_0 {D : DE} {f : Nat} {Q : Int32 → Frm → HI → HL → Prop} {T : Nat → Frm → HI → HL → Prop} {F : Frm} {h : HI} {g : HL} (hF : k_Fix F) (x1 : Int32) (x2 : Int32) (H : JX1_input_0 D f Q T F h g x1 x2) : V D mX1_input (f + 1) (gi Q T) 0 [(0, .ref (ad D 0)), (1, .int x1), (2, .int x2)] [] (F, h, g) := by
  refine V_iload_n dX1_input_0 rfl 1 rfl ?_
  refine V_if_lt (tgt := 13) dX1_input_1 (by decide) (fun c1 => ?_) (fun c1 => ?_)
  · have H := H.1 c1
    exact bX1_input_13 hF x1 x2 H
  · have H := H.2 c1
    refine V_iload_n dX1_input_4 rfl 1 rfl ?_
    refine V_iconst (v := 2) dX1_input_5 (by decide) ?_
    refine V_icmp_gt (tgt := 13) dX1_input_6 (by decide) (fun c2 => ?_) (fun c2 => ?_)
    · have H := H.1 c2
      exact bX1_input_13 hF x1 x2 H
    · have H := H.2 c2
      refine V_iconst (v := 1) dX1_input_9 (by decide) ?_
      refine V_goto (tgt := 14) dX1_input_10 (by decide) ?_
      exact bX1_input_14 hF x1 x2 1 H
theorem wX1_input {D : DE} {f : Nat} {Q : Int32 → Frm → HI → HL → Prop} {T : Nat → Frm → HI → HL → Prop} {F : Frm} {h : HI} {g : HL} (hF : k_Fix F) (x1 : Int32) (x2 : Int32) (H : JX1_input_0 D f Q T F h g x1 x2) : Gi D (f + 1) mX1_input [.ref (ad D 0), .int x1, .int x2] F h g Q T := Cl.ofV (by decide) (Nat.le_of_ble_eq_true rfl) rfl (bX1_input_0 hF x1 x2 H)
theorem dX1_run_0 : decode cX1_run 0 = .ok (.aload_n 0, 1) := by decide +kernel
theorem dX1_run_1 : decode cX1_run 1 = .ok (.getfield 162, 3) := by decide +kernel
theorem dX1_run_4 : decode cX1_run 4 = .ok (.ifCond .le 7, 3) := by decide +kernel
theorem dX1_run_7 : decode cX1_run 7 = .ok (.iconst 1, 1) := by decide +kernel
theorem dX1_run_8 : decode cX1_run 8 = .ok (.goto 4, 3) := by decide +kernel
theorem dX1_run_11 : decode cX1_run 11 = .ok (.iconst 0, 1) := by decide +kernel
theorem dX1_run_12 : decode cX1_run 12 = .ok (.invokestatic 120, 3) := by decide +kernel
theorem dX1_run_15 : decode cX1_run 15 = .ok (.aload_n 0, 1) := by decide +kernel
theorem dX1_run_16 : decode cX1_run 16 = .ok (.iload_n 1, 1) := by decide +kernel
theorem dX1_run_17 : decode cX1_run 17 = .ok (.invokevirtual 173, 3) := by decide +kernel
theorem dX1_run_20 : decode cX1_run 20 = .ok (.astore 4, 2) := by decide +kernel
theorem dX1_run_22 : decode cX1_run 22 = .ok (.iload_n 2, 1) := by decide +kernel
theorem dX1_run_23 : decode cX1_run 23 = .ok (.iconst 1, 1) := by decide +kernel
theorem dX1_run_24 : decode cX1_run 24 = .ok (.if_icmp .lt 19, 3) := by decide +kernel
theorem dX1_run_27 : decode cX1_run 27 = .ok (.iload_n 2, 1) := by decide +kernel
theorem dX1_run_28 : decode cX1_run 28 = .ok (.aload 4, 2) := by decide +kernel
theorem dX1_run_30 : decode cX1_run 30 = .ok (.getfield 183, 3) := by decide +kernel
theorem dX1_run_33 : decode cX1_run 33 = .ok (.invokestatic 7, 3) := by decide +kernel
theorem dX1_run_36 : decode cX1_run 36 = .ok (.if_icmp .ge 7, 3) := by decide +kernel
theorem dX1_run_39 : decode cX1_run 39 = .ok (.iconst 1, 1) := by decide +kernel
theorem dX1_run_40 : decode cX1_run 40 = .ok (.goto 4, 3) := by decide +kernel
theorem dX1_run_43 : decode cX1_run 43 = .ok (.iconst 0, 1) := by decide +kernel
theorem dX1_run_44 : decode cX1_run 44 = .ok (.invokestatic 170, 3) := by decide +kernel
theorem dX1_run_47 : decode cX1_run 47 = .ok (.iload_n 3, 1) := by decide +kernel
theorem dX1_run_48 : decode cX1_run 48 = .ok (.ifCond .lt 34, 3) := by decide +kernel
theorem dX1_run_51 : decode cX1_run 51 = .ok (.iload_n 3, 1) := by decide +kernel
theorem dX1_run_52 : decode cX1_run 52 = .ok (.sipush 20000, 3) := by decide +kernel
theorem dX1_run_55 : decode cX1_run 55 = .ok (.if_icmp .gt 27, 3) := by decide +kernel
theorem dX1_run_58 : decode cX1_run 58 = .ok (.aload_n 0, 1) := by decide +kernel
theorem dX1_run_59 : decode cX1_run 59 = .ok (.getfield 87, 3) := by decide +kernel
theorem dX1_run_62 : decode cX1_run 62 = .ok (.aload_n 0, 1) := by decide +kernel
theorem dX1_run_63 : decode cX1_run 63 = .ok (.getfield 102, 3) := by decide +kernel
theorem dX1_run_66 : decode cX1_run 66 = .ok (.aload_n 0, 1) := by decide +kernel
theorem dX1_run_67 : decode cX1_run 67 = .ok (.getfield 221, 3) := by decide +kernel
theorem dX1_run_70 : decode cX1_run 70 = .ok (.aload 4, 2) := by decide +kernel
theorem dX1_run_72 : decode cX1_run 72 = .ok (.invokevirtual 224, 3) := by decide +kernel
theorem dX1_run_75 : decode cX1_run 75 = .ok (.ifCond .eq 7, 3) := by decide +kernel
theorem dX1_run_78 : decode cX1_run 78 = .ok (.iconst 1, 1) := by decide +kernel
theorem dX1_run_79 : decode cX1_run 79 = .ok (.goto 4, 3) := by decide +kernel
theorem dX1_run_82 : decode cX1_run 82 = .ok (.iconst 0, 1) := by decide +kernel
theorem dX1_run_83 : decode cX1_run 83 = .ok (.invokestatic 128, 3) := by decide +kernel
theorem dX1_run_86 : decode cX1_run 86 = .ok (.aload_n 0, 1) := by decide +kernel
theorem dX1_run_87 : decode cX1_run 87 = .ok (.iconst 0, 1) := by decide +kernel
theorem dX1_run_88 : decode cX1_run 88 = .ok (.putfield 221, 3) := by decide +kernel
theorem dX1_run_91 : decode cX1_run 91 = .ok (.aload_n 0, 1) := by decide +kernel
theorem dX1_run_92 : decode cX1_run 92 = .ok (.getfield 87, 3) := by decide +kernel
theorem dX1_run_95 : decode cX1_run 95 = .ok (.aload 4, 2) := by decide +kernel
theorem dX1_run_97 : decode cX1_run 97 = .ok (.iload_n 2, 1) := by decide +kernel
theorem dX1_run_98 : decode cX1_run 98 = .ok (.iload_n 3, 1) := by decide +kernel
theorem dX1_run_99 : decode cX1_run 99 = .ok (.aload_n 0, 1) := by decide +kernel
theorem dX1_run_100 : decode cX1_run 100 = .ok (.getfield 102, 3) := by decide +kernel
theorem dX1_run_103 : decode cX1_run 103 = .ok (.aload_n 0, 1) := by decide +kernel
theorem dX1_run_104 : decode cX1_run 104 = .ok (.getfield 105, 3) := by decide +kernel
theorem dX1_run_107 : decode cX1_run 107 = .ok (.invokevirtual 228, 3) := by decide +kernel
theorem dX1_run_110 : decode cX1_run 110 = .ok (.ireturn, 1) := by decide +kernel
abbrev JX1_run_83 (D : DE) (f : Nat) (Q : Int32 → Frm → HI → HL → Prop) (T : Nat → Frm → HI → HL → Prop) (F : Frm) (h : HI) (g : HL) (x2 : Int32) (x3 : Int32) (x4 : Nat) (s0 : Int32) : Prop := Gv D f mX1_fits [.int s0] F h g (fun F3 h1 g2 => ∀ h6, h6 = up2 h1 0 13 0 → Gi D f mX7_run [.ref (ad D 101), .ref (ad D x4), .int x2, .int x3, .ref (ad D 113), .ref (ad D 114)] F3 h6 g2 (fun y8 F11 h9 g10 => Q y8 F11 h9 g10) T) T
theorem bX1_run_83 {D : DE} {f : Nat} {Q : Int32 → Frm → HI → HL → Prop} {T : Nat → Frm → HI → HL → Prop} {F : Frm} {h : HI} {g : HL} (hF : k_Fix F) (x2 : Int32) (x3 : Int32) (x4 : Nat) (s0 : Int32) (H : JX1_run_83 D f Q T F h g x2 x3 x4 s0) : V D mX1_run (f + 1) (gi Q T) 83 [(0, .ref (ad D 0)), (2, .int x2), (3, .int x3), (4, .ref (ad D x4))] [.int s0] (F, h, g) := by
  refine G_callv (av := [.int s0]) (rest := []) H mqX1_fits q81 (by decide) (Nat.le_of_ble_eq_true rfl) (k_resS (av := [.int s0]) (rest := []) (M1 := mX1_fits) rfl q1090 q1091 q81 mqX1_fits (fun _ _ h => mW_named h) mhX1_fits mnX1_fits dX1_run_83) (fun F3 h1 g2 hF4 H => ?_) (fun a e F1 h1 g1 hF1 ha ht => GT_i hF1 rfl ha ht)
  refine V_aload_n dX1_run_86 rfl 0 rfl ?_
  refine V_iconst (v := 0) dX1_run_87 (by decide) ?_
  refine H_puti ck0 13 (by decide) (fs_0 hF4) (by decide) rfl rfl q385 dX1_run_88 (fun h6 e7 => ?_)
  have H := H h6 e7
  refine V_aload_n dX1_run_91 rfl 0 rfl ?_
  refine H_getr ck0 4 (by decide) (fs_0 hF4) (by decide) rfl (fr_0_4 hF4) q376 dX1_run_92 ?_
  refine V_aload dX1_run_95 3 rfl ?_
  refine V_iload_n dX1_run_97 rfl 1 rfl ?_
  refine V_iload_n dX1_run_98 rfl 2 rfl ?_
  refine V_aload_n dX1_run_99 rfl 0 rfl ?_
  refine H_getr ck0 11 (by decide) (fs_0 hF4) (by decide) rfl (fr_0_11 hF4) q383 dX1_run_100 ?_
  refine V_aload_n dX1_run_103 rfl 0 rfl ?_
  refine H_getr ck0 12 (by decide) (fs_0 hF4) (by decide) rfl (fr_0_12 hF4) q384 dX1_run_104 ?_
  refine G_calli (av := [.ref (ad D 101), .ref (ad D x4), .int x2, .int x3, .ref (ad D 113), .ref (ad D 114)]) (rest := []) H mqX7_run q87 (by decide) (Nat.le_of_ble_eq_true rfl) (k_resV (ci := 6) (av := [.ref (ad D x4), .int x2, .int x3, .ref (ad D 113), .ref (ad D 114)]) (rest := []) (fs_101 hF4) (by decide) rfl rfl q1325 q1326 q1327 q1328 mhX7_run mnX7_run dX1_run_107) (fun y8 F11 h9 g10 hF12 H => ?_) (fun a e F1 h1 g1 hF1 ha ht => GT_i hF1 rfl ha ht)
  exact G_iret hF12 rfl dX1_run_110 H
abbrev JX1_run_82 (D : DE) (f : Nat) (Q : Int32 → Frm → HI → HL → Prop) (T : Nat → Frm → HI → HL → Prop) (F : Frm) (h : HI) (g : HL) (x2 : Int32) (x3 : Int32) (x4 : Nat) : Prop := JX1_run_83 D f Q T F h g x2 x3 x4 0
theorem bX1_run_82 {D : DE} {f : Nat} {Q : Int32 → Frm → HI → HL → Prop} {T : Nat → Frm → HI → HL → Prop} {F : Frm} {h : HI} {g : HL} (hF : k_Fix F) (x2 : Int32) (x3 : Int32) (x4 : Nat) (H : JX1_run_82 D f Q T F h g x2 x3 x4) : V D mX1_run (f + 1) (gi Q T) 82 [(0, .ref (ad D 0)), (2, .int x2), (3, .int x3), (4, .ref (ad D x4))] [] (F, h, g) := by
  refine V_iconst (v := 0) dX1_run_82 (by decide) ?_
  exact bX1_run_83 hF x2 x3 x4 0 H
abbrev JX1_run_44 (D : DE) (f : Nat) (Q : Int32 → Frm → HI → HL → Prop) (T : Nat → Frm → HI → HL → Prop) (F : Frm) (h : HI) (g : HL) (x2 : Int32) (x3 : Int32) (x4 : Nat) (s0 : Int32) : Prop := Gv D f mX1_lies [.int s0] F h g (fun F3 h1 g2 => ((x3 < 0 → JX1_run_82 D f Q T F3 h1 g2 x2 x3 x4) ∧ (¬ x3 < 0 → ((20000 < x3 → JX1_run_82 D f Q T F3 h1 g2 x2 x3 x4) ∧ (¬ 20000 < x3 → Si D f mX7_fit [.ref (ad D 101), .ref (ad D 113), .int (h1 0 13), .ref (ad D x4)] F3 h1 g2 (fun y8 h9 g10 => ((y8 = 0 → JX1_run_82 D f Q T F3 h9 g10 x2 x3 x4) ∧ (¬ y8 = 0 → JX1_run_83 D f Q T F3 h9 g10 x2 x3 x4 1)))))))) T
theorem bX1_run_44 {D : DE} {f : Nat} {Q : Int32 → Frm → HI → HL → Prop} {T : Nat → Frm → HI → HL → Prop} {F : Frm} {h : HI} {g : HL} (hF : k_Fix F) (x2 : Int32) (x3 : Int32) (x4 : Nat) (s0 : Int32) (H : JX1_run_44 D f Q T F h g x2 x3 x4 s0) : V D mX1_run (f + 1) (gi Q T) 44 [(0, .ref (ad D 0)), (2, .int x2), (3, .int x3), (4, .ref (ad D x4))] [.int s0] (F, h, g) := by
  refine G_callv (av := [.int s0]) (rest := []) H mqX1_lies q81 (by decide) (Nat.le_of_ble_eq_true rfl) (k_resS (av := [.int s0]) (rest := []) (M1 := mX1_lies) rfl q1143 q1144 q81 mqX1_lies (fun _ _ h => mW_named h) mhX1_lies mnX1_lies dX1_run_44) (fun F3 h1 g2 hF4 H => ?_) (fun a e F1 h1 g1 hF1 ha ht => GT_i hF1 rfl ha ht)
  refine V_iload_n dX1_run_47 rfl 2 rfl ?_
  refine V_if_lt (tgt := 82) dX1_run_48 (by decide) (fun c6 => ?_) (fun c6 => ?_)
  · have H := H.1 c6
    exact bX1_run_82 hF4 x2 x3 x4 H
  · have H := H.2 c6
    refine V_iload_n dX1_run_51 rfl 2 rfl ?_
    refine V_sipush (v := 20000) dX1_run_52 (by decide) ?_
    refine V_icmp_gt (tgt := 82) dX1_run_55 (by decide) (fun c7 => ?_) (fun c7 => ?_)
    · have H := H.1 c7
      exact bX1_run_82 hF4 x2 x3 x4 H
    · have H := H.2 c7
      refine V_aload_n dX1_run_58 rfl 0 rfl ?_
      refine H_getr ck0 4 (by decide) (fs_0 hF4) (by decide) rfl (fr_0_4 hF4) q376 dX1_run_59 ?_
      refine V_aload_n dX1_run_62 rfl 0 rfl ?_
      refine H_getr ck0 11 (by decide) (fs_0 hF4) (by decide) rfl (fr_0_11 hF4) q383 dX1_run_63 ?_
      refine V_aload_n dX1_run_66 rfl 0 rfl ?_
      refine H_geti ck0 13 (by decide) (fs_0 hF4) (by decide) rfl q385 dX1_run_67 ?_
      refine V_aload dX1_run_70 3 rfl ?_
      refine H_calli (av := [.ref (ad D 101), .ref (ad D 113), .int (h1 0 13), .ref (ad D x4)]) (rest := []) H mqX7_fit q87 (by decide) (Nat.le_of_ble_eq_true rfl) (k_resV (ci := 6) (av := [.ref (ad D 113), .int (h1 0 13), .ref (ad D x4)]) (rest := []) (fs_101 hF4) (by decide) rfl rfl q1319 q1320 q1321 q1322 mhX7_fit mnX7_fit dX1_run_72) (fun y8 h9 g10 H => ?_)
      refine V_if_eq (tgt := 82) dX1_run_75 (by decide) (fun c11 => ?_) (fun c11 => ?_)
      · have H := H.1 c11
        exact bX1_run_82 hF4 x2 x3 x4 H
      · have H := H.2 c11
        refine V_iconst (v := 1) dX1_run_78 (by decide) ?_
        refine V_goto (tgt := 83) dX1_run_79 (by decide) ?_
        exact bX1_run_83 hF4 x2 x3 x4 1 H
abbrev JX1_run_43 (D : DE) (f : Nat) (Q : Int32 → Frm → HI → HL → Prop) (T : Nat → Frm → HI → HL → Prop) (F : Frm) (h : HI) (g : HL) (x2 : Int32) (x3 : Int32) (x4 : Nat) : Prop := JX1_run_44 D f Q T F h g x2 x3 x4 0
theorem bX1_run_43 {D : DE} {f : Nat} {Q : Int32 → Frm → HI → HL → Prop} {T : Nat → Frm → HI → HL → Prop} {F : Frm} {h : HI} {g : HL} (hF : k_Fix F) (x2 : Int32) (x3 : Int32) (x4 : Nat) (H : JX1_run_43 D f Q T F h g x2 x3 x4) : V D mX1_run (f + 1) (gi Q T) 43 [(0, .ref (ad D 0)), (2, .int x2), (3, .int x3), (4, .ref (ad D x4))] [] (F, h, g) := by
  refine V_iconst (v := 0) dX1_run_43 (by decide) ?_
  exact bX1_run_44 hF x2 x3 x4 0 H
abbrev JX1_run_12 (D : DE) (f : Nat) (Q : Int32 → Frm → HI → HL → Prop) (T : Nat → Frm → HI → HL → Prop) (F : Frm) (h : HI) (g : HL) (x1 : Int32) (x2 : Int32) (x3 : Int32) (s0 : Int32) : Prop := Gv D f mX1_may [.int s0] F h g (fun F3 h1 g2 => Gr D f mX1_functionAt [.ref (ad D 0), .int x1] F3 h1 g2 (fun b6 F9 h7 g8 => ((x2 < 1 → JX1_run_43 D f Q T F9 h7 g8 x2 x3 b6) ∧ (¬ x2 < 1 → F9.2.1 b6 = (18, 0) ∧ Si D f mX1_sizeOf [.int (h7 b6 3)] F9 h7 g8 (fun y14 h15 g16 => ((y14 ≤ x2 → JX1_run_43 D f Q T F9 h15 g16 x2 x3 b6) ∧ (¬ y14 ≤ x2 → JX1_run_44 D f Q T F9 h15 g16 x2 x3 b6 1)))))) T) T
theorem bX1_run_12 {D : DE} {f : Nat} {Q : Int32 → Frm → HI → HL → Prop} {T : Nat → Frm → HI → HL → Prop} {F : Frm} {h : HI} {g : HL} (hF : k_Fix F) (x1 : Int32) (x2 : Int32) (x3 : Int32) (s0 : Int32) (H : JX1_run_12 D f Q T F h g x1 x2 x3 s0) : V D mX1_run (f + 1) (gi Q T) 12 [(0, .ref (ad D 0)), (1, .int x1), (2, .int x2), (3, .int x3)] [.int s0] (F, h, g) := by
  refine G_callv (av := [.int s0]) (rest := []) H mqX1_may q81 (by decide) (Nat.le_of_ble_eq_true rfl) (k_resS (av := [.int s0]) (rest := []) (M1 := mX1_may) rfl q1065 q1066 q81 mqX1_may (fun _ _ h => mW_named h) mhX1_may mnX1_may dX1_run_12) (fun F3 h1 g2 hF4 H => ?_) (fun a e F1 h1 g1 hF1 ha ht => GT_i hF1 rfl ha ht)
  refine V_aload_n dX1_run_15 rfl 0 rfl ?_
  refine V_iload_n dX1_run_16 rfl 1 rfl ?_
  refine G_callr (av := [.ref (ad D 0), .int x1]) (rest := []) H mqX1_functionAt q81 (by decide) (Nat.le_of_ble_eq_true rfl) (k_resV (ci := 0) (av := [.int x1]) (rest := []) (fs_0 hF4) (by decide) rfl rfl q1139 q1141 qs23 q1142 mhX1_functionAt mnX1_functionAt dX1_run_17) (fun b6 F9 h7 g8 hF10 H => ?_) (fun a e F1 h1 g1 hF1 ha ht => GT_i hF1 rfl ha ht)
  refine V_astore (l1 := [(4, .ref (ad D b6)), (0, .ref (ad D 0)), (1, .int x1), (2, .int x2), (3, .int x3)]) dX1_run_20 (by decide) rfl ?_
  refine V_iload_n dX1_run_22 rfl 3 rfl ?_
  refine V_iconst (v := 1) dX1_run_23 (by decide) ?_
  refine V_icmp_lt (tgt := 43) dX1_run_24 (by decide) (fun c12 => ?_) (fun c12 => ?_)
  · have H := H.1 c12
    refine V.sub [1, 3, 4, 0] rfl ?_
    exact bX1_run_43 hF10 x2 x3 b6 H
  · have H := H.2 c12
    refine V_iload_n dX1_run_27 rfl 3 rfl ?_
    refine V_aload dX1_run_28 0 rfl ?_
    obtain ⟨z13, H⟩ := H
    refine H_getiN ck8 3 (by decide) z13 (by decide) rfl q675 dX1_run_30 ?_
    refine H_calli (av := [.int (h7 b6 3)]) (rest := [.int x2]) H mqX1_sizeOf q81 (by decide) (Nat.le_of_ble_eq_true rfl) (k_resS (av := [.int (h7 b6 3)]) (rest := [.int x2]) (M1 := mX1_sizeOf) rfl q1161 q1162 q81 mqX1_sizeOf (fun _ _ h => mW_named h) mhX1_sizeOf mnX1_sizeOf dX1_run_33) (fun y14 h15 g16 H => ?_)
    refine V_icmp_ge (tgt := 43) dX1_run_36 (by decide) (fun c17 => ?_) (fun c17 => ?_)
    · have H := H.1 c17
      refine V.sub [1, 3, 4, 0] rfl ?_
      exact bX1_run_43 hF10 x2 x3 b6 H
    · have H := H.2 c17
      refine V_iconst (v := 1) dX1_run_39 (by decide) ?_
      refine V_goto (tgt := 44) dX1_run_40 (by decide) ?_
      refine V.sub [1, 3, 4, 0] rfl ?_
      exact bX1_run_44 hF10 x2 x3 b6 1 H
abbrev JX1_run_0 (D : DE) (f : Nat) (Q : Int32 → Frm → HI → HL → Prop) (T : Nat → Frm → HI → HL → Prop) (F : Frm) (h : HI) (g : HL) (x1 : Int32) (x2 : Int32) (x3 : Int32) : Prop := (((h 0 9) ≤ 0 → JX1_run_12 D f Q T F h g x1 x2 x3 0) ∧ (¬ (h 0 9) ≤ 0 → JX1_run_12 D f Q T F h g x1 x2 x3 1))
theorem bX1_run_0 {D : DE} {f : Nat} {Q : Int32 → Frm → HI → HL → Prop} {T : Nat → Frm → HI → HL → Prop} {F : Frm} {h : HI} {g : HL} (hF : k_Fix F) (x1 : Int32) (x2 : Int32) (x3 : Int32) (H : JX1_run_0 D f Q T F h g x1 x2 x3) : V D mX1_run (f + 1) (gi Q T) 0 [(0, .ref (ad D 0)), (1, .int x1), (2, .int x2), (3, .int x3)] [] (F, h, g) := by
  refine V_aload_n dX1_run_0 rfl 0 rfl ?_
  refine H_geti ck0 9 (by decide) (fs_0 hF) (by decide) rfl q381 dX1_run_1 ?_
  refine V_if_le (tgt := 11) dX1_run_4 (by decide) (fun c1 => ?_) (fun c1 => ?_)
  · have H := H.1 c1
    refine V_iconst (v := 0) dX1_run_11 (by decide) ?_
    exact bX1_run_12 hF x1 x2 x3 0 H
  · have H := H.2 c1
    refine V_iconst (v := 1) dX1_run_7 (by decide) ?_
    refine V_goto (tgt := 12) dX1_run_8 (by decide) ?_
    exact bX1_run_12 hF x1 x2 x3 1 H
theorem wX1_run {D : DE} {f : Nat} {Q : Int32 → Frm → HI → HL → Prop} {T : Nat → Frm → HI → HL → Prop} {F : Frm} {h : HI} {g : HL} (hF : k_Fix F) (x1 : Int32) (x2 : Int32) (x3 : Int32) (H : JX1_run_0 D f Q T F h g x1 x2 x3) : Gi D (f + 1) mX1_run [.ref (ad D 0), .int x1, .int x2, .int x3] F h g Q T := Cl.ofV (by decide) (Nat.le_of_ble_eq_true rfl) rfl (bX1_run_0 hF x1 x2 x3 H)
theorem dX1_told_0 : decode cX1_told 0 = .ok (.iload_n 1, 1) := by decide +kernel
theorem dX1_told_1 : decode cX1_told 1 = .ok (.ifCond .lt 13, 3) := by decide +kernel
theorem dX1_told_4 : decode cX1_told 4 = .ok (.iload_n 1, 1) := by decide +kernel
theorem dX1_told_5 : decode cX1_told 5 = .ok (.bipush 6, 2) := by decide +kernel
theorem dX1_told_7 : decode cX1_told 7 = .ok (.if_icmp .gt 7, 3) := by decide +kernel
theorem dX1_told_10 : decode cX1_told 10 = .ok (.iconst 1, 1) := by decide +kernel
theorem dX1_told_11 : decode cX1_told 11 = .ok (.goto 4, 3) := by decide +kernel
theorem dX1_told_14 : decode cX1_told 14 = .ok (.iconst 0, 1) := by decide +kernel
theorem dX1_told_15 : decode cX1_told 15 = .ok (.invokestatic 170, 3) := by decide +kernel
theorem dX1_told_18 : decode cX1_told 18 = .ok (.iload_n 1, 1) := by decide +kernel
theorem dX1_told_19 : decode cX1_told 19 = .ok (.tableswitch 142 0 5 #[37, 45, 61, 77, 85, 93], 37) := by decide +kernel
theorem dX1_told_56 : decode cX1_told 56 = .ok (.aload_n 0, 1) := by decide +kernel
theorem dX1_told_57 : decode cX1_told 57 = .ok (.getfield 87, 3) := by decide +kernel
theorem dX1_told_60 : decode cX1_told 60 = .ok (.getfield 232, 3) := by decide +kernel
theorem dX1_told_63 : decode cX1_told 63 = .ok (.ireturn, 1) := by decide +kernel
theorem dX1_told_64 : decode cX1_told 64 = .ok (.aload_n 0, 1) := by decide +kernel
theorem dX1_told_65 : decode cX1_told 65 = .ok (.getfield 87, 3) := by decide +kernel
theorem dX1_told_68 : decode cX1_told 68 = .ok (.getfield 235, 3) := by decide +kernel
theorem dX1_told_71 : decode cX1_told 71 = .ok (.aload_n 0, 1) := by decide +kernel
theorem dX1_told_72 : decode cX1_told 72 = .ok (.getfield 87, 3) := by decide +kernel
theorem dX1_told_75 : decode cX1_told 75 = .ok (.getfield 238, 3) := by decide +kernel
theorem dX1_told_78 : decode cX1_told 78 = .ok (.isub, 1) := by decide +kernel
theorem dX1_told_79 : decode cX1_told 79 = .ok (.ireturn, 1) := by decide +kernel
theorem dX1_told_80 : decode cX1_told 80 = .ok (.aload_n 0, 1) := by decide +kernel
theorem dX1_told_81 : decode cX1_told 81 = .ok (.getfield 87, 3) := by decide +kernel
theorem dX1_told_84 : decode cX1_told 84 = .ok (.getfield 241, 3) := by decide +kernel
theorem dX1_told_87 : decode cX1_told 87 = .ok (.aload_n 0, 1) := by decide +kernel
theorem dX1_told_88 : decode cX1_told 88 = .ok (.getfield 87, 3) := by decide +kernel
theorem dX1_told_91 : decode cX1_told 91 = .ok (.getfield 244, 3) := by decide +kernel
theorem dX1_told_94 : decode cX1_told 94 = .ok (.isub, 1) := by decide +kernel
theorem dX1_told_95 : decode cX1_told 95 = .ok (.ireturn, 1) := by decide +kernel
theorem dX1_told_96 : decode cX1_told 96 = .ok (.aload_n 0, 1) := by decide +kernel
theorem dX1_told_97 : decode cX1_told 97 = .ok (.getfield 87, 3) := by decide +kernel
theorem dX1_told_100 : decode cX1_told 100 = .ok (.getfield 247, 3) := by decide +kernel
theorem dX1_told_103 : decode cX1_told 103 = .ok (.ireturn, 1) := by decide +kernel
theorem dX1_told_104 : decode cX1_told 104 = .ok (.aload_n 0, 1) := by decide +kernel
theorem dX1_told_105 : decode cX1_told 105 = .ok (.getfield 87, 3) := by decide +kernel
theorem dX1_told_108 : decode cX1_told 108 = .ok (.getfield 250, 3) := by decide +kernel
theorem dX1_told_111 : decode cX1_told 111 = .ok (.ireturn, 1) := by decide +kernel
theorem dX1_told_112 : decode cX1_told 112 = .ok (.iconst 0, 1) := by decide +kernel
theorem dX1_told_113 : decode cX1_told 113 = .ok (.istore_n 2, 1) := by decide +kernel
theorem dX1_told_114 : decode cX1_told 114 = .ok (.aload_n 0, 1) := by decide +kernel
theorem dX1_told_115 : decode cX1_told 115 = .ok (.getfield 87, 3) := by decide +kernel
theorem dX1_told_118 : decode cX1_told 118 = .ok (.getfield 238, 3) := by decide +kernel
theorem dX1_told_121 : decode cX1_told 121 = .ok (.istore_n 3, 1) := by decide +kernel
theorem dX1_told_122 : decode cX1_told 122 = .ok (.iload_n 3, 1) := by decide +kernel
theorem dX1_told_123 : decode cX1_told 123 = .ok (.aload_n 0, 1) := by decide +kernel
theorem dX1_told_124 : decode cX1_told 124 = .ok (.getfield 87, 3) := by decide +kernel
theorem dX1_told_127 : decode cX1_told 127 = .ok (.getfield 235, 3) := by decide +kernel
theorem dX1_told_130 : decode cX1_told 130 = .ok (.if_icmp .ge 29, 3) := by decide +kernel
theorem dX1_told_133 : decode cX1_told 133 = .ok (.iload_n 2, 1) := by decide +kernel
theorem dX1_told_134 : decode cX1_told 134 = .ok (.aload_n 0, 1) := by decide +kernel
theorem dX1_told_135 : decode cX1_told 135 = .ok (.getfield 87, 3) := by decide +kernel
theorem dX1_told_138 : decode cX1_told 138 = .ok (.getfield 253, 3) := by decide +kernel
theorem dX1_told_141 : decode cX1_told 141 = .ok (.iload_n 3, 1) := by decide +kernel
theorem dX1_told_142 : decode cX1_told 142 = .ok (.baload, 1) := by decide +kernel
theorem dX1_told_143 : decode cX1_told 143 = .ok (.ifCond .ne 7, 3) := by decide +kernel
theorem dX1_told_146 : decode cX1_told 146 = .ok (.iconst 1, 1) := by decide +kernel
theorem dX1_told_147 : decode cX1_told 147 = .ok (.goto 4, 3) := by decide +kernel
theorem dX1_told_150 : decode cX1_told 150 = .ok (.iconst 0, 1) := by decide +kernel
theorem dX1_told_151 : decode cX1_told 151 = .ok (.iadd, 1) := by decide +kernel
theorem dX1_told_152 : decode cX1_told 152 = .ok (.istore_n 2, 1) := by decide +kernel
theorem dX1_told_153 : decode cX1_told 153 = .ok (.iinc 3 1, 3) := by decide +kernel
theorem dX1_told_156 : decode cX1_told 156 = .ok (.goto (-34), 3) := by decide +kernel
theorem dX1_told_159 : decode cX1_told 159 = .ok (.iload_n 2, 1) := by decide +kernel
theorem dX1_told_160 : decode cX1_told 160 = .ok (.ireturn, 1) := by decide +kernel
theorem dX1_told_161 : decode cX1_told 161 = .ok (.aload_n 0, 1) := by decide +kernel
theorem dX1_told_162 : decode cX1_told 162 = .ok (.getfield 221, 3) := by decide +kernel
theorem dX1_told_165 : decode cX1_told 165 = .ok (.ireturn, 1) := by decide +kernel
abbrev JX1_told_151 (D : DE) (f : Nat) (Q : Int32 → Frm → HI → HL → Prop) (T : Nat → Frm → HI → HL → Prop) (F : Frm) (h : HI) (g : HL) (x3 : Int32) (s0 : Int32) (s1 : Int32) : Prop := ∀ y1 : Int32, y1 = (s0 + s1) → ∀ y3 : Int32, y3 = x3 + 1 → V D mX1_told (f + 1) (gi Q T) 122 [(0, .ref (ad D 0)), (2, .int y1), (3, .int y3)] [] (F, h, g)
theorem bX1_told_151 {D : DE} {f : Nat} {Q : Int32 → Frm → HI → HL → Prop} {T : Nat → Frm → HI → HL → Prop} {F : Frm} {h : HI} {g : HL} (hF : k_Fix F) (x3 : Int32) (s0 : Int32) (s1 : Int32) (H : JX1_told_151 D f Q T F h g x3 s0 s1) : V D mX1_told (f + 1) (gi Q T) 151 [(0, .ref (ad D 0)), (3, .int x3)] [.int s1, .int s0] (F, h, g) := by
  refine V_iadd dX1_told_151 ?_
  refine V_topi (fun y1 e2 => ?_)
  have H := H y1 e2
  refine V_istore_n (l1 := [(2, .int y1), (0, .ref (ad D 0)), (3, .int x3)]) dX1_told_152 rfl (by decide) rfl ?_
  obtain ⟨y3, e4⟩ : ∃ y : Int32, y = x3 + 1 := ⟨_, rfl⟩
  have H := H y3 e4
  refine V_iinc (j := 2) (v := y3) (l1 := [(3, .int y3), (2, .int y1), (0, .ref (ad D 0))]) dX1_told_153 rfl (by rw [e4]; rfl) (by decide) rfl ?_
  refine V_goto (tgt := 122) dX1_told_156 (by decide) ?_
  refine V.sub [2, 1, 0] rfl ?_
  exact H
abbrev JX1_told_122 (D : DE) (f : Nat) (Q : Int32 → Frm → HI → HL → Prop) (T : Nat → Frm → HI → HL → Prop) (F : Frm) (h : HI) (g : HL) (x2 : Int32) (x3 : Int32) : Prop := (((h 101 4) ≤ x3 → Q x2 F h g) ∧ (¬ (h 101 4) ≤ x3 → vp_in x3 1540 ∧ ((¬ (h 104 (ix x3)) = 0 → JX1_told_151 D f Q T F h g x3 x2 0) ∧ ((h 104 (ix x3)) = 0 → JX1_told_151 D f Q T F h g x3 x2 1))))
theorem bX1_told_122 {D : DE} {f : Nat} {Q : Int32 → Frm → HI → HL → Prop} {T : Nat → Frm → HI → HL → Prop} {F : Frm} {h : HI} {g : HL} (hF : k_Fix F) (x2 : Int32) (x3 : Int32) (H : JX1_told_122 D f Q T F h g x2 x3) : V D mX1_told (f + 1) (gi Q T) 122 [(0, .ref (ad D 0)), (2, .int x2), (3, .int x3)] [] (F, h, g) := by
  refine V_iload_n dX1_told_122 rfl 2 rfl ?_
  refine V_aload_n dX1_told_123 rfl 0 rfl ?_
  refine H_getr ck0 4 (by decide) (fs_0 hF) (by decide) rfl (fr_0_4 hF) q376 dX1_told_124 ?_
  refine H_getiN ck6 4 (by decide) (fs_101 hF) (by decide) rfl q281 dX1_told_127 ?_
  refine V_icmp_ge (tgt := 159) dX1_told_130 (by decide) (fun c1 => ?_) (fun c1 => ?_)
  · have H := H.1 c1
    refine V_iload_n dX1_told_159 rfl 1 rfl ?_
    exact G_iret hF rfl dX1_told_160 H
  · have H := H.2 c1
    refine V_iload_n dX1_told_133 rfl 1 rfl ?_
    refine V_aload_n dX1_told_134 rfl 0 rfl ?_
    refine H_getr ck0 4 (by decide) (fs_0 hF) (by decide) rfl (fr_0_4 hF) q376 dX1_told_135 ?_
    refine H_getrN ck6 2 (by decide) (fs_101 hF) (by decide) rfl (fr_101_2 hF) q277 dX1_told_138 ?_
    refine V_iload_n dX1_told_141 rfl 2 rfl ?_
    obtain ⟨i2, H⟩ := H
    refine H_bald (fs_104 hF) i2 dX1_told_142 ?_
    refine V_if_ne (tgt := 150) dX1_told_143 (by decide) (fun c3 => ?_) (fun c3 => ?_)
    · have H := H.1 c3
      refine V_iconst (v := 0) dX1_told_150 (by decide) ?_
      refine V.sub [0, 2] rfl ?_
      exact bX1_told_151 hF x3 x2 0 H
    · have H := H.2 c3
      refine V_iconst (v := 1) dX1_told_146 (by decide) ?_
      refine V_goto (tgt := 151) dX1_told_147 (by decide) ?_
      refine V.sub [0, 2] rfl ?_
      exact bX1_told_151 hF x3 x2 1 H
abbrev JX1_told_15 (D : DE) (f : Nat) (Q : Int32 → Frm → HI → HL → Prop) (T : Nat → Frm → HI → HL → Prop) (F : Frm) (h : HI) (g : HL) (x1 : Int32) (s0 : Int32) : Prop := Gv D f mX1_lies [.int s0] F h g (fun F3 h1 g2 => ((x1.toInt < 0 ∨ 5 < x1.toInt → Q (h1 0 13) F3 h1 g2) ∧ (x1 = 0 → Q (h1 101 13) F3 h1 g2) ∧ (x1 = 1 → Q ((h1 101 4) - (h1 101 10)) F3 h1 g2) ∧ (x1 = 2 → Q ((h1 101 7) - (h1 101 11)) F3 h1 g2) ∧ (x1 = 3 → Q (h1 101 9) F3 h1 g2) ∧ (x1 = 4 → Q (h1 101 15) F3 h1 g2) ∧ (x1 = 5 → ∀ y7 : Int32, y7 = (h1 101 10) → V D mX1_told (f + 1) (gi Q T) 122 [(0, .ref (ad D 0)), (2, .int 0), (3, .int y7)] [] (F3, h1, g2)))) T
theorem bX1_told_15 {D : DE} {f : Nat} {Q : Int32 → Frm → HI → HL → Prop} {T : Nat → Frm → HI → HL → Prop} {F : Frm} {h : HI} {g : HL} (hF : k_Fix F) (x1 : Int32) (s0 : Int32) (H : JX1_told_15 D f Q T F h g x1 s0) : V D mX1_told (f + 1) (gi Q T) 15 [(0, .ref (ad D 0)), (1, .int x1)] [.int s0] (F, h, g) := by
  refine G_callv (av := [.int s0]) (rest := []) H mqX1_lies q81 (by decide) (Nat.le_of_ble_eq_true rfl) (k_resS (av := [.int s0]) (rest := []) (M1 := mX1_lies) rfl q1143 q1144 q81 mqX1_lies (fun _ _ h => mW_named h) mhX1_lies mnX1_lies dX1_told_15) (fun F3 h1 g2 hF4 H => ?_) (fun a e F1 h1 g1 hF1 ha ht => GT_i hF1 rfl ha ht)
  refine V_iload_n dX1_told_18 rfl 1 rfl ?_
  by_cases c6 : x1.toInt < 0 ∨ 5 < x1.toInt
  · have H := H.1 c6
    refine V_tableOut (tgt := 161) dX1_told_19 c6 (by decide) ?_
    refine V_aload_n dX1_told_161 rfl 0 rfl ?_
    refine H_geti ck0 13 (by decide) (fs_0 hF4) (by decide) rfl q385 dX1_told_162 ?_
    exact G_iret hF4 rfl dX1_told_165 H
  · rcases tsw_0_5 c6 with c6 | c6 | c6 | c6 | c6 | c6
    · have H := H.2.1 c6
      refine V_tableIn (tgt := 56) dX1_told_19 (by rw [c6]; decide) (by rw [c6]; decide) (by rw [c6]; rfl) (by decide) ?_
      refine V_aload_n dX1_told_56 rfl 0 rfl ?_
      refine H_getr ck0 4 (by decide) (fs_0 hF4) (by decide) rfl (fr_0_4 hF4) q376 dX1_told_57 ?_
      refine H_getiN ck6 13 (by decide) (fs_101 hF4) (by decide) rfl q304 dX1_told_60 ?_
      exact G_iret hF4 rfl dX1_told_63 H
    · have H := H.2.2.1 c6
      refine V_tableIn (tgt := 64) dX1_told_19 (by rw [c6]; decide) (by rw [c6]; decide) (by rw [c6]; rfl) (by decide) ?_
      refine V_aload_n dX1_told_64 rfl 0 rfl ?_
      refine H_getr ck0 4 (by decide) (fs_0 hF4) (by decide) rfl (fr_0_4 hF4) q376 dX1_told_65 ?_
      refine H_getiN ck6 4 (by decide) (fs_101 hF4) (by decide) rfl q281 dX1_told_68 ?_
      refine V_aload_n dX1_told_71 rfl 0 rfl ?_
      refine H_getr ck0 4 (by decide) (fs_0 hF4) (by decide) rfl (fr_0_4 hF4) q376 dX1_told_72 ?_
      refine H_getiN ck6 10 (by decide) (fs_101 hF4) (by decide) rfl q299 dX1_told_75 ?_
      refine V_isub dX1_told_78 ?_
      exact G_iret hF4 rfl dX1_told_79 H
    · have H := H.2.2.2.1 c6
      refine V_tableIn (tgt := 80) dX1_told_19 (by rw [c6]; decide) (by rw [c6]; decide) (by rw [c6]; rfl) (by decide) ?_
      refine V_aload_n dX1_told_80 rfl 0 rfl ?_
      refine H_getr ck0 4 (by decide) (fs_0 hF4) (by decide) rfl (fr_0_4 hF4) q376 dX1_told_81 ?_
      refine H_getiN ck6 7 (by decide) (fs_101 hF4) (by decide) rfl q289 dX1_told_84 ?_
      refine V_aload_n dX1_told_87 rfl 0 rfl ?_
      refine H_getr ck0 4 (by decide) (fs_0 hF4) (by decide) rfl (fr_0_4 hF4) q376 dX1_told_88 ?_
      refine H_getiN ck6 11 (by decide) (fs_101 hF4) (by decide) rfl q301 dX1_told_91 ?_
      refine V_isub dX1_told_94 ?_
      exact G_iret hF4 rfl dX1_told_95 H
    · have H := H.2.2.2.2.1 c6
      refine V_tableIn (tgt := 96) dX1_told_19 (by rw [c6]; decide) (by rw [c6]; decide) (by rw [c6]; rfl) (by decide) ?_
      refine V_aload_n dX1_told_96 rfl 0 rfl ?_
      refine H_getr ck0 4 (by decide) (fs_0 hF4) (by decide) rfl (fr_0_4 hF4) q376 dX1_told_97 ?_
      refine H_getiN ck6 9 (by decide) (fs_101 hF4) (by decide) rfl q297 dX1_told_100 ?_
      exact G_iret hF4 rfl dX1_told_103 H
    · have H := H.2.2.2.2.2.1 c6
      refine V_tableIn (tgt := 104) dX1_told_19 (by rw [c6]; decide) (by rw [c6]; decide) (by rw [c6]; rfl) (by decide) ?_
      refine V_aload_n dX1_told_104 rfl 0 rfl ?_
      refine H_getr ck0 4 (by decide) (fs_0 hF4) (by decide) rfl (fr_0_4 hF4) q376 dX1_told_105 ?_
      refine H_getiN ck6 15 (by decide) (fs_101 hF4) (by decide) rfl q307 dX1_told_108 ?_
      exact G_iret hF4 rfl dX1_told_111 H
    · have H := H.2.2.2.2.2.2 c6
      refine V_tableIn (tgt := 112) dX1_told_19 (by rw [c6]; decide) (by rw [c6]; decide) (by rw [c6]; rfl) (by decide) ?_
      refine V_iconst (v := 0) dX1_told_112 (by decide) ?_
      refine V_istore_n (l1 := [(2, .int 0), (0, .ref (ad D 0)), (1, .int x1)]) dX1_told_113 rfl (by decide) rfl ?_
      refine V_aload_n dX1_told_114 rfl 1 rfl ?_
      refine H_getr ck0 4 (by decide) (fs_0 hF4) (by decide) rfl (fr_0_4 hF4) q376 dX1_told_115 ?_
      refine H_getiN ck6 10 (by decide) (fs_101 hF4) (by decide) rfl q299 dX1_told_118 ?_
      refine V_topi (fun y7 e8 => ?_)
      have H := H y7 e8
      refine V_istore_n (l1 := [(3, .int y7), (2, .int 0), (0, .ref (ad D 0)), (1, .int x1)]) dX1_told_121 rfl (by decide) rfl ?_
      refine V.sub [2, 1, 0] rfl ?_
      exact H
abbrev JX1_told_14 (D : DE) (f : Nat) (Q : Int32 → Frm → HI → HL → Prop) (T : Nat → Frm → HI → HL → Prop) (F : Frm) (h : HI) (g : HL) (x1 : Int32) : Prop := JX1_told_15 D f Q T F h g x1 0
theorem bX1_told_14 {D : DE} {f : Nat} {Q : Int32 → Frm → HI → HL → Prop} {T : Nat → Frm → HI → HL → Prop} {F : Frm} {h : HI} {g : HL} (hF : k_Fix F) (x1 : Int32) (H : JX1_told_14 D f Q T F h g x1) : V D mX1_told (f + 1) (gi Q T) 14 [(0, .ref (ad D 0)), (1, .int x1)] [] (F, h, g) := by
  refine V_iconst (v := 0) dX1_told_14 (by decide) ?_
  exact bX1_told_15 hF x1 0 H
abbrev JX1_told_0 (D : DE) (f : Nat) (Q : Int32 → Frm → HI → HL → Prop) (T : Nat → Frm → HI → HL → Prop) (F : Frm) (h : HI) (g : HL) (x1 : Int32) : Prop := ((x1 < 0 → JX1_told_14 D f Q T F h g x1) ∧ (¬ x1 < 0 → ((6 < x1 → JX1_told_14 D f Q T F h g x1) ∧ (¬ 6 < x1 → JX1_told_15 D f Q T F h g x1 1))))
theorem bX1_told_0 {D : DE} {f : Nat} {Q : Int32 → Frm → HI → HL → Prop} {T : Nat → Frm → HI → HL → Prop} {F : Frm} {h : HI} {g : HL} (hF : k_Fix F) (x1 : Int32) (H : JX1_told_0 D f Q T F h g x1) : V D mX1_told (f + 1) (gi Q T) 0 [(0, .ref (ad D 0)), (1, .int x1)] [] (F, h, g) := by
  refine V_iload_n dX1_told_0 rfl 1 rfl ?_
  refine V_if_lt (tgt := 14) dX1_told_1 (by decide) (fun c1 => ?_) (fun c1 => ?_)
  · have H := H.1 c1
    exact bX1_told_14 hF x1 H
  · have H := H.2 c1
    refine V_iload_n dX1_told_4 rfl 1 rfl ?_
    refine V_bipush (v := 6) dX1_told_5 (by decide) ?_
    refine V_icmp_gt (tgt := 14) dX1_told_7 (by decide) (fun c2 => ?_) (fun c2 => ?_)
    · have H := H.1 c2
      exact bX1_told_14 hF x1 H
    · have H := H.2 c2
      refine V_iconst (v := 1) dX1_told_10 (by decide) ?_
      refine V_goto (tgt := 15) dX1_told_11 (by decide) ?_
      exact bX1_told_15 hF x1 1 H
theorem wX1_told {D : DE} {f : Nat} {Q : Int32 → Frm → HI → HL → Prop} {T : Nat → Frm → HI → HL → Prop} {F : Frm} {h : HI} {g : HL} (hF : k_Fix F) (x1 : Int32) (H : JX1_told_0 D f Q T F h g x1) : Gi D (f + 1) mX1_told [.ref (ad D 0), .int x1] F h g Q T := Cl.ofV (by decide) (Nat.le_of_ble_eq_true rfl) rfl (bX1_told_0 hF x1 H)
theorem dX1_result_0 : decode cX1_result 0 = .ok (.iload_n 1, 1) := by decide +kernel
theorem dX1_result_1 : decode cX1_result 1 = .ok (.ifCond .lt 24, 3) := by decide +kernel
theorem dX1_result_4 : decode cX1_result 4 = .ok (.iload_n 1, 1) := by decide +kernel
theorem dX1_result_5 : decode cX1_result 5 = .ok (.bipush 6, 2) := by decide +kernel
theorem dX1_result_7 : decode cX1_result 7 = .ok (.if_icmp .gt 18, 3) := by decide +kernel
theorem dX1_result_10 : decode cX1_result 10 = .ok (.aload_n 0, 1) := by decide +kernel
theorem dX1_result_11 : decode cX1_result 11 = .ok (.getfield 87, 3) := by decide +kernel
theorem dX1_result_14 : decode cX1_result 14 = .ok (.getfield 256, 3) := by decide +kernel
theorem dX1_result_17 : decode cX1_result 17 = .ok (.iconst 1, 1) := by decide +kernel
theorem dX1_result_18 : decode cX1_result 18 = .ok (.if_icmp .ne 7, 3) := by decide +kernel
theorem dX1_result_21 : decode cX1_result 21 = .ok (.iconst 1, 1) := by decide +kernel
theorem dX1_result_22 : decode cX1_result 22 = .ok (.goto 4, 3) := by decide +kernel
theorem dX1_result_25 : decode cX1_result 25 = .ok (.iconst 0, 1) := by decide +kernel
theorem dX1_result_26 : decode cX1_result 26 = .ok (.invokestatic 170, 3) := by decide +kernel
theorem dX1_result_29 : decode cX1_result 29 = .ok (.iload_n 1, 1) := by decide +kernel
theorem dX1_result_30 : decode cX1_result 30 = .ok (.ifCond .ne 29, 3) := by decide +kernel
theorem dX1_result_33 : decode cX1_result 33 = .ok (.aload_n 0, 1) := by decide +kernel
theorem dX1_result_34 : decode cX1_result 34 = .ok (.getfield 87, 3) := by decide +kernel
theorem dX1_result_37 : decode cX1_result 37 = .ok (.getfield 259, 3) := by decide +kernel
theorem dX1_result_40 : decode cX1_result 40 = .ok (.ifCond .ne 7, 3) := by decide +kernel
theorem dX1_result_43 : decode cX1_result 43 = .ok (.iconst 1, 1) := by decide +kernel
theorem dX1_result_44 : decode cX1_result 44 = .ok (.goto 4, 3) := by decide +kernel
theorem dX1_result_47 : decode cX1_result 47 = .ok (.iconst 0, 1) := by decide +kernel
theorem dX1_result_48 : decode cX1_result 48 = .ok (.invokestatic 170, 3) := by decide +kernel
theorem dX1_result_51 : decode cX1_result 51 = .ok (.aload_n 0, 1) := by decide +kernel
theorem dX1_result_52 : decode cX1_result 52 = .ok (.getfield 87, 3) := by decide +kernel
theorem dX1_result_55 : decode cX1_result 55 = .ok (.getfield 260, 3) := by decide +kernel
theorem dX1_result_58 : decode cX1_result 58 = .ok (.ireturn, 1) := by decide +kernel
theorem dX1_result_59 : decode cX1_result 59 = .ok (.aload_n 0, 1) := by decide +kernel
theorem dX1_result_60 : decode cX1_result 60 = .ok (.getfield 87, 3) := by decide +kernel
theorem dX1_result_63 : decode cX1_result 63 = .ok (.iload_n 1, 1) := by decide +kernel
theorem dX1_result_64 : decode cX1_result 64 = .ok (.invokevirtual 263, 3) := by decide +kernel
theorem dX1_result_67 : decode cX1_result 67 = .ok (.istore_n 2, 1) := by decide +kernel
theorem dX1_result_68 : decode cX1_result 68 = .ok (.iload_n 2, 1) := by decide +kernel
theorem dX1_result_69 : decode cX1_result 69 = .ok (.ifCond .lt 7, 3) := by decide +kernel
theorem dX1_result_72 : decode cX1_result 72 = .ok (.iconst 1, 1) := by decide +kernel
theorem dX1_result_73 : decode cX1_result 73 = .ok (.goto 4, 3) := by decide +kernel
theorem dX1_result_76 : decode cX1_result 76 = .ok (.iconst 0, 1) := by decide +kernel
theorem dX1_result_77 : decode cX1_result 77 = .ok (.invokestatic 170, 3) := by decide +kernel
theorem dX1_result_80 : decode cX1_result 80 = .ok (.aload_n 0, 1) := by decide +kernel
theorem dX1_result_81 : decode cX1_result 81 = .ok (.getfield 87, 3) := by decide +kernel
theorem dX1_result_84 : decode cX1_result 84 = .ok (.getfield 266, 3) := by decide +kernel
theorem dX1_result_87 : decode cX1_result 87 = .ok (.iload_n 2, 1) := by decide +kernel
theorem dX1_result_88 : decode cX1_result 88 = .ok (.iaload, 1) := by decide +kernel
theorem dX1_result_89 : decode cX1_result 89 = .ok (.ireturn, 1) := by decide +kernel
abbrev JX1_result_77 (D : DE) (f : Nat) (Q : Int32 → Frm → HI → HL → Prop) (T : Nat → Frm → HI → HL → Prop) (F : Frm) (h : HI) (g : HL) (x2 : Int32) (s0 : Int32) : Prop := Gv D f mX1_lies [.int s0] F h g (fun F3 h1 g2 => vp_in x2 1540 ∧ Q (h1 105 (ix x2)) F3 h1 g2) T
theorem bX1_result_77 {D : DE} {f : Nat} {Q : Int32 → Frm → HI → HL → Prop} {T : Nat → Frm → HI → HL → Prop} {F : Frm} {h : HI} {g : HL} (hF : k_Fix F) (x2 : Int32) (s0 : Int32) (H : JX1_result_77 D f Q T F h g x2 s0) : V D mX1_result (f + 1) (gi Q T) 77 [(0, .ref (ad D 0)), (2, .int x2)] [.int s0] (F, h, g) := by
  refine G_callv (av := [.int s0]) (rest := []) H mqX1_lies q81 (by decide) (Nat.le_of_ble_eq_true rfl) (k_resS (av := [.int s0]) (rest := []) (M1 := mX1_lies) rfl q1143 q1144 q81 mqX1_lies (fun _ _ h => mW_named h) mhX1_lies mnX1_lies dX1_result_77) (fun F3 h1 g2 hF4 H => ?_) (fun a e F1 h1 g1 hF1 ha ht => GT_i hF1 rfl ha ht)
  refine V_aload_n dX1_result_80 rfl 0 rfl ?_
  refine H_getr ck0 4 (by decide) (fs_0 hF4) (by decide) rfl (fr_0_4 hF4) q376 dX1_result_81 ?_
  refine H_getrN ck6 3 (by decide) (fs_101 hF4) (by decide) rfl (fr_101_3 hF4) q279 dX1_result_84 ?_
  refine V_iload_n dX1_result_87 rfl 1 rfl ?_
  obtain ⟨i6, H⟩ := H
  refine H_iald (fs_105 hF4) i6 dX1_result_88 ?_
  exact G_iret hF4 rfl dX1_result_89 H
abbrev JX1_result_48 (D : DE) (f : Nat) (Q : Int32 → Frm → HI → HL → Prop) (T : Nat → Frm → HI → HL → Prop) (F : Frm) (h : HI) (g : HL) (s0 : Int32) : Prop := Gv D f mX1_lies [.int s0] F h g (fun F3 h1 g2 => Q (h1 101 17) F3 h1 g2) T
theorem bX1_result_48 {D : DE} {f : Nat} {Q : Int32 → Frm → HI → HL → Prop} {T : Nat → Frm → HI → HL → Prop} {F : Frm} {h : HI} {g : HL} (hF : k_Fix F) (s0 : Int32) (H : JX1_result_48 D f Q T F h g s0) : V D mX1_result (f + 1) (gi Q T) 48 [(0, .ref (ad D 0))] [.int s0] (F, h, g) := by
  refine G_callv (av := [.int s0]) (rest := []) H mqX1_lies q81 (by decide) (Nat.le_of_ble_eq_true rfl) (k_resS (av := [.int s0]) (rest := []) (M1 := mX1_lies) rfl q1143 q1144 q81 mqX1_lies (fun _ _ h => mW_named h) mhX1_lies mnX1_lies dX1_result_48) (fun F3 h1 g2 hF4 H => ?_) (fun a e F1 h1 g1 hF1 ha ht => GT_i hF1 rfl ha ht)
  refine V_aload_n dX1_result_51 rfl 0 rfl ?_
  refine H_getr ck0 4 (by decide) (fs_0 hF4) (by decide) rfl (fr_0_4 hF4) q376 dX1_result_52 ?_
  refine H_getiN ck6 17 (by decide) (fs_101 hF4) (by decide) rfl q314 dX1_result_55 ?_
  exact G_iret hF4 rfl dX1_result_58 H
abbrev JX1_result_26 (D : DE) (f : Nat) (Q : Int32 → Frm → HI → HL → Prop) (T : Nat → Frm → HI → HL → Prop) (F : Frm) (h : HI) (g : HL) (x1 : Int32) (s0 : Int32) : Prop := Gv D f mX1_lies [.int s0] F h g (fun F3 h1 g2 => ((¬ x1 = 0 → Si D f mX7_thingAt [.ref (ad D 101), .int x1] F3 h1 g2 (fun y7 h8 g9 => ((y7 < 0 → JX1_result_77 D f Q T F3 h8 g9 y7 0) ∧ (¬ y7 < 0 → JX1_result_77 D f Q T F3 h8 g9 y7 1)))) ∧ (x1 = 0 → ((¬ (h1 101 18) = 0 → JX1_result_48 D f Q T F3 h1 g2 0) ∧ ((h1 101 18) = 0 → JX1_result_48 D f Q T F3 h1 g2 1))))) T
theorem bX1_result_26 {D : DE} {f : Nat} {Q : Int32 → Frm → HI → HL → Prop} {T : Nat → Frm → HI → HL → Prop} {F : Frm} {h : HI} {g : HL} (hF : k_Fix F) (x1 : Int32) (s0 : Int32) (H : JX1_result_26 D f Q T F h g x1 s0) : V D mX1_result (f + 1) (gi Q T) 26 [(0, .ref (ad D 0)), (1, .int x1)] [.int s0] (F, h, g) := by
  refine G_callv (av := [.int s0]) (rest := []) H mqX1_lies q81 (by decide) (Nat.le_of_ble_eq_true rfl) (k_resS (av := [.int s0]) (rest := []) (M1 := mX1_lies) rfl q1143 q1144 q81 mqX1_lies (fun _ _ h => mW_named h) mhX1_lies mnX1_lies dX1_result_26) (fun F3 h1 g2 hF4 H => ?_) (fun a e F1 h1 g1 hF1 ha ht => GT_i hF1 rfl ha ht)
  refine V_iload_n dX1_result_29 rfl 1 rfl ?_
  refine V_if_ne (tgt := 59) dX1_result_30 (by decide) (fun c6 => ?_) (fun c6 => ?_)
  · have H := H.1 c6
    refine V_aload_n dX1_result_59 rfl 0 rfl ?_
    refine H_getr ck0 4 (by decide) (fs_0 hF4) (by decide) rfl (fr_0_4 hF4) q376 dX1_result_60 ?_
    refine V_iload_n dX1_result_63 rfl 1 rfl ?_
    refine H_calli (av := [.ref (ad D 101), .int x1]) (rest := []) H mqX7_thingAt q87 (by decide) (Nat.le_of_ble_eq_true rfl) (k_resV (ci := 6) (av := [.int x1]) (rest := []) (fs_101 hF4) (by decide) rfl rfl q1441 q1442 q1443 q1444 mhX7_thingAt mnX7_thingAt dX1_result_64) (fun y7 h8 g9 H => ?_)
    refine V_istore_n (l1 := [(2, .int y7), (0, .ref (ad D 0)), (1, .int x1)]) dX1_result_67 rfl (by decide) rfl ?_
    refine V_iload_n dX1_result_68 rfl 0 rfl ?_
    refine V_if_lt (tgt := 76) dX1_result_69 (by decide) (fun c10 => ?_) (fun c10 => ?_)
    · have H := H.1 c10
      refine V_iconst (v := 0) dX1_result_76 (by decide) ?_
      refine V.sub [1, 0] rfl ?_
      exact bX1_result_77 hF4 y7 0 H
    · have H := H.2 c10
      refine V_iconst (v := 1) dX1_result_72 (by decide) ?_
      refine V_goto (tgt := 77) dX1_result_73 (by decide) ?_
      refine V.sub [1, 0] rfl ?_
      exact bX1_result_77 hF4 y7 1 H
  · have H := H.2 c6
    refine V_aload_n dX1_result_33 rfl 0 rfl ?_
    refine H_getr ck0 4 (by decide) (fs_0 hF4) (by decide) rfl (fr_0_4 hF4) q376 dX1_result_34 ?_
    refine H_getiN ck6 18 (by decide) (fs_101 hF4) (by decide) rfl q316 dX1_result_37 ?_
    refine V_if_ne (tgt := 47) dX1_result_40 (by decide) (fun c11 => ?_) (fun c11 => ?_)
    · have H := H.1 c11
      refine V_iconst (v := 0) dX1_result_47 (by decide) ?_
      refine V.sub [0] rfl ?_
      exact bX1_result_48 hF4 0 H
    · have H := H.2 c11
      refine V_iconst (v := 1) dX1_result_43 (by decide) ?_
      refine V_goto (tgt := 48) dX1_result_44 (by decide) ?_
      refine V.sub [0] rfl ?_
      exact bX1_result_48 hF4 1 H
abbrev JX1_result_25 (D : DE) (f : Nat) (Q : Int32 → Frm → HI → HL → Prop) (T : Nat → Frm → HI → HL → Prop) (F : Frm) (h : HI) (g : HL) (x1 : Int32) : Prop := JX1_result_26 D f Q T F h g x1 0
theorem bX1_result_25 {D : DE} {f : Nat} {Q : Int32 → Frm → HI → HL → Prop} {T : Nat → Frm → HI → HL → Prop} {F : Frm} {h : HI} {g : HL} (hF : k_Fix F) (x1 : Int32) (H : JX1_result_25 D f Q T F h g x1) : V D mX1_result (f + 1) (gi Q T) 25 [(0, .ref (ad D 0)), (1, .int x1)] [] (F, h, g) := by
  refine V_iconst (v := 0) dX1_result_25 (by decide) ?_
  exact bX1_result_26 hF x1 0 H
abbrev JX1_result_0 (D : DE) (f : Nat) (Q : Int32 → Frm → HI → HL → Prop) (T : Nat → Frm → HI → HL → Prop) (F : Frm) (h : HI) (g : HL) (x1 : Int32) : Prop := ((x1 < 0 → JX1_result_25 D f Q T F h g x1) ∧ (¬ x1 < 0 → ((6 < x1 → JX1_result_25 D f Q T F h g x1) ∧ (¬ 6 < x1 → ((¬ (h 101 16) = 1 → JX1_result_25 D f Q T F h g x1) ∧ ((h 101 16) = 1 → JX1_result_26 D f Q T F h g x1 1))))))
theorem bX1_result_0 {D : DE} {f : Nat} {Q : Int32 → Frm → HI → HL → Prop} {T : Nat → Frm → HI → HL → Prop} {F : Frm} {h : HI} {g : HL} (hF : k_Fix F) (x1 : Int32) (H : JX1_result_0 D f Q T F h g x1) : V D mX1_result (f + 1) (gi Q T) 0 [(0, .ref (ad D 0)), (1, .int x1)] [] (F, h, g) := by
  refine V_iload_n dX1_result_0 rfl 1 rfl ?_
  refine V_if_lt (tgt := 25) dX1_result_1 (by decide) (fun c1 => ?_) (fun c1 => ?_)
  · have H := H.1 c1
    exact bX1_result_25 hF x1 H
  · have H := H.2 c1
    refine V_iload_n dX1_result_4 rfl 1 rfl ?_
    refine V_bipush (v := 6) dX1_result_5 (by decide) ?_
    refine V_icmp_gt (tgt := 25) dX1_result_7 (by decide) (fun c2 => ?_) (fun c2 => ?_)
    · have H := H.1 c2
      exact bX1_result_25 hF x1 H
    · have H := H.2 c2
      refine V_aload_n dX1_result_10 rfl 0 rfl ?_
      refine H_getr ck0 4 (by decide) (fs_0 hF) (by decide) rfl (fr_0_4 hF) q376 dX1_result_11 ?_
      refine H_getiN ck6 16 (by decide) (fs_101 hF) (by decide) rfl q312 dX1_result_14 ?_
      refine V_iconst (v := 1) dX1_result_17 (by decide) ?_
      refine V_icmp_ne (tgt := 25) dX1_result_18 (by decide) (fun c3 => ?_) (fun c3 => ?_)
      · have H := H.1 c3
        exact bX1_result_25 hF x1 H
      · have H := H.2 c3
        refine V_iconst (v := 1) dX1_result_21 (by decide) ?_
        refine V_goto (tgt := 26) dX1_result_22 (by decide) ?_
        exact bX1_result_26 hF x1 1 H
theorem wX1_result {D : DE} {f : Nat} {Q : Int32 → Frm → HI → HL → Prop} {T : Nat → Frm → HI → HL → Prop} {F : Frm} {h : HI} {g : HL} (hF : k_Fix F) (x1 : Int32) (H : JX1_result_0 D f Q T F h g x1) : Gi D (f + 1) mX1_result [.ref (ad D 0), .int x1] F h g Q T := Cl.ofV (by decide) (Nat.le_of_ble_eq_true rfl) rfl (bX1_result_0 hF x1 H)
theorem dX1_needed_0 : decode cX1_needed 0 = .ok (.iload_n 1, 1) := by decide +kernel
theorem dX1_needed_1 : decode cX1_needed 1 = .ok (.ifCond .lt 18, 3) := by decide +kernel
theorem dX1_needed_4 : decode cX1_needed 4 = .ok (.iload_n 1, 1) := by decide +kernel
theorem dX1_needed_5 : decode cX1_needed 5 = .ok (.aload_n 0, 1) := by decide +kernel
theorem dX1_needed_6 : decode cX1_needed 6 = .ok (.getfield 87, 3) := by decide +kernel
theorem dX1_needed_9 : decode cX1_needed 9 = .ok (.getfield 269, 3) := by decide +kernel
theorem dX1_needed_12 : decode cX1_needed 12 = .ok (.if_icmp .ge 7, 3) := by decide +kernel
theorem dX1_needed_15 : decode cX1_needed 15 = .ok (.iconst 1, 1) := by decide +kernel
theorem dX1_needed_16 : decode cX1_needed 16 = .ok (.goto 4, 3) := by decide +kernel
theorem dX1_needed_19 : decode cX1_needed 19 = .ok (.iconst 0, 1) := by decide +kernel
theorem dX1_needed_20 : decode cX1_needed 20 = .ok (.invokestatic 170, 3) := by decide +kernel
theorem dX1_needed_23 : decode cX1_needed 23 = .ok (.aload_n 0, 1) := by decide +kernel
theorem dX1_needed_24 : decode cX1_needed 24 = .ok (.getfield 87, 3) := by decide +kernel
theorem dX1_needed_27 : decode cX1_needed 27 = .ok (.getfield 270, 3) := by decide +kernel
theorem dX1_needed_30 : decode cX1_needed 30 = .ok (.aload_n 0, 1) := by decide +kernel
theorem dX1_needed_31 : decode cX1_needed 31 = .ok (.getfield 87, 3) := by decide +kernel
theorem dX1_needed_34 : decode cX1_needed 34 = .ok (.getfield 273, 3) := by decide +kernel
theorem dX1_needed_37 : decode cX1_needed 37 = .ok (.iload_n 1, 1) := by decide +kernel
theorem dX1_needed_38 : decode cX1_needed 38 = .ok (.iaload, 1) := by decide +kernel
theorem dX1_needed_39 : decode cX1_needed 39 = .ok (.baload, 1) := by decide +kernel
theorem dX1_needed_40 : decode cX1_needed 40 = .ok (.ireturn, 1) := by decide +kernel
abbrev JX1_needed_20 (D : DE) (f : Nat) (Q : Int32 → Frm → HI → HL → Prop) (T : Nat → Frm → HI → HL → Prop) (F : Frm) (h : HI) (g : HL) (x1 : Int32) (s0 : Int32) : Prop := Gv D f mX1_lies [.int s0] F h g (fun F3 h1 g2 => vp_in x1 24016 ∧ vp_in (h1 108 (ix x1)) 40 ∧ (isB (h1 109 (ix (h1 108 (ix x1)))) ∧ Q (h1 109 (ix (h1 108 (ix x1)))) F3 h1 g2)) T
theorem bX1_needed_20 {D : DE} {f : Nat} {Q : Int32 → Frm → HI → HL → Prop} {T : Nat → Frm → HI → HL → Prop} {F : Frm} {h : HI} {g : HL} (hF : k_Fix F) (x1 : Int32) (s0 : Int32) (H : JX1_needed_20 D f Q T F h g x1 s0) : V D mX1_needed (f + 1) (gi Q T) 20 [(0, .ref (ad D 0)), (1, .int x1)] [.int s0] (F, h, g) := by
  refine G_callv (av := [.int s0]) (rest := []) H mqX1_lies q81 (by decide) (Nat.le_of_ble_eq_true rfl) (k_resS (av := [.int s0]) (rest := []) (M1 := mX1_lies) rfl q1143 q1144 q81 mqX1_lies (fun _ _ h => mW_named h) mhX1_lies mnX1_lies dX1_needed_20) (fun F3 h1 g2 hF4 H => ?_) (fun a e F1 h1 g1 hF1 ha ht => GT_i hF1 rfl ha ht)
  refine V_aload_n dX1_needed_23 rfl 0 rfl ?_
  refine H_getr ck0 4 (by decide) (fs_0 hF4) (by decide) rfl (fr_0_4 hF4) q376 dX1_needed_24 ?_
  refine H_getrN ck6 20 (by decide) (fs_101 hF4) (by decide) rfl (fr_101_20 hF4) q320 dX1_needed_27 ?_
  refine V_aload_n dX1_needed_30 rfl 0 rfl ?_
  refine H_getr ck0 4 (by decide) (fs_0 hF4) (by decide) rfl (fr_0_4 hF4) q376 dX1_needed_31 ?_
  refine H_getrN ck6 8 (by decide) (fs_101 hF4) (by decide) rfl (fr_101_8 hF4) q295 dX1_needed_34 ?_
  refine V_iload_n dX1_needed_37 rfl 1 rfl ?_
  obtain ⟨i6, H⟩ := H
  refine H_iald (fs_108 hF4) i6 dX1_needed_38 ?_
  obtain ⟨i7, H⟩ := H
  refine H_zald (fs_109 hF4) i7 dX1_needed_39 ?_
  exact G_zret hF4 rfl H.1 dX1_needed_40 H.2
abbrev JX1_needed_19 (D : DE) (f : Nat) (Q : Int32 → Frm → HI → HL → Prop) (T : Nat → Frm → HI → HL → Prop) (F : Frm) (h : HI) (g : HL) (x1 : Int32) : Prop := JX1_needed_20 D f Q T F h g x1 0
theorem bX1_needed_19 {D : DE} {f : Nat} {Q : Int32 → Frm → HI → HL → Prop} {T : Nat → Frm → HI → HL → Prop} {F : Frm} {h : HI} {g : HL} (hF : k_Fix F) (x1 : Int32) (H : JX1_needed_19 D f Q T F h g x1) : V D mX1_needed (f + 1) (gi Q T) 19 [(0, .ref (ad D 0)), (1, .int x1)] [] (F, h, g) := by
  refine V_iconst (v := 0) dX1_needed_19 (by decide) ?_
  exact bX1_needed_20 hF x1 0 H
abbrev JX1_needed_0 (D : DE) (f : Nat) (Q : Int32 → Frm → HI → HL → Prop) (T : Nat → Frm → HI → HL → Prop) (F : Frm) (h : HI) (g : HL) (x1 : Int32) : Prop := ((x1 < 0 → JX1_needed_19 D f Q T F h g x1) ∧ (¬ x1 < 0 → (((h 101 19) ≤ x1 → JX1_needed_19 D f Q T F h g x1) ∧ (¬ (h 101 19) ≤ x1 → JX1_needed_20 D f Q T F h g x1 1))))
theorem bX1_needed_0 {D : DE} {f : Nat} {Q : Int32 → Frm → HI → HL → Prop} {T : Nat → Frm → HI → HL → Prop} {F : Frm} {h : HI} {g : HL} (hF : k_Fix F) (x1 : Int32) (H : JX1_needed_0 D f Q T F h g x1) : V D mX1_needed (f + 1) (gi Q T) 0 [(0, .ref (ad D 0)), (1, .int x1)] [] (F, h, g) := by
  refine V_iload_n dX1_needed_0 rfl 1 rfl ?_
  refine V_if_lt (tgt := 19) dX1_needed_1 (by decide) (fun c1 => ?_) (fun c1 => ?_)
  · have H := H.1 c1
    exact bX1_needed_19 hF x1 H
  · have H := H.2 c1
    refine V_iload_n dX1_needed_4 rfl 1 rfl ?_
    refine V_aload_n dX1_needed_5 rfl 0 rfl ?_
    refine H_getr ck0 4 (by decide) (fs_0 hF) (by decide) rfl (fr_0_4 hF) q376 dX1_needed_6 ?_
    refine H_getiN ck6 19 (by decide) (fs_101 hF) (by decide) rfl q318 dX1_needed_9 ?_
    refine V_icmp_ge (tgt := 19) dX1_needed_12 (by decide) (fun c2 => ?_) (fun c2 => ?_)
    · have H := H.1 c2
      exact bX1_needed_19 hF x1 H
    · have H := H.2 c2
      refine V_iconst (v := 1) dX1_needed_15 (by decide) ?_
      refine V_goto (tgt := 20) dX1_needed_16 (by decide) ?_
      exact bX1_needed_20 hF x1 1 H
theorem wX1_needed {D : DE} {f : Nat} {Q : Int32 → Frm → HI → HL → Prop} {T : Nat → Frm → HI → HL → Prop} {F : Frm} {h : HI} {g : HL} (hF : k_Fix F) (x1 : Int32) (H : JX1_needed_0 D f Q T F h g x1) : Gi D (f + 1) mX1_needed [.ref (ad D 0), .int x1] F h g Q T := Cl.ofV (by decide) (Nat.le_of_ble_eq_true rfl) rfl (bX1_needed_0 hF x1 H)
