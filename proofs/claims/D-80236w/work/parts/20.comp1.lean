/-! walks of the component, printed by gen/mkcomp.py -/
set_option maxRecDepth 100000
theorem tsw_0_5 {x : Int32} (h : ¬ (x.toInt < 0 ∨ 5 < x.toInt)) : x = 0 ∨ x = 1 ∨ x = 2 ∨ x = 3 ∨ x = 4 ∨ x = 5 := by
  have h1 : ∀ v : Int32, x.toInt = v.toInt → x = v := fun v e => Int32.toInt_inj.mp e
  have h2 : x.toInt = 0 ∨ x.toInt = 1 ∨ x.toInt = 2 ∨ x.toInt = 3 ∨ x.toInt = 4 ∨ x.toInt = 5 := by omega
  rcases h2 with h2 | h2 | h2 | h2 | h2 | h2
  · exact Or.inl (h1 0 h2)
  · exact Or.inr (Or.inl (h1 1 h2))
  · exact Or.inr (Or.inr (Or.inl (h1 2 h2)))
  · exact Or.inr (Or.inr (Or.inr (Or.inl (h1 3 h2))))
  · exact Or.inr (Or.inr (Or.inr (Or.inr (Or.inl (h1 4 h2)))))
  · exact Or.inr (Or.inr (Or.inr (Or.inr (Or.inr (h1 5 h2)))))
theorem tsw_6_9 {x : Int32} (h : ¬ (x.toInt < 6 ∨ 9 < x.toInt)) : x = 6 ∨ x = 7 ∨ x = 8 ∨ x = 9 := by
  have h1 : ∀ v : Int32, x.toInt = v.toInt → x = v := fun v e => Int32.toInt_inj.mp e
  have h2 : x.toInt = 6 ∨ x.toInt = 7 ∨ x.toInt = 8 ∨ x.toInt = 9 := by omega
  rcases h2 with h2 | h2 | h2 | h2
  · exact Or.inl (h1 6 h2)
  · exact Or.inr (Or.inl (h1 7 h2))
  · exact Or.inr (Or.inr (Or.inl (h1 8 h2)))
  · exact Or.inr (Or.inr (Or.inr (h1 9 h2)))
theorem dX10_init_0 : decode cX10_init 0 = .ok (.aload_n 0, 1) := by decide +kernel
theorem dX10_init_1 : decode cX10_init 1 = .ok (.invokespecial 3, 3) := by decide +kernel
theorem dX10_init_4 : decode cX10_init 4 = .ok (.aload_n 0, 1) := by decide +kernel
theorem dX10_init_5 : decode cX10_init 5 = .ok (.iload_n 1, 1) := by decide +kernel
theorem dX10_init_6 : decode cX10_init 6 = .ok (.putfield 9, 3) := by decide +kernel
theorem dX10_init_9 : decode cX10_init 9 = .ok (.return_, 1) := by decide +kernel
abbrev JX10_init_0 (D : DE) (f : Nat) (Q : HI → HL → Prop) (F : Frm) (h : HI) (g : HL) (x0 : Nat) (x1 : Int32) : Prop := ∃ k1 : Nat, isE F x0 k1 ∧ ∀ h3, h3 = up2 h x0 0 x1 → Q h3 g
theorem bX10_init_0 {D : DE} {f : Nat} {Q : HI → HL → Prop} {F : Frm} {h : HI} {g : HL} (hF : k_Fix F) (x0 : Nat) (x1 : Int32) (H : JX10_init_0 D f Q F h g x0 x1) : V D mX10_init (f + 1) (qv F Q) 0 [(0, .ref (ad D x0)), (1, .int x1)] [] (F, h, g) := by
  refine V_aload_n dX10_init_0 rfl 0 rfl ?_
  refine V_objInit (by omega) (Nat.le_of_ble_eq_true rfl) q783 q120 q121 dX10_init_1 ?_
  refine V_aload_n dX10_init_4 rfl 0 rfl ?_
  refine V_iload_n dX10_init_5 rfl 1 rfl ?_
  obtain ⟨k1, z2, H⟩ := H
  refine X_put_tokenF z2 rfl rfl q788 dX10_init_6 (fun h3 e4 => ?_)
  have H := H h3 e4
  exact H_vret rfl dX10_init_9 H
theorem wX10_init {D : DE} {f : Nat} {Q : HI → HL → Prop} {F : Frm} {h : HI} {g : HL} (hF : k_Fix F) (x0 : Nat) (x1 : Int32) (H : JX10_init_0 D f Q F h g x0 x1) : Sv D (f + 1) mX10_init [.ref (ad D x0), .int x1] F h g Q := Cl.ofV (by decide) (Nat.le_of_ble_eq_true rfl) rfl (bX10_init_0 hF x0 x1 H)
theorem dX10_alone_0 : decode cX10_alone 0 = .ok (.iconst (-1), 1) := by decide +kernel
theorem dX10_alone_1 : decode cX10_alone 1 = .ok (.ireturn, 1) := by decide +kernel
abbrev JX10_alone_0 (D : DE) (f : Nat) (Q : Int32 → HI → HL → Prop) (F : Frm) (h : HI) (g : HL) (x0 : Nat) : Prop := Q (-1) h g
theorem bX10_alone_0 {D : DE} {f : Nat} {Q : Int32 → HI → HL → Prop} {F : Frm} {h : HI} {g : HL} (hF : k_Fix F) (x0 : Nat) (H : JX10_alone_0 D f Q F h g x0) : V D mX10_alone f (qi F Q) 0 [(0, .ref (ad D x0))] [] (F, h, g) := by
  refine V_iconst (v := (-1)) dX10_alone_0 (by decide) ?_
  exact H_iret rfl dX10_alone_1 H
theorem wX10_alone {D : DE} {f : Nat} {Q : Int32 → HI → HL → Prop} {F : Frm} {h : HI} {g : HL} (hF : k_Fix F) (x0 : Nat) (H : JX10_alone_0 D f Q F h g x0) : Si D f mX10_alone [.ref (ad D x0)] F h g Q := Cl.ofV (by decide) (Nat.le_of_ble_eq_true rfl) rfl (bX10_alone_0 hF x0 H)
theorem dX2_want_0 : decode cX2_want 0 = .ok (.iload_n 1, 1) := by decide +kernel
theorem dX2_want_1 : decode cX2_want 1 = .ok (.ifCond .ne 23, 3) := by decide +kernel
theorem dX2_want_4 : decode cX2_want 4 = .ok (.aload_n 0, 1) := by decide +kernel
theorem dX2_want_5 : decode cX2_want 5 = .ok (.iload_n 2, 1) := by decide +kernel
theorem dX2_want_6 : decode cX2_want 6 = .ok (.putfield 22, 3) := by decide +kernel
theorem dX2_want_9 : decode cX2_want 9 = .ok (.aload_n 0, 1) := by decide +kernel
theorem dX2_want_10 : decode cX2_want 10 = .ok (.iload_n 3, 1) := by decide +kernel
theorem dX2_want_11 : decode cX2_want 11 = .ok (.putfield 26, 3) := by decide +kernel
theorem dX2_want_14 : decode cX2_want 14 = .ok (.new 29, 3) := by decide +kernel
theorem dX2_want_17 : decode cX2_want 17 = .ok (.dup, 1) := by decide +kernel
theorem dX2_want_18 : decode cX2_want 18 = .ok (.ldc 31, 2) := by decide +kernel
theorem dX2_want_20 : decode cX2_want 20 = .ok (.invokespecial 33, 3) := by decide +kernel
theorem dX2_want_23 : decode cX2_want 23 = .ok (.athrow, 1) := by decide +kernel
theorem dX2_want_24 : decode cX2_want 24 = .ok (.return_, 1) := by decide +kernel
abbrev JX2_want_0 (D : DE) (f : Nat) (Q : Frm → HI → HL → Prop) (T : Nat → Frm → HI → HL → Prop) (F : Frm) (h : HI) (g : HL) (x1 : Int32) (x2 : Int32) (x3 : Int32) : Prop := ((¬ x1 = 0 → Q F h g) ∧ (x1 = 0 → ∀ h2, h2 = up2 h 1 9 x2 → ∀ h4, h4 = up2 h2 1 10 x3 → 160 ≤ F.1.1 ∧ T 0 (fnx F 0) h4 g))
theorem bX2_want_0 {D : DE} {f : Nat} {Q : Frm → HI → HL → Prop} {T : Nat → Frm → HI → HL → Prop} {F : Frm} {h : HI} {g : HL} (hF : k_Fix F) (x1 : Int32) (x2 : Int32) (x3 : Int32) (hf : 6 ≤ (f + 1)) (H : JX2_want_0 D f Q T F h g x1 x2 x3) : V D mX2_want (f + 1) (gv Q T) 0 [(0, .ref (ad D 1)), (1, .int x1), (2, .int x2), (3, .int x3)] [] (F, h, g) := by
  refine V_iload_n dX2_want_0 rfl 1 rfl ?_
  refine V_if_ne (tgt := 24) dX2_want_1 (by decide) (fun c1 => ?_) (fun c1 => ?_)
  · have H := H.1 c1
    exact G_vret hF rfl dX2_want_24 H
  · have H := H.2 c1
    refine V_aload_n dX2_want_4 rfl 0 rfl ?_
    refine V_iload_n dX2_want_5 rfl 2 rfl ?_
    refine H_puti ck1 9 (by decide) (fs_1 hF) (by decide) rfl rfl q143 dX2_want_6 (fun h2 e3 => ?_)
    have H := H h2 e3
    refine V_aload_n dX2_want_9 rfl 0 rfl ?_
    refine V_iload_n dX2_want_10 rfl 3 rfl ?_
    refine H_puti ck1 10 (by decide) (fs_1 hF) (by decide) rfl rfl q145 dX2_want_11 (fun h4 e5 => ?_)
    have H := H h4 e5
    obtain ⟨z6, H⟩ := H
    exact G_throwM_v0 hF z6 hf rfl (Nat.le_of_ble_eq_true rfl) q578 q621 (fun _ hE => hE.2.2.2.2.2.2.2.2.2.2.2.1) dX2_want_14 dX2_want_17 dX2_want_18 dX2_want_20 dX2_want_23 H
theorem wX2_want {D : DE} {f : Nat} {Q : Frm → HI → HL → Prop} {T : Nat → Frm → HI → HL → Prop} {F : Frm} {h : HI} {g : HL} (hF : k_Fix F) (x1 : Int32) (x2 : Int32) (x3 : Int32) (hf : 6 ≤ (f + 1)) (H : JX2_want_0 D f Q T F h g x1 x2 x3) : Gv D (f + 1) mX2_want [.ref (ad D 1), .int x1, .int x2, .int x3] F h g Q T := Cl.ofV (by decide) (Nat.le_of_ble_eq_true rfl) rfl (bX2_want_0 hF x1 x2 x3 hf H)
theorem dX2_isLetter_0 : decode cX2_isLetter 0 = .ok (.iload_n 0, 1) := by decide +kernel
theorem dX2_isLetter_1 : decode cX2_isLetter 1 = .ok (.bipush 97, 2) := by decide +kernel
theorem dX2_isLetter_3 : decode cX2_isLetter 3 = .ok (.if_icmp .lt 13, 3) := by decide +kernel
theorem dX2_isLetter_6 : decode cX2_isLetter 6 = .ok (.iload_n 0, 1) := by decide +kernel
theorem dX2_isLetter_7 : decode cX2_isLetter 7 = .ok (.bipush 122, 2) := by decide +kernel
theorem dX2_isLetter_9 : decode cX2_isLetter 9 = .ok (.if_icmp .gt 7, 3) := by decide +kernel
theorem dX2_isLetter_12 : decode cX2_isLetter 12 = .ok (.iconst 1, 1) := by decide +kernel
theorem dX2_isLetter_13 : decode cX2_isLetter 13 = .ok (.goto 4, 3) := by decide +kernel
theorem dX2_isLetter_16 : decode cX2_isLetter 16 = .ok (.iconst 0, 1) := by decide +kernel
theorem dX2_isLetter_17 : decode cX2_isLetter 17 = .ok (.ireturn, 1) := by decide +kernel
abbrev JX2_isLetter_0 (D : DE) (f : Nat) (Q : Int32 → HI → HL → Prop) (F : Frm) (h : HI) (g : HL) (x0 : Int32) : Prop := ((x0 < 97 → Q 0 h g) ∧ (¬ x0 < 97 → ((122 < x0 → Q 0 h g) ∧ (¬ 122 < x0 → Q 1 h g))))
theorem bX2_isLetter_0 {D : DE} {f : Nat} {Q : Int32 → HI → HL → Prop} {F : Frm} {h : HI} {g : HL} (hF : k_Fix F) (x0 : Int32) (H : JX2_isLetter_0 D f Q F h g x0) : V D mX2_isLetter f (qi F Q) 0 [(0, .int x0)] [] (F, h, g) := by
  refine V_iload_n dX2_isLetter_0 rfl 0 rfl ?_
  refine V_bipush (v := 97) dX2_isLetter_1 (by decide) ?_
  refine V_icmp_lt (tgt := 16) dX2_isLetter_3 (by decide) (fun c1 => ?_) (fun c1 => ?_)
  · have H := H.1 c1
    refine V_iconst (v := 0) dX2_isLetter_16 (by decide) ?_
    exact H_zret rfl isB0 dX2_isLetter_17 H
  · have H := H.2 c1
    refine V_iload_n dX2_isLetter_6 rfl 0 rfl ?_
    refine V_bipush (v := 122) dX2_isLetter_7 (by decide) ?_
    refine V_icmp_gt (tgt := 16) dX2_isLetter_9 (by decide) (fun c2 => ?_) (fun c2 => ?_)
    · have H := H.1 c2
      refine V_iconst (v := 0) dX2_isLetter_16 (by decide) ?_
      exact H_zret rfl isB0 dX2_isLetter_17 H
    · have H := H.2 c2
      refine V_iconst (v := 1) dX2_isLetter_12 (by decide) ?_
      refine V_goto (tgt := 17) dX2_isLetter_13 (by decide) ?_
      exact H_zret rfl isB1 dX2_isLetter_17 H
theorem wX2_isLetter {D : DE} {f : Nat} {Q : Int32 → HI → HL → Prop} {F : Frm} {h : HI} {g : HL} (hF : k_Fix F) (x0 : Int32) (H : JX2_isLetter_0 D f Q F h g x0) : Si D f mX2_isLetter [.int x0] F h g Q := Cl.ofV (by decide) (Nat.le_of_ble_eq_true rfl) rfl (bX2_isLetter_0 hF x0 H)
theorem dX2_isDigit_0 : decode cX2_isDigit 0 = .ok (.iload_n 0, 1) := by decide +kernel
theorem dX2_isDigit_1 : decode cX2_isDigit 1 = .ok (.bipush 48, 2) := by decide +kernel
theorem dX2_isDigit_3 : decode cX2_isDigit 3 = .ok (.if_icmp .lt 13, 3) := by decide +kernel
theorem dX2_isDigit_6 : decode cX2_isDigit 6 = .ok (.iload_n 0, 1) := by decide +kernel
theorem dX2_isDigit_7 : decode cX2_isDigit 7 = .ok (.bipush 57, 2) := by decide +kernel
theorem dX2_isDigit_9 : decode cX2_isDigit 9 = .ok (.if_icmp .gt 7, 3) := by decide +kernel
theorem dX2_isDigit_12 : decode cX2_isDigit 12 = .ok (.iconst 1, 1) := by decide +kernel
theorem dX2_isDigit_13 : decode cX2_isDigit 13 = .ok (.goto 4, 3) := by decide +kernel
theorem dX2_isDigit_16 : decode cX2_isDigit 16 = .ok (.iconst 0, 1) := by decide +kernel
theorem dX2_isDigit_17 : decode cX2_isDigit 17 = .ok (.ireturn, 1) := by decide +kernel
abbrev JX2_isDigit_0 (D : DE) (f : Nat) (Q : Int32 → HI → HL → Prop) (F : Frm) (h : HI) (g : HL) (x0 : Int32) : Prop := ((x0 < 48 → Q 0 h g) ∧ (¬ x0 < 48 → ((57 < x0 → Q 0 h g) ∧ (¬ 57 < x0 → Q 1 h g))))
theorem bX2_isDigit_0 {D : DE} {f : Nat} {Q : Int32 → HI → HL → Prop} {F : Frm} {h : HI} {g : HL} (hF : k_Fix F) (x0 : Int32) (H : JX2_isDigit_0 D f Q F h g x0) : V D mX2_isDigit f (qi F Q) 0 [(0, .int x0)] [] (F, h, g) := by
  refine V_iload_n dX2_isDigit_0 rfl 0 rfl ?_
  refine V_bipush (v := 48) dX2_isDigit_1 (by decide) ?_
  refine V_icmp_lt (tgt := 16) dX2_isDigit_3 (by decide) (fun c1 => ?_) (fun c1 => ?_)
  · have H := H.1 c1
    refine V_iconst (v := 0) dX2_isDigit_16 (by decide) ?_
    exact H_zret rfl isB0 dX2_isDigit_17 H
  · have H := H.2 c1
    refine V_iload_n dX2_isDigit_6 rfl 0 rfl ?_
    refine V_bipush (v := 57) dX2_isDigit_7 (by decide) ?_
    refine V_icmp_gt (tgt := 16) dX2_isDigit_9 (by decide) (fun c2 => ?_) (fun c2 => ?_)
    · have H := H.1 c2
      refine V_iconst (v := 0) dX2_isDigit_16 (by decide) ?_
      exact H_zret rfl isB0 dX2_isDigit_17 H
    · have H := H.2 c2
      refine V_iconst (v := 1) dX2_isDigit_12 (by decide) ?_
      refine V_goto (tgt := 17) dX2_isDigit_13 (by decide) ?_
      exact H_zret rfl isB1 dX2_isDigit_17 H
theorem wX2_isDigit {D : DE} {f : Nat} {Q : Int32 → HI → HL → Prop} {F : Frm} {h : HI} {g : HL} (hF : k_Fix F) (x0 : Int32) (H : JX2_isDigit_0 D f Q F h g x0) : Si D f mX2_isDigit [.int x0] F h g Q := Cl.ofV (by decide) (Nat.le_of_ble_eq_true rfl) rfl (bX2_isDigit_0 hF x0 H)
theorem dX2_byteAt_0 : decode cX2_byteAt 0 = .ok (.iload_n 1, 1) := by decide +kernel
theorem dX2_byteAt_1 : decode cX2_byteAt 1 = .ok (.aload_n 0, 1) := by decide +kernel
theorem dX2_byteAt_2 : decode cX2_byteAt 2 = .ok (.getfield 36, 3) := by decide +kernel
theorem dX2_byteAt_5 : decode cX2_byteAt 5 = .ok (.if_icmp .ge 16, 3) := by decide +kernel
theorem dX2_byteAt_8 : decode cX2_byteAt 8 = .ok (.aload_n 0, 1) := by decide +kernel
theorem dX2_byteAt_9 : decode cX2_byteAt 9 = .ok (.getfield 9, 3) := by decide +kernel
theorem dX2_byteAt_12 : decode cX2_byteAt 12 = .ok (.iload_n 1, 1) := by decide +kernel
theorem dX2_byteAt_13 : decode cX2_byteAt 13 = .ok (.baload, 1) := by decide +kernel
theorem dX2_byteAt_14 : decode cX2_byteAt 14 = .ok (.sipush 255, 3) := by decide +kernel
theorem dX2_byteAt_17 : decode cX2_byteAt 17 = .ok (.iand, 1) := by decide +kernel
theorem dX2_byteAt_18 : decode cX2_byteAt 18 = .ok (.goto 4, 3) := by decide +kernel
theorem dX2_byteAt_21 : decode cX2_byteAt 21 = .ok (.iconst (-1), 1) := by decide +kernel
theorem dX2_byteAt_22 : decode cX2_byteAt 22 = .ok (.ireturn, 1) := by decide +kernel
abbrev JX2_byteAt_0 (D : DE) (f : Nat) (Q : Int32 → HI → HL → Prop) (F : Frm) (h : HI) (g : HL) (x1 : Int32) : Prop := (((h 1 1) ≤ x1 → Q (-1) h g) ∧ (¬ (h 1 1) ≤ x1 → vp_in x1 4000 ∧ Q ((h 2 (ix x1)) &&& 255) h g))
theorem bX2_byteAt_0 {D : DE} {f : Nat} {Q : Int32 → HI → HL → Prop} {F : Frm} {h : HI} {g : HL} (hF : k_Fix F) (x1 : Int32) (H : JX2_byteAt_0 D f Q F h g x1) : V D mX2_byteAt f (qi F Q) 0 [(0, .ref (ad D 1)), (1, .int x1)] [] (F, h, g) := by
  refine V_iload_n dX2_byteAt_0 rfl 1 rfl ?_
  refine V_aload_n dX2_byteAt_1 rfl 0 rfl ?_
  refine H_geti ck1 1 (by decide) (fs_1 hF) (by decide) rfl q130 dX2_byteAt_2 ?_
  refine V_icmp_ge (tgt := 21) dX2_byteAt_5 (by decide) (fun c1 => ?_) (fun c1 => ?_)
  · have H := H.1 c1
    refine V_iconst (v := (-1)) dX2_byteAt_21 (by decide) ?_
    exact H_iret rfl dX2_byteAt_22 H
  · have H := H.2 c1
    refine V_aload_n dX2_byteAt_8 rfl 0 rfl ?_
    refine H_getr ck1 0 (by decide) (fs_1 hF) (by decide) rfl (fr_1_0 hF) q128 dX2_byteAt_9 ?_
    refine V_iload_n dX2_byteAt_12 rfl 1 rfl ?_
    obtain ⟨i2, H⟩ := H
    refine H_bald (fs_2 hF) i2 dX2_byteAt_13 ?_
    refine V_sipush (v := 255) dX2_byteAt_14 (by decide) ?_
    refine V_iand dX2_byteAt_17 ?_
    refine V_goto (tgt := 22) dX2_byteAt_18 (by decide) ?_
    exact H_iret rfl dX2_byteAt_22 H
theorem wX2_byteAt {D : DE} {f : Nat} {Q : Int32 → HI → HL → Prop} {F : Frm} {h : HI} {g : HL} (hF : k_Fix F) (x1 : Int32) (H : JX2_byteAt_0 D f Q F h g x1) : Si D f mX2_byteAt [.ref (ad D 1), .int x1] F h g Q := Cl.ofV (by decide) (Nat.le_of_ble_eq_true rfl) rfl (bX2_byteAt_0 hF x1 H)
theorem dX2_begin_0 : decode cX2_begin 0 = .ok (.aload_n 0, 1) := by decide +kernel
theorem dX2_begin_1 : decode cX2_begin 1 = .ok (.iconst 0, 1) := by decide +kernel
theorem dX2_begin_2 : decode cX2_begin 2 = .ok (.putfield 39, 3) := by decide +kernel
theorem dX2_begin_5 : decode cX2_begin 5 = .ok (.aload_n 0, 1) := by decide +kernel
theorem dX2_begin_6 : decode cX2_begin 6 = .ok (.iconst 0, 1) := by decide +kernel
theorem dX2_begin_7 : decode cX2_begin 7 = .ok (.putfield 42, 3) := by decide +kernel
theorem dX2_begin_10 : decode cX2_begin 10 = .ok (.aload_n 0, 1) := by decide +kernel
theorem dX2_begin_11 : decode cX2_begin 11 = .ok (.iconst 0, 1) := by decide +kernel
theorem dX2_begin_12 : decode cX2_begin 12 = .ok (.putfield 22, 3) := by decide +kernel
theorem dX2_begin_15 : decode cX2_begin 15 = .ok (.aload_n 0, 1) := by decide +kernel
theorem dX2_begin_16 : decode cX2_begin 16 = .ok (.iconst (-1), 1) := by decide +kernel
theorem dX2_begin_17 : decode cX2_begin 17 = .ok (.putfield 26, 3) := by decide +kernel
theorem dX2_begin_20 : decode cX2_begin 20 = .ok (.aload_n 0, 1) := by decide +kernel
theorem dX2_begin_21 : decode cX2_begin 21 = .ok (.invokevirtual 45, 3) := by decide +kernel
theorem dX2_begin_24 : decode cX2_begin 24 = .ok (.return_, 1) := by decide +kernel
abbrev JX2_begin_0 (D : DE) (f : Nat) (Q : HI → HL → Prop) (F : Frm) (h : HI) (g : HL) : Prop := ∀ h1, h1 = up2 h 1 7 0 → ∀ h3, h3 = up2 h1 1 4 0 → ∀ h5, h5 = up2 h3 1 9 0 → ∀ h7, h7 = up2 h5 1 10 (-1) → Sv D f mX2_next [.ref (ad D 1)] F h7 g (fun h9 g10 => Q h9 g10)
theorem bX2_begin_0 {D : DE} {f : Nat} {Q : HI → HL → Prop} {F : Frm} {h : HI} {g : HL} (hF : k_Fix F)  (H : JX2_begin_0 D f Q F h g ) : V D mX2_begin (f + 1) (qv F Q) 0 [(0, .ref (ad D 1))] [] (F, h, g) := by
  refine V_aload_n dX2_begin_0 rfl 0 rfl ?_
  refine V_iconst (v := 0) dX2_begin_1 (by decide) ?_
  refine H_puti ck1 7 (by decide) (fs_1 hF) (by decide) rfl rfl q140 dX2_begin_2 (fun h1 e2 => ?_)
  have H := H h1 e2
  refine V_aload_n dX2_begin_5 rfl 0 rfl ?_
  refine V_iconst (v := 0) dX2_begin_6 (by decide) ?_
  refine H_puti ck1 4 (by decide) (fs_1 hF) (by decide) rfl rfl q135 dX2_begin_7 (fun h3 e4 => ?_)
  have H := H h3 e4
  refine V_aload_n dX2_begin_10 rfl 0 rfl ?_
  refine V_iconst (v := 0) dX2_begin_11 (by decide) ?_
  refine H_puti ck1 9 (by decide) (fs_1 hF) (by decide) rfl rfl q143 dX2_begin_12 (fun h5 e6 => ?_)
  have H := H h5 e6
  refine V_aload_n dX2_begin_15 rfl 0 rfl ?_
  refine V_iconst (v := (-1)) dX2_begin_16 (by decide) ?_
  refine H_puti ck1 10 (by decide) (fs_1 hF) (by decide) rfl rfl q145 dX2_begin_17 (fun h7 e8 => ?_)
  have H := H h7 e8
  refine V_aload_n dX2_begin_20 rfl 0 rfl ?_
  refine H_callv (av := [.ref (ad D 1)]) (rest := []) H mqX2_next q82 (by decide) (Nat.le_of_ble_eq_true rfl) (k_resV (ci := 1) (av := []) (rest := []) (fs_1 hF) (by decide) rfl rfl q435 q436 q437 q438 mhX2_next mnX2_next dX2_begin_21) (fun h9 g10 H => ?_)
  exact H_vret rfl dX2_begin_24 H
theorem wX2_begin {D : DE} {f : Nat} {Q : HI → HL → Prop} {F : Frm} {h : HI} {g : HL} (hF : k_Fix F)  (H : JX2_begin_0 D f Q F h g ) : Sv D (f + 1) mX2_begin [.ref (ad D 1)] F h g Q := Cl.ofV (by decide) (Nat.le_of_ble_eq_true rfl) rfl (bX2_begin_0 hF  H)
theorem dX2_word_0 : decode cX2_word 0 = .ok (.iconst 1, 1) := by decide +kernel
theorem dX2_word_1 : decode cX2_word 1 = .ok (.istore_n 1, 1) := by decide +kernel
theorem dX2_word_2 : decode cX2_word 2 = .ok (.aload_n 0, 1) := by decide +kernel
theorem dX2_word_3 : decode cX2_word 3 = .ok (.aload_n 0, 1) := by decide +kernel
theorem dX2_word_4 : decode cX2_word 4 = .ok (.getfield 39, 3) := by decide +kernel
theorem dX2_word_7 : decode cX2_word 7 = .ok (.invokevirtual 48, 3) := by decide +kernel
theorem dX2_word_10 : decode cX2_word 10 = .ok (.invokestatic 58, 3) := by decide +kernel
theorem dX2_word_13 : decode cX2_word 13 = .ok (.ifCond .ne 17, 3) := by decide +kernel
theorem dX2_word_16 : decode cX2_word 16 = .ok (.aload_n 0, 1) := by decide +kernel
theorem dX2_word_17 : decode cX2_word 17 = .ok (.aload_n 0, 1) := by decide +kernel
theorem dX2_word_18 : decode cX2_word 18 = .ok (.getfield 39, 3) := by decide +kernel
theorem dX2_word_21 : decode cX2_word 21 = .ok (.invokevirtual 48, 3) := by decide +kernel
theorem dX2_word_24 : decode cX2_word 24 = .ok (.invokestatic 62, 3) := by decide +kernel
theorem dX2_word_27 : decode cX2_word 27 = .ok (.ifCond .eq 30, 3) := by decide +kernel
theorem dX2_word_30 : decode cX2_word 30 = .ok (.iload_n 1, 1) := by decide +kernel
theorem dX2_word_31 : decode cX2_word 31 = .ok (.aload_n 0, 1) := by decide +kernel
theorem dX2_word_32 : decode cX2_word 32 = .ok (.aload_n 0, 1) := by decide +kernel
theorem dX2_word_33 : decode cX2_word 33 = .ok (.getfield 39, 3) := by decide +kernel
theorem dX2_word_36 : decode cX2_word 36 = .ok (.invokevirtual 48, 3) := by decide +kernel
theorem dX2_word_39 : decode cX2_word 39 = .ok (.invokestatic 62, 3) := by decide +kernel
theorem dX2_word_42 : decode cX2_word 42 = .ok (.iand, 1) := by decide +kernel
theorem dX2_word_43 : decode cX2_word 43 = .ok (.istore_n 1, 1) := by decide +kernel
theorem dX2_word_44 : decode cX2_word 44 = .ok (.aload_n 0, 1) := by decide +kernel
theorem dX2_word_45 : decode cX2_word 45 = .ok (.dup, 1) := by decide +kernel
theorem dX2_word_46 : decode cX2_word 46 = .ok (.getfield 39, 3) := by decide +kernel
theorem dX2_word_49 : decode cX2_word 49 = .ok (.iconst 1, 1) := by decide +kernel
theorem dX2_word_50 : decode cX2_word 50 = .ok (.iadd, 1) := by decide +kernel
theorem dX2_word_51 : decode cX2_word 51 = .ok (.putfield 39, 3) := by decide +kernel
theorem dX2_word_54 : decode cX2_word 54 = .ok (.goto (-52), 3) := by decide +kernel
theorem dX2_word_57 : decode cX2_word 57 = .ok (.aload_n 0, 1) := by decide +kernel
theorem dX2_word_58 : decode cX2_word 58 = .ok (.getfield 39, 3) := by decide +kernel
theorem dX2_word_61 : decode cX2_word 61 = .ok (.aload_n 0, 1) := by decide +kernel
theorem dX2_word_62 : decode cX2_word 62 = .ok (.getfield 52, 3) := by decide +kernel
theorem dX2_word_65 : decode cX2_word 65 = .ok (.isub, 1) := by decide +kernel
theorem dX2_word_66 : decode cX2_word 66 = .ok (.istore_n 2, 1) := by decide +kernel
theorem dX2_word_67 : decode cX2_word 67 = .ok (.aload_n 0, 1) := by decide +kernel
theorem dX2_word_68 : decode cX2_word 68 = .ok (.iconst 0, 1) := by decide +kernel
theorem dX2_word_69 : decode cX2_word 69 = .ok (.putfield 55, 3) := by decide +kernel
theorem dX2_word_72 : decode cX2_word 72 = .ok (.iload_n 1, 1) := by decide +kernel
theorem dX2_word_73 : decode cX2_word 73 = .ok (.ifCond .eq 62, 3) := by decide +kernel
theorem dX2_word_76 : decode cX2_word 76 = .ok (.iload_n 2, 1) := by decide +kernel
theorem dX2_word_77 : decode cX2_word 77 = .ok (.bipush 9, 2) := by decide +kernel
theorem dX2_word_79 : decode cX2_word 79 = .ok (.if_icmp .gt 56, 3) := by decide +kernel
theorem dX2_word_82 : decode cX2_word 82 = .ok (.aload_n 0, 1) := by decide +kernel
theorem dX2_word_83 : decode cX2_word 83 = .ok (.iconst 4, 1) := by decide +kernel
theorem dX2_word_84 : decode cX2_word 84 = .ok (.putfield 55, 3) := by decide +kernel
theorem dX2_word_87 : decode cX2_word 87 = .ok (.aload_n 0, 1) := by decide +kernel
theorem dX2_word_88 : decode cX2_word 88 = .ok (.iconst 0, 1) := by decide +kernel
theorem dX2_word_89 : decode cX2_word 89 = .ok (.putfield 75, 3) := by decide +kernel
theorem dX2_word_92 : decode cX2_word 92 = .ok (.aload_n 0, 1) := by decide +kernel
theorem dX2_word_93 : decode cX2_word 93 = .ok (.getfield 52, 3) := by decide +kernel
theorem dX2_word_96 : decode cX2_word 96 = .ok (.istore_n 3, 1) := by decide +kernel
theorem dX2_word_97 : decode cX2_word 97 = .ok (.iload_n 3, 1) := by decide +kernel
theorem dX2_word_98 : decode cX2_word 98 = .ok (.aload_n 0, 1) := by decide +kernel
theorem dX2_word_99 : decode cX2_word 99 = .ok (.getfield 39, 3) := by decide +kernel
theorem dX2_word_102 : decode cX2_word 102 = .ok (.if_icmp .ge 30, 3) := by decide +kernel
theorem dX2_word_105 : decode cX2_word 105 = .ok (.aload_n 0, 1) := by decide +kernel
theorem dX2_word_106 : decode cX2_word 106 = .ok (.bipush 10, 2) := by decide +kernel
theorem dX2_word_108 : decode cX2_word 108 = .ok (.aload_n 0, 1) := by decide +kernel
theorem dX2_word_109 : decode cX2_word 109 = .ok (.getfield 75, 3) := by decide +kernel
theorem dX2_word_112 : decode cX2_word 112 = .ok (.imul, 1) := by decide +kernel
theorem dX2_word_113 : decode cX2_word 113 = .ok (.aload_n 0, 1) := by decide +kernel
theorem dX2_word_114 : decode cX2_word 114 = .ok (.getfield 9, 3) := by decide +kernel
theorem dX2_word_117 : decode cX2_word 117 = .ok (.iload_n 3, 1) := by decide +kernel
theorem dX2_word_118 : decode cX2_word 118 = .ok (.baload, 1) := by decide +kernel
theorem dX2_word_119 : decode cX2_word 119 = .ok (.iadd, 1) := by decide +kernel
theorem dX2_word_120 : decode cX2_word 120 = .ok (.bipush 48, 2) := by decide +kernel
theorem dX2_word_122 : decode cX2_word 122 = .ok (.isub, 1) := by decide +kernel
theorem dX2_word_123 : decode cX2_word 123 = .ok (.putfield 75, 3) := by decide +kernel
theorem dX2_word_126 : decode cX2_word 126 = .ok (.iinc 3 1, 3) := by decide +kernel
theorem dX2_word_129 : decode cX2_word 129 = .ok (.goto (-32), 3) := by decide +kernel
theorem dX2_word_132 : decode cX2_word 132 = .ok (.goto 48, 3) := by decide +kernel
theorem dX2_word_135 : decode cX2_word 135 = .ok (.aload_n 0, 1) := by decide +kernel
theorem dX2_word_136 : decode cX2_word 136 = .ok (.aload_n 0, 1) := by decide +kernel
theorem dX2_word_137 : decode cX2_word 137 = .ok (.getfield 52, 3) := by decide +kernel
theorem dX2_word_140 : decode cX2_word 140 = .ok (.invokevirtual 48, 3) := by decide +kernel
theorem dX2_word_143 : decode cX2_word 143 = .ok (.invokestatic 58, 3) := by decide +kernel
theorem dX2_word_146 : decode cX2_word 146 = .ok (.ifCond .eq 34, 3) := by decide +kernel
theorem dX2_word_149 : decode cX2_word 149 = .ok (.iload_n 2, 1) := by decide +kernel
theorem dX2_word_150 : decode cX2_word 150 = .ok (.bipush 8, 2) := by decide +kernel
theorem dX2_word_152 : decode cX2_word 152 = .ok (.if_icmp .gt 28, 3) := by decide +kernel
theorem dX2_word_155 : decode cX2_word 155 = .ok (.aload_n 0, 1) := by decide +kernel
theorem dX2_word_156 : decode cX2_word 156 = .ok (.aload_n 0, 1) := by decide +kernel
theorem dX2_word_157 : decode cX2_word 157 = .ok (.iload_n 2, 1) := by decide +kernel
theorem dX2_word_158 : decode cX2_word 158 = .ok (.invokevirtual 78, 3) := by decide +kernel
theorem dX2_word_161 : decode cX2_word 161 = .ok (.putfield 75, 3) := by decide +kernel
theorem dX2_word_164 : decode cX2_word 164 = .ok (.aload_n 0, 1) := by decide +kernel
theorem dX2_word_165 : decode cX2_word 165 = .ok (.aload_n 0, 1) := by decide +kernel
theorem dX2_word_166 : decode cX2_word 166 = .ok (.getfield 75, 3) := by decide +kernel
theorem dX2_word_169 : decode cX2_word 169 = .ok (.ifCond .ge 7, 3) := by decide +kernel
theorem dX2_word_172 : decode cX2_word 172 = .ok (.iconst 3, 1) := by decide +kernel
theorem dX2_word_173 : decode cX2_word 173 = .ok (.goto 4, 3) := by decide +kernel
theorem dX2_word_176 : decode cX2_word 176 = .ok (.iconst 2, 1) := by decide +kernel
theorem dX2_word_177 : decode cX2_word 177 = .ok (.putfield 55, 3) := by decide +kernel
theorem dX2_word_180 : decode cX2_word 180 = .ok (.return_, 1) := by decide +kernel
abbrev JX2_word_135 (D : DE) (f : Nat) (Q : HI → HL → Prop) (F : Frm) (h : HI) (g : HL) (x2 : Int32) : Prop := Si D f mX2_byteAt [.ref (ad D 1), .int (h 1 8)] F h g (fun y1 h2 g3 => Si D f mX2_isLetter [.int y1] F h2 g3 (fun y4 h5 g6 => ((y4 = 0 → Q h5 g6) ∧ (¬ y4 = 0 → ((8 < x2 → Q h5 g6) ∧ (¬ 8 < x2 → Si D f mX2_wordOf [.ref (ad D 1), .int x2] F h5 g6 (fun y9 h10 g11 => ∀ h12, h12 = up2 h10 1 6 y9 → ((0 ≤ (h12 1 6) → ∀ h15, h15 = up2 h12 1 5 2 → Q h15 g11) ∧ (¬ 0 ≤ (h12 1 6) → ∀ h17, h17 = up2 h12 1 5 3 → Q h17 g11)))))))))
theorem bX2_word_135 {D : DE} {f : Nat} {Q : HI → HL → Prop} {F : Frm} {h : HI} {g : HL} (hF : k_Fix F) (x2 : Int32) (H : JX2_word_135 D f Q F h g x2) : V D mX2_word (f + 1) (qv F Q) 135 [(0, .ref (ad D 1)), (2, .int x2)] [] (F, h, g) := by
  refine V_aload_n dX2_word_135 rfl 0 rfl ?_
  refine V_aload_n dX2_word_136 rfl 0 rfl ?_
  refine H_geti ck1 8 (by decide) (fs_1 hF) (by decide) rfl q142 dX2_word_137 ?_
  refine H_calli (av := [.ref (ad D 1), .int (h 1 8)]) (rest := []) H mqX2_byteAt q82 (by decide) (Nat.le_of_ble_eq_true rfl) (k_resV (ci := 1) (av := [.int (h 1 8)]) (rest := []) (fs_1 hF) (by decide) rfl rfl q439 q441 qs1 q442 mhX2_byteAt mnX2_byteAt dX2_word_140) (fun y1 h2 g3 H => ?_)
  refine H_calli (av := [.int y1]) (rest := []) H mqX2_isLetter q82 (by decide) (Nat.le_of_ble_eq_true rfl) (k_resS (av := [.int y1]) (rest := []) (M1 := mX2_isLetter) rfl q443 q444 q82 mqX2_isLetter (fun _ _ h => mW_named h) mhX2_isLetter mnX2_isLetter dX2_word_143) (fun y4 h5 g6 H => ?_)
  refine V_if_eq (tgt := 180) dX2_word_146 (by decide) (fun c7 => ?_) (fun c7 => ?_)
  · have H := H.1 c7
    exact H_vret rfl dX2_word_180 H
  · have H := H.2 c7
    refine V_iload_n dX2_word_149 rfl 1 rfl ?_
    refine V_bipush (v := 8) dX2_word_150 (by decide) ?_
    refine V_icmp_gt (tgt := 180) dX2_word_152 (by decide) (fun c8 => ?_) (fun c8 => ?_)
    · have H := H.1 c8
      exact H_vret rfl dX2_word_180 H
    · have H := H.2 c8
      refine V_aload_n dX2_word_155 rfl 0 rfl ?_
      refine V_aload_n dX2_word_156 rfl 0 rfl ?_
      refine V_iload_n dX2_word_157 rfl 1 rfl ?_
      refine H_calli (av := [.ref (ad D 1), .int x2]) (rest := [.ref (ad D 1)]) H mqX2_wordOf q82 (by decide) (Nat.le_of_ble_eq_true rfl) (k_resV (ci := 1) (av := [.int x2]) (rest := [.ref (ad D 1)]) (fs_1 hF) (by decide) rfl rfl q453 q455 qs3 q456 mhX2_wordOf mnX2_wordOf dX2_word_158) (fun y9 h10 g11 H => ?_)
      refine H_puti ck1 6 (by decide) (fs_1 hF) (by decide) rfl rfl q138 dX2_word_161 (fun h12 e13 => ?_)
      have H := H h12 e13
      refine V_aload_n dX2_word_164 rfl 0 rfl ?_
      refine V_aload_n dX2_word_165 rfl 0 rfl ?_
      refine H_geti ck1 6 (by decide) (fs_1 hF) (by decide) rfl q138 dX2_word_166 ?_
      refine V_if_ge (tgt := 176) dX2_word_169 (by decide) (fun c14 => ?_) (fun c14 => ?_)
      · have H := H.1 c14
        refine V_iconst (v := 2) dX2_word_176 (by decide) ?_
        refine H_puti ck1 5 (by decide) (fs_1 hF) (by decide) rfl rfl q137 dX2_word_177 (fun h15 e16 => ?_)
        have H := H h15 e16
        exact H_vret rfl dX2_word_180 H
      · have H := H.2 c14
        refine V_iconst (v := 3) dX2_word_172 (by decide) ?_
        refine V_goto (tgt := 177) dX2_word_173 (by decide) ?_
        refine H_puti ck1 5 (by decide) (fs_1 hF) (by decide) rfl rfl q137 dX2_word_177 (fun h17 e18 => ?_)
        have H := H h17 e18
        exact H_vret rfl dX2_word_180 H
abbrev JX2_word_97 (D : DE) (f : Nat) (Q : HI → HL → Prop) (F : Frm) (h : HI) (g : HL) (x3 : Int32) : Prop := (((h 1 7) ≤ x3 → Q h g) ∧ (¬ (h 1 7) ≤ x3 → vp_in x3 4000 ∧ ∀ h3, h3 = up2 h 1 6 (((10 * (h 1 6)) + (h 2 (ix x3))) - 48) → ∀ y5 : Int32, y5 = x3 + 1 → V D mX2_word (f + 1) (qv F Q) 97 [(0, .ref (ad D 1)), (3, .int y5)] [] (F, h3, g)))
theorem bX2_word_97 {D : DE} {f : Nat} {Q : HI → HL → Prop} {F : Frm} {h : HI} {g : HL} (hF : k_Fix F) (x3 : Int32) (H : JX2_word_97 D f Q F h g x3) : V D mX2_word (f + 1) (qv F Q) 97 [(0, .ref (ad D 1)), (3, .int x3)] [] (F, h, g) := by
  refine V_iload_n dX2_word_97 rfl 1 rfl ?_
  refine V_aload_n dX2_word_98 rfl 0 rfl ?_
  refine H_geti ck1 7 (by decide) (fs_1 hF) (by decide) rfl q140 dX2_word_99 ?_
  refine V_icmp_ge (tgt := 132) dX2_word_102 (by decide) (fun c1 => ?_) (fun c1 => ?_)
  · have H := H.1 c1
    refine V_goto (tgt := 180) dX2_word_132 (by decide) ?_
    exact H_vret rfl dX2_word_180 H
  · have H := H.2 c1
    refine V_aload_n dX2_word_105 rfl 0 rfl ?_
    refine V_bipush (v := 10) dX2_word_106 (by decide) ?_
    refine V_aload_n dX2_word_108 rfl 0 rfl ?_
    refine H_geti ck1 6 (by decide) (fs_1 hF) (by decide) rfl q138 dX2_word_109 ?_
    refine V_imul dX2_word_112 ?_
    refine V_aload_n dX2_word_113 rfl 0 rfl ?_
    refine H_getr ck1 0 (by decide) (fs_1 hF) (by decide) rfl (fr_1_0 hF) q128 dX2_word_114 ?_
    refine V_iload_n dX2_word_117 rfl 1 rfl ?_
    obtain ⟨i2, H⟩ := H
    refine H_bald (fs_2 hF) i2 dX2_word_118 ?_
    refine V_iadd dX2_word_119 ?_
    refine V_bipush (v := 48) dX2_word_120 (by decide) ?_
    refine V_isub dX2_word_122 ?_
    refine H_puti ck1 6 (by decide) (fs_1 hF) (by decide) rfl rfl q138 dX2_word_123 (fun h3 e4 => ?_)
    have H := H h3 e4
    obtain ⟨y5, e6⟩ : ∃ y : Int32, y = x3 + 1 := ⟨_, rfl⟩
    have H := H y5 e6
    refine V_iinc (j := 1) (v := y5) (l1 := [(3, .int y5), (0, .ref (ad D 1))]) dX2_word_126 rfl (by rw [e6]; rfl) (by decide) rfl ?_
    refine V_goto (tgt := 97) dX2_word_129 (by decide) ?_
    refine V.sub [1, 0] rfl ?_
    exact H
abbrev JX2_word_30 (D : DE) (f : Nat) (Q : HI → HL → Prop) (F : Frm) (h : HI) (g : HL) (x1 : Int32) : Prop := Si D f mX2_byteAt [.ref (ad D 1), .int (h 1 7)] F h g (fun y1 h2 g3 => Si D f mX2_isDigit [.int y1] F h2 g3 (fun y4 h5 g6 => ∀ y7 : Int32, y7 = (x1 &&& y4) → ∀ h9, h9 = up2 h5 1 7 ((h5 1 7) + 1) → V D mX2_word (f + 1) (qv F Q) 2 [(0, .ref (ad D 1)), (1, .int y7)] [] (F, h9, g6)))
theorem bX2_word_30 {D : DE} {f : Nat} {Q : HI → HL → Prop} {F : Frm} {h : HI} {g : HL} (hF : k_Fix F) (x1 : Int32) (H : JX2_word_30 D f Q F h g x1) : V D mX2_word (f + 1) (qv F Q) 30 [(0, .ref (ad D 1)), (1, .int x1)] [] (F, h, g) := by
  refine V_iload_n dX2_word_30 rfl 1 rfl ?_
  refine V_aload_n dX2_word_31 rfl 0 rfl ?_
  refine V_aload_n dX2_word_32 rfl 0 rfl ?_
  refine H_geti ck1 7 (by decide) (fs_1 hF) (by decide) rfl q140 dX2_word_33 ?_
  refine H_calli (av := [.ref (ad D 1), .int (h 1 7)]) (rest := [.int x1]) H mqX2_byteAt q82 (by decide) (Nat.le_of_ble_eq_true rfl) (k_resV (ci := 1) (av := [.int (h 1 7)]) (rest := [.int x1]) (fs_1 hF) (by decide) rfl rfl q439 q441 qs1 q442 mhX2_byteAt mnX2_byteAt dX2_word_36) (fun y1 h2 g3 H => ?_)
  refine H_calli (av := [.int y1]) (rest := [.int x1]) H mqX2_isDigit q82 (by decide) (Nat.le_of_ble_eq_true rfl) (k_resS (av := [.int y1]) (rest := [.int x1]) (M1 := mX2_isDigit) rfl q446 q447 q82 mqX2_isDigit (fun _ _ h => mW_named h) mhX2_isDigit mnX2_isDigit dX2_word_39) (fun y4 h5 g6 H => ?_)
  refine V_iand dX2_word_42 ?_
  refine V_topi (fun y7 e8 => ?_)
  have H := H y7 e8
  refine V_istore_n (l1 := [(1, .int y7), (0, .ref (ad D 1))]) dX2_word_43 rfl (by decide) rfl ?_
  refine V_aload_n dX2_word_44 rfl 1 rfl ?_
  refine V_dup dX2_word_45 rfl ?_
  refine H_geti ck1 7 (by decide) (fs_1 hF) (by decide) rfl q140 dX2_word_46 ?_
  refine V_iconst (v := 1) dX2_word_49 (by decide) ?_
  refine V_iadd dX2_word_50 ?_
  refine H_puti ck1 7 (by decide) (fs_1 hF) (by decide) rfl rfl q140 dX2_word_51 (fun h9 e10 => ?_)
  have H := H h9 e10
  refine V_goto (tgt := 2) dX2_word_54 (by decide) ?_
  refine V.sub [1, 0] rfl ?_
  exact H
abbrev JX2_word_2 (D : DE) (f : Nat) (Q : HI → HL → Prop) (F : Frm) (h : HI) (g : HL) (x1 : Int32) : Prop := Si D f mX2_byteAt [.ref (ad D 1), .int (h 1 7)] F h g (fun y1 h2 g3 => Si D f mX2_isLetter [.int y1] F h2 g3 (fun y4 h5 g6 => ((¬ y4 = 0 → JX2_word_30 D f Q F h5 g6 x1) ∧ (y4 = 0 → Si D f mX2_byteAt [.ref (ad D 1), .int (h5 1 7)] F h5 g6 (fun y8 h9 g10 => Si D f mX2_isDigit [.int y8] F h9 g10 (fun y11 h12 g13 => ((y11 = 0 → ∀ y15 : Int32, y15 = ((h12 1 7) - (h12 1 8)) → ∀ h17, h17 = up2 h12 1 5 0 → ((x1 = 0 → JX2_word_135 D f Q F h17 g13 y15) ∧ (¬ x1 = 0 → ((9 < y15 → JX2_word_135 D f Q F h17 g13 y15) ∧ (¬ 9 < y15 → ∀ h21, h21 = up2 h17 1 5 4 → ∀ h23, h23 = up2 h21 1 6 0 → ∀ y25 : Int32, y25 = (h23 1 8) → V D mX2_word (f + 1) (qv F Q) 97 [(0, .ref (ad D 1)), (3, .int y25)] [] (F, h23, g13)))))) ∧ (¬ y11 = 0 → JX2_word_30 D f Q F h12 g13 x1))))))))
theorem bX2_word_2 {D : DE} {f : Nat} {Q : HI → HL → Prop} {F : Frm} {h : HI} {g : HL} (hF : k_Fix F) (x1 : Int32) (H : JX2_word_2 D f Q F h g x1) : V D mX2_word (f + 1) (qv F Q) 2 [(0, .ref (ad D 1)), (1, .int x1)] [] (F, h, g) := by
  refine V_aload_n dX2_word_2 rfl 0 rfl ?_
  refine V_aload_n dX2_word_3 rfl 0 rfl ?_
  refine H_geti ck1 7 (by decide) (fs_1 hF) (by decide) rfl q140 dX2_word_4 ?_
  refine H_calli (av := [.ref (ad D 1), .int (h 1 7)]) (rest := []) H mqX2_byteAt q82 (by decide) (Nat.le_of_ble_eq_true rfl) (k_resV (ci := 1) (av := [.int (h 1 7)]) (rest := []) (fs_1 hF) (by decide) rfl rfl q439 q441 qs1 q442 mhX2_byteAt mnX2_byteAt dX2_word_7) (fun y1 h2 g3 H => ?_)
  refine H_calli (av := [.int y1]) (rest := []) H mqX2_isLetter q82 (by decide) (Nat.le_of_ble_eq_true rfl) (k_resS (av := [.int y1]) (rest := []) (M1 := mX2_isLetter) rfl q443 q444 q82 mqX2_isLetter (fun _ _ h => mW_named h) mhX2_isLetter mnX2_isLetter dX2_word_10) (fun y4 h5 g6 H => ?_)
  refine V_if_ne (tgt := 30) dX2_word_13 (by decide) (fun c7 => ?_) (fun c7 => ?_)
  · have H := H.1 c7
    exact bX2_word_30 hF x1 H
  · have H := H.2 c7
    refine V_aload_n dX2_word_16 rfl 0 rfl ?_
    refine V_aload_n dX2_word_17 rfl 0 rfl ?_
    refine H_geti ck1 7 (by decide) (fs_1 hF) (by decide) rfl q140 dX2_word_18 ?_
    refine H_calli (av := [.ref (ad D 1), .int (h5 1 7)]) (rest := []) H mqX2_byteAt q82 (by decide) (Nat.le_of_ble_eq_true rfl) (k_resV (ci := 1) (av := [.int (h5 1 7)]) (rest := []) (fs_1 hF) (by decide) rfl rfl q439 q441 qs1 q442 mhX2_byteAt mnX2_byteAt dX2_word_21) (fun y8 h9 g10 H => ?_)
    refine H_calli (av := [.int y8]) (rest := []) H mqX2_isDigit q82 (by decide) (Nat.le_of_ble_eq_true rfl) (k_resS (av := [.int y8]) (rest := []) (M1 := mX2_isDigit) rfl q446 q447 q82 mqX2_isDigit (fun _ _ h => mW_named h) mhX2_isDigit mnX2_isDigit dX2_word_24) (fun y11 h12 g13 H => ?_)
    refine V_if_eq (tgt := 57) dX2_word_27 (by decide) (fun c14 => ?_) (fun c14 => ?_)
    · have H := H.1 c14
      refine V_aload_n dX2_word_57 rfl 0 rfl ?_
      refine H_geti ck1 7 (by decide) (fs_1 hF) (by decide) rfl q140 dX2_word_58 ?_
      refine V_aload_n dX2_word_61 rfl 0 rfl ?_
      refine H_geti ck1 8 (by decide) (fs_1 hF) (by decide) rfl q142 dX2_word_62 ?_
      refine V_isub dX2_word_65 ?_
      refine V_topi (fun y15 e16 => ?_)
      have H := H y15 e16
      refine V_istore_n (l1 := [(2, .int y15), (0, .ref (ad D 1)), (1, .int x1)]) dX2_word_66 rfl (by decide) rfl ?_
      refine V_aload_n dX2_word_67 rfl 1 rfl ?_
      refine V_iconst (v := 0) dX2_word_68 (by decide) ?_
      refine H_puti ck1 5 (by decide) (fs_1 hF) (by decide) rfl rfl q137 dX2_word_69 (fun h17 e18 => ?_)
      have H := H h17 e18
      refine V_iload_n dX2_word_72 rfl 2 rfl ?_
      refine V_if_eq (tgt := 135) dX2_word_73 (by decide) (fun c19 => ?_) (fun c19 => ?_)
      · have H := H.1 c19
        refine V.sub [1, 0] rfl ?_
        exact bX2_word_135 hF y15 H
      · have H := H.2 c19
        refine V_iload_n dX2_word_76 rfl 0 rfl ?_
        refine V_bipush (v := 9) dX2_word_77 (by decide) ?_
        refine V_icmp_gt (tgt := 135) dX2_word_79 (by decide) (fun c20 => ?_) (fun c20 => ?_)
        · have H := H.1 c20
          refine V.sub [1, 0] rfl ?_
          exact bX2_word_135 hF y15 H
        · have H := H.2 c20
          refine V_aload_n dX2_word_82 rfl 1 rfl ?_
          refine V_iconst (v := 4) dX2_word_83 (by decide) ?_
          refine H_puti ck1 5 (by decide) (fs_1 hF) (by decide) rfl rfl q137 dX2_word_84 (fun h21 e22 => ?_)
          have H := H h21 e22
          refine V_aload_n dX2_word_87 rfl 1 rfl ?_
          refine V_iconst (v := 0) dX2_word_88 (by decide) ?_
          refine H_puti ck1 6 (by decide) (fs_1 hF) (by decide) rfl rfl q138 dX2_word_89 (fun h23 e24 => ?_)
          have H := H h23 e24
          refine V_aload_n dX2_word_92 rfl 1 rfl ?_
          refine H_geti ck1 8 (by decide) (fs_1 hF) (by decide) rfl q142 dX2_word_93 ?_
          refine V_topi (fun y25 e26 => ?_)
          have H := H y25 e26
          refine V_istore_n (l1 := [(3, .int y25), (2, .int y15), (0, .ref (ad D 1)), (1, .int x1)]) dX2_word_96 rfl (by decide) rfl ?_
          refine V.sub [2, 0] rfl ?_
          exact H
    · have H := H.2 c14
      exact bX2_word_30 hF x1 H
abbrev JX2_word_0 (D : DE) (f : Nat) (Q : HI → HL → Prop) (F : Frm) (h : HI) (g : HL) : Prop := V D mX2_word (f + 1) (qv F Q) 2 [(0, .ref (ad D 1)), (1, .int 1)] [] (F, h, g)
theorem bX2_word_0 {D : DE} {f : Nat} {Q : HI → HL → Prop} {F : Frm} {h : HI} {g : HL} (hF : k_Fix F)  (H : JX2_word_0 D f Q F h g ) : V D mX2_word (f + 1) (qv F Q) 0 [(0, .ref (ad D 1))] [] (F, h, g) := by
  refine V_iconst (v := 1) dX2_word_0 (by decide) ?_
  refine V_istore_n (l1 := [(1, .int 1), (0, .ref (ad D 1))]) dX2_word_1 rfl (by decide) rfl ?_
  refine V.sub [1, 0] rfl ?_
  exact H
theorem wX2_word {D : DE} {f : Nat} {Q : HI → HL → Prop} {F : Frm} {h : HI} {g : HL} (hF : k_Fix F)  (H : JX2_word_0 D f Q F h g ) : Sv D (f + 1) mX2_word [.ref (ad D 1)] F h g Q := Cl.ofV (by decide) (Nat.le_of_ble_eq_true rfl) rfl (bX2_word_0 hF  H)
theorem dX2_token_0 : decode cX2_token 0 = .ok (.aload_n 0, 1) := by decide +kernel
theorem dX2_token_1 : decode cX2_token 1 = .ok (.getfield 42, 3) := by decide +kernel
theorem dX2_token_4 : decode cX2_token 4 = .ok (.iconst 1, 1) := by decide +kernel
theorem dX2_token_5 : decode cX2_token 5 = .ok (.isub, 1) := by decide +kernel
theorem dX2_token_6 : decode cX2_token 6 = .ok (.ireturn, 1) := by decide +kernel
abbrev JX2_token_0 (D : DE) (f : Nat) (Q : Int32 → HI → HL → Prop) (F : Frm) (h : HI) (g : HL) : Prop := Q ((h 1 4) - 1) h g
theorem bX2_token_0 {D : DE} {f : Nat} {Q : Int32 → HI → HL → Prop} {F : Frm} {h : HI} {g : HL} (hF : k_Fix F)  (H : JX2_token_0 D f Q F h g ) : V D mX2_token f (qi F Q) 0 [(0, .ref (ad D 1))] [] (F, h, g) := by
  refine V_aload_n dX2_token_0 rfl 0 rfl ?_
  refine H_geti ck1 4 (by decide) (fs_1 hF) (by decide) rfl q135 dX2_token_1 ?_
  refine V_iconst (v := 1) dX2_token_4 (by decide) ?_
  refine V_isub dX2_token_5 ?_
  exact H_iret rfl dX2_token_6 H
theorem wX2_token {D : DE} {f : Nat} {Q : Int32 → HI → HL → Prop} {F : Frm} {h : HI} {g : HL} (hF : k_Fix F)  (H : JX2_token_0 D f Q F h g ) : Si D f mX2_token [.ref (ad D 1)] F h g Q := Cl.ofV (by decide) (Nat.le_of_ble_eq_true rfl) rfl (bX2_token_0 hF  H)
theorem dX2_isSign_0 : decode cX2_isSign 0 = .ok (.aload_n 0, 1) := by decide +kernel
theorem dX2_isSign_1 : decode cX2_isSign 1 = .ok (.getfield 55, 3) := by decide +kernel
theorem dX2_isSign_4 : decode cX2_isSign 4 = .ok (.iconst 5, 1) := by decide +kernel
theorem dX2_isSign_5 : decode cX2_isSign 5 = .ok (.if_icmp .ne 15, 3) := by decide +kernel
theorem dX2_isSign_8 : decode cX2_isSign 8 = .ok (.aload_n 0, 1) := by decide +kernel
theorem dX2_isSign_9 : decode cX2_isSign 9 = .ok (.getfield 75, 3) := by decide +kernel
theorem dX2_isSign_12 : decode cX2_isSign 12 = .ok (.iload_n 1, 1) := by decide +kernel
theorem dX2_isSign_13 : decode cX2_isSign 13 = .ok (.if_icmp .ne 7, 3) := by decide +kernel
theorem dX2_isSign_16 : decode cX2_isSign 16 = .ok (.iconst 1, 1) := by decide +kernel
theorem dX2_isSign_17 : decode cX2_isSign 17 = .ok (.goto 4, 3) := by decide +kernel
theorem dX2_isSign_20 : decode cX2_isSign 20 = .ok (.iconst 0, 1) := by decide +kernel
theorem dX2_isSign_21 : decode cX2_isSign 21 = .ok (.ireturn, 1) := by decide +kernel
abbrev JX2_isSign_0 (D : DE) (f : Nat) (Q : Int32 → HI → HL → Prop) (F : Frm) (h : HI) (g : HL) (x1 : Int32) : Prop := ((¬ (h 1 5) = 5 → Q 0 h g) ∧ ((h 1 5) = 5 → ((¬ (h 1 6) = x1 → Q 0 h g) ∧ ((h 1 6) = x1 → Q 1 h g))))
theorem bX2_isSign_0 {D : DE} {f : Nat} {Q : Int32 → HI → HL → Prop} {F : Frm} {h : HI} {g : HL} (hF : k_Fix F) (x1 : Int32) (H : JX2_isSign_0 D f Q F h g x1) : V D mX2_isSign f (qi F Q) 0 [(0, .ref (ad D 1)), (1, .int x1)] [] (F, h, g) := by
  refine V_aload_n dX2_isSign_0 rfl 0 rfl ?_
  refine H_geti ck1 5 (by decide) (fs_1 hF) (by decide) rfl q137 dX2_isSign_1 ?_
  refine V_iconst (v := 5) dX2_isSign_4 (by decide) ?_
  refine V_icmp_ne (tgt := 20) dX2_isSign_5 (by decide) (fun c1 => ?_) (fun c1 => ?_)
  · have H := H.1 c1
    refine V_iconst (v := 0) dX2_isSign_20 (by decide) ?_
    exact H_zret rfl isB0 dX2_isSign_21 H
  · have H := H.2 c1
    refine V_aload_n dX2_isSign_8 rfl 0 rfl ?_
    refine H_geti ck1 6 (by decide) (fs_1 hF) (by decide) rfl q138 dX2_isSign_9 ?_
    refine V_iload_n dX2_isSign_12 rfl 1 rfl ?_
    refine V_icmp_ne (tgt := 20) dX2_isSign_13 (by decide) (fun c2 => ?_) (fun c2 => ?_)
    · have H := H.1 c2
      refine V_iconst (v := 0) dX2_isSign_20 (by decide) ?_
      exact H_zret rfl isB0 dX2_isSign_21 H
    · have H := H.2 c2
      refine V_iconst (v := 1) dX2_isSign_16 (by decide) ?_
      refine V_goto (tgt := 21) dX2_isSign_17 (by decide) ?_
      exact H_zret rfl isB1 dX2_isSign_21 H
theorem wX2_isSign {D : DE} {f : Nat} {Q : Int32 → HI → HL → Prop} {F : Frm} {h : HI} {g : HL} (hF : k_Fix F) (x1 : Int32) (H : JX2_isSign_0 D f Q F h g x1) : Si D f mX2_isSign [.ref (ad D 1), .int x1] F h g Q := Cl.ofV (by decide) (Nat.le_of_ble_eq_true rfl) rfl (bX2_isSign_0 hF x1 H)
theorem dX2_isWord_0 : decode cX2_isWord 0 = .ok (.aload_n 0, 1) := by decide +kernel
theorem dX2_isWord_1 : decode cX2_isWord 1 = .ok (.getfield 55, 3) := by decide +kernel
theorem dX2_isWord_4 : decode cX2_isWord 4 = .ok (.iconst 2, 1) := by decide +kernel
theorem dX2_isWord_5 : decode cX2_isWord 5 = .ok (.if_icmp .ne 15, 3) := by decide +kernel
theorem dX2_isWord_8 : decode cX2_isWord 8 = .ok (.aload_n 0, 1) := by decide +kernel
theorem dX2_isWord_9 : decode cX2_isWord 9 = .ok (.getfield 75, 3) := by decide +kernel
theorem dX2_isWord_12 : decode cX2_isWord 12 = .ok (.iload_n 1, 1) := by decide +kernel
theorem dX2_isWord_13 : decode cX2_isWord 13 = .ok (.if_icmp .ne 7, 3) := by decide +kernel
theorem dX2_isWord_16 : decode cX2_isWord 16 = .ok (.iconst 1, 1) := by decide +kernel
theorem dX2_isWord_17 : decode cX2_isWord 17 = .ok (.goto 4, 3) := by decide +kernel
theorem dX2_isWord_20 : decode cX2_isWord 20 = .ok (.iconst 0, 1) := by decide +kernel
theorem dX2_isWord_21 : decode cX2_isWord 21 = .ok (.ireturn, 1) := by decide +kernel
abbrev JX2_isWord_0 (D : DE) (f : Nat) (Q : Int32 → HI → HL → Prop) (F : Frm) (h : HI) (g : HL) (x1 : Int32) : Prop := ((¬ (h 1 5) = 2 → Q 0 h g) ∧ ((h 1 5) = 2 → ((¬ (h 1 6) = x1 → Q 0 h g) ∧ ((h 1 6) = x1 → Q 1 h g))))
theorem bX2_isWord_0 {D : DE} {f : Nat} {Q : Int32 → HI → HL → Prop} {F : Frm} {h : HI} {g : HL} (hF : k_Fix F) (x1 : Int32) (H : JX2_isWord_0 D f Q F h g x1) : V D mX2_isWord f (qi F Q) 0 [(0, .ref (ad D 1)), (1, .int x1)] [] (F, h, g) := by
  refine V_aload_n dX2_isWord_0 rfl 0 rfl ?_
  refine H_geti ck1 5 (by decide) (fs_1 hF) (by decide) rfl q137 dX2_isWord_1 ?_
  refine V_iconst (v := 2) dX2_isWord_4 (by decide) ?_
  refine V_icmp_ne (tgt := 20) dX2_isWord_5 (by decide) (fun c1 => ?_) (fun c1 => ?_)
  · have H := H.1 c1
    refine V_iconst (v := 0) dX2_isWord_20 (by decide) ?_
    exact H_zret rfl isB0 dX2_isWord_21 H
  · have H := H.2 c1
    refine V_aload_n dX2_isWord_8 rfl 0 rfl ?_
    refine H_geti ck1 6 (by decide) (fs_1 hF) (by decide) rfl q138 dX2_isWord_9 ?_
    refine V_iload_n dX2_isWord_12 rfl 1 rfl ?_
    refine V_icmp_ne (tgt := 20) dX2_isWord_13 (by decide) (fun c2 => ?_) (fun c2 => ?_)
    · have H := H.1 c2
      refine V_iconst (v := 0) dX2_isWord_20 (by decide) ?_
      exact H_zret rfl isB0 dX2_isWord_21 H
    · have H := H.2 c2
      refine V_iconst (v := 1) dX2_isWord_16 (by decide) ?_
      refine V_goto (tgt := 21) dX2_isWord_17 (by decide) ?_
      exact H_zret rfl isB1 dX2_isWord_21 H
theorem wX2_isWord {D : DE} {f : Nat} {Q : Int32 → HI → HL → Prop} {F : Frm} {h : HI} {g : HL} (hF : k_Fix F) (x1 : Int32) (H : JX2_isWord_0 D f Q F h g x1) : Si D f mX2_isWord [.ref (ad D 1), .int x1] F h g Q := Cl.ofV (by decide) (Nat.le_of_ble_eq_true rfl) rfl (bX2_isWord_0 hF x1 H)
theorem dX2_stands_0 : decode cX2_stands 0 = .ok (.aload_n 0, 1) := by decide +kernel
theorem dX2_stands_1 : decode cX2_stands 1 = .ok (.aload_n 0, 1) := by decide +kernel
theorem dX2_stands_2 : decode cX2_stands 2 = .ok (.getfield 55, 3) := by decide +kernel
theorem dX2_stands_5 : decode cX2_stands 5 = .ok (.ifCond .eq 7, 3) := by decide +kernel
theorem dX2_stands_8 : decode cX2_stands 8 = .ok (.iconst 1, 1) := by decide +kernel
theorem dX2_stands_9 : decode cX2_stands 9 = .ok (.goto 4, 3) := by decide +kernel
theorem dX2_stands_12 : decode cX2_stands 12 = .ok (.iconst 0, 1) := by decide +kernel
theorem dX2_stands_13 : decode cX2_stands 13 = .ok (.iconst 1, 1) := by decide +kernel
theorem dX2_stands_14 : decode cX2_stands 14 = .ok (.aload_n 0, 1) := by decide +kernel
theorem dX2_stands_15 : decode cX2_stands 15 = .ok (.getfield 52, 3) := by decide +kernel
theorem dX2_stands_18 : decode cX2_stands 18 = .ok (.invokevirtual 91, 3) := by decide +kernel
theorem dX2_stands_21 : decode cX2_stands 21 = .ok (.aload_n 0, 1) := by decide +kernel
theorem dX2_stands_22 : decode cX2_stands 22 = .ok (.iload_n 1, 1) := by decide +kernel
theorem dX2_stands_23 : decode cX2_stands 23 = .ok (.iconst 2, 1) := by decide +kernel
theorem dX2_stands_24 : decode cX2_stands 24 = .ok (.aload_n 0, 1) := by decide +kernel
theorem dX2_stands_25 : decode cX2_stands 25 = .ok (.getfield 52, 3) := by decide +kernel
theorem dX2_stands_28 : decode cX2_stands 28 = .ok (.invokevirtual 91, 3) := by decide +kernel
theorem dX2_stands_31 : decode cX2_stands 31 = .ok (.return_, 1) := by decide +kernel
abbrev JX2_stands_13 (D : DE) (f : Nat) (Q : Frm → HI → HL → Prop) (T : Nat → Frm → HI → HL → Prop) (F : Frm) (h : HI) (g : HL) (x1 : Int32) (s1 : Int32) : Prop := Gv D f mX2_want [.ref (ad D 1), .int s1, .int 1, .int (h 1 8)] F h g (fun F3 h1 g2 => Gv D f mX2_want [.ref (ad D 1), .int x1, .int 2, .int (h1 1 8)] F3 h1 g2 (fun F8 h6 g7 => Q F8 h6 g7) T) T
theorem bX2_stands_13 {D : DE} {f : Nat} {Q : Frm → HI → HL → Prop} {T : Nat → Frm → HI → HL → Prop} {F : Frm} {h : HI} {g : HL} (hF : k_Fix F) (x1 : Int32) (s1 : Int32) (H : JX2_stands_13 D f Q T F h g x1 s1) : V D mX2_stands (f + 1) (gv Q T) 13 [(0, .ref (ad D 1)), (1, .int x1)] [.int s1, .ref (ad D 1)] (F, h, g) := by
  refine V_iconst (v := 1) dX2_stands_13 (by decide) ?_
  refine V_aload_n dX2_stands_14 rfl 0 rfl ?_
  refine H_geti ck1 8 (by decide) (fs_1 hF) (by decide) rfl q142 dX2_stands_15 ?_
  refine G_callv (av := [.ref (ad D 1), .int s1, .int 1, .int (h 1 8)]) (rest := []) H mqX2_want q82 (by decide) (Nat.le_of_ble_eq_true rfl) (k_resV (ci := 1) (av := [.int s1, .int 1, .int (h 1 8)]) (rest := []) (fs_1 hF) (by decide) rfl rfl q574 q575 q576 q577 mhX2_want mnX2_want dX2_stands_18) (fun F3 h1 g2 hF4 H => ?_) (fun a e F1 h1 g1 hF1 ha ht => GT_v hF1 rfl ha ht)
  refine V_aload_n dX2_stands_21 rfl 0 rfl ?_
  refine V_iload_n dX2_stands_22 rfl 1 rfl ?_
  refine V_iconst (v := 2) dX2_stands_23 (by decide) ?_
  refine V_aload_n dX2_stands_24 rfl 0 rfl ?_
  refine H_geti ck1 8 (by decide) (fs_1 hF4) (by decide) rfl q142 dX2_stands_25 ?_
  refine G_callv (av := [.ref (ad D 1), .int x1, .int 2, .int (h1 1 8)]) (rest := []) H mqX2_want q82 (by decide) (Nat.le_of_ble_eq_true rfl) (k_resV (ci := 1) (av := [.int x1, .int 2, .int (h1 1 8)]) (rest := []) (fs_1 hF4) (by decide) rfl rfl q574 q575 q576 q577 mhX2_want mnX2_want dX2_stands_28) (fun F8 h6 g7 hF9 H => ?_) (fun a e F1 h1 g1 hF1 ha ht => GT_v hF1 rfl ha ht)
  exact G_vret hF9 rfl dX2_stands_31 H
abbrev JX2_stands_0 (D : DE) (f : Nat) (Q : Frm → HI → HL → Prop) (T : Nat → Frm → HI → HL → Prop) (F : Frm) (h : HI) (g : HL) (x1 : Int32) : Prop := (((h 1 5) = 0 → JX2_stands_13 D f Q T F h g x1 0) ∧ (¬ (h 1 5) = 0 → JX2_stands_13 D f Q T F h g x1 1))
theorem bX2_stands_0 {D : DE} {f : Nat} {Q : Frm → HI → HL → Prop} {T : Nat → Frm → HI → HL → Prop} {F : Frm} {h : HI} {g : HL} (hF : k_Fix F) (x1 : Int32) (H : JX2_stands_0 D f Q T F h g x1) : V D mX2_stands (f + 1) (gv Q T) 0 [(0, .ref (ad D 1)), (1, .int x1)] [] (F, h, g) := by
  refine V_aload_n dX2_stands_0 rfl 0 rfl ?_
  refine V_aload_n dX2_stands_1 rfl 0 rfl ?_
  refine H_geti ck1 5 (by decide) (fs_1 hF) (by decide) rfl q137 dX2_stands_2 ?_
  refine V_if_eq (tgt := 12) dX2_stands_5 (by decide) (fun c1 => ?_) (fun c1 => ?_)
  · have H := H.1 c1
    refine V_iconst (v := 0) dX2_stands_12 (by decide) ?_
    exact bX2_stands_13 hF x1 0 H
  · have H := H.2 c1
    refine V_iconst (v := 1) dX2_stands_8 (by decide) ?_
    refine V_goto (tgt := 13) dX2_stands_9 (by decide) ?_
    exact bX2_stands_13 hF x1 1 H
theorem wX2_stands {D : DE} {f : Nat} {Q : Frm → HI → HL → Prop} {T : Nat → Frm → HI → HL → Prop} {F : Frm} {h : HI} {g : HL} (hF : k_Fix F) (x1 : Int32) (H : JX2_stands_0 D f Q T F h g x1) : Gv D (f + 1) mX2_stands [.ref (ad D 1), .int x1] F h g Q T := Cl.ofV (by decide) (Nat.le_of_ble_eq_true rfl) rfl (bX2_stands_0 hF x1 H)
theorem dX2_room_0 : decode cX2_room 0 = .ok (.aload_n 0, 1) := by decide +kernel
theorem dX2_room_1 : decode cX2_room 1 = .ok (.aload_n 0, 1) := by decide +kernel
theorem dX2_room_2 : decode cX2_room 2 = .ok (.getfield 42, 3) := by decide +kernel
theorem dX2_room_5 : decode cX2_room 5 = .ok (.sipush 1000, 3) := by decide +kernel
theorem dX2_room_8 : decode cX2_room 8 = .ok (.if_icmp .gt 7, 3) := by decide +kernel
theorem dX2_room_11 : decode cX2_room 11 = .ok (.iconst 1, 1) := by decide +kernel
theorem dX2_room_12 : decode cX2_room 12 = .ok (.goto 4, 3) := by decide +kernel
theorem dX2_room_15 : decode cX2_room 15 = .ok (.iconst 0, 1) := by decide +kernel
theorem dX2_room_16 : decode cX2_room 16 = .ok (.bipush 6, 2) := by decide +kernel
theorem dX2_room_18 : decode cX2_room 18 = .ok (.aload_n 0, 1) := by decide +kernel
theorem dX2_room_19 : decode cX2_room 19 = .ok (.getfield 52, 3) := by decide +kernel
theorem dX2_room_22 : decode cX2_room 22 = .ok (.invokevirtual 91, 3) := by decide +kernel
theorem dX2_room_25 : decode cX2_room 25 = .ok (.return_, 1) := by decide +kernel
abbrev JX2_room_16 (D : DE) (f : Nat) (Q : Frm → HI → HL → Prop) (T : Nat → Frm → HI → HL → Prop) (F : Frm) (h : HI) (g : HL) (s1 : Int32) : Prop := Gv D f mX2_want [.ref (ad D 1), .int s1, .int 6, .int (h 1 8)] F h g (fun F3 h1 g2 => Q F3 h1 g2) T
theorem bX2_room_16 {D : DE} {f : Nat} {Q : Frm → HI → HL → Prop} {T : Nat → Frm → HI → HL → Prop} {F : Frm} {h : HI} {g : HL} (hF : k_Fix F) (s1 : Int32) (H : JX2_room_16 D f Q T F h g s1) : V D mX2_room (f + 1) (gv Q T) 16 [(0, .ref (ad D 1))] [.int s1, .ref (ad D 1)] (F, h, g) := by
  refine V_bipush (v := 6) dX2_room_16 (by decide) ?_
  refine V_aload_n dX2_room_18 rfl 0 rfl ?_
  refine H_geti ck1 8 (by decide) (fs_1 hF) (by decide) rfl q142 dX2_room_19 ?_
  refine G_callv (av := [.ref (ad D 1), .int s1, .int 6, .int (h 1 8)]) (rest := []) H mqX2_want q82 (by decide) (Nat.le_of_ble_eq_true rfl) (k_resV (ci := 1) (av := [.int s1, .int 6, .int (h 1 8)]) (rest := []) (fs_1 hF) (by decide) rfl rfl q574 q575 q576 q577 mhX2_want mnX2_want dX2_room_22) (fun F3 h1 g2 hF4 H => ?_) (fun a e F1 h1 g1 hF1 ha ht => GT_v hF1 rfl ha ht)
  exact G_vret hF4 rfl dX2_room_25 H
abbrev JX2_room_0 (D : DE) (f : Nat) (Q : Frm → HI → HL → Prop) (T : Nat → Frm → HI → HL → Prop) (F : Frm) (h : HI) (g : HL) : Prop := ((1000 < (h 1 4) → JX2_room_16 D f Q T F h g 0) ∧ (¬ 1000 < (h 1 4) → JX2_room_16 D f Q T F h g 1))
theorem bX2_room_0 {D : DE} {f : Nat} {Q : Frm → HI → HL → Prop} {T : Nat → Frm → HI → HL → Prop} {F : Frm} {h : HI} {g : HL} (hF : k_Fix F)  (H : JX2_room_0 D f Q T F h g ) : V D mX2_room (f + 1) (gv Q T) 0 [(0, .ref (ad D 1))] [] (F, h, g) := by
  refine V_aload_n dX2_room_0 rfl 0 rfl ?_
  refine V_aload_n dX2_room_1 rfl 0 rfl ?_
  refine H_geti ck1 4 (by decide) (fs_1 hF) (by decide) rfl q135 dX2_room_2 ?_
  refine V_sipush (v := 1000) dX2_room_5 (by decide) ?_
  refine V_icmp_gt (tgt := 15) dX2_room_8 (by decide) (fun c1 => ?_) (fun c1 => ?_)
  · have H := H.1 c1
    refine V_iconst (v := 0) dX2_room_15 (by decide) ?_
    exact bX2_room_16 hF 0 H
  · have H := H.2 c1
    refine V_iconst (v := 1) dX2_room_11 (by decide) ?_
    refine V_goto (tgt := 16) dX2_room_12 (by decide) ?_
    exact bX2_room_16 hF 1 H
theorem wX2_room {D : DE} {f : Nat} {Q : Frm → HI → HL → Prop} {T : Nat → Frm → HI → HL → Prop} {F : Frm} {h : HI} {g : HL} (hF : k_Fix F)  (H : JX2_room_0 D f Q T F h g ) : Gv D (f + 1) mX2_room [.ref (ad D 1)] F h g Q T := Cl.ofV (by decide) (Nat.le_of_ble_eq_true rfl) rfl (bX2_room_0 hF  H)
theorem dX2_sign_0 : decode cX2_sign 0 = .ok (.aload_n 0, 1) := by decide +kernel
theorem dX2_sign_1 : decode cX2_sign 1 = .ok (.aload_n 0, 1) := by decide +kernel
theorem dX2_sign_2 : decode cX2_sign 2 = .ok (.iload_n 1, 1) := by decide +kernel
theorem dX2_sign_3 : decode cX2_sign 3 = .ok (.invokevirtual 95, 3) := by decide +kernel
theorem dX2_sign_6 : decode cX2_sign 6 = .ok (.invokevirtual 98, 3) := by decide +kernel
theorem dX2_sign_9 : decode cX2_sign 9 = .ok (.aload_n 0, 1) := by decide +kernel
theorem dX2_sign_10 : decode cX2_sign 10 = .ok (.invokevirtual 102, 3) := by decide +kernel
theorem dX2_sign_13 : decode cX2_sign 13 = .ok (.aload_n 0, 1) := by decide +kernel
theorem dX2_sign_14 : decode cX2_sign 14 = .ok (.invokevirtual 45, 3) := by decide +kernel
theorem dX2_sign_17 : decode cX2_sign 17 = .ok (.return_, 1) := by decide +kernel
abbrev JX2_sign_0 (D : DE) (f : Nat) (Q : Frm → HI → HL → Prop) (T : Nat → Frm → HI → HL → Prop) (F : Frm) (h : HI) (g : HL) (x1 : Int32) : Prop := Si D f mX2_isSign [.ref (ad D 1), .int x1] F h g (fun y1 h2 g3 => Gv D f mX2_stands [.ref (ad D 1), .int y1] F h2 g3 (fun F6 h4 g5 => Gv D f mX2_room [.ref (ad D 1)] F6 h4 g5 (fun F11 h9 g10 => Sv D f mX2_next [.ref (ad D 1)] F11 h9 g10 (fun h14 g15 => Q F11 h14 g15)) T) T)
theorem bX2_sign_0 {D : DE} {f : Nat} {Q : Frm → HI → HL → Prop} {T : Nat → Frm → HI → HL → Prop} {F : Frm} {h : HI} {g : HL} (hF : k_Fix F) (x1 : Int32) (H : JX2_sign_0 D f Q T F h g x1) : V D mX2_sign (f + 1) (gv Q T) 0 [(0, .ref (ad D 1)), (1, .int x1)] [] (F, h, g) := by
  refine V_aload_n dX2_sign_0 rfl 0 rfl ?_
  refine V_aload_n dX2_sign_1 rfl 0 rfl ?_
  refine V_iload_n dX2_sign_2 rfl 1 rfl ?_
  refine H_calli (av := [.ref (ad D 1), .int x1]) (rest := [.ref (ad D 1)]) H mqX2_isSign q82 (by decide) (Nat.le_of_ble_eq_true rfl) (k_resV (ci := 1) (av := [.int x1]) (rest := [.ref (ad D 1)]) (fs_1 hF) (by decide) rfl rfl q732 q733 q734 q735 mhX2_isSign mnX2_isSign dX2_sign_3) (fun y1 h2 g3 H => ?_)
  refine G_callv (av := [.ref (ad D 1), .int y1]) (rest := []) H mqX2_stands q82 (by decide) (Nat.le_of_ble_eq_true rfl) (k_resV (ci := 1) (av := [.int y1]) (rest := []) (fs_1 hF) (by decide) rfl rfl q736 q571 q572 q573 mhX2_stands mnX2_stands dX2_sign_6) (fun F6 h4 g5 hF7 H => ?_) (fun a e F1 h1 g1 hF1 ha ht => GT_v hF1 rfl ha ht)
  refine V_aload_n dX2_sign_9 rfl 0 rfl ?_
  refine G_callv (av := [.ref (ad D 1)]) (rest := []) H mqX2_room q82 (by decide) (Nat.le_of_ble_eq_true rfl) (k_resV (ci := 1) (av := []) (rest := []) (fs_1 hF7) (by decide) rfl rfl q737 q724 q725 q726 mhX2_room mnX2_room dX2_sign_10) (fun F11 h9 g10 hF12 H => ?_) (fun a e F1 h1 g1 hF1 ha ht => GT_v hF1 rfl ha ht)
  refine V_aload_n dX2_sign_13 rfl 0 rfl ?_
  refine H_callv (av := [.ref (ad D 1)]) (rest := []) H mqX2_next q82 (by decide) (Nat.le_of_ble_eq_true rfl) (k_resV (ci := 1) (av := []) (rest := []) (fs_1 hF12) (by decide) rfl rfl q435 q436 q437 q438 mhX2_next mnX2_next dX2_sign_14) (fun h14 g15 H => ?_)
  exact G_vret hF12 rfl dX2_sign_17 H
theorem wX2_sign {D : DE} {f : Nat} {Q : Frm → HI → HL → Prop} {T : Nat → Frm → HI → HL → Prop} {F : Frm} {h : HI} {g : HL} (hF : k_Fix F) (x1 : Int32) (H : JX2_sign_0 D f Q T F h g x1) : Gv D (f + 1) mX2_sign [.ref (ad D 1), .int x1] F h g Q T := Cl.ofV (by decide) (Nat.le_of_ble_eq_true rfl) rfl (bX2_sign_0 hF x1 H)
theorem dX2_word_2_0 : decode cX2_word_2 0 = .ok (.aload_n 0, 1) := by decide +kernel
theorem dX2_word_2_1 : decode cX2_word_2 1 = .ok (.aload_n 0, 1) := by decide +kernel
theorem dX2_word_2_2 : decode cX2_word_2 2 = .ok (.iload_n 1, 1) := by decide +kernel
theorem dX2_word_2_3 : decode cX2_word_2 3 = .ok (.invokevirtual 105, 3) := by decide +kernel
theorem dX2_word_2_6 : decode cX2_word_2 6 = .ok (.invokevirtual 98, 3) := by decide +kernel
theorem dX2_word_2_9 : decode cX2_word_2 9 = .ok (.aload_n 0, 1) := by decide +kernel
theorem dX2_word_2_10 : decode cX2_word_2 10 = .ok (.invokevirtual 102, 3) := by decide +kernel
theorem dX2_word_2_13 : decode cX2_word_2 13 = .ok (.aload_n 0, 1) := by decide +kernel
theorem dX2_word_2_14 : decode cX2_word_2 14 = .ok (.invokevirtual 45, 3) := by decide +kernel
theorem dX2_word_2_17 : decode cX2_word_2 17 = .ok (.return_, 1) := by decide +kernel
abbrev JX2_word_2_0 (D : DE) (f : Nat) (Q : Frm → HI → HL → Prop) (T : Nat → Frm → HI → HL → Prop) (F : Frm) (h : HI) (g : HL) (x1 : Int32) : Prop := Si D f mX2_isWord [.ref (ad D 1), .int x1] F h g (fun y1 h2 g3 => Gv D f mX2_stands [.ref (ad D 1), .int y1] F h2 g3 (fun F6 h4 g5 => Gv D f mX2_room [.ref (ad D 1)] F6 h4 g5 (fun F11 h9 g10 => Sv D f mX2_next [.ref (ad D 1)] F11 h9 g10 (fun h14 g15 => Q F11 h14 g15)) T) T)
theorem bX2_word_2_0 {D : DE} {f : Nat} {Q : Frm → HI → HL → Prop} {T : Nat → Frm → HI → HL → Prop} {F : Frm} {h : HI} {g : HL} (hF : k_Fix F) (x1 : Int32) (H : JX2_word_2_0 D f Q T F h g x1) : V D mX2_word_2 (f + 1) (gv Q T) 0 [(0, .ref (ad D 1)), (1, .int x1)] [] (F, h, g) := by
  refine V_aload_n dX2_word_2_0 rfl 0 rfl ?_
  refine V_aload_n dX2_word_2_1 rfl 0 rfl ?_
  refine V_iload_n dX2_word_2_2 rfl 1 rfl ?_
  refine H_calli (av := [.ref (ad D 1), .int x1]) (rest := [.ref (ad D 1)]) H mqX2_isWord q82 (by decide) (Nat.le_of_ble_eq_true rfl) (k_resV (ci := 1) (av := [.int x1]) (rest := [.ref (ad D 1)]) (fs_1 hF) (by decide) rfl rfl q759 q752 q753 q754 mhX2_isWord mnX2_isWord dX2_word_2_3) (fun y1 h2 g3 H => ?_)
  refine G_callv (av := [.ref (ad D 1), .int y1]) (rest := []) H mqX2_stands q82 (by decide) (Nat.le_of_ble_eq_true rfl) (k_resV (ci := 1) (av := [.int y1]) (rest := []) (fs_1 hF) (by decide) rfl rfl q736 q571 q572 q573 mhX2_stands mnX2_stands dX2_word_2_6) (fun F6 h4 g5 hF7 H => ?_) (fun a e F1 h1 g1 hF1 ha ht => GT_v hF1 rfl ha ht)
  refine V_aload_n dX2_word_2_9 rfl 0 rfl ?_
  refine G_callv (av := [.ref (ad D 1)]) (rest := []) H mqX2_room q82 (by decide) (Nat.le_of_ble_eq_true rfl) (k_resV (ci := 1) (av := []) (rest := []) (fs_1 hF7) (by decide) rfl rfl q737 q724 q725 q726 mhX2_room mnX2_room dX2_word_2_10) (fun F11 h9 g10 hF12 H => ?_) (fun a e F1 h1 g1 hF1 ha ht => GT_v hF1 rfl ha ht)
  refine V_aload_n dX2_word_2_13 rfl 0 rfl ?_
  refine H_callv (av := [.ref (ad D 1)]) (rest := []) H mqX2_next q82 (by decide) (Nat.le_of_ble_eq_true rfl) (k_resV (ci := 1) (av := []) (rest := []) (fs_1 hF12) (by decide) rfl rfl q435 q436 q437 q438 mhX2_next mnX2_next dX2_word_2_14) (fun h14 g15 H => ?_)
  exact G_vret hF12 rfl dX2_word_2_17 H
theorem wX2_word_2 {D : DE} {f : Nat} {Q : Frm → HI → HL → Prop} {T : Nat → Frm → HI → HL → Prop} {F : Frm} {h : HI} {g : HL} (hF : k_Fix F) (x1 : Int32) (H : JX2_word_2_0 D f Q T F h g x1) : Gv D (f + 1) mX2_word_2 [.ref (ad D 1), .int x1] F h g Q T := Cl.ofV (by decide) (Nat.le_of_ble_eq_true rfl) rfl (bX2_word_2_0 hF x1 H)
theorem dX2_same_0 : decode cX2_same 0 = .ok (.aload_n 0, 1) := by decide +kernel
theorem dX2_same_1 : decode cX2_same 1 = .ok (.getfield 19, 3) := by decide +kernel
theorem dX2_same_4 : decode cX2_same 4 = .ok (.iload_n 1, 1) := by decide +kernel
theorem dX2_same_5 : decode cX2_same 5 = .ok (.iaload, 1) := by decide +kernel
theorem dX2_same_6 : decode cX2_same 6 = .ok (.aload_n 0, 1) := by decide +kernel
theorem dX2_same_7 : decode cX2_same 7 = .ok (.getfield 19, 3) := by decide +kernel
theorem dX2_same_10 : decode cX2_same 10 = .ok (.iload_n 2, 1) := by decide +kernel
theorem dX2_same_11 : decode cX2_same 11 = .ok (.iaload, 1) := by decide +kernel
theorem dX2_same_12 : decode cX2_same 12 = .ok (.if_icmp .ne 7, 3) := by decide +kernel
theorem dX2_same_15 : decode cX2_same 15 = .ok (.iconst 1, 1) := by decide +kernel
theorem dX2_same_16 : decode cX2_same 16 = .ok (.goto 4, 3) := by decide +kernel
theorem dX2_same_19 : decode cX2_same 19 = .ok (.iconst 0, 1) := by decide +kernel
theorem dX2_same_20 : decode cX2_same 20 = .ok (.istore_n 3, 1) := by decide +kernel
theorem dX2_same_21 : decode cX2_same 21 = .ok (.iconst 0, 1) := by decide +kernel
theorem dX2_same_22 : decode cX2_same 22 = .ok (.istore 4, 2) := by decide +kernel
theorem dX2_same_24 : decode cX2_same 24 = .ok (.iload 4, 2) := by decide +kernel
theorem dX2_same_26 : decode cX2_same 26 = .ok (.aload_n 0, 1) := by decide +kernel
theorem dX2_same_27 : decode cX2_same 27 = .ok (.getfield 19, 3) := by decide +kernel
theorem dX2_same_30 : decode cX2_same 30 = .ok (.iload_n 1, 1) := by decide +kernel
theorem dX2_same_31 : decode cX2_same 31 = .ok (.iaload, 1) := by decide +kernel
theorem dX2_same_32 : decode cX2_same 32 = .ok (.if_icmp .ge 50, 3) := by decide +kernel
theorem dX2_same_35 : decode cX2_same 35 = .ok (.iload_n 3, 1) := by decide +kernel
theorem dX2_same_36 : decode cX2_same 36 = .ok (.ifCond .eq 46, 3) := by decide +kernel
theorem dX2_same_39 : decode cX2_same 39 = .ok (.aload_n 0, 1) := by decide +kernel
theorem dX2_same_40 : decode cX2_same 40 = .ok (.getfield 9, 3) := by decide +kernel
theorem dX2_same_43 : decode cX2_same 43 = .ok (.aload_n 0, 1) := by decide +kernel
theorem dX2_same_44 : decode cX2_same 44 = .ok (.getfield 15, 3) := by decide +kernel
theorem dX2_same_47 : decode cX2_same 47 = .ok (.iload_n 1, 1) := by decide +kernel
theorem dX2_same_48 : decode cX2_same 48 = .ok (.iaload, 1) := by decide +kernel
theorem dX2_same_49 : decode cX2_same 49 = .ok (.iload 4, 2) := by decide +kernel
theorem dX2_same_51 : decode cX2_same 51 = .ok (.iadd, 1) := by decide +kernel
theorem dX2_same_52 : decode cX2_same 52 = .ok (.baload, 1) := by decide +kernel
theorem dX2_same_53 : decode cX2_same 53 = .ok (.aload_n 0, 1) := by decide +kernel
theorem dX2_same_54 : decode cX2_same 54 = .ok (.getfield 9, 3) := by decide +kernel
theorem dX2_same_57 : decode cX2_same 57 = .ok (.aload_n 0, 1) := by decide +kernel
theorem dX2_same_58 : decode cX2_same 58 = .ok (.getfield 15, 3) := by decide +kernel
theorem dX2_same_61 : decode cX2_same 61 = .ok (.iload_n 2, 1) := by decide +kernel
theorem dX2_same_62 : decode cX2_same 62 = .ok (.iaload, 1) := by decide +kernel
theorem dX2_same_63 : decode cX2_same 63 = .ok (.iload 4, 2) := by decide +kernel
theorem dX2_same_65 : decode cX2_same 65 = .ok (.iadd, 1) := by decide +kernel
theorem dX2_same_66 : decode cX2_same 66 = .ok (.baload, 1) := by decide +kernel
theorem dX2_same_67 : decode cX2_same 67 = .ok (.if_icmp .ne 7, 3) := by decide +kernel
theorem dX2_same_70 : decode cX2_same 70 = .ok (.iconst 1, 1) := by decide +kernel
theorem dX2_same_71 : decode cX2_same 71 = .ok (.goto 4, 3) := by decide +kernel
theorem dX2_same_74 : decode cX2_same 74 = .ok (.iconst 0, 1) := by decide +kernel
theorem dX2_same_75 : decode cX2_same 75 = .ok (.istore_n 3, 1) := by decide +kernel
theorem dX2_same_76 : decode cX2_same 76 = .ok (.iinc 4 1, 3) := by decide +kernel
theorem dX2_same_79 : decode cX2_same 79 = .ok (.goto (-55), 3) := by decide +kernel
theorem dX2_same_82 : decode cX2_same 82 = .ok (.iload_n 3, 1) := by decide +kernel
theorem dX2_same_83 : decode cX2_same 83 = .ok (.ireturn, 1) := by decide +kernel
abbrev JX2_same_75 (D : DE) (f : Nat) (Q : Int32 → HI → HL → Prop) (F : Frm) (h : HI) (g : HL) (x1 : Int32) (x2 : Int32) (x4 : Int32) (s0 : Int32) : Prop := ∀ y1 : Int32, y1 = x4 + 1 → V D mX2_same f (qi F Q) 24 [(0, .ref (ad D 1)), (1, .int x1), (2, .int x2), (3, .int s0), (4, .int y1)] [] (F, h, g)
theorem bX2_same_75 {D : DE} {f : Nat} {Q : Int32 → HI → HL → Prop} {F : Frm} {h : HI} {g : HL} (hF : k_Fix F) (x1 : Int32) (x2 : Int32) (x4 : Int32) (s0 : Int32) (H : JX2_same_75 D f Q F h g x1 x2 x4 s0) : V D mX2_same f (qi F Q) 75 [(0, .ref (ad D 1)), (1, .int x1), (2, .int x2), (4, .int x4)] [.int s0] (F, h, g) := by
  refine V_istore_n (l1 := [(3, .int s0), (0, .ref (ad D 1)), (1, .int x1), (2, .int x2), (4, .int x4)]) dX2_same_75 rfl (by decide) rfl ?_
  obtain ⟨y1, e2⟩ : ∃ y : Int32, y = x4 + 1 := ⟨_, rfl⟩
  have H := H y1 e2
  refine V_iinc (j := 4) (v := y1) (l1 := [(4, .int y1), (3, .int s0), (0, .ref (ad D 1)), (1, .int x1), (2, .int x2)]) dX2_same_76 rfl (by rw [e2]; rfl) (by decide) rfl ?_
  refine V_goto (tgt := 24) dX2_same_79 (by decide) ?_
  refine V.sub [2, 3, 4, 1, 0] rfl ?_
  exact H
abbrev JX2_same_24 (D : DE) (f : Nat) (Q : Int32 → HI → HL → Prop) (F : Frm) (h : HI) (g : HL) (x1 : Int32) (x2 : Int32) (x3 : Int32) (x4 : Int32) : Prop := vp_in x1 1001 ∧ (((h 4 (ix x1)) ≤ x4 → (isB x3 ∧ Q x3 h g)) ∧ (¬ (h 4 (ix x1)) ≤ x4 → ((x3 = 0 → (isB x3 ∧ Q x3 h g)) ∧ (¬ x3 = 0 → vp_in x1 1001 ∧ vp_in ((h 3 (ix x1)) + x4) 4000 ∧ vp_in x2 1001 ∧ vp_in ((h 3 (ix x2)) + x4) 4000 ∧ ((¬ (h 2 (ix ((h 3 (ix x1)) + x4))) = (h 2 (ix ((h 3 (ix x2)) + x4))) → JX2_same_75 D f Q F h g x1 x2 x4 0) ∧ ((h 2 (ix ((h 3 (ix x1)) + x4))) = (h 2 (ix ((h 3 (ix x2)) + x4))) → JX2_same_75 D f Q F h g x1 x2 x4 1))))))
theorem bX2_same_24 {D : DE} {f : Nat} {Q : Int32 → HI → HL → Prop} {F : Frm} {h : HI} {g : HL} (hF : k_Fix F) (x1 : Int32) (x2 : Int32) (x3 : Int32) (x4 : Int32) (H : JX2_same_24 D f Q F h g x1 x2 x3 x4) : V D mX2_same f (qi F Q) 24 [(0, .ref (ad D 1)), (1, .int x1), (2, .int x2), (3, .int x3), (4, .int x4)] [] (F, h, g) := by
  refine V_iload dX2_same_24 4 rfl ?_
  refine V_aload_n dX2_same_26 rfl 0 rfl ?_
  refine H_getr ck1 3 (by decide) (fs_1 hF) (by decide) rfl (fr_1_3 hF) q134 dX2_same_27 ?_
  refine V_iload_n dX2_same_30 rfl 1 rfl ?_
  obtain ⟨i1, H⟩ := H
  refine H_iald (fs_4 hF) i1 dX2_same_31 ?_
  refine V_icmp_ge (tgt := 82) dX2_same_32 (by decide) (fun c2 => ?_) (fun c2 => ?_)
  · have H := H.1 c2
    refine V_iload_n dX2_same_82 rfl 3 rfl ?_
    exact H_zret rfl H.1 dX2_same_83 H.2
  · have H := H.2 c2
    refine V_iload_n dX2_same_35 rfl 3 rfl ?_
    refine V_if_eq (tgt := 82) dX2_same_36 (by decide) (fun c3 => ?_) (fun c3 => ?_)
    · have H := H.1 c3
      refine V_iload_n dX2_same_82 rfl 3 rfl ?_
      exact H_zret rfl H.1 dX2_same_83 H.2
    · have H := H.2 c3
      refine V_aload_n dX2_same_39 rfl 0 rfl ?_
      refine H_getr ck1 0 (by decide) (fs_1 hF) (by decide) rfl (fr_1_0 hF) q128 dX2_same_40 ?_
      refine V_aload_n dX2_same_43 rfl 0 rfl ?_
      refine H_getr ck1 2 (by decide) (fs_1 hF) (by decide) rfl (fr_1_2 hF) q132 dX2_same_44 ?_
      refine V_iload_n dX2_same_47 rfl 1 rfl ?_
      obtain ⟨i4, H⟩ := H
      refine H_iald (fs_3 hF) i4 dX2_same_48 ?_
      refine V_iload dX2_same_49 4 rfl ?_
      refine V_iadd dX2_same_51 ?_
      obtain ⟨i5, H⟩ := H
      refine H_bald (fs_2 hF) i5 dX2_same_52 ?_
      refine V_aload_n dX2_same_53 rfl 0 rfl ?_
      refine H_getr ck1 0 (by decide) (fs_1 hF) (by decide) rfl (fr_1_0 hF) q128 dX2_same_54 ?_
      refine V_aload_n dX2_same_57 rfl 0 rfl ?_
      refine H_getr ck1 2 (by decide) (fs_1 hF) (by decide) rfl (fr_1_2 hF) q132 dX2_same_58 ?_
      refine V_iload_n dX2_same_61 rfl 2 rfl ?_
      obtain ⟨i6, H⟩ := H
      refine H_iald (fs_3 hF) i6 dX2_same_62 ?_
      refine V_iload dX2_same_63 4 rfl ?_
      refine V_iadd dX2_same_65 ?_
      obtain ⟨i7, H⟩ := H
      refine H_bald (fs_2 hF) i7 dX2_same_66 ?_
      refine V_icmp_ne (tgt := 74) dX2_same_67 (by decide) (fun c8 => ?_) (fun c8 => ?_)
      · have H := H.1 c8
        refine V_iconst (v := 0) dX2_same_74 (by decide) ?_
        refine V.sub [0, 1, 2, 4] rfl ?_
        exact bX2_same_75 hF x1 x2 x4 0 H
      · have H := H.2 c8
        refine V_iconst (v := 1) dX2_same_70 (by decide) ?_
        refine V_goto (tgt := 75) dX2_same_71 (by decide) ?_
        refine V.sub [0, 1, 2, 4] rfl ?_
        exact bX2_same_75 hF x1 x2 x4 1 H
abbrev JX2_same_20 (D : DE) (f : Nat) (Q : Int32 → HI → HL → Prop) (F : Frm) (h : HI) (g : HL) (x1 : Int32) (x2 : Int32) (s0 : Int32) : Prop := V D mX2_same f (qi F Q) 24 [(0, .ref (ad D 1)), (1, .int x1), (2, .int x2), (3, .int s0), (4, .int 0)] [] (F, h, g)
theorem bX2_same_20 {D : DE} {f : Nat} {Q : Int32 → HI → HL → Prop} {F : Frm} {h : HI} {g : HL} (hF : k_Fix F) (x1 : Int32) (x2 : Int32) (s0 : Int32) (H : JX2_same_20 D f Q F h g x1 x2 s0) : V D mX2_same f (qi F Q) 20 [(0, .ref (ad D 1)), (1, .int x1), (2, .int x2)] [.int s0] (F, h, g) := by
  refine V_istore_n (l1 := [(3, .int s0), (0, .ref (ad D 1)), (1, .int x1), (2, .int x2)]) dX2_same_20 rfl (by decide) rfl ?_
  refine V_iconst (v := 0) dX2_same_21 (by decide) ?_
  refine V_istore (l1 := [(4, .int 0), (3, .int s0), (0, .ref (ad D 1)), (1, .int x1), (2, .int x2)]) dX2_same_22 (by decide) rfl ?_
  refine V.sub [2, 3, 4, 1, 0] rfl ?_
  exact H
abbrev JX2_same_0 (D : DE) (f : Nat) (Q : Int32 → HI → HL → Prop) (F : Frm) (h : HI) (g : HL) (x1 : Int32) (x2 : Int32) : Prop := vp_in x1 1001 ∧ vp_in x2 1001 ∧ ((¬ (h 4 (ix x1)) = (h 4 (ix x2)) → JX2_same_20 D f Q F h g x1 x2 0) ∧ ((h 4 (ix x1)) = (h 4 (ix x2)) → JX2_same_20 D f Q F h g x1 x2 1))
theorem bX2_same_0 {D : DE} {f : Nat} {Q : Int32 → HI → HL → Prop} {F : Frm} {h : HI} {g : HL} (hF : k_Fix F) (x1 : Int32) (x2 : Int32) (H : JX2_same_0 D f Q F h g x1 x2) : V D mX2_same f (qi F Q) 0 [(0, .ref (ad D 1)), (1, .int x1), (2, .int x2)] [] (F, h, g) := by
  refine V_aload_n dX2_same_0 rfl 0 rfl ?_
  refine H_getr ck1 3 (by decide) (fs_1 hF) (by decide) rfl (fr_1_3 hF) q134 dX2_same_1 ?_
  refine V_iload_n dX2_same_4 rfl 1 rfl ?_
  obtain ⟨i1, H⟩ := H
  refine H_iald (fs_4 hF) i1 dX2_same_5 ?_
  refine V_aload_n dX2_same_6 rfl 0 rfl ?_
  refine H_getr ck1 3 (by decide) (fs_1 hF) (by decide) rfl (fr_1_3 hF) q134 dX2_same_7 ?_
  refine V_iload_n dX2_same_10 rfl 2 rfl ?_
  obtain ⟨i2, H⟩ := H
  refine H_iald (fs_4 hF) i2 dX2_same_11 ?_
  refine V_icmp_ne (tgt := 19) dX2_same_12 (by decide) (fun c3 => ?_) (fun c3 => ?_)
  · have H := H.1 c3
    refine V_iconst (v := 0) dX2_same_19 (by decide) ?_
    exact bX2_same_20 hF x1 x2 0 H
  · have H := H.2 c3
    refine V_iconst (v := 1) dX2_same_15 (by decide) ?_
    refine V_goto (tgt := 20) dX2_same_16 (by decide) ?_
    exact bX2_same_20 hF x1 x2 1 H
theorem wX2_same {D : DE} {f : Nat} {Q : Int32 → HI → HL → Prop} {F : Frm} {h : HI} {g : HL} (hF : k_Fix F) (x1 : Int32) (x2 : Int32) (H : JX2_same_0 D f Q F h g x1 x2) : Si D f mX2_same [.ref (ad D 1), .int x1, .int x2] F h g Q := Cl.ofV (by decide) (Nat.le_of_ble_eq_true rfl) rfl (bX2_same_0 hF x1 x2 H)
theorem dX6_init_0 : decode cX6_init 0 = .ok (.aload_n 0, 1) := by decide +kernel
theorem dX6_init_1 : decode cX6_init 1 = .ok (.invokespecial 3, 3) := by decide +kernel
theorem dX6_init_4 : decode cX6_init 4 = .ok (.aload_n 0, 1) := by decide +kernel
theorem dX6_init_5 : decode cX6_init 5 = .ok (.bipush 16, 2) := by decide +kernel
theorem dX6_init_7 : decode cX6_init 7 = .ok (.newarray .int, 2) := by decide +kernel
theorem dX6_init_9 : decode cX6_init 9 = .ok (.putfield 9, 3) := by decide +kernel
theorem dX6_init_12 : decode cX6_init 12 = .ok (.return_, 1) := by decide +kernel
abbrev JX6_init_0 (D : DE) (f : Nat) (Q : Frm → HI → HL → Prop) (T : Nat → Frm → HI → HL → Prop) (F : Frm) (h : HI) (g : HL) (x0 : Nat) : Prop := 160 ≤ F.1.1 ∧ ∀ F2 h3 g4, F2 = fnw F (0, 16) 16 → h3 = up1 h F.1.1 (fun _ => 0) → g4 = up1 g F.1.1 (fun _ => 0) → F2.2.1 x0 = (15, 0) ∧ ∀ F11, F11 = fwr F2 x0 0 (some F.1.1) → 160 ≤ x0 ∧ Q F11 h3 g4
theorem bX6_init_0 {D : DE} {f : Nat} {Q : Frm → HI → HL → Prop} {T : Nat → Frm → HI → HL → Prop} {F : Frm} {h : HI} {g : HL} (hF : k_Fix F) (x0 : Nat) (H : JX6_init_0 D f Q T F h g x0) : V D mX6_init (f + 1) (gv Q T) 0 [(0, .ref (ad D x0))] [] (F, h, g) := by
  refine V_aload_n dX6_init_0 rfl 0 rfl ?_
  refine V_objInit (by omega) (Nat.le_of_ble_eq_true rfl) q238 q120 q121 dX6_init_1 ?_
  refine V_aload_n dX6_init_4 rfl 0 rfl ?_
  refine V_bipush (v := 16) dX6_init_5 (by decide) ?_
  obtain ⟨z1, H⟩ := H
  refine G_newa (t := 0) (N := 16) rfl (by decide) rfl (fun _ h => h) q171 (by decide) (by decide) (by decide) rfl dX6_init_7 (fun F2 h3 g4 e5 e6 e7 => ?_)
  have H := H F2 h3 g4 e5 e6 e7
  have hF8 : k_Fix F2 := by rw [e5]; exact k_Fix.new hF z1 _ _
  have z9 : F2.2.1 F.1.1 = (0, 16) := by rw [e5]; simp [fnw, up0]
  obtain ⟨z10, H⟩ := H
  refine G_putrF ck5 0 (by decide) z10 (by decide) rfl (fun _ => rfl) (fun _ => rfl) rfl rfl rfl q239 dX6_init_9 (fun F11 e12 => ?_)
  have H := H F11 e12
  obtain ⟨z14, H⟩ := H
  have hF13 : k_Fix F11 := by rw [e12]; exact k_Fix.wr hF8 (fx_okD z14) _
  have z15 : F11.2.1 F.1.1 = (0, 16) := by rw [e12]; exact z9
  have z16 : F11.2.1 x0 = (15, 0) := by rw [e12]; exact z10
  exact G_vret hF13 rfl dX6_init_12 H
theorem wX6_init {D : DE} {f : Nat} {Q : Frm → HI → HL → Prop} {T : Nat → Frm → HI → HL → Prop} {F : Frm} {h : HI} {g : HL} (hF : k_Fix F) (x0 : Nat) (H : JX6_init_0 D f Q T F h g x0) : Gv D (f + 1) mX6_init [.ref (ad D x0)] F h g Q T := Cl.ofV (by decide) (Nat.le_of_ble_eq_true rfl) rfl (bX6_init_0 hF x0 H)
theorem dX6_clear_0 : decode cX6_clear 0 = .ok (.aload_n 0, 1) := by decide +kernel
theorem dX6_clear_1 : decode cX6_clear 1 = .ok (.iconst 0, 1) := by decide +kernel
theorem dX6_clear_2 : decode cX6_clear 2 = .ok (.putfield 15, 3) := by decide +kernel
theorem dX6_clear_5 : decode cX6_clear 5 = .ok (.iconst 0, 1) := by decide +kernel
theorem dX6_clear_6 : decode cX6_clear 6 = .ok (.istore_n 1, 1) := by decide +kernel
theorem dX6_clear_7 : decode cX6_clear 7 = .ok (.iload_n 1, 1) := by decide +kernel
theorem dX6_clear_8 : decode cX6_clear 8 = .ok (.bipush 16, 2) := by decide +kernel
theorem dX6_clear_10 : decode cX6_clear 10 = .ok (.if_icmp .ge 16, 3) := by decide +kernel
theorem dX6_clear_13 : decode cX6_clear 13 = .ok (.aload_n 0, 1) := by decide +kernel
theorem dX6_clear_14 : decode cX6_clear 14 = .ok (.getfield 9, 3) := by decide +kernel
theorem dX6_clear_17 : decode cX6_clear 17 = .ok (.iload_n 1, 1) := by decide +kernel
theorem dX6_clear_18 : decode cX6_clear 18 = .ok (.iconst 0, 1) := by decide +kernel
theorem dX6_clear_19 : decode cX6_clear 19 = .ok (.iastore, 1) := by decide +kernel
theorem dX6_clear_20 : decode cX6_clear 20 = .ok (.iinc 1 1, 3) := by decide +kernel
theorem dX6_clear_23 : decode cX6_clear 23 = .ok (.goto (-16), 3) := by decide +kernel
theorem dX6_clear_26 : decode cX6_clear 26 = .ok (.return_, 1) := by decide +kernel
abbrev JX6_clear_7 (D : DE) (f : Nat) (Q : HI → HL → Prop) (F : Frm) (h : HI) (g : HL) (x0 : Nat) (x1 : Int32) : Prop := ((16 ≤ x1 → Q h g) ∧ (¬ 16 ≤ x1 → F.2.1 x0 = (15, 0) ∧ ∃ b3 : Nat, F.2.2 x0 0 = some b3 ∧ ∃ m5 : Nat, F.2.1 b3 = (0, m5) ∧ vp_in x1 m5 ∧ ∀ h8, h8 = up2 h b3 (ix x1) 0 → ∀ y10 : Int32, y10 = x1 + 1 → V D mX6_clear f (qv F Q) 7 [(0, .ref (ad D x0)), (1, .int y10)] [] (F, h8, g)))
theorem bX6_clear_7 {D : DE} {f : Nat} {Q : HI → HL → Prop} {F : Frm} {h : HI} {g : HL} (hF : k_Fix F) (x0 : Nat) (x1 : Int32) (H : JX6_clear_7 D f Q F h g x0 x1) : V D mX6_clear f (qv F Q) 7 [(0, .ref (ad D x0)), (1, .int x1)] [] (F, h, g) := by
  refine V_iload_n dX6_clear_7 rfl 1 rfl ?_
  refine V_bipush (v := 16) dX6_clear_8 (by decide) ?_
  refine V_icmp_ge (tgt := 26) dX6_clear_10 (by decide) (fun c1 => ?_) (fun c1 => ?_)
  · have H := H.1 c1
    exact H_vret rfl dX6_clear_26 H
  · have H := H.2 c1
    refine V_aload_n dX6_clear_13 rfl 0 rfl ?_
    obtain ⟨z2, H⟩ := H
    obtain ⟨b3, z4, H⟩ := H
    refine H_getr ck5 0 (by decide) z2 (by decide) rfl z4 q239 dX6_clear_14 ?_
    refine V_iload_n dX6_clear_17 rfl 1 rfl ?_
    refine V_iconst (v := 0) dX6_clear_18 (by decide) ?_
    obtain ⟨m5, z6, H⟩ := H
    obtain ⟨i7, H⟩ := H
    refine H_iast z6 i7 dX6_clear_19 (fun h8 e9 => ?_)
    have H := H h8 e9
    obtain ⟨y10, e11⟩ : ∃ y : Int32, y = x1 + 1 := ⟨_, rfl⟩
    have H := H y10 e11
    refine V_iinc (j := 1) (v := y10) (l1 := [(1, .int y10), (0, .ref (ad D x0))]) dX6_clear_20 rfl (by rw [e11]; rfl) (by decide) rfl ?_
    refine V_goto (tgt := 7) dX6_clear_23 (by decide) ?_
    refine V.sub [1, 0] rfl ?_
    exact H
abbrev JX6_clear_0 (D : DE) (f : Nat) (Q : HI → HL → Prop) (F : Frm) (h : HI) (g : HL) (x0 : Nat) : Prop := F.2.1 x0 = (15, 0) ∧ ∀ h2, h2 = up2 h x0 1 0 → V D mX6_clear f (qv F Q) 7 [(0, .ref (ad D x0)), (1, .int 0)] [] (F, h2, g)
theorem bX6_clear_0 {D : DE} {f : Nat} {Q : HI → HL → Prop} {F : Frm} {h : HI} {g : HL} (hF : k_Fix F) (x0 : Nat) (H : JX6_clear_0 D f Q F h g x0) : V D mX6_clear f (qv F Q) 0 [(0, .ref (ad D x0))] [] (F, h, g) := by
  refine V_aload_n dX6_clear_0 rfl 0 rfl ?_
  refine V_iconst (v := 0) dX6_clear_1 (by decide) ?_
  obtain ⟨z1, H⟩ := H
  refine H_putz ck5 1 (by decide) z1 (by decide) rfl isB0 rfl q244 dX6_clear_2 (fun h2 e3 => ?_)
  have H := H h2 e3
  refine V_iconst (v := 0) dX6_clear_5 (by decide) ?_
  refine V_istore_n (l1 := [(1, .int 0), (0, .ref (ad D x0))]) dX6_clear_6 rfl (by decide) rfl ?_
  refine V.sub [1, 0] rfl ?_
  exact H
theorem wX6_clear {D : DE} {f : Nat} {Q : HI → HL → Prop} {F : Frm} {h : HI} {g : HL} (hF : k_Fix F) (x0 : Nat) (H : JX6_clear_0 D f Q F h g x0) : Sv D f mX6_clear [.ref (ad D x0)] F h g Q := Cl.ofV (by decide) (Nat.le_of_ble_eq_true rfl) rfl (bX6_clear_0 hF x0 H)
theorem dX6_add_0 : decode cX6_add 0 = .ok (.aload_n 0, 1) := by decide +kernel
theorem dX6_add_1 : decode cX6_add 1 = .ok (.getfield 9, 3) := by decide +kernel
theorem dX6_add_4 : decode cX6_add 4 = .ok (.iload_n 2, 1) := by decide +kernel
theorem dX6_add_5 : decode cX6_add 5 = .ok (.aload_n 1, 1) := by decide +kernel
theorem dX6_add_6 : decode cX6_add 6 = .ok (.iload_n 2, 1) := by decide +kernel
theorem dX6_add_7 : decode cX6_add 7 = .ok (.iaload, 1) := by decide +kernel
theorem dX6_add_8 : decode cX6_add 8 = .ok (.aload_n 0, 1) := by decide +kernel
theorem dX6_add_9 : decode cX6_add 9 = .ok (.getfield 9, 3) := by decide +kernel
theorem dX6_add_12 : decode cX6_add 12 = .ok (.iload_n 2, 1) := by decide +kernel
theorem dX6_add_13 : decode cX6_add 13 = .ok (.iaload, 1) := by decide +kernel
theorem dX6_add_14 : decode cX6_add 14 = .ok (.iload_n 3, 1) := by decide +kernel
theorem dX6_add_15 : decode cX6_add 15 = .ok (.invokestatic 19, 3) := by decide +kernel
theorem dX6_add_18 : decode cX6_add 18 = .ok (.iastore, 1) := by decide +kernel
theorem dX6_add_19 : decode cX6_add 19 = .ok (.return_, 1) := by decide +kernel
abbrev JX6_add_0 (D : DE) (f : Nat) (Q : HI → HL → Prop) (F : Frm) (h : HI) (g : HL) (x0 : Nat) (x1 : Nat) (x2 : Int32) (x3 : Int32) : Prop := F.2.1 x0 = (15, 0) ∧ ∃ b2 : Nat, F.2.2 x0 0 = some b2 ∧ ∃ m4 : Nat, F.2.1 x1 = (0, m4) ∧ vp_in x2 m4 ∧ ∃ b7 : Nat, F.2.2 x0 0 = some b7 ∧ ∃ m9 : Nat, F.2.1 b7 = (0, m9) ∧ vp_in x2 m9 ∧ Si D f mX1_together [.int (h x1 (ix x2)), .int (h b7 (ix x2)), .int x3] F h g (fun y12 h13 g14 => ∃ m15 : Nat, F.2.1 b2 = (0, m15) ∧ vp_in x2 m15 ∧ ∀ h18, h18 = up2 h13 b2 (ix x2) y12 → Q h18 g14)
theorem bX6_add_0 {D : DE} {f : Nat} {Q : HI → HL → Prop} {F : Frm} {h : HI} {g : HL} (hF : k_Fix F) (x0 : Nat) (x1 : Nat) (x2 : Int32) (x3 : Int32) (H : JX6_add_0 D f Q F h g x0 x1 x2 x3) : V D mX6_add (f + 1) (qv F Q) 0 [(0, .ref (ad D x0)), (1, .ref (ad D x1)), (2, .int x2), (3, .int x3)] [] (F, h, g) := by
  refine V_aload_n dX6_add_0 rfl 0 rfl ?_
  obtain ⟨z1, H⟩ := H
  obtain ⟨b2, z3, H⟩ := H
  refine H_getr ck5 0 (by decide) z1 (by decide) rfl z3 q239 dX6_add_1 ?_
  refine V_iload_n dX6_add_4 rfl 2 rfl ?_
  refine V_aload_n dX6_add_5 rfl 1 rfl ?_
  refine V_iload_n dX6_add_6 rfl 2 rfl ?_
  obtain ⟨m4, z5, H⟩ := H
  obtain ⟨i6, H⟩ := H
  refine H_iald z5 i6 dX6_add_7 ?_
  refine V_aload_n dX6_add_8 rfl 0 rfl ?_
  obtain ⟨b7, z8, H⟩ := H
  refine H_getr ck5 0 (by decide) z1 (by decide) rfl z8 q239 dX6_add_9 ?_
  refine V_iload_n dX6_add_12 rfl 2 rfl ?_
  obtain ⟨m9, z10, H⟩ := H
  obtain ⟨i11, H⟩ := H
  refine H_iald z10 i11 dX6_add_13 ?_
  refine V_iload_n dX6_add_14 rfl 3 rfl ?_
  refine H_calli (av := [.int (h x1 (ix x2)), .int (h b7 (ix x2)), .int x3]) (rest := [.int x2, .ref (ad D b2)]) H mqX1_together q81 (by decide) (Nat.le_of_ble_eq_true rfl) (k_resSN (av := [.int (h x1 (ix x2)), .int (h b7 (ix x2)), .int x3]) (rest := [.int x2, .ref (ad D b2)]) (M1 := mX1_together) rfl q1209 q1210 q81 mqX1_together (fun _ _ h => mW_named h) mhX1_together mnX1_together dX6_add_15) (fun y12 h13 g14 H => ?_)
  obtain ⟨m15, z16, H⟩ := H
  obtain ⟨i17, H⟩ := H
  refine H_iast z16 i17 dX6_add_18 (fun h18 e19 => ?_)
  have H := H h18 e19
  exact H_vret rfl dX6_add_19 H
theorem wX6_add {D : DE} {f : Nat} {Q : HI → HL → Prop} {F : Frm} {h : HI} {g : HL} (hF : k_Fix F) (x0 : Nat) (x1 : Nat) (x2 : Int32) (x3 : Int32) (H : JX6_add_0 D f Q F h g x0 x1 x2 x3) : Sv D (f + 1) mX6_add [.ref (ad D x0), .ref (ad D x1), .int x2, .int x3] F h g Q := Cl.ofV (by decide) (Nat.le_of_ble_eq_true rfl) rfl (bX6_add_0 hF x0 x1 x2 x3 H)
theorem dX6_addEither_0 : decode cX6_addEither 0 = .ok (.aload_n 0, 1) := by decide +kernel
theorem dX6_addEither_1 : decode cX6_addEither 1 = .ok (.dup, 1) := by decide +kernel
theorem dX6_addEither_2 : decode cX6_addEither 2 = .ok (.getfield 15, 3) := by decide +kernel
theorem dX6_addEither_5 : decode cX6_addEither 5 = .ok (.aload_n 3, 1) := by decide +kernel
theorem dX6_addEither_6 : decode cX6_addEither 6 = .ok (.getfield 15, 3) := by decide +kernel
theorem dX6_addEither_9 : decode cX6_addEither 9 = .ok (.ifCond .eq 15, 3) := by decide +kernel
theorem dX6_addEither_12 : decode cX6_addEither 12 = .ok (.aload 4, 2) := by decide +kernel
theorem dX6_addEither_14 : decode cX6_addEither 14 = .ok (.getfield 15, 3) := by decide +kernel
theorem dX6_addEither_17 : decode cX6_addEither 17 = .ok (.ifCond .eq 7, 3) := by decide +kernel
theorem dX6_addEither_20 : decode cX6_addEither 20 = .ok (.iconst 1, 1) := by decide +kernel
theorem dX6_addEither_21 : decode cX6_addEither 21 = .ok (.goto 4, 3) := by decide +kernel
theorem dX6_addEither_24 : decode cX6_addEither 24 = .ok (.iconst 0, 1) := by decide +kernel
theorem dX6_addEither_25 : decode cX6_addEither 25 = .ok (.ior, 1) := by decide +kernel
theorem dX6_addEither_26 : decode cX6_addEither 26 = .ok (.putfield 15, 3) := by decide +kernel
theorem dX6_addEither_29 : decode cX6_addEither 29 = .ok (.iconst 0, 1) := by decide +kernel
theorem dX6_addEither_30 : decode cX6_addEither 30 = .ok (.istore 5, 2) := by decide +kernel
theorem dX6_addEither_32 : decode cX6_addEither 32 = .ok (.iload 5, 2) := by decide +kernel
theorem dX6_addEither_34 : decode cX6_addEither 34 = .ok (.iload_n 2, 1) := by decide +kernel
theorem dX6_addEither_35 : decode cX6_addEither 35 = .ok (.if_icmp .ge 74, 3) := by decide +kernel
theorem dX6_addEither_38 : decode cX6_addEither 38 = .ok (.aload_n 0, 1) := by decide +kernel
theorem dX6_addEither_39 : decode cX6_addEither 39 = .ok (.aload_n 1, 1) := by decide +kernel
theorem dX6_addEither_40 : decode cX6_addEither 40 = .ok (.iload 5, 2) := by decide +kernel
theorem dX6_addEither_42 : decode cX6_addEither 42 = .ok (.aload_n 3, 1) := by decide +kernel
theorem dX6_addEither_43 : decode cX6_addEither 43 = .ok (.getfield 15, 3) := by decide +kernel
theorem dX6_addEither_46 : decode cX6_addEither 46 = .ok (.ifCond .eq 14, 3) := by decide +kernel
theorem dX6_addEither_49 : decode cX6_addEither 49 = .ok (.aload 4, 2) := by decide +kernel
theorem dX6_addEither_51 : decode cX6_addEither 51 = .ok (.getfield 9, 3) := by decide +kernel
theorem dX6_addEither_54 : decode cX6_addEither 54 = .ok (.iload 5, 2) := by decide +kernel
theorem dX6_addEither_56 : decode cX6_addEither 56 = .ok (.iaload, 1) := by decide +kernel
theorem dX6_addEither_57 : decode cX6_addEither 57 = .ok (.goto 43, 3) := by decide +kernel
theorem dX6_addEither_60 : decode cX6_addEither 60 = .ok (.aload 4, 2) := by decide +kernel
theorem dX6_addEither_62 : decode cX6_addEither 62 = .ok (.getfield 15, 3) := by decide +kernel
theorem dX6_addEither_65 : decode cX6_addEither 65 = .ok (.ifCond .eq 13, 3) := by decide +kernel
theorem dX6_addEither_68 : decode cX6_addEither 68 = .ok (.aload_n 3, 1) := by decide +kernel
theorem dX6_addEither_69 : decode cX6_addEither 69 = .ok (.getfield 9, 3) := by decide +kernel
theorem dX6_addEither_72 : decode cX6_addEither 72 = .ok (.iload 5, 2) := by decide +kernel
theorem dX6_addEither_74 : decode cX6_addEither 74 = .ok (.iaload, 1) := by decide +kernel
theorem dX6_addEither_75 : decode cX6_addEither 75 = .ok (.goto 25, 3) := by decide +kernel
theorem dX6_addEither_78 : decode cX6_addEither 78 = .ok (.aload_n 1, 1) := by decide +kernel
theorem dX6_addEither_79 : decode cX6_addEither 79 = .ok (.iload 5, 2) := by decide +kernel
theorem dX6_addEither_81 : decode cX6_addEither 81 = .ok (.iaload, 1) := by decide +kernel
theorem dX6_addEither_82 : decode cX6_addEither 82 = .ok (.aload_n 3, 1) := by decide +kernel
theorem dX6_addEither_83 : decode cX6_addEither 83 = .ok (.getfield 9, 3) := by decide +kernel
theorem dX6_addEither_86 : decode cX6_addEither 86 = .ok (.iload 5, 2) := by decide +kernel
theorem dX6_addEither_88 : decode cX6_addEither 88 = .ok (.iaload, 1) := by decide +kernel
theorem dX6_addEither_89 : decode cX6_addEither 89 = .ok (.aload 4, 2) := by decide +kernel
theorem dX6_addEither_91 : decode cX6_addEither 91 = .ok (.getfield 9, 3) := by decide +kernel
theorem dX6_addEither_94 : decode cX6_addEither 94 = .ok (.iload 5, 2) := by decide +kernel
theorem dX6_addEither_96 : decode cX6_addEither 96 = .ok (.iaload, 1) := by decide +kernel
theorem dX6_addEither_97 : decode cX6_addEither 97 = .ok (.invokestatic 23, 3) := by decide +kernel
theorem dX6_addEither_100 : decode cX6_addEither 100 = .ok (.invokevirtual 26, 3) := by decide +kernel
theorem dX6_addEither_103 : decode cX6_addEither 103 = .ok (.iinc 5 1, 3) := by decide +kernel
theorem dX6_addEither_106 : decode cX6_addEither 106 = .ok (.goto (-74), 3) := by decide +kernel
theorem dX6_addEither_109 : decode cX6_addEither 109 = .ok (.return_, 1) := by decide +kernel
abbrev JX6_addEither_100 (D : DE) (f : Nat) (Q : HI → HL → Prop) (F : Frm) (h : HI) (g : HL) (x0 : Nat) (x1 : Nat) (x2 : Int32) (x3 : Nat) (x4 : Nat) (x5 : Int32) (s0 : Nat) (s1 : Nat) (s2 : Int32) (s3 : Int32) : Prop := F.2.1 s0 = (15, 0) ∧ Sv D f mX6_add [.ref (ad D s0), .ref (ad D s1), .int s2, .int s3] F h g (fun h2 g3 => ∀ y4 : Int32, y4 = x5 + 1 → V D mX6_addEither (f + 1) (qv F Q) 32 [(0, .ref (ad D x0)), (1, .ref (ad D x1)), (2, .int x2), (3, .ref (ad D x3)), (4, .ref (ad D x4)), (5, .int y4)] [] (F, h2, g3))
theorem bX6_addEither_100 {D : DE} {f : Nat} {Q : HI → HL → Prop} {F : Frm} {h : HI} {g : HL} (hF : k_Fix F) (x0 : Nat) (x1 : Nat) (x2 : Int32) (x3 : Nat) (x4 : Nat) (x5 : Int32) (s0 : Nat) (s1 : Nat) (s2 : Int32) (s3 : Int32) (H : JX6_addEither_100 D f Q F h g x0 x1 x2 x3 x4 x5 s0 s1 s2 s3) : V D mX6_addEither (f + 1) (qv F Q) 100 [(0, .ref (ad D x0)), (1, .ref (ad D x1)), (2, .int x2), (3, .ref (ad D x3)), (4, .ref (ad D x4)), (5, .int x5)] [.int s3, .int s2, .ref (ad D s1), .ref (ad D s0)] (F, h, g) := by
  obtain ⟨z1, H⟩ := H
  refine H_callv (av := [.ref (ad D s0), .ref (ad D s1), .int s2, .int s3]) (rest := []) H mqX6_add q86 (by decide) (Nat.le_of_ble_eq_true rfl) (k_resV (ci := 5) (av := [.ref (ad D s1), .int s2, .int s3]) (rest := []) z1 (by decide) rfl rfl q1248 q1206 q1207 q1208 mhX6_add mnX6_add dX6_addEither_100) (fun h2 g3 H => ?_)
  obtain ⟨y4, e5⟩ : ∃ y : Int32, y = x5 + 1 := ⟨_, rfl⟩
  have H := H y4 e5
  refine V_iinc (j := 5) (v := y4) (l1 := [(5, .int y4), (0, .ref (ad D x0)), (1, .ref (ad D x1)), (2, .int x2), (3, .ref (ad D x3)), (4, .ref (ad D x4))]) dX6_addEither_103 rfl (by rw [e5]; rfl) (by decide) rfl ?_
  refine V_goto (tgt := 32) dX6_addEither_106 (by decide) ?_
  refine V.sub [1, 2, 3, 4, 5, 0] rfl ?_
  exact H
abbrev JX6_addEither_32 (D : DE) (f : Nat) (Q : HI → HL → Prop) (F : Frm) (h : HI) (g : HL) (x0 : Nat) (x1 : Nat) (x2 : Int32) (x3 : Nat) (x4 : Nat) (x5 : Int32) : Prop := ((x2 ≤ x5 → Q h g) ∧ (¬ x2 ≤ x5 → F.2.1 x3 = (15, 0) ∧ (((h x3 1) = 0 → F.2.1 x4 = (15, 0) ∧ (((h x4 1) = 0 → ∃ m6 : Nat, F.2.1 x1 = (0, m6) ∧ vp_in x5 m6 ∧ ∃ b9 : Nat, F.2.2 x3 0 = some b9 ∧ ∃ m11 : Nat, F.2.1 b9 = (0, m11) ∧ vp_in x5 m11 ∧ ∃ b14 : Nat, F.2.2 x4 0 = some b14 ∧ ∃ m16 : Nat, F.2.1 b14 = (0, m16) ∧ vp_in x5 m16 ∧ Si D f mX1_either [.int (h x1 (ix x5)), .int (h b9 (ix x5)), .int (h b14 (ix x5))] F h g (fun y19 h20 g21 => JX6_addEither_100 D f Q F h20 g21 x0 x1 x2 x3 x4 x5 x0 x1 x5 y19)) ∧ (¬ (h x4 1) = 0 → ∃ b22 : Nat, F.2.2 x3 0 = some b22 ∧ ∃ m24 : Nat, F.2.1 b22 = (0, m24) ∧ vp_in x5 m24 ∧ JX6_addEither_100 D f Q F h g x0 x1 x2 x3 x4 x5 x0 x1 x5 (h b22 (ix x5))))) ∧ (¬ (h x3 1) = 0 → F.2.1 x4 = (15, 0) ∧ ∃ b28 : Nat, F.2.2 x4 0 = some b28 ∧ ∃ m30 : Nat, F.2.1 b28 = (0, m30) ∧ vp_in x5 m30 ∧ JX6_addEither_100 D f Q F h g x0 x1 x2 x3 x4 x5 x0 x1 x5 (h b28 (ix x5))))))
theorem bX6_addEither_32 {D : DE} {f : Nat} {Q : HI → HL → Prop} {F : Frm} {h : HI} {g : HL} (hF : k_Fix F) (x0 : Nat) (x1 : Nat) (x2 : Int32) (x3 : Nat) (x4 : Nat) (x5 : Int32) (H : JX6_addEither_32 D f Q F h g x0 x1 x2 x3 x4 x5) : V D mX6_addEither (f + 1) (qv F Q) 32 [(0, .ref (ad D x0)), (1, .ref (ad D x1)), (2, .int x2), (3, .ref (ad D x3)), (4, .ref (ad D x4)), (5, .int x5)] [] (F, h, g) := by
  refine V_iload dX6_addEither_32 5 rfl ?_
  refine V_iload_n dX6_addEither_34 rfl 2 rfl ?_
  refine V_icmp_ge (tgt := 109) dX6_addEither_35 (by decide) (fun c1 => ?_) (fun c1 => ?_)
  · have H := H.1 c1
    exact H_vret rfl dX6_addEither_109 H
  · have H := H.2 c1
    refine V_aload_n dX6_addEither_38 rfl 0 rfl ?_
    refine V_aload_n dX6_addEither_39 rfl 1 rfl ?_
    refine V_iload dX6_addEither_40 5 rfl ?_
    refine V_aload_n dX6_addEither_42 rfl 3 rfl ?_
    obtain ⟨z2, H⟩ := H
    refine H_geti ck5 1 (by decide) z2 (by decide) rfl q244 dX6_addEither_43 ?_
    refine V_if_eq (tgt := 60) dX6_addEither_46 (by decide) (fun c3 => ?_) (fun c3 => ?_)
    · have H := H.1 c3
      refine V_aload dX6_addEither_60 4 rfl ?_
      obtain ⟨z4, H⟩ := H
      refine H_geti ck5 1 (by decide) z4 (by decide) rfl q244 dX6_addEither_62 ?_
      refine V_if_eq (tgt := 78) dX6_addEither_65 (by decide) (fun c5 => ?_) (fun c5 => ?_)
      · have H := H.1 c5
        refine V_aload_n dX6_addEither_78 rfl 1 rfl ?_
        refine V_iload dX6_addEither_79 5 rfl ?_
        obtain ⟨m6, z7, H⟩ := H
        obtain ⟨i8, H⟩ := H
        refine H_iald z7 i8 dX6_addEither_81 ?_
        refine V_aload_n dX6_addEither_82 rfl 3 rfl ?_
        obtain ⟨b9, z10, H⟩ := H
        refine H_getr ck5 0 (by decide) z2 (by decide) rfl z10 q239 dX6_addEither_83 ?_
        refine V_iload dX6_addEither_86 5 rfl ?_
        obtain ⟨m11, z12, H⟩ := H
        obtain ⟨i13, H⟩ := H
        refine H_iald z12 i13 dX6_addEither_88 ?_
        refine V_aload dX6_addEither_89 4 rfl ?_
        obtain ⟨b14, z15, H⟩ := H
        refine H_getr ck5 0 (by decide) z4 (by decide) rfl z15 q239 dX6_addEither_91 ?_
        refine V_iload dX6_addEither_94 5 rfl ?_
        obtain ⟨m16, z17, H⟩ := H
        obtain ⟨i18, H⟩ := H
        refine H_iald z17 i18 dX6_addEither_96 ?_
        refine H_calli (av := [.int (h x1 (ix x5)), .int (h b9 (ix x5)), .int (h b14 (ix x5))]) (rest := [.int x5, .ref (ad D x1), .ref (ad D x0)]) H mqX1_either q81 (by decide) (Nat.le_of_ble_eq_true rfl) (k_resSN (av := [.int (h x1 (ix x5)), .int (h b9 (ix x5)), .int (h b14 (ix x5))]) (rest := [.int x5, .ref (ad D x1), .ref (ad D x0)]) (M1 := mX1_either) rfl q1243 q1244 q81 mqX1_either (fun _ _ h => mW_named h) mhX1_either mnX1_either dX6_addEither_97) (fun y19 h20 g21 H => ?_)
        exact bX6_addEither_100 hF x0 x1 x2 x3 x4 x5 x0 x1 x5 y19 H
      · have H := H.2 c5
        refine V_aload_n dX6_addEither_68 rfl 3 rfl ?_
        obtain ⟨b22, z23, H⟩ := H
        refine H_getr ck5 0 (by decide) z2 (by decide) rfl z23 q239 dX6_addEither_69 ?_
        refine V_iload dX6_addEither_72 5 rfl ?_
        obtain ⟨m24, z25, H⟩ := H
        obtain ⟨i26, H⟩ := H
        refine H_iald z25 i26 dX6_addEither_74 ?_
        refine V_goto (tgt := 100) dX6_addEither_75 (by decide) ?_
        exact bX6_addEither_100 hF x0 x1 x2 x3 x4 x5 x0 x1 x5 (h b22 (ix x5)) H
    · have H := H.2 c3
      refine V_aload dX6_addEither_49 4 rfl ?_
      obtain ⟨z27, H⟩ := H
      obtain ⟨b28, z29, H⟩ := H
      refine H_getr ck5 0 (by decide) z27 (by decide) rfl z29 q239 dX6_addEither_51 ?_
      refine V_iload dX6_addEither_54 5 rfl ?_
      obtain ⟨m30, z31, H⟩ := H
      obtain ⟨i32, H⟩ := H
      refine H_iald z31 i32 dX6_addEither_56 ?_
      refine V_goto (tgt := 100) dX6_addEither_57 (by decide) ?_
      exact bX6_addEither_100 hF x0 x1 x2 x3 x4 x5 x0 x1 x5 (h b28 (ix x5)) H
abbrev JX6_addEither_25 (D : DE) (f : Nat) (Q : HI → HL → Prop) (F : Frm) (h : HI) (g : HL) (x0 : Nat) (x1 : Nat) (x2 : Int32) (x3 : Nat) (x4 : Nat) (s0 : Nat) (s1 : Int32) (s2 : Int32) : Prop := F.2.1 s0 = (15, 0) ∧ isB (s1 ||| s2) ∧ ∀ h2, h2 = up2 h s0 1 (s1 ||| s2) → V D mX6_addEither (f + 1) (qv F Q) 32 [(0, .ref (ad D x0)), (1, .ref (ad D x1)), (2, .int x2), (3, .ref (ad D x3)), (4, .ref (ad D x4)), (5, .int 0)] [] (F, h2, g)
theorem bX6_addEither_25 {D : DE} {f : Nat} {Q : HI → HL → Prop} {F : Frm} {h : HI} {g : HL} (hF : k_Fix F) (x0 : Nat) (x1 : Nat) (x2 : Int32) (x3 : Nat) (x4 : Nat) (s0 : Nat) (s1 : Int32) (s2 : Int32) (H : JX6_addEither_25 D f Q F h g x0 x1 x2 x3 x4 s0 s1 s2) : V D mX6_addEither (f + 1) (qv F Q) 25 [(0, .ref (ad D x0)), (1, .ref (ad D x1)), (2, .int x2), (3, .ref (ad D x3)), (4, .ref (ad D x4))] [.int s2, .int s1, .ref (ad D s0)] (F, h, g) := by
  refine V_ior dX6_addEither_25 ?_
  obtain ⟨z1, H⟩ := H
  obtain ⟨z4, H⟩ := H
  refine H_putz ck5 1 (by decide) z1 (by decide) rfl z4 rfl q244 dX6_addEither_26 (fun h2 e3 => ?_)
  have H := H h2 e3
  refine V_iconst (v := 0) dX6_addEither_29 (by decide) ?_
  refine V_istore (l1 := [(5, .int 0), (0, .ref (ad D x0)), (1, .ref (ad D x1)), (2, .int x2), (3, .ref (ad D x3)), (4, .ref (ad D x4))]) dX6_addEither_30 (by decide) rfl ?_
  refine V.sub [1, 2, 3, 4, 5, 0] rfl ?_
  exact H
abbrev JX6_addEither_24 (D : DE) (f : Nat) (Q : HI → HL → Prop) (F : Frm) (h : HI) (g : HL) (x0 : Nat) (x1 : Nat) (x2 : Int32) (x3 : Nat) (x4 : Nat) (s0 : Nat) (s1 : Int32) : Prop := JX6_addEither_25 D f Q F h g x0 x1 x2 x3 x4 s0 s1 0
theorem bX6_addEither_24 {D : DE} {f : Nat} {Q : HI → HL → Prop} {F : Frm} {h : HI} {g : HL} (hF : k_Fix F) (x0 : Nat) (x1 : Nat) (x2 : Int32) (x3 : Nat) (x4 : Nat) (s0 : Nat) (s1 : Int32) (H : JX6_addEither_24 D f Q F h g x0 x1 x2 x3 x4 s0 s1) : V D mX6_addEither (f + 1) (qv F Q) 24 [(0, .ref (ad D x0)), (1, .ref (ad D x1)), (2, .int x2), (3, .ref (ad D x3)), (4, .ref (ad D x4))] [.int s1, .ref (ad D s0)] (F, h, g) := by
  refine V_iconst (v := 0) dX6_addEither_24 (by decide) ?_
  exact bX6_addEither_25 hF x0 x1 x2 x3 x4 s0 s1 0 H
abbrev JX6_addEither_0 (D : DE) (f : Nat) (Q : HI → HL → Prop) (F : Frm) (h : HI) (g : HL) (x0 : Nat) (x1 : Nat) (x2 : Int32) (x3 : Nat) (x4 : Nat) : Prop := F.2.1 x0 = (15, 0) ∧ F.2.1 x3 = (15, 0) ∧ (((h x3 1) = 0 → JX6_addEither_24 D f Q F h g x0 x1 x2 x3 x4 x0 (h x0 1)) ∧ (¬ (h x3 1) = 0 → F.2.1 x4 = (15, 0) ∧ (((h x4 1) = 0 → JX6_addEither_24 D f Q F h g x0 x1 x2 x3 x4 x0 (h x0 1)) ∧ (¬ (h x4 1) = 0 → JX6_addEither_25 D f Q F h g x0 x1 x2 x3 x4 x0 (h x0 1) 1))))
theorem bX6_addEither_0 {D : DE} {f : Nat} {Q : HI → HL → Prop} {F : Frm} {h : HI} {g : HL} (hF : k_Fix F) (x0 : Nat) (x1 : Nat) (x2 : Int32) (x3 : Nat) (x4 : Nat) (H : JX6_addEither_0 D f Q F h g x0 x1 x2 x3 x4) : V D mX6_addEither (f + 1) (qv F Q) 0 [(0, .ref (ad D x0)), (1, .ref (ad D x1)), (2, .int x2), (3, .ref (ad D x3)), (4, .ref (ad D x4))] [] (F, h, g) := by
  refine V_aload_n dX6_addEither_0 rfl 0 rfl ?_
  refine V_dup dX6_addEither_1 rfl ?_
  obtain ⟨z1, H⟩ := H
  refine H_geti ck5 1 (by decide) z1 (by decide) rfl q244 dX6_addEither_2 ?_
  refine V_aload_n dX6_addEither_5 rfl 3 rfl ?_
  obtain ⟨z2, H⟩ := H
  refine H_geti ck5 1 (by decide) z2 (by decide) rfl q244 dX6_addEither_6 ?_
  refine V_if_eq (tgt := 24) dX6_addEither_9 (by decide) (fun c3 => ?_) (fun c3 => ?_)
  · have H := H.1 c3
    exact bX6_addEither_24 hF x0 x1 x2 x3 x4 x0 (h x0 1) H
  · have H := H.2 c3
    refine V_aload dX6_addEither_12 4 rfl ?_
    obtain ⟨z4, H⟩ := H
    refine H_geti ck5 1 (by decide) z4 (by decide) rfl q244 dX6_addEither_14 ?_
    refine V_if_eq (tgt := 24) dX6_addEither_17 (by decide) (fun c5 => ?_) (fun c5 => ?_)
    · have H := H.1 c5
      exact bX6_addEither_24 hF x0 x1 x2 x3 x4 x0 (h x0 1) H
    · have H := H.2 c5
      refine V_iconst (v := 1) dX6_addEither_20 (by decide) ?_
      refine V_goto (tgt := 25) dX6_addEither_21 (by decide) ?_
      exact bX6_addEither_25 hF x0 x1 x2 x3 x4 x0 (h x0 1) 1 H
theorem wX6_addEither {D : DE} {f : Nat} {Q : HI → HL → Prop} {F : Frm} {h : HI} {g : HL} (hF : k_Fix F) (x0 : Nat) (x1 : Nat) (x2 : Int32) (x3 : Nat) (x4 : Nat) (H : JX6_addEither_0 D f Q F h g x0 x1 x2 x3 x4) : Sv D (f + 1) mX6_addEither [.ref (ad D x0), .ref (ad D x1), .int x2, .ref (ad D x3), .ref (ad D x4)] F h g Q := Cl.ofV (by decide) (Nat.le_of_ble_eq_true rfl) rfl (bX6_addEither_0 hF x0 x1 x2 x3 x4 H)
theorem dX9_init_0 : decode cX9_init 0 = .ok (.aload_n 0, 1) := by decide +kernel
theorem dX9_init_1 : decode cX9_init 1 = .ok (.invokespecial 3, 3) := by decide +kernel
theorem dX9_init_4 : decode cX9_init 4 = .ok (.aload_n 0, 1) := by decide +kernel
theorem dX9_init_5 : decode cX9_init 5 = .ok (.bipush 16, 2) := by decide +kernel
theorem dX9_init_7 : decode cX9_init 7 = .ok (.newarray .int, 2) := by decide +kernel
theorem dX9_init_9 : decode cX9_init 9 = .ok (.putfield 9, 3) := by decide +kernel
theorem dX9_init_12 : decode cX9_init 12 = .ok (.aload_n 0, 1) := by decide +kernel
theorem dX9_init_13 : decode cX9_init 13 = .ok (.bipush 16, 2) := by decide +kernel
theorem dX9_init_15 : decode cX9_init 15 = .ok (.newarray .int, 2) := by decide +kernel
theorem dX9_init_17 : decode cX9_init 17 = .ok (.putfield 15, 3) := by decide +kernel
theorem dX9_init_20 : decode cX9_init 20 = .ok (.aload_n 0, 1) := by decide +kernel
theorem dX9_init_21 : decode cX9_init 21 = .ok (.bipush 26, 2) := by decide +kernel
theorem dX9_init_23 : decode cX9_init 23 = .ok (.newarray .boolean, 2) := by decide +kernel
theorem dX9_init_25 : decode cX9_init 25 = .ok (.putfield 18, 3) := by decide +kernel
theorem dX9_init_28 : decode cX9_init 28 = .ok (.aload_n 0, 1) := by decide +kernel
theorem dX9_init_29 : decode cX9_init 29 = .ok (.bipush 104, 2) := by decide +kernel
theorem dX9_init_31 : decode cX9_init 31 = .ok (.newarray .int, 2) := by decide +kernel
theorem dX9_init_33 : decode cX9_init 33 = .ok (.putfield 22, 3) := by decide +kernel
theorem dX9_init_36 : decode cX9_init 36 = .ok (.return_, 1) := by decide +kernel
abbrev JX9_init_0 (D : DE) (f : Nat) (Q : Frm → HI → HL → Prop) (T : Nat → Frm → HI → HL → Prop) (F : Frm) (h : HI) (g : HL) (x0 : Nat) : Prop := 160 ≤ F.1.1 ∧ ∀ F2 h3 g4, F2 = fnw F (0, 16) 16 → h3 = up1 h F.1.1 (fun _ => 0) → g4 = up1 g F.1.1 (fun _ => 0) → F2.2.1 x0 = (18, 0) ∧ ∀ F11, F11 = fwr F2 x0 4 (some F.1.1) → 160 ≤ x0 ∧ 160 ≤ F11.1.1 ∧ ∀ F18 h19 g20, F18 = fnw F11 (0, 16) 16 → h19 = up1 h3 F11.1.1 (fun _ => 0) → g20 = up1 g4 F11.1.1 (fun _ => 0) → F18.2.1 x0 = (18, 0) ∧ ∀ F27, F27 = fwr F18 x0 5 (some F11.1.1) → 160 ≤ x0 ∧ 160 ≤ F27.1.1 ∧ ∀ F34 h35 g36, F34 = fnw F27 (2, 26) 26 → h35 = up1 h19 F27.1.1 (fun _ => 0) → g36 = up1 g20 F27.1.1 (fun _ => 0) → F34.2.1 x0 = (18, 0) ∧ ∀ F43, F43 = fwr F34 x0 7 (some F27.1.1) → 160 ≤ x0 ∧ 160 ≤ F43.1.1 ∧ ∀ F50 h51 g52, F50 = fnw F43 (0, 104) 104 → h51 = up1 h35 F43.1.1 (fun _ => 0) → g52 = up1 g36 F43.1.1 (fun _ => 0) → F50.2.1 x0 = (18, 0) ∧ ∀ F59, F59 = fwr F50 x0 8 (some F43.1.1) → 160 ≤ x0 ∧ Q F59 h51 g52
theorem bX9_init_0 {D : DE} {f : Nat} {Q : Frm → HI → HL → Prop} {T : Nat → Frm → HI → HL → Prop} {F : Frm} {h : HI} {g : HL} (hF : k_Fix F) (x0 : Nat) (H : JX9_init_0 D f Q T F h g x0) : V D mX9_init (f + 1) (gv Q T) 0 [(0, .ref (ad D x0))] [] (F, h, g) := by
  refine V_aload_n dX9_init_0 rfl 0 rfl ?_
  refine V_objInit (by omega) (Nat.le_of_ble_eq_true rfl) q659 q120 q121 dX9_init_1 ?_
  refine V_aload_n dX9_init_4 rfl 0 rfl ?_
  refine V_bipush (v := 16) dX9_init_5 (by decide) ?_
  obtain ⟨z1, H⟩ := H
  refine G_newa (t := 0) (N := 16) rfl (by decide) rfl (fun _ h => h) q171 (by decide) (by decide) (by decide) rfl dX9_init_7 (fun F2 h3 g4 e5 e6 e7 => ?_)
  have H := H F2 h3 g4 e5 e6 e7
  have hF8 : k_Fix F2 := by rw [e5]; exact k_Fix.new hF z1 _ _
  have z9 : F2.2.1 F.1.1 = (0, 16) := by rw [e5]; simp [fnw, up0]
  obtain ⟨z10, H⟩ := H
  refine G_putrF ck8 4 (by decide) z10 (by decide) rfl (fun _ => rfl) (fun _ => rfl) rfl rfl rfl q676 dX9_init_9 (fun F11 e12 => ?_)
  have H := H F11 e12
  obtain ⟨z14, H⟩ := H
  have hF13 : k_Fix F11 := by rw [e12]; exact k_Fix.wr hF8 (fx_okD z14) _
  have z15 : F11.2.1 F.1.1 = (0, 16) := by rw [e12]; exact z9
  have z16 : F11.2.1 x0 = (18, 0) := by rw [e12]; exact z10
  refine V_aload_n dX9_init_12 rfl 0 rfl ?_
  refine V_bipush (v := 16) dX9_init_13 (by decide) ?_
  obtain ⟨z17, H⟩ := H
  refine G_newa (t := 0) (N := 16) rfl (by decide) rfl (fun _ h => h) q171 (by decide) (by decide) (by decide) rfl dX9_init_15 (fun F18 h19 g20 e21 e22 e23 => ?_)
  have H := H F18 h19 g20 e21 e22 e23
  have hF24 : k_Fix F18 := by rw [e21]; exact k_Fix.new hF13 z17 _ _
  have z25 : F18.2.1 F11.1.1 = (0, 16) := by rw [e21]; simp [fnw, up0]
  obtain ⟨z26, H⟩ := H
  refine G_putrF ck8 5 (by decide) z26 (by decide) rfl (fun _ => rfl) (fun _ => rfl) rfl rfl rfl q679 dX9_init_17 (fun F27 e28 => ?_)
  have H := H F27 e28
  obtain ⟨z30, H⟩ := H
  have hF29 : k_Fix F27 := by rw [e28]; exact k_Fix.wr hF24 (fx_okD z30) _
  have z31 : F27.2.1 F11.1.1 = (0, 16) := by rw [e28]; exact z25
  have z32 : F27.2.1 x0 = (18, 0) := by rw [e28]; exact z26
  refine V_aload_n dX9_init_20 rfl 0 rfl ?_
  refine V_bipush (v := 26) dX9_init_21 (by decide) ?_
  obtain ⟨z33, H⟩ := H
  refine G_newa (t := 2) (N := 26) rfl (by decide) rfl (fun _ h => h) q370 (by decide) (by decide) (by decide) rfl dX9_init_23 (fun F34 h35 g36 e37 e38 e39 => ?_)
  have H := H F34 h35 g36 e37 e38 e39
  have hF40 : k_Fix F34 := by rw [e37]; exact k_Fix.new hF29 z33 _ _
  have z41 : F34.2.1 F27.1.1 = (2, 26) := by rw [e37]; simp [fnw, up0]
  obtain ⟨z42, H⟩ := H
  refine G_putrF ck8 7 (by decide) z42 (by decide) rfl (fun _ => rfl) (fun _ => rfl) rfl rfl rfl q694 dX9_init_25 (fun F43 e44 => ?_)
  have H := H F43 e44
  obtain ⟨z46, H⟩ := H
  have hF45 : k_Fix F43 := by rw [e44]; exact k_Fix.wr hF40 (fx_okD z46) _
  have z47 : F43.2.1 F27.1.1 = (2, 26) := by rw [e44]; exact z41
  have z48 : F43.2.1 x0 = (18, 0) := by rw [e44]; exact z42
  refine V_aload_n dX9_init_28 rfl 0 rfl ?_
  refine V_bipush (v := 104) dX9_init_29 (by decide) ?_
  obtain ⟨z49, H⟩ := H
  refine G_newa (t := 0) (N := 104) rfl (by decide) rfl (fun _ h => h) q171 (by decide) (by decide) (by decide) rfl dX9_init_31 (fun F50 h51 g52 e53 e54 e55 => ?_)
  have H := H F50 h51 g52 e53 e54 e55
  have hF56 : k_Fix F50 := by rw [e53]; exact k_Fix.new hF45 z49 _ _
  have z57 : F50.2.1 F43.1.1 = (0, 104) := by rw [e53]; simp [fnw, up0]
  obtain ⟨z58, H⟩ := H
  refine G_putrF ck8 8 (by decide) z58 (by decide) rfl (fun _ => rfl) (fun _ => rfl) rfl rfl rfl q697 dX9_init_33 (fun F59 e60 => ?_)
  have H := H F59 e60
  obtain ⟨z62, H⟩ := H
  have hF61 : k_Fix F59 := by rw [e60]; exact k_Fix.wr hF56 (fx_okD z62) _
  have z63 : F59.2.1 F43.1.1 = (0, 104) := by rw [e60]; exact z57
  have z64 : F59.2.1 x0 = (18, 0) := by rw [e60]; exact z58
  exact G_vret hF61 rfl dX9_init_36 H
theorem wX9_init {D : DE} {f : Nat} {Q : Frm → HI → HL → Prop} {T : Nat → Frm → HI → HL → Prop} {F : Frm} {h : HI} {g : HL} (hF : k_Fix F) (x0 : Nat) (H : JX9_init_0 D f Q T F h g x0) : Gv D (f + 1) mX9_init [.ref (ad D x0)] F h g Q T := Cl.ofV (by decide) (Nat.le_of_ble_eq_true rfl) rfl (bX9_init_0 hF x0 H)
theorem dX14_init_0 : decode cX14_init 0 = .ok (.aload_n 0, 1) := by decide +kernel
theorem dX14_init_1 : decode cX14_init 1 = .ok (.iload_n 1, 1) := by decide +kernel
theorem dX14_init_2 : decode cX14_init 2 = .ok (.invokespecial 3, 3) := by decide +kernel
theorem dX14_init_5 : decode cX14_init 5 = .ok (.aload_n 0, 1) := by decide +kernel
theorem dX14_init_6 : decode cX14_init 6 = .ok (.iload_n 2, 1) := by decide +kernel
theorem dX14_init_7 : decode cX14_init 7 = .ok (.putfield 9, 3) := by decide +kernel
theorem dX14_init_10 : decode cX14_init 10 = .ok (.return_, 1) := by decide +kernel
abbrev JX14_init_0 (D : DE) (f : Nat) (Q : HI → HL → Prop) (F : Frm) (h : HI) (g : HL) (x0 : Nat) (x1 : Int32) (x2 : Int32) : Prop := Sv D f mX10_init [.ref (ad D x0), .int x1] F h g (fun h1 g2 => F.2.1 x0 = (22, 0) ∧ ∀ h4, h4 = up2 h1 x0 2 x2 → Q h4 g2)
theorem bX14_init_0 {D : DE} {f : Nat} {Q : HI → HL → Prop} {F : Frm} {h : HI} {g : HL} (hF : k_Fix F) (x0 : Nat) (x1 : Int32) (x2 : Int32) (H : JX14_init_0 D f Q F h g x0 x1 x2) : V D mX14_init (f + 1) (qv F Q) 0 [(0, .ref (ad D x0)), (1, .int x1), (2, .int x2)] [] (F, h, g) := by
  refine V_aload_n dX14_init_0 rfl 0 rfl ?_
  refine V_iload_n dX14_init_1 rfl 1 rfl ?_
  refine H_callv (av := [.ref (ad D x0), .int x1]) (rest := []) H mqX10_init q102 (by decide) (Nat.le_of_ble_eq_true rfl) (k_resI (av := [.int x1]) (rest := []) rfl q876 q781 q782 mhX10_init mnX10_init dX14_init_2) (fun h1 g2 H => ?_)
  refine V_aload_n dX14_init_5 rfl 0 rfl ?_
  refine V_iload_n dX14_init_6 rfl 2 rfl ?_
  obtain ⟨z3, H⟩ := H
  refine G_putiF ck12 2 (by decide) z3 (by decide) rfl rfl rfl rfl q877 dX14_init_7 (fun h4 e5 => ?_)
  have H := H h4 e5
  exact H_vret rfl dX14_init_10 H
theorem wX14_init {D : DE} {f : Nat} {Q : HI → HL → Prop} {F : Frm} {h : HI} {g : HL} (hF : k_Fix F) (x0 : Nat) (x1 : Int32) (x2 : Int32) (H : JX14_init_0 D f Q F h g x0 x1 x2) : Sv D (f + 1) mX14_init [.ref (ad D x0), .int x1, .int x2] F h g Q := Cl.ofV (by decide) (Nat.le_of_ble_eq_true rfl) rfl (bX14_init_0 hF x0 x1 x2 H)
theorem dX14_judge_0 : decode cX14_judge 0 = .ok (.iconst 0, 1) := by decide +kernel
theorem dX14_judge_1 : decode cX14_judge 1 = .ok (.ireturn, 1) := by decide +kernel
abbrev JX14_judge_0 (D : DE) (f : Nat) (Q : Int32 → Frm → HI → HL → Prop) (T : Nat → Frm → HI → HL → Prop) (F : Frm) (h : HI) (g : HL) (x0 : Nat) (x2 : Int32) : Prop := Q 0 F h g
theorem bX14_judge_0 {D : DE} {f : Nat} {Q : Int32 → Frm → HI → HL → Prop} {T : Nat → Frm → HI → HL → Prop} {F : Frm} {h : HI} {g : HL} (hF : k_Fix F) (x0 : Nat) (x2 : Int32) (H : JX14_judge_0 D f Q T F h g x0 x2) : V D mX14_judge f (gi Q T) 0 [(0, .ref (ad D x0)), (1, .ref (ad D 7)), (2, .int x2)] [] (F, h, g) := by
  refine V_iconst (v := 0) dX14_judge_0 (by decide) ?_
  exact G_iret hF rfl dX14_judge_1 H
theorem wX14_judge {D : DE} {f : Nat} {Q : Int32 → Frm → HI → HL → Prop} {T : Nat → Frm → HI → HL → Prop} {F : Frm} {h : HI} {g : HL} (hF : k_Fix F) (x0 : Nat) (x2 : Int32) (H : JX14_judge_0 D f Q T F h g x0 x2) : Gi D f mX14_judge [.ref (ad D x0), .ref (ad D 7), .int x2] F h g Q T := Cl.ofV (by decide) (Nat.le_of_ble_eq_true rfl) rfl (bX14_judge_0 hF x0 x2 H)
theorem dX14_ask_0 : decode cX14_ask 0 = .ok (.return_, 1) := by decide +kernel
abbrev JX14_ask_0 (D : DE) (f : Nat) (Q : HI → HL → Prop) (F : Frm) (h : HI) (g : HL) (x0 : Nat) (x2 : Int32) (x3 : Nat) (x4 : Int32) : Prop := Q h g
theorem bX14_ask_0 {D : DE} {f : Nat} {Q : HI → HL → Prop} {F : Frm} {h : HI} {g : HL} (hF : k_Fix F) (x0 : Nat) (x2 : Int32) (x3 : Nat) (x4 : Int32) (H : JX14_ask_0 D f Q F h g x0 x2 x3 x4) : V D mX14_ask f (qv F Q) 0 [(0, .ref (ad D x0)), (1, .ref (ad D 9)), (2, .int x2), (3, .ref (ad D x3)), (4, .int x4)] [] (F, h, g) := by
  exact H_vret rfl dX14_ask_0 H
theorem wX14_ask {D : DE} {f : Nat} {Q : HI → HL → Prop} {F : Frm} {h : HI} {g : HL} (hF : k_Fix F) (x0 : Nat) (x2 : Int32) (x3 : Nat) (x4 : Int32) (H : JX14_ask_0 D f Q F h g x0 x2 x3 x4) : Sv D f mX14_ask [.ref (ad D x0), .ref (ad D 9), .int x2, .ref (ad D x3), .int x4] F h g Q := Cl.ofV (by decide) (Nat.le_of_ble_eq_true rfl) rfl (bX14_ask_0 hF x0 x2 x3 x4 H)
theorem dX14_work_0 : decode cX14_work 0 = .ok (.aload_n 0, 1) := by decide +kernel
theorem dX14_work_1 : decode cX14_work 1 = .ok (.getfield 9, 3) := by decide +kernel
theorem dX14_work_4 : decode cX14_work 4 = .ok (.ireturn, 1) := by decide +kernel
abbrev JX14_work_0 (D : DE) (f : Nat) (Q : Int32 → Frm → HI → HL → Prop) (T : Nat → Frm → HI → HL → Prop) (F : Frm) (h : HI) (g : HL) (x0 : Nat) (x2 : Int32) : Prop := F.2.1 x0 = (22, 0) ∧ Q (h x0 2) F h g
theorem bX14_work_0 {D : DE} {f : Nat} {Q : Int32 → Frm → HI → HL → Prop} {T : Nat → Frm → HI → HL → Prop} {F : Frm} {h : HI} {g : HL} (hF : k_Fix F) (x0 : Nat) (x2 : Int32) (H : JX14_work_0 D f Q T F h g x0 x2) : V D mX14_work f (gi Q T) 0 [(0, .ref (ad D x0)), (1, .ref (ad D 101)), (2, .int x2)] [] (F, h, g) := by
  refine V_aload_n dX14_work_0 rfl 0 rfl ?_
  obtain ⟨z1, H⟩ := H
  refine H_geti ck12 2 (by decide) z1 (by decide) rfl q877 dX14_work_1 ?_
  exact G_iret hF rfl dX14_work_4 H
theorem wX14_work {D : DE} {f : Nat} {Q : Int32 → Frm → HI → HL → Prop} {T : Nat → Frm → HI → HL → Prop} {F : Frm} {h : HI} {g : HL} (hF : k_Fix F) (x0 : Nat) (x2 : Int32) (H : JX14_work_0 D f Q T F h g x0 x2) : Gi D f mX14_work [.ref (ad D x0), .ref (ad D 101), .int x2] F h g Q T := Cl.ofV (by decide) (Nat.le_of_ble_eq_true rfl) rfl (bX14_work_0 hF x0 x2 H)
theorem dX15_init_0 : decode cX15_init 0 = .ok (.aload_n 0, 1) := by decide +kernel
theorem dX15_init_1 : decode cX15_init 1 = .ok (.iload_n 1, 1) := by decide +kernel
theorem dX15_init_2 : decode cX15_init 2 = .ok (.invokespecial 1, 3) := by decide +kernel
theorem dX15_init_5 : decode cX15_init 5 = .ok (.aload_n 0, 1) := by decide +kernel
theorem dX15_init_6 : decode cX15_init 6 = .ok (.iload_n 2, 1) := by decide +kernel
theorem dX15_init_7 : decode cX15_init 7 = .ok (.putfield 7, 3) := by decide +kernel
theorem dX15_init_10 : decode cX15_init 10 = .ok (.return_, 1) := by decide +kernel
abbrev JX15_init_0 (D : DE) (f : Nat) (Q : HI → HL → Prop) (F : Frm) (h : HI) (g : HL) (x0 : Nat) (x1 : Int32) (x2 : Int32) : Prop := Sv D f mX10_init [.ref (ad D x0), .int x1] F h g (fun h1 g2 => F.2.1 x0 = (23, 0) ∧ ∀ h4, h4 = up2 h1 x0 1 x2 → Q h4 g2)
theorem bX15_init_0 {D : DE} {f : Nat} {Q : HI → HL → Prop} {F : Frm} {h : HI} {g : HL} (hF : k_Fix F) (x0 : Nat) (x1 : Int32) (x2 : Int32) (H : JX15_init_0 D f Q F h g x0 x1 x2) : V D mX15_init (f + 1) (qv F Q) 0 [(0, .ref (ad D x0)), (1, .int x1), (2, .int x2)] [] (F, h, g) := by
  refine V_aload_n dX15_init_0 rfl 0 rfl ?_
  refine V_iload_n dX15_init_1 rfl 1 rfl ?_
  refine H_callv (av := [.ref (ad D x0), .int x1]) (rest := []) H mqX10_init q102 (by decide) (Nat.le_of_ble_eq_true rfl) (k_resI (av := [.int x1]) (rest := []) rfl q888 q781 q782 mhX10_init mnX10_init dX15_init_2) (fun h1 g2 H => ?_)
  refine V_aload_n dX15_init_5 rfl 0 rfl ?_
  refine V_iload_n dX15_init_6 rfl 2 rfl ?_
  obtain ⟨z3, H⟩ := H
  refine H_putiU ck13 1 (by decide) z3 (by decide) rfl rfl q794 q795 dX15_init_7 (fun h4 e5 => ?_)
  have H := H h4 e5
  exact H_vret rfl dX15_init_10 H
theorem wX15_init {D : DE} {f : Nat} {Q : HI → HL → Prop} {F : Frm} {h : HI} {g : HL} (hF : k_Fix F) (x0 : Nat) (x1 : Int32) (x2 : Int32) (H : JX15_init_0 D f Q F h g x0 x1 x2) : Sv D (f + 1) mX15_init [.ref (ad D x0), .int x1, .int x2] F h g Q := Cl.ofV (by decide) (Nat.le_of_ble_eq_true rfl) rfl (bX15_init_0 hF x0 x1 x2 H)
theorem dX15_judge_0 : decode cX15_judge 0 = .ok (.aload_n 0, 1) := by decide +kernel
theorem dX15_judge_1 : decode cX15_judge 1 = .ok (.getfield 7, 3) := by decide +kernel
theorem dX15_judge_4 : decode cX15_judge 4 = .ok (.ireturn, 1) := by decide +kernel
abbrev JX15_judge_0 (D : DE) (f : Nat) (Q : Int32 → Frm → HI → HL → Prop) (T : Nat → Frm → HI → HL → Prop) (F : Frm) (h : HI) (g : HL) (x0 : Nat) (x2 : Int32) : Prop := F.2.1 x0 = (23, 0) ∧ Q (h x0 1) F h g
theorem bX15_judge_0 {D : DE} {f : Nat} {Q : Int32 → Frm → HI → HL → Prop} {T : Nat → Frm → HI → HL → Prop} {F : Frm} {h : HI} {g : HL} (hF : k_Fix F) (x0 : Nat) (x2 : Int32) (H : JX15_judge_0 D f Q T F h g x0 x2) : V D mX15_judge f (gi Q T) 0 [(0, .ref (ad D x0)), (1, .ref (ad D 7)), (2, .int x2)] [] (F, h, g) := by
  refine V_aload_n dX15_judge_0 rfl 0 rfl ?_
  obtain ⟨z1, H⟩ := H
  refine H_getiU ck13 1 (by decide) z1 (by decide) rfl q794 q795 dX15_judge_1 ?_
  exact G_iret hF rfl dX15_judge_4 H
theorem wX15_judge {D : DE} {f : Nat} {Q : Int32 → Frm → HI → HL → Prop} {T : Nat → Frm → HI → HL → Prop} {F : Frm} {h : HI} {g : HL} (hF : k_Fix F) (x0 : Nat) (x2 : Int32) (H : JX15_judge_0 D f Q T F h g x0 x2) : Gi D f mX15_judge [.ref (ad D x0), .ref (ad D 7), .int x2] F h g Q T := Cl.ofV (by decide) (Nat.le_of_ble_eq_true rfl) rfl (bX15_judge_0 hF x0 x2 H)
theorem dX15_ask_0 : decode cX15_ask 0 = .ok (.aload_n 3, 1) := by decide +kernel
theorem dX15_ask_1 : decode cX15_ask 1 = .ok (.iconst 1, 1) := by decide +kernel
theorem dX15_ask_2 : decode cX15_ask 2 = .ok (.putfield 13, 3) := by decide +kernel
theorem dX15_ask_5 : decode cX15_ask 5 = .ok (.return_, 1) := by decide +kernel
abbrev JX15_ask_0 (D : DE) (f : Nat) (Q : HI → HL → Prop) (F : Frm) (h : HI) (g : HL) (x0 : Nat) (x2 : Int32) (x3 : Nat) (x4 : Int32) : Prop := F.2.1 x3 = (15, 0) ∧ ∀ h2, h2 = up2 h x3 1 1 → Q h2 g
theorem bX15_ask_0 {D : DE} {f : Nat} {Q : HI → HL → Prop} {F : Frm} {h : HI} {g : HL} (hF : k_Fix F) (x0 : Nat) (x2 : Int32) (x3 : Nat) (x4 : Int32) (H : JX15_ask_0 D f Q F h g x0 x2 x3 x4) : V D mX15_ask f (qv F Q) 0 [(0, .ref (ad D x0)), (1, .ref (ad D 9)), (2, .int x2), (3, .ref (ad D x3)), (4, .int x4)] [] (F, h, g) := by
  refine V_aload_n dX15_ask_0 rfl 3 rfl ?_
  refine V_iconst (v := 1) dX15_ask_1 (by decide) ?_
  obtain ⟨z1, H⟩ := H
  refine H_putzN ck5 1 (by decide) z1 (by decide) rfl isB1 rfl q246 dX15_ask_2 (fun h2 e3 => ?_)
  have H := H h2 e3
  exact H_vret rfl dX15_ask_5 H
theorem wX15_ask {D : DE} {f : Nat} {Q : HI → HL → Prop} {F : Frm} {h : HI} {g : HL} (hF : k_Fix F) (x0 : Nat) (x2 : Int32) (x3 : Nat) (x4 : Int32) (H : JX15_ask_0 D f Q F h g x0 x2 x3 x4) : Sv D f mX15_ask [.ref (ad D x0), .ref (ad D 9), .int x2, .ref (ad D x3), .int x4] F h g Q := Cl.ofV (by decide) (Nat.le_of_ble_eq_true rfl) rfl (bX15_ask_0 hF x0 x2 x3 x4 H)
theorem dX15_work_0 : decode cX15_work 0 = .ok (.aload_n 1, 1) := by decide +kernel
theorem dX15_work_1 : decode cX15_work 1 = .ok (.iconst 2, 1) := by decide +kernel
theorem dX15_work_2 : decode cX15_work 2 = .ok (.invokevirtual 19, 3) := by decide +kernel
theorem dX15_work_5 : decode cX15_work 5 = .ok (.iconst 0, 1) := by decide +kernel
theorem dX15_work_6 : decode cX15_work 6 = .ok (.ireturn, 1) := by decide +kernel
abbrev JX15_work_0 (D : DE) (f : Nat) (Q : Int32 → Frm → HI → HL → Prop) (T : Nat → Frm → HI → HL → Prop) (F : Frm) (h : HI) (g : HL) (x0 : Nat) (x2 : Int32) : Prop := Sv D f mX7_ends [.ref (ad D 101), .int 2] F h g (fun h1 g2 => Q 0 F h1 g2)
theorem bX15_work_0 {D : DE} {f : Nat} {Q : Int32 → Frm → HI → HL → Prop} {T : Nat → Frm → HI → HL → Prop} {F : Frm} {h : HI} {g : HL} (hF : k_Fix F) (x0 : Nat) (x2 : Int32) (H : JX15_work_0 D f Q T F h g x0 x2) : V D mX15_work (f + 1) (gi Q T) 0 [(0, .ref (ad D x0)), (1, .ref (ad D 101)), (2, .int x2)] [] (F, h, g) := by
  refine V_aload_n dX15_work_0 rfl 1 rfl ?_
  refine V_iconst (v := 2) dX15_work_1 (by decide) ?_
  refine H_callv (av := [.ref (ad D 101), .int 2]) (rest := []) H mqX7_ends q87 (by decide) (Nat.le_of_ble_eq_true rfl) (k_resV (ci := 6) (av := [.int 2]) (rest := []) (fs_101 hF) (by decide) rfl rfl q1384 q1343 q1344 q1345 mhX7_ends mnX7_ends dX15_work_2) (fun h1 g2 H => ?_)
  refine V_iconst (v := 0) dX15_work_5 (by decide) ?_
  exact G_iret hF rfl dX15_work_6 H
theorem wX15_work {D : DE} {f : Nat} {Q : Int32 → Frm → HI → HL → Prop} {T : Nat → Frm → HI → HL → Prop} {F : Frm} {h : HI} {g : HL} (hF : k_Fix F) (x0 : Nat) (x2 : Int32) (H : JX15_work_0 D f Q T F h g x0 x2) : Gi D (f + 1) mX15_work [.ref (ad D x0), .ref (ad D 101), .int x2] F h g Q T := Cl.ofV (by decide) (Nat.le_of_ble_eq_true rfl) rfl (bX15_work_0 hF x0 x2 H)
theorem dX18_init_0 : decode cX18_init 0 = .ok (.aload_n 0, 1) := by decide +kernel
theorem dX18_init_1 : decode cX18_init 1 = .ok (.iload_n 1, 1) := by decide +kernel
theorem dX18_init_2 : decode cX18_init 2 = .ok (.invokespecial 1, 3) := by decide +kernel
theorem dX18_init_5 : decode cX18_init 5 = .ok (.return_, 1) := by decide +kernel
abbrev JX18_init_0 (D : DE) (f : Nat) (Q : HI → HL → Prop) (F : Frm) (h : HI) (g : HL) (x0 : Nat) (x1 : Int32) : Prop := Sv D f mX10_init [.ref (ad D x0), .int x1] F h g (fun h1 g2 => Q h1 g2)
theorem bX18_init_0 {D : DE} {f : Nat} {Q : HI → HL → Prop} {F : Frm} {h : HI} {g : HL} (hF : k_Fix F) (x0 : Nat) (x1 : Int32) (H : JX18_init_0 D f Q F h g x0 x1) : V D mX18_init (f + 1) (qv F Q) 0 [(0, .ref (ad D x0)), (1, .int x1)] [] (F, h, g) := by
  refine V_aload_n dX18_init_0 rfl 0 rfl ?_
  refine V_iload_n dX18_init_1 rfl 1 rfl ?_
  refine H_callv (av := [.ref (ad D x0), .int x1]) (rest := []) H mqX10_init q102 (by decide) (Nat.le_of_ble_eq_true rfl) (k_resI (av := [.int x1]) (rest := []) rfl q945 q781 q782 mhX10_init mnX10_init dX18_init_2) (fun h1 g2 H => ?_)
  exact H_vret rfl dX18_init_5 H
theorem wX18_init {D : DE} {f : Nat} {Q : HI → HL → Prop} {F : Frm} {h : HI} {g : HL} (hF : k_Fix F) (x0 : Nat) (x1 : Int32) (H : JX18_init_0 D f Q F h g x0 x1) : Sv D (f + 1) mX18_init [.ref (ad D x0), .int x1] F h g Q := Cl.ofV (by decide) (Nat.le_of_ble_eq_true rfl) rfl (bX18_init_0 hF x0 x1 H)
theorem dX18_judge_0 : decode cX18_judge 0 = .ok (.aload_n 0, 1) := by decide +kernel
theorem dX18_judge_1 : decode cX18_judge 1 = .ok (.aload_n 1, 1) := by decide +kernel
theorem dX18_judge_2 : decode cX18_judge 2 = .ok (.aload_n 0, 1) := by decide +kernel
theorem dX18_judge_3 : decode cX18_judge 3 = .ok (.getfield 7, 3) := by decide +kernel
theorem dX18_judge_6 : decode cX18_judge 6 = .ok (.invokevirtual 13, 3) := by decide +kernel
theorem dX18_judge_9 : decode cX18_judge 9 = .ok (.putfield 19, 3) := by decide +kernel
theorem dX18_judge_12 : decode cX18_judge 12 = .ok (.aload_n 1, 1) := by decide +kernel
theorem dX18_judge_13 : decode cX18_judge 13 = .ok (.getfield 22, 3) := by decide +kernel
theorem dX18_judge_16 : decode cX18_judge 16 = .ok (.getfield 26, 3) := by decide +kernel
theorem dX18_judge_19 : decode cX18_judge 19 = .ok (.aload_n 0, 1) := by decide +kernel
theorem dX18_judge_20 : decode cX18_judge 20 = .ok (.getfield 19, 3) := by decide +kernel
theorem dX18_judge_23 : decode cX18_judge 23 = .ok (.iaload, 1) := by decide +kernel
theorem dX18_judge_24 : decode cX18_judge 24 = .ok (.ireturn, 1) := by decide +kernel
abbrev JX18_judge_0 (D : DE) (f : Nat) (Q : Int32 → Frm → HI → HL → Prop) (T : Nat → Frm → HI → HL → Prop) (F : Frm) (h : HI) (g : HL) (x0 : Nat) (x2 : Int32) : Prop := F.2.1 x0 = (26, 0) ∧ Gi D f mX4_find [.ref (ad D 7), .int (h x0 0)] F h g (fun y2 F5 h3 g4 => F5.2.1 x0 = (26, 0) ∧ ∀ h9, h9 = up2 h3 x0 2 y2 → ∃ b11 : Nat, F5.2.2 7 3 = some b11 ∧ F5.2.1 b11 = (18, 0) ∧ ∃ b14 : Nat, F5.2.2 b11 5 = some b14 ∧ ∃ m16 : Nat, F5.2.1 b14 = (0, m16) ∧ vp_in (h9 x0 2) m16 ∧ Q (h9 b14 (ix (h9 x0 2))) F5 h9 g4) T
theorem bX18_judge_0 {D : DE} {f : Nat} {Q : Int32 → Frm → HI → HL → Prop} {T : Nat → Frm → HI → HL → Prop} {F : Frm} {h : HI} {g : HL} (hF : k_Fix F) (x0 : Nat) (x2 : Int32) (H : JX18_judge_0 D f Q T F h g x0 x2) : V D mX18_judge (f + 1) (gi Q T) 0 [(0, .ref (ad D x0)), (1, .ref (ad D 7)), (2, .int x2)] [] (F, h, g) := by
  refine V_aload_n dX18_judge_0 rfl 0 rfl ?_
  refine V_aload_n dX18_judge_1 rfl 1 rfl ?_
  refine V_aload_n dX18_judge_2 rfl 0 rfl ?_
  obtain ⟨z1, H⟩ := H
  refine H_getiU ck16 0 (by decide) z1 (by decide) rfl q791 q792 dX18_judge_3 ?_
  refine G_calli (av := [.ref (ad D 7), .int (h x0 0)]) (rest := [.ref (ad D x0)]) H mqX4_find q84 (by decide) (Nat.le_of_ble_eq_true rfl) (k_resV (ci := 3) (av := [.int (h x0 0)]) (rest := [.ref (ad D x0)]) (fs_7 hF) (by decide) rfl rfl q1031 q1032 q1033 q1034 mhX4_find mnX4_find dX18_judge_6) (fun y2 F5 h3 g4 hF6 H => ?_) (fun a e F1 h1 g1 hF1 ha ht => GT_i hF1 rfl ha ht)
  obtain ⟨z8, H⟩ := H
  refine H_puti ck16 2 (by decide) z8 (by decide) rfl rfl q946 dX18_judge_9 (fun h9 e10 => ?_)
  have H := H h9 e10
  refine V_aload_n dX18_judge_12 rfl 1 rfl ?_
  obtain ⟨b11, z12, H⟩ := H
  refine H_getrN ck3 3 (by decide) (fs_7 hF6) (by decide) rfl z12 q209 dX18_judge_13 ?_
  obtain ⟨z13, H⟩ := H
  obtain ⟨b14, z15, H⟩ := H
  refine H_getrN ck8 5 (by decide) z13 (by decide) rfl z15 q682 dX18_judge_16 ?_
  refine V_aload_n dX18_judge_19 rfl 0 rfl ?_
  refine H_geti ck16 2 (by decide) z8 (by decide) rfl q946 dX18_judge_20 ?_
  obtain ⟨m16, z17, H⟩ := H
  obtain ⟨i18, H⟩ := H
  refine H_iald z17 i18 dX18_judge_23 ?_
  exact G_iret hF6 rfl dX18_judge_24 H
theorem wX18_judge {D : DE} {f : Nat} {Q : Int32 → Frm → HI → HL → Prop} {T : Nat → Frm → HI → HL → Prop} {F : Frm} {h : HI} {g : HL} (hF : k_Fix F) (x0 : Nat) (x2 : Int32) (H : JX18_judge_0 D f Q T F h g x0 x2) : Gi D (f + 1) mX18_judge [.ref (ad D x0), .ref (ad D 7), .int x2] F h g Q T := Cl.ofV (by decide) (Nat.le_of_ble_eq_true rfl) rfl (bX18_judge_0 hF x0 x2 H)
theorem dX18_ask_0 : decode cX18_ask 0 = .ok (.aload_n 3, 1) := by decide +kernel
theorem dX18_ask_1 : decode cX18_ask 1 = .ok (.aload_n 1, 1) := by decide +kernel
theorem dX18_ask_2 : decode cX18_ask 2 = .ok (.getfield 32, 3) := by decide +kernel
theorem dX18_ask_5 : decode cX18_ask 5 = .ok (.getfield 26, 3) := by decide +kernel
theorem dX18_ask_8 : decode cX18_ask 8 = .ok (.aload_n 0, 1) := by decide +kernel
theorem dX18_ask_9 : decode cX18_ask 9 = .ok (.getfield 19, 3) := by decide +kernel
theorem dX18_ask_12 : decode cX18_ask 12 = .ok (.iload_n 2, 1) := by decide +kernel
theorem dX18_ask_13 : decode cX18_ask 13 = .ok (.invokevirtual 35, 3) := by decide +kernel
theorem dX18_ask_16 : decode cX18_ask 16 = .ok (.return_, 1) := by decide +kernel
abbrev JX18_ask_0 (D : DE) (f : Nat) (Q : HI → HL → Prop) (F : Frm) (h : HI) (g : HL) (x0 : Nat) (x2 : Int32) (x3 : Nat) (x4 : Int32) : Prop := ∃ b1 : Nat, F.2.2 9 0 = some b1 ∧ F.2.1 b1 = (18, 0) ∧ ∃ b4 : Nat, F.2.2 b1 5 = some b4 ∧ F.2.1 x0 = (26, 0) ∧ F.2.1 x3 = (15, 0) ∧ Sv D f mX6_add [.ref (ad D x3), .ref (ad D b4), .int (h x0 2), .int x2] F h g (fun h8 g9 => Q h8 g9)
theorem bX18_ask_0 {D : DE} {f : Nat} {Q : HI → HL → Prop} {F : Frm} {h : HI} {g : HL} (hF : k_Fix F) (x0 : Nat) (x2 : Int32) (x3 : Nat) (x4 : Int32) (H : JX18_ask_0 D f Q F h g x0 x2 x3 x4) : V D mX18_ask (f + 1) (qv F Q) 0 [(0, .ref (ad D x0)), (1, .ref (ad D 9)), (2, .int x2), (3, .ref (ad D x3)), (4, .int x4)] [] (F, h, g) := by
  refine V_aload_n dX18_ask_0 rfl 3 rfl ?_
  refine V_aload_n dX18_ask_1 rfl 1 rfl ?_
  obtain ⟨b1, z2, H⟩ := H
  refine H_getrN ck4 0 (by decide) (fs_9 hF) (by decide) rfl z2 q255 dX18_ask_2 ?_
  obtain ⟨z3, H⟩ := H
  obtain ⟨b4, z5, H⟩ := H
  refine H_getrN ck8 5 (by decide) z3 (by decide) rfl z5 q682 dX18_ask_5 ?_
  refine V_aload_n dX18_ask_8 rfl 0 rfl ?_
  obtain ⟨z6, H⟩ := H
  refine H_geti ck16 2 (by decide) z6 (by decide) rfl q946 dX18_ask_9 ?_
  refine V_iload_n dX18_ask_12 rfl 2 rfl ?_
  obtain ⟨z7, H⟩ := H
  refine H_callv (av := [.ref (ad D x3), .ref (ad D b4), .int (h x0 2), .int x2]) (rest := []) H mqX6_add q86 (by decide) (Nat.le_of_ble_eq_true rfl) (k_resV (ci := 5) (av := [.ref (ad D b4), .int (h x0 2), .int x2]) (rest := []) z7 (by decide) rfl rfl q1205 q1206 q1207 q1208 mhX6_add mnX6_add dX18_ask_13) (fun h8 g9 H => ?_)
  exact H_vret rfl dX18_ask_16 H
theorem wX18_ask {D : DE} {f : Nat} {Q : HI → HL → Prop} {F : Frm} {h : HI} {g : HL} (hF : k_Fix F) (x0 : Nat) (x2 : Int32) (x3 : Nat) (x4 : Int32) (H : JX18_ask_0 D f Q F h g x0 x2 x3 x4) : Sv D (f + 1) mX18_ask [.ref (ad D x0), .ref (ad D 9), .int x2, .ref (ad D x3), .int x4] F h g Q := Cl.ofV (by decide) (Nat.le_of_ble_eq_true rfl) rfl (bX18_ask_0 hF x0 x2 x3 x4 H)
theorem dX18_work_0 : decode cX18_work 0 = .ok (.aload_n 1, 1) := by decide +kernel
theorem dX18_work_1 : decode cX18_work 1 = .ok (.aload_n 1, 1) := by decide +kernel
theorem dX18_work_2 : decode cX18_work 2 = .ok (.getfield 41, 3) := by decide +kernel
theorem dX18_work_5 : decode cX18_work 5 = .ok (.iload_n 2, 1) := by decide +kernel
theorem dX18_work_6 : decode cX18_work 6 = .ok (.aload_n 0, 1) := by decide +kernel
theorem dX18_work_7 : decode cX18_work 7 = .ok (.getfield 19, 3) := by decide +kernel
theorem dX18_work_10 : decode cX18_work 10 = .ok (.iadd, 1) := by decide +kernel
theorem dX18_work_11 : decode cX18_work 11 = .ok (.iaload, 1) := by decide +kernel
theorem dX18_work_12 : decode cX18_work 12 = .ok (.invokevirtual 46, 3) := by decide +kernel
theorem dX18_work_15 : decode cX18_work 15 = .ok (.ireturn, 1) := by decide +kernel
abbrev JX18_work_0 (D : DE) (f : Nat) (Q : Int32 → Frm → HI → HL → Prop) (T : Nat → Frm → HI → HL → Prop) (F : Frm) (h : HI) (g : HL) (x0 : Nat) (x2 : Int32) : Prop := F.2.1 x0 = (26, 0) ∧ vp_in (x2 + (h x0 2)) 24016 ∧ Gi D f mX7_need [.ref (ad D 101), .int (h 108 (ix (x2 + (h x0 2))))] F h g (fun y3 F6 h4 g5 => Q y3 F6 h4 g5) T
theorem bX18_work_0 {D : DE} {f : Nat} {Q : Int32 → Frm → HI → HL → Prop} {T : Nat → Frm → HI → HL → Prop} {F : Frm} {h : HI} {g : HL} (hF : k_Fix F) (x0 : Nat) (x2 : Int32) (H : JX18_work_0 D f Q T F h g x0 x2) : V D mX18_work (f + 1) (gi Q T) 0 [(0, .ref (ad D x0)), (1, .ref (ad D 101)), (2, .int x2)] [] (F, h, g) := by
  refine V_aload_n dX18_work_0 rfl 1 rfl ?_
  refine V_aload_n dX18_work_1 rfl 1 rfl ?_
  refine H_getrN ck6 8 (by decide) (fs_101 hF) (by decide) rfl (fr_101_8 hF) q292 dX18_work_2 ?_
  refine V_iload_n dX18_work_5 rfl 2 rfl ?_
  refine V_aload_n dX18_work_6 rfl 0 rfl ?_
  obtain ⟨z1, H⟩ := H
  refine H_geti ck16 2 (by decide) z1 (by decide) rfl q946 dX18_work_7 ?_
  refine V_iadd dX18_work_10 ?_
  obtain ⟨i2, H⟩ := H
  refine H_iald (fs_108 hF) i2 dX18_work_11 ?_
  refine G_calli (av := [.ref (ad D 101), .int (h 108 (ix (x2 + (h x0 2))))]) (rest := []) H mqX7_need q87 (by decide) (Nat.le_of_ble_eq_true rfl) (k_resV (ci := 6) (av := [.int (h 108 (ix (x2 + (h x0 2))))]) (rest := []) (fs_101 hF) (by decide) rfl rfl q1397 q1398 q1399 q1400 mhX7_need mnX7_need dX18_work_12) (fun y3 F6 h4 g5 hF7 H => ?_) (fun a e F1 h1 g1 hF1 ha ht => GT_i hF1 rfl ha ht)
  exact G_iret hF7 rfl dX18_work_15 H
theorem wX18_work {D : DE} {f : Nat} {Q : Int32 → Frm → HI → HL → Prop} {T : Nat → Frm → HI → HL → Prop} {F : Frm} {h : HI} {g : HL} (hF : k_Fix F) (x0 : Nat) (x2 : Int32) (H : JX18_work_0 D f Q T F h g x0 x2) : Gi D (f + 1) mX18_work [.ref (ad D x0), .ref (ad D 101), .int x2] F h g Q T := Cl.ofV (by decide) (Nat.le_of_ble_eq_true rfl) rfl (bX18_work_0 hF x0 x2 H)
theorem dX18_alone_0 : decode cX18_alone 0 = .ok (.aload_n 0, 1) := by decide +kernel
theorem dX18_alone_1 : decode cX18_alone 1 = .ok (.getfield 19, 3) := by decide +kernel
theorem dX18_alone_4 : decode cX18_alone 4 = .ok (.ireturn, 1) := by decide +kernel
abbrev JX18_alone_0 (D : DE) (f : Nat) (Q : Int32 → HI → HL → Prop) (F : Frm) (h : HI) (g : HL) (x0 : Nat) : Prop := F.2.1 x0 = (26, 0) ∧ Q (h x0 2) h g
theorem bX18_alone_0 {D : DE} {f : Nat} {Q : Int32 → HI → HL → Prop} {F : Frm} {h : HI} {g : HL} (hF : k_Fix F) (x0 : Nat) (H : JX18_alone_0 D f Q F h g x0) : V D mX18_alone f (qi F Q) 0 [(0, .ref (ad D x0))] [] (F, h, g) := by
  refine V_aload_n dX18_alone_0 rfl 0 rfl ?_
  obtain ⟨z1, H⟩ := H
  refine H_geti ck16 2 (by decide) z1 (by decide) rfl q946 dX18_alone_1 ?_
  exact H_iret rfl dX18_alone_4 H
theorem wX18_alone {D : DE} {f : Nat} {Q : Int32 → HI → HL → Prop} {F : Frm} {h : HI} {g : HL} (hF : k_Fix F) (x0 : Nat) (H : JX18_alone_0 D f Q F h g x0) : Si D f mX18_alone [.ref (ad D x0)] F h g Q := Cl.ofV (by decide) (Nat.le_of_ble_eq_true rfl) rfl (bX18_alone_0 hF x0 H)
theorem dX19_init_0 : decode cX19_init 0 = .ok (.aload_n 0, 1) := by decide +kernel
theorem dX19_init_1 : decode cX19_init 1 = .ok (.aload_n 2, 1) := by decide +kernel
theorem dX19_init_2 : decode cX19_init 2 = .ok (.getfield 3, 3) := by decide +kernel
theorem dX19_init_5 : decode cX19_init 5 = .ok (.invokespecial 9, 3) := by decide +kernel
theorem dX19_init_8 : decode cX19_init 8 = .ok (.aload_n 0, 1) := by decide +kernel
theorem dX19_init_9 : decode cX19_init 9 = .ok (.iload_n 1, 1) := by decide +kernel
theorem dX19_init_10 : decode cX19_init 10 = .ok (.putfield 13, 3) := by decide +kernel
theorem dX19_init_13 : decode cX19_init 13 = .ok (.aload_n 0, 1) := by decide +kernel
theorem dX19_init_14 : decode cX19_init 14 = .ok (.aload_n 2, 1) := by decide +kernel
theorem dX19_init_15 : decode cX19_init 15 = .ok (.putfield 18, 3) := by decide +kernel
theorem dX19_init_18 : decode cX19_init 18 = .ok (.aload_n 0, 1) := by decide +kernel
theorem dX19_init_19 : decode cX19_init 19 = .ok (.aload_n 3, 1) := by decide +kernel
theorem dX19_init_20 : decode cX19_init 20 = .ok (.putfield 22, 3) := by decide +kernel
theorem dX19_init_23 : decode cX19_init 23 = .ok (.return_, 1) := by decide +kernel
abbrev JX19_init_0 (D : DE) (f : Nat) (Q : Frm → HI → HL → Prop) (T : Nat → Frm → HI → HL → Prop) (F : Frm) (h : HI) (g : HL) (x0 : Nat) (x1 : Int32) (x2 : Nat) (x3 : Nat) : Prop := ∃ k1 : Nat, isE F x2 k1 ∧ Sv D f mX10_init [.ref (ad D x0), .int (h x2 0)] F h g (fun h3 g4 => F.2.1 x0 = (27, 0) ∧ ∀ h6, h6 = up2 h3 x0 2 x1 → ∀ F8, F8 = fwr F x0 3 (some x2) → 160 ≤ x0 ∧ ∀ F14, F14 = fwr F8 x0 4 (some x3) → 160 ≤ x0 ∧ Q F14 h6 g4)
theorem bX19_init_0 {D : DE} {f : Nat} {Q : Frm → HI → HL → Prop} {T : Nat → Frm → HI → HL → Prop} {F : Frm} {h : HI} {g : HL} (hF : k_Fix F) (x0 : Nat) (x1 : Int32) (x2 : Nat) (x3 : Nat) (H : JX19_init_0 D f Q T F h g x0 x1 x2 x3) : V D mX19_init (f + 1) (gv Q T) 0 [(0, .ref (ad D x0)), (1, .int x1), (2, .ref (ad D x2)), (3, .ref (ad D x3))] [] (F, h, g) := by
  refine V_aload_n dX19_init_0 rfl 0 rfl ?_
  refine V_aload_n dX19_init_1 rfl 2 rfl ?_
  obtain ⟨k1, z2, H⟩ := H
  refine X_get_token z2 q787 dX19_init_2 ?_
  refine H_callv (av := [.ref (ad D x0), .int (h x2 0)]) (rest := []) H mqX10_init q102 (by decide) (Nat.le_of_ble_eq_true rfl) (k_resI (av := [.int (h x2 0)]) (rest := []) rfl q957 q781 q782 mhX10_init mnX10_init dX19_init_5) (fun h3 g4 H => ?_)
  refine V_aload_n dX19_init_8 rfl 0 rfl ?_
  refine V_iload_n dX19_init_9 rfl 1 rfl ?_
  obtain ⟨z5, H⟩ := H
  refine G_putiF ck17 2 (by decide) z5 (by decide) rfl rfl rfl rfl q958 dX19_init_10 (fun h6 e7 => ?_)
  have H := H h6 e7
  refine V_aload_n dX19_init_13 rfl 0 rfl ?_
  refine V_aload_n dX19_init_14 rfl 2 rfl ?_
  refine G_putrF ck17 3 (by decide) z5 (by decide) rfl (fun _ => rfl) (fun _ => rfl) rfl rfl rfl q959 dX19_init_15 (fun F8 e9 => ?_)
  have H := H F8 e9
  obtain ⟨z11, H⟩ := H
  have hF10 : k_Fix F8 := by rw [e9]; exact k_Fix.wr hF (fx_okD z11) _
  have z12 : isE F8 x2 k1 := by rw [e9]; exact z2
  have z13 : F8.2.1 x0 = (27, 0) := by rw [e9]; exact z5
  refine V_aload_n dX19_init_18 rfl 0 rfl ?_
  refine V_aload_n dX19_init_19 rfl 3 rfl ?_
  refine G_putrF ck17 4 (by decide) z13 (by decide) rfl (fun _ => rfl) (fun _ => rfl) rfl rfl rfl q960 dX19_init_20 (fun F14 e15 => ?_)
  have H := H F14 e15
  obtain ⟨z17, H⟩ := H
  have hF16 : k_Fix F14 := by rw [e15]; exact k_Fix.wr hF10 (fx_okD z17) _
  have z18 : isE F14 x2 k1 := by rw [e15]; exact z12
  have z19 : F14.2.1 x0 = (27, 0) := by rw [e15]; exact z13
  exact G_vret hF16 rfl dX19_init_23 H
theorem wX19_init {D : DE} {f : Nat} {Q : Frm → HI → HL → Prop} {T : Nat → Frm → HI → HL → Prop} {F : Frm} {h : HI} {g : HL} (hF : k_Fix F) (x0 : Nat) (x1 : Int32) (x2 : Nat) (x3 : Nat) (H : JX19_init_0 D f Q T F h g x0 x1 x2 x3) : Gv D (f + 1) mX19_init [.ref (ad D x0), .int x1, .ref (ad D x2), .ref (ad D x3)] F h g Q T := Cl.ofV (by decide) (Nat.le_of_ble_eq_true rfl) rfl (bX19_init_0 hF x0 x1 x2 x3 H)
theorem dX19_judge_0 : decode cX19_judge 0 = .ok (.aload_n 1, 1) := by decide +kernel
theorem dX19_judge_1 : decode cX19_judge 1 = .ok (.aload_n 0, 1) := by decide +kernel
theorem dX19_judge_2 : decode cX19_judge 2 = .ok (.getfield 18, 3) := by decide +kernel
theorem dX19_judge_5 : decode cX19_judge 5 = .ok (.iconst 0, 1) := by decide +kernel
theorem dX19_judge_6 : decode cX19_judge 6 = .ok (.invokevirtual 25, 3) := by decide +kernel
theorem dX19_judge_9 : decode cX19_judge 9 = .ok (.pop, 1) := by decide +kernel
theorem dX19_judge_10 : decode cX19_judge 10 = .ok (.aload_n 1, 1) := by decide +kernel
theorem dX19_judge_11 : decode cX19_judge 11 = .ok (.aload_n 0, 1) := by decide +kernel
theorem dX19_judge_12 : decode cX19_judge 12 = .ok (.getfield 22, 3) := by decide +kernel
theorem dX19_judge_15 : decode cX19_judge 15 = .ok (.iconst 0, 1) := by decide +kernel
theorem dX19_judge_16 : decode cX19_judge 16 = .ok (.invokevirtual 25, 3) := by decide +kernel
theorem dX19_judge_19 : decode cX19_judge 19 = .ok (.pop, 1) := by decide +kernel
theorem dX19_judge_20 : decode cX19_judge 20 = .ok (.iconst 0, 1) := by decide +kernel
theorem dX19_judge_21 : decode cX19_judge 21 = .ok (.ireturn, 1) := by decide +kernel
abbrev JX19_judge_0 (D : DE) (f : Nat) (Q : Int32 → Frm → HI → HL → Prop) (T : Nat → Frm → HI → HL → Prop) (F : Frm) (h : HI) (g : HL) (x0 : Nat) (x2 : Int32) : Prop := F.2.1 x0 = (27, 0) ∧ ∃ b2 : Nat, F.2.2 x0 3 = some b2 ∧ Gi D f mX4_judge [.ref (ad D 7), .ref (ad D b2), .int 0] F h g (fun y4 F7 h5 g6 => F7.2.1 x0 = (27, 0) ∧ ∃ b11 : Nat, F7.2.2 x0 4 = some b11 ∧ Gi D f mX4_judge [.ref (ad D 7), .ref (ad D b11), .int 0] F7 h5 g6 (fun y13 F16 h14 g15 => Q 0 F16 h14 g15) T) T
theorem bX19_judge_0 {D : DE} {f : Nat} {Q : Int32 → Frm → HI → HL → Prop} {T : Nat → Frm → HI → HL → Prop} {F : Frm} {h : HI} {g : HL} (hF : k_Fix F) (x0 : Nat) (x2 : Int32) (H : JX19_judge_0 D f Q T F h g x0 x2) : V D mX19_judge (f + 1) (gi Q T) 0 [(0, .ref (ad D x0)), (1, .ref (ad D 7)), (2, .int x2)] [] (F, h, g) := by
  refine V_aload_n dX19_judge_0 rfl 1 rfl ?_
  refine V_aload_n dX19_judge_1 rfl 0 rfl ?_
  obtain ⟨z1, H⟩ := H
  obtain ⟨b2, z3, H⟩ := H
  refine H_getr ck17 3 (by decide) z1 (by decide) rfl z3 q959 dX19_judge_2 ?_
  refine V_iconst (v := 0) dX19_judge_5 (by decide) ?_
  refine G_calli (av := [.ref (ad D 7), .ref (ad D b2), .int 0]) (rest := []) H mqX4_judge q84 (by decide) (Nat.le_of_ble_eq_true rfl) (k_resV (ci := 3) (av := [.ref (ad D b2), .int 0]) (rest := []) (fs_7 hF) (by decide) rfl rfl q1048 q979 q980 q981 mhX4_judge mnX4_judge dX19_judge_6) (fun y4 F7 h5 g6 hF8 H => ?_) (fun a e F1 h1 g1 hF1 ha ht => GT_i hF1 rfl ha ht)
  refine V_pop dX19_judge_9 rfl ?_
  refine V_aload_n dX19_judge_10 rfl 1 rfl ?_
  refine V_aload_n dX19_judge_11 rfl 0 rfl ?_
  obtain ⟨z10, H⟩ := H
  obtain ⟨b11, z12, H⟩ := H
  refine H_getr ck17 4 (by decide) z10 (by decide) rfl z12 q960 dX19_judge_12 ?_
  refine V_iconst (v := 0) dX19_judge_15 (by decide) ?_
  refine G_calli (av := [.ref (ad D 7), .ref (ad D b11), .int 0]) (rest := []) H mqX4_judge q84 (by decide) (Nat.le_of_ble_eq_true rfl) (k_resV (ci := 3) (av := [.ref (ad D b11), .int 0]) (rest := []) (fs_7 hF8) (by decide) rfl rfl q1048 q979 q980 q981 mhX4_judge mnX4_judge dX19_judge_16) (fun y13 F16 h14 g15 hF17 H => ?_) (fun a e F1 h1 g1 hF1 ha ht => GT_i hF1 rfl ha ht)
  refine V_pop dX19_judge_19 rfl ?_
  refine V_iconst (v := 0) dX19_judge_20 (by decide) ?_
  exact G_iret hF17 rfl dX19_judge_21 H
theorem wX19_judge {D : DE} {f : Nat} {Q : Int32 → Frm → HI → HL → Prop} {T : Nat → Frm → HI → HL → Prop} {F : Frm} {h : HI} {g : HL} (hF : k_Fix F) (x0 : Nat) (x2 : Int32) (H : JX19_judge_0 D f Q T F h g x0 x2) : Gi D (f + 1) mX19_judge [.ref (ad D x0), .ref (ad D 7), .int x2] F h g Q T := Cl.ofV (by decide) (Nat.le_of_ble_eq_true rfl) rfl (bX19_judge_0 hF x0 x2 H)
theorem dX19_ask_0 : decode cX19_ask 0 = .ok (.aload_n 0, 1) := by decide +kernel
theorem dX19_ask_1 : decode cX19_ask 1 = .ok (.getfield 18, 3) := by decide +kernel
theorem dX19_ask_4 : decode cX19_ask 4 = .ok (.aload_n 1, 1) := by decide +kernel
theorem dX19_ask_5 : decode cX19_ask 5 = .ok (.iconst 1, 1) := by decide +kernel
theorem dX19_ask_6 : decode cX19_ask 6 = .ok (.aload_n 3, 1) := by decide +kernel
theorem dX19_ask_7 : decode cX19_ask 7 = .ok (.iload 4, 2) := by decide +kernel
theorem dX19_ask_9 : decode cX19_ask 9 = .ok (.invokevirtual 31, 3) := by decide +kernel
theorem dX19_ask_12 : decode cX19_ask 12 = .ok (.aload_n 0, 1) := by decide +kernel
theorem dX19_ask_13 : decode cX19_ask 13 = .ok (.getfield 22, 3) := by decide +kernel
theorem dX19_ask_16 : decode cX19_ask 16 = .ok (.aload_n 1, 1) := by decide +kernel
theorem dX19_ask_17 : decode cX19_ask 17 = .ok (.iconst 1, 1) := by decide +kernel
theorem dX19_ask_18 : decode cX19_ask 18 = .ok (.aload_n 3, 1) := by decide +kernel
theorem dX19_ask_19 : decode cX19_ask 19 = .ok (.iload 4, 2) := by decide +kernel
theorem dX19_ask_21 : decode cX19_ask 21 = .ok (.invokevirtual 31, 3) := by decide +kernel
theorem dX19_ask_24 : decode cX19_ask 24 = .ok (.return_, 1) := by decide +kernel
abbrev JX19_ask_0 (D : DE) (f : Nat) (Q : HI → HL → Prop) (F : Frm) (h : HI) (g : HL) (x0 : Nat) (x2 : Int32) (x3 : Nat) (x4 : Int32) : Prop := F.2.1 x0 = (27, 0) ∧ ∃ b2 : Nat, F.2.2 x0 3 = some b2 ∧ ∃ k4 : Nat, isE F b2 k4 ∧ Sv D f (v_ask k4) [.ref (ad D b2), .ref (ad D 9), .int 1, .ref (ad D x3), .int x4] F h g (fun h6 g7 => ∃ b8 : Nat, F.2.2 x0 4 = some b8 ∧ ∃ k10 : Nat, isE F b8 k10 ∧ Sv D f (v_ask k10) [.ref (ad D b8), .ref (ad D 9), .int 1, .ref (ad D x3), .int x4] F h6 g7 (fun h12 g13 => Q h12 g13))
theorem bX19_ask_0 {D : DE} {f : Nat} {Q : HI → HL → Prop} {F : Frm} {h : HI} {g : HL} (hF : k_Fix F) (x0 : Nat) (x2 : Int32) (x3 : Nat) (x4 : Int32) (H : JX19_ask_0 D f Q F h g x0 x2 x3 x4) : V D mX19_ask (f + 1) (qv F Q) 0 [(0, .ref (ad D x0)), (1, .ref (ad D 9)), (2, .int x2), (3, .ref (ad D x3)), (4, .int x4)] [] (F, h, g) := by
  refine V_aload_n dX19_ask_0 rfl 0 rfl ?_
  obtain ⟨z1, H⟩ := H
  obtain ⟨b2, z3, H⟩ := H
  refine H_getr ck17 3 (by decide) z1 (by decide) rfl z3 q959 dX19_ask_1 ?_
  refine V_aload_n dX19_ask_4 rfl 1 rfl ?_
  refine V_iconst (v := 1) dX19_ask_5 (by decide) ?_
  refine V_aload_n dX19_ask_6 rfl 3 rfl ?_
  refine V_iload dX19_ask_7 4 rfl ?_
  obtain ⟨k4, z5, H⟩ := H
  refine H_callv (av := [.ref (ad D b2), .ref (ad D 9), .int 1, .ref (ad D x3), .int x4]) (rest := []) H (vq_ask z5.2.1 z5.2.2) (vi_ask z5.2.1 z5.2.2) (vl_ask z5.2.1 z5.2.2) (Nat.le_of_ble_eq_true rfl) (vr_ask (av := [.ref (ad D 9), .int 1, .ref (ad D x3), .int x4]) (rest := []) z5 rfl q1233 dX19_ask_9) (fun h6 g7 H => ?_)
  refine V_aload_n dX19_ask_12 rfl 0 rfl ?_
  obtain ⟨b8, z9, H⟩ := H
  refine H_getr ck17 4 (by decide) z1 (by decide) rfl z9 q960 dX19_ask_13 ?_
  refine V_aload_n dX19_ask_16 rfl 1 rfl ?_
  refine V_iconst (v := 1) dX19_ask_17 (by decide) ?_
  refine V_aload_n dX19_ask_18 rfl 3 rfl ?_
  refine V_iload dX19_ask_19 4 rfl ?_
  obtain ⟨k10, z11, H⟩ := H
  refine H_callv (av := [.ref (ad D b8), .ref (ad D 9), .int 1, .ref (ad D x3), .int x4]) (rest := []) H (vq_ask z11.2.1 z11.2.2) (vi_ask z11.2.1 z11.2.2) (vl_ask z11.2.1 z11.2.2) (Nat.le_of_ble_eq_true rfl) (vr_ask (av := [.ref (ad D 9), .int 1, .ref (ad D x3), .int x4]) (rest := []) z11 rfl q1233 dX19_ask_21) (fun h12 g13 H => ?_)
  exact H_vret rfl dX19_ask_24 H
theorem wX19_ask {D : DE} {f : Nat} {Q : HI → HL → Prop} {F : Frm} {h : HI} {g : HL} (hF : k_Fix F) (x0 : Nat) (x2 : Int32) (x3 : Nat) (x4 : Int32) (H : JX19_ask_0 D f Q F h g x0 x2 x3 x4) : Sv D (f + 1) mX19_ask [.ref (ad D x0), .ref (ad D 9), .int x2, .ref (ad D x3), .int x4] F h g Q := Cl.ofV (by decide) (Nat.le_of_ble_eq_true rfl) rfl (bX19_ask_0 hF x0 x2 x3 x4 H)
theorem dX19_work_0 : decode cX19_work 0 = .ok (.aload_n 1, 1) := by decide +kernel
theorem dX19_work_1 : decode cX19_work 1 = .ok (.aload_n 0, 1) := by decide +kernel
theorem dX19_work_2 : decode cX19_work 2 = .ok (.getfield 18, 3) := by decide +kernel
theorem dX19_work_5 : decode cX19_work 5 = .ok (.iload_n 2, 1) := by decide +kernel
theorem dX19_work_6 : decode cX19_work 6 = .ok (.invokevirtual 35, 3) := by decide +kernel
theorem dX19_work_9 : decode cX19_work 9 = .ok (.istore_n 3, 1) := by decide +kernel
theorem dX19_work_10 : decode cX19_work 10 = .ok (.aload_n 1, 1) := by decide +kernel
theorem dX19_work_11 : decode cX19_work 11 = .ok (.aload_n 0, 1) := by decide +kernel
theorem dX19_work_12 : decode cX19_work 12 = .ok (.getfield 22, 3) := by decide +kernel
theorem dX19_work_15 : decode cX19_work 15 = .ok (.iload_n 2, 1) := by decide +kernel
theorem dX19_work_16 : decode cX19_work 16 = .ok (.invokevirtual 35, 3) := by decide +kernel
theorem dX19_work_19 : decode cX19_work 19 = .ok (.istore 4, 2) := by decide +kernel
theorem dX19_work_21 : decode cX19_work 21 = .ok (.aload_n 0, 1) := by decide +kernel
theorem dX19_work_22 : decode cX19_work 22 = .ok (.getfield 13, 3) := by decide +kernel
theorem dX19_work_25 : decode cX19_work 25 = .ok (.tableswitch 58 6 9 #[31, 36, 41, 46], 31) := by decide +kernel
theorem dX19_work_56 : decode cX19_work 56 = .ok (.iload_n 3, 1) := by decide +kernel
theorem dX19_work_57 : decode cX19_work 57 = .ok (.iload 4, 2) := by decide +kernel
theorem dX19_work_59 : decode cX19_work 59 = .ok (.iadd, 1) := by decide +kernel
theorem dX19_work_60 : decode cX19_work 60 = .ok (.ireturn, 1) := by decide +kernel
theorem dX19_work_61 : decode cX19_work 61 = .ok (.iload_n 3, 1) := by decide +kernel
theorem dX19_work_62 : decode cX19_work 62 = .ok (.iload 4, 2) := by decide +kernel
theorem dX19_work_64 : decode cX19_work 64 = .ok (.isub, 1) := by decide +kernel
theorem dX19_work_65 : decode cX19_work 65 = .ok (.ireturn, 1) := by decide +kernel
theorem dX19_work_66 : decode cX19_work 66 = .ok (.iload_n 3, 1) := by decide +kernel
theorem dX19_work_67 : decode cX19_work 67 = .ok (.iload 4, 2) := by decide +kernel
theorem dX19_work_69 : decode cX19_work 69 = .ok (.imul, 1) := by decide +kernel
theorem dX19_work_70 : decode cX19_work 70 = .ok (.ireturn, 1) := by decide +kernel
theorem dX19_work_71 : decode cX19_work 71 = .ok (.iload_n 3, 1) := by decide +kernel
theorem dX19_work_72 : decode cX19_work 72 = .ok (.iload 4, 2) := by decide +kernel
theorem dX19_work_74 : decode cX19_work 74 = .ok (.if_icmp .ge 7, 3) := by decide +kernel
theorem dX19_work_77 : decode cX19_work 77 = .ok (.iconst 1, 1) := by decide +kernel
theorem dX19_work_78 : decode cX19_work 78 = .ok (.goto 4, 3) := by decide +kernel
theorem dX19_work_81 : decode cX19_work 81 = .ok (.iconst 0, 1) := by decide +kernel
theorem dX19_work_82 : decode cX19_work 82 = .ok (.ireturn, 1) := by decide +kernel
theorem dX19_work_83 : decode cX19_work 83 = .ok (.iload_n 3, 1) := by decide +kernel
theorem dX19_work_84 : decode cX19_work 84 = .ok (.iload 4, 2) := by decide +kernel
theorem dX19_work_86 : decode cX19_work 86 = .ok (.if_icmp .ne 7, 3) := by decide +kernel
theorem dX19_work_89 : decode cX19_work 89 = .ok (.iconst 1, 1) := by decide +kernel
theorem dX19_work_90 : decode cX19_work 90 = .ok (.goto 4, 3) := by decide +kernel
theorem dX19_work_93 : decode cX19_work 93 = .ok (.iconst 0, 1) := by decide +kernel
theorem dX19_work_94 : decode cX19_work 94 = .ok (.ireturn, 1) := by decide +kernel
abbrev JX19_work_0 (D : DE) (f : Nat) (Q : Int32 → Frm → HI → HL → Prop) (T : Nat → Frm → HI → HL → Prop) (F : Frm) (h : HI) (g : HL) (x0 : Nat) (x2 : Int32) : Prop := F.2.1 x0 = (27, 0) ∧ ∃ b2 : Nat, F.2.2 x0 3 = some b2 ∧ Gi D f mX7_work [.ref (ad D 101), .ref (ad D b2), .int x2] F h g (fun y4 F7 h5 g6 => F7.2.1 x0 = (27, 0) ∧ ∃ b11 : Nat, F7.2.2 x0 4 = some b11 ∧ Gi D f mX7_work [.ref (ad D 101), .ref (ad D b11), .int x2] F7 h5 g6 (fun y13 F16 h14 g15 => F16.2.1 x0 = (27, 0) ∧ ∀ y20 : Int32, y20 = (h14 x0 2) → ((y20.toInt < 6 ∨ 9 < y20.toInt → ((¬ y4 = y13 → Q 0 F16 h14 g15) ∧ (y4 = y13 → Q 1 F16 h14 g15))) ∧ (y20 = 6 → Q (y4 + y13) F16 h14 g15) ∧ (y20 = 7 → Q (y4 - y13) F16 h14 g15) ∧ (y20 = 8 → Q (y4 * y13) F16 h14 g15) ∧ (y20 = 9 → ((y13 ≤ y4 → Q 0 F16 h14 g15) ∧ (¬ y13 ≤ y4 → Q 1 F16 h14 g15))))) T) T
theorem bX19_work_0 {D : DE} {f : Nat} {Q : Int32 → Frm → HI → HL → Prop} {T : Nat → Frm → HI → HL → Prop} {F : Frm} {h : HI} {g : HL} (hF : k_Fix F) (x0 : Nat) (x2 : Int32) (H : JX19_work_0 D f Q T F h g x0 x2) : V D mX19_work (f + 1) (gi Q T) 0 [(0, .ref (ad D x0)), (1, .ref (ad D 101)), (2, .int x2)] [] (F, h, g) := by
  refine V_aload_n dX19_work_0 rfl 1 rfl ?_
  refine V_aload_n dX19_work_1 rfl 0 rfl ?_
  obtain ⟨z1, H⟩ := H
  obtain ⟨b2, z3, H⟩ := H
  refine H_getr ck17 3 (by decide) z1 (by decide) rfl z3 q959 dX19_work_2 ?_
  refine V_iload_n dX19_work_5 rfl 2 rfl ?_
  refine G_calli (av := [.ref (ad D 101), .ref (ad D b2), .int x2]) (rest := []) H mqX7_work q87 (by decide) (Nat.le_of_ble_eq_true rfl) (k_resV (ci := 6) (av := [.ref (ad D b2), .int x2]) (rest := []) (fs_101 hF) (by decide) rfl rfl q1415 q1339 q1340 q1341 mhX7_work mnX7_work dX19_work_6) (fun y4 F7 h5 g6 hF8 H => ?_) (fun a e F1 h1 g1 hF1 ha ht => GT_i hF1 rfl ha ht)
  refine V_istore_n (l1 := [(3, .int y4), (0, .ref (ad D x0)), (1, .ref (ad D 101)), (2, .int x2)]) dX19_work_9 rfl (by decide) rfl ?_
  refine V_aload_n dX19_work_10 rfl 2 rfl ?_
  refine V_aload_n dX19_work_11 rfl 1 rfl ?_
  obtain ⟨z10, H⟩ := H
  obtain ⟨b11, z12, H⟩ := H
  refine H_getr ck17 4 (by decide) z10 (by decide) rfl z12 q960 dX19_work_12 ?_
  refine V_iload_n dX19_work_15 rfl 3 rfl ?_
  refine G_calli (av := [.ref (ad D 101), .ref (ad D b11), .int x2]) (rest := []) H mqX7_work q87 (by decide) (Nat.le_of_ble_eq_true rfl) (k_resV (ci := 6) (av := [.ref (ad D b11), .int x2]) (rest := []) (fs_101 hF8) (by decide) rfl rfl q1415 q1339 q1340 q1341 mhX7_work mnX7_work dX19_work_16) (fun y13 F16 h14 g15 hF17 H => ?_) (fun a e F1 h1 g1 hF1 ha ht => GT_i hF1 rfl ha ht)
  refine V_istore (l1 := [(4, .int y13), (3, .int y4), (0, .ref (ad D x0)), (1, .ref (ad D 101)), (2, .int x2)]) dX19_work_19 (by decide) rfl ?_
  refine V_aload_n dX19_work_21 rfl 2 rfl ?_
  obtain ⟨z19, H⟩ := H
  refine H_geti ck17 2 (by decide) z19 (by decide) rfl q958 dX19_work_22 ?_
  refine V_topi (fun y20 e21 => ?_)
  have H := H y20 e21
  by_cases c22 : y20.toInt < 6 ∨ 9 < y20.toInt
  · have H := H.1 c22
    refine V_tableOut (tgt := 83) dX19_work_25 c22 (by decide) ?_
    refine V_iload_n dX19_work_83 rfl 1 rfl ?_
    refine V_iload dX19_work_84 0 rfl ?_
    refine V_icmp_ne (tgt := 93) dX19_work_86 (by decide) (fun c23 => ?_) (fun c23 => ?_)
    · have H := H.1 c23
      refine V_iconst (v := 0) dX19_work_93 (by decide) ?_
      exact G_iret hF17 rfl dX19_work_94 H
    · have H := H.2 c23
      refine V_iconst (v := 1) dX19_work_89 (by decide) ?_
      refine V_goto (tgt := 94) dX19_work_90 (by decide) ?_
      exact G_iret hF17 rfl dX19_work_94 H
  · rcases tsw_6_9 c22 with c22 | c22 | c22 | c22
    · have H := H.2.1 c22
      refine V_tableIn (tgt := 56) dX19_work_25 (by rw [c22]; decide) (by rw [c22]; decide) (by rw [c22]; rfl) (by decide) ?_
      refine V_iload_n dX19_work_56 rfl 1 rfl ?_
      refine V_iload dX19_work_57 0 rfl ?_
      refine V_iadd dX19_work_59 ?_
      exact G_iret hF17 rfl dX19_work_60 H
    · have H := H.2.2.1 c22
      refine V_tableIn (tgt := 61) dX19_work_25 (by rw [c22]; decide) (by rw [c22]; decide) (by rw [c22]; rfl) (by decide) ?_
      refine V_iload_n dX19_work_61 rfl 1 rfl ?_
      refine V_iload dX19_work_62 0 rfl ?_
      refine V_isub dX19_work_64 ?_
      exact G_iret hF17 rfl dX19_work_65 H
    · have H := H.2.2.2.1 c22
      refine V_tableIn (tgt := 66) dX19_work_25 (by rw [c22]; decide) (by rw [c22]; decide) (by rw [c22]; rfl) (by decide) ?_
      refine V_iload_n dX19_work_66 rfl 1 rfl ?_
      refine V_iload dX19_work_67 0 rfl ?_
      refine V_imul dX19_work_69 ?_
      exact G_iret hF17 rfl dX19_work_70 H
    · have H := H.2.2.2.2 c22
      refine V_tableIn (tgt := 71) dX19_work_25 (by rw [c22]; decide) (by rw [c22]; decide) (by rw [c22]; rfl) (by decide) ?_
      refine V_iload_n dX19_work_71 rfl 1 rfl ?_
      refine V_iload dX19_work_72 0 rfl ?_
      refine V_icmp_ge (tgt := 81) dX19_work_74 (by decide) (fun c24 => ?_) (fun c24 => ?_)
      · have H := H.1 c24
        refine V_iconst (v := 0) dX19_work_81 (by decide) ?_
        exact G_iret hF17 rfl dX19_work_82 H
      · have H := H.2 c24
        refine V_iconst (v := 1) dX19_work_77 (by decide) ?_
        refine V_goto (tgt := 82) dX19_work_78 (by decide) ?_
        exact G_iret hF17 rfl dX19_work_82 H
theorem wX19_work {D : DE} {f : Nat} {Q : Int32 → Frm → HI → HL → Prop} {T : Nat → Frm → HI → HL → Prop} {F : Frm} {h : HI} {g : HL} (hF : k_Fix F) (x0 : Nat) (x2 : Int32) (H : JX19_work_0 D f Q T F h g x0 x2) : Gi D (f + 1) mX19_work [.ref (ad D x0), .ref (ad D 101), .int x2] F h g Q T := Cl.ofV (by decide) (Nat.le_of_ble_eq_true rfl) rfl (bX19_work_0 hF x0 x2 H)
theorem dX13_init_0 : decode cX13_init 0 = .ok (.aload_n 0, 1) := by decide +kernel
theorem dX13_init_1 : decode cX13_init 1 = .ok (.iload_n 1, 1) := by decide +kernel
theorem dX13_init_2 : decode cX13_init 2 = .ok (.invokespecial 3, 3) := by decide +kernel
theorem dX13_init_5 : decode cX13_init 5 = .ok (.aload_n 0, 1) := by decide +kernel
theorem dX13_init_6 : decode cX13_init 6 = .ok (.aload_n 2, 1) := by decide +kernel
theorem dX13_init_7 : decode cX13_init 7 = .ok (.putfield 9, 3) := by decide +kernel
theorem dX13_init_10 : decode cX13_init 10 = .ok (.aload_n 0, 1) := by decide +kernel
theorem dX13_init_11 : decode cX13_init 11 = .ok (.aload_n 3, 1) := by decide +kernel
theorem dX13_init_12 : decode cX13_init 12 = .ok (.putfield 15, 3) := by decide +kernel
theorem dX13_init_15 : decode cX13_init 15 = .ok (.aload_n 0, 1) := by decide +kernel
theorem dX13_init_16 : decode cX13_init 16 = .ok (.aload 4, 2) := by decide +kernel
theorem dX13_init_18 : decode cX13_init 18 = .ok (.putfield 18, 3) := by decide +kernel
theorem dX13_init_21 : decode cX13_init 21 = .ok (.return_, 1) := by decide +kernel
abbrev JX13_init_0 (D : DE) (f : Nat) (Q : Frm → HI → HL → Prop) (T : Nat → Frm → HI → HL → Prop) (F : Frm) (h : HI) (g : HL) (x0 : Nat) (x1 : Int32) (x2 : Nat) (x3 : Nat) (x4 : Nat) : Prop := Sv D f mX10_init [.ref (ad D x0), .int x1] F h g (fun h1 g2 => F.2.1 x0 = (21, 0) ∧ ∀ F4, F4 = fwr F x0 2 (some x2) → 160 ≤ x0 ∧ ∀ F9, F9 = fwr F4 x0 3 (some x3) → 160 ≤ x0 ∧ ∀ F14, F14 = fwr F9 x0 4 (some x4) → 160 ≤ x0 ∧ Q F14 h1 g2)
theorem bX13_init_0 {D : DE} {f : Nat} {Q : Frm → HI → HL → Prop} {T : Nat → Frm → HI → HL → Prop} {F : Frm} {h : HI} {g : HL} (hF : k_Fix F) (x0 : Nat) (x1 : Int32) (x2 : Nat) (x3 : Nat) (x4 : Nat) (H : JX13_init_0 D f Q T F h g x0 x1 x2 x3 x4) : V D mX13_init (f + 1) (gv Q T) 0 [(0, .ref (ad D x0)), (1, .int x1), (2, .ref (ad D x2)), (3, .ref (ad D x3)), (4, .ref (ad D x4))] [] (F, h, g) := by
  refine V_aload_n dX13_init_0 rfl 0 rfl ?_
  refine V_iload_n dX13_init_1 rfl 1 rfl ?_
  refine H_callv (av := [.ref (ad D x0), .int x1]) (rest := []) H mqX10_init q102 (by decide) (Nat.le_of_ble_eq_true rfl) (k_resI (av := [.int x1]) (rest := []) rfl q842 q781 q782 mhX10_init mnX10_init dX13_init_2) (fun h1 g2 H => ?_)
  refine V_aload_n dX13_init_5 rfl 0 rfl ?_
  refine V_aload_n dX13_init_6 rfl 2 rfl ?_
  obtain ⟨z3, H⟩ := H
  refine G_putrF ck11 2 (by decide) z3 (by decide) rfl (fun _ => rfl) (fun _ => rfl) rfl rfl rfl q843 dX13_init_7 (fun F4 e5 => ?_)
  have H := H F4 e5
  obtain ⟨z7, H⟩ := H
  have hF6 : k_Fix F4 := by rw [e5]; exact k_Fix.wr hF (fx_okD z7) _
  have z8 : F4.2.1 x0 = (21, 0) := by rw [e5]; exact z3
  refine V_aload_n dX13_init_10 rfl 0 rfl ?_
  refine V_aload_n dX13_init_11 rfl 3 rfl ?_
  refine G_putrF ck11 3 (by decide) z8 (by decide) rfl (fun _ => rfl) (fun _ => rfl) rfl rfl rfl q844 dX13_init_12 (fun F9 e10 => ?_)
  have H := H F9 e10
  obtain ⟨z12, H⟩ := H
  have hF11 : k_Fix F9 := by rw [e10]; exact k_Fix.wr hF6 (fx_okD z12) _
  have z13 : F9.2.1 x0 = (21, 0) := by rw [e10]; exact z8
  refine V_aload_n dX13_init_15 rfl 0 rfl ?_
  refine V_aload dX13_init_16 4 rfl ?_
  refine G_putrF ck11 4 (by decide) z13 (by decide) rfl (fun _ => rfl) (fun _ => rfl) rfl rfl rfl q845 dX13_init_18 (fun F14 e15 => ?_)
  have H := H F14 e15
  obtain ⟨z17, H⟩ := H
  have hF16 : k_Fix F14 := by rw [e15]; exact k_Fix.wr hF11 (fx_okD z17) _
  have z18 : F14.2.1 x0 = (21, 0) := by rw [e15]; exact z13
  exact G_vret hF16 rfl dX13_init_21 H
theorem wX13_init {D : DE} {f : Nat} {Q : Frm → HI → HL → Prop} {T : Nat → Frm → HI → HL → Prop} {F : Frm} {h : HI} {g : HL} (hF : k_Fix F) (x0 : Nat) (x1 : Int32) (x2 : Nat) (x3 : Nat) (x4 : Nat) (H : JX13_init_0 D f Q T F h g x0 x1 x2 x3 x4) : Gv D (f + 1) mX13_init [.ref (ad D x0), .int x1, .ref (ad D x2), .ref (ad D x3), .ref (ad D x4)] F h g Q T := Cl.ofV (by decide) (Nat.le_of_ble_eq_true rfl) rfl (bX13_init_0 hF x0 x1 x2 x3 x4 H)
theorem dX13_judge_0 : decode cX13_judge 0 = .ok (.aload_n 1, 1) := by decide +kernel
theorem dX13_judge_1 : decode cX13_judge 1 = .ok (.aload_n 0, 1) := by decide +kernel
theorem dX13_judge_2 : decode cX13_judge 2 = .ok (.getfield 9, 3) := by decide +kernel
theorem dX13_judge_5 : decode cX13_judge 5 = .ok (.iconst 0, 1) := by decide +kernel
theorem dX13_judge_6 : decode cX13_judge 6 = .ok (.invokevirtual 21, 3) := by decide +kernel
theorem dX13_judge_9 : decode cX13_judge 9 = .ok (.pop, 1) := by decide +kernel
theorem dX13_judge_10 : decode cX13_judge 10 = .ok (.aload_n 1, 1) := by decide +kernel
theorem dX13_judge_11 : decode cX13_judge 11 = .ok (.aload_n 0, 1) := by decide +kernel
theorem dX13_judge_12 : decode cX13_judge 12 = .ok (.getfield 15, 3) := by decide +kernel
theorem dX13_judge_15 : decode cX13_judge 15 = .ok (.iload_n 2, 1) := by decide +kernel
theorem dX13_judge_16 : decode cX13_judge 16 = .ok (.invokevirtual 21, 3) := by decide +kernel
theorem dX13_judge_19 : decode cX13_judge 19 = .ok (.istore_n 3, 1) := by decide +kernel
theorem dX13_judge_20 : decode cX13_judge 20 = .ok (.aload_n 1, 1) := by decide +kernel
theorem dX13_judge_21 : decode cX13_judge 21 = .ok (.aload_n 0, 1) := by decide +kernel
theorem dX13_judge_22 : decode cX13_judge 22 = .ok (.getfield 18, 3) := by decide +kernel
theorem dX13_judge_25 : decode cX13_judge 25 = .ok (.iload_n 2, 1) := by decide +kernel
theorem dX13_judge_26 : decode cX13_judge 26 = .ok (.ifCond .ge 7, 3) := by decide +kernel
theorem dX13_judge_29 : decode cX13_judge 29 = .ok (.iload_n 3, 1) := by decide +kernel
theorem dX13_judge_30 : decode cX13_judge 30 = .ok (.goto 4, 3) := by decide +kernel
theorem dX13_judge_33 : decode cX13_judge 33 = .ok (.iload_n 2, 1) := by decide +kernel
theorem dX13_judge_34 : decode cX13_judge 34 = .ok (.invokevirtual 21, 3) := by decide +kernel
theorem dX13_judge_37 : decode cX13_judge 37 = .ok (.pop, 1) := by decide +kernel
theorem dX13_judge_38 : decode cX13_judge 38 = .ok (.iload_n 3, 1) := by decide +kernel
theorem dX13_judge_39 : decode cX13_judge 39 = .ok (.ireturn, 1) := by decide +kernel
abbrev JX13_judge_0 (D : DE) (f : Nat) (Q : Int32 → Frm → HI → HL → Prop) (T : Nat → Frm → HI → HL → Prop) (F : Frm) (h : HI) (g : HL) (x0 : Nat) (x2 : Int32) : Prop := F.2.1 x0 = (21, 0) ∧ ∃ b2 : Nat, F.2.2 x0 2 = some b2 ∧ Gi D f mX4_judge [.ref (ad D 7), .ref (ad D b2), .int 0] F h g (fun y4 F7 h5 g6 => F7.2.1 x0 = (21, 0) ∧ ∃ b11 : Nat, F7.2.2 x0 3 = some b11 ∧ Gi D f mX4_judge [.ref (ad D 7), .ref (ad D b11), .int x2] F7 h5 g6 (fun y13 F16 h14 g15 => F16.2.1 x0 = (21, 0) ∧ ∃ b20 : Nat, F16.2.2 x0 4 = some b20 ∧ ((0 ≤ x2 → Gi D f mX4_judge [.ref (ad D 7), .ref (ad D b20), .int x2] F16 h14 g15 (fun y23 F26 h24 g25 => Q y13 F26 h24 g25) T) ∧ (¬ 0 ≤ x2 → Gi D f mX4_judge [.ref (ad D 7), .ref (ad D b20), .int y13] F16 h14 g15 (fun y29 F32 h30 g31 => Q y13 F32 h30 g31) T))) T) T
theorem bX13_judge_0 {D : DE} {f : Nat} {Q : Int32 → Frm → HI → HL → Prop} {T : Nat → Frm → HI → HL → Prop} {F : Frm} {h : HI} {g : HL} (hF : k_Fix F) (x0 : Nat) (x2 : Int32) (H : JX13_judge_0 D f Q T F h g x0 x2) : V D mX13_judge (f + 1) (gi Q T) 0 [(0, .ref (ad D x0)), (1, .ref (ad D 7)), (2, .int x2)] [] (F, h, g) := by
  refine V_aload_n dX13_judge_0 rfl 1 rfl ?_
  refine V_aload_n dX13_judge_1 rfl 0 rfl ?_
  obtain ⟨z1, H⟩ := H
  obtain ⟨b2, z3, H⟩ := H
  refine H_getr ck11 2 (by decide) z1 (by decide) rfl z3 q843 dX13_judge_2 ?_
  refine V_iconst (v := 0) dX13_judge_5 (by decide) ?_
  refine G_calli (av := [.ref (ad D 7), .ref (ad D b2), .int 0]) (rest := []) H mqX4_judge q84 (by decide) (Nat.le_of_ble_eq_true rfl) (k_resV (ci := 3) (av := [.ref (ad D b2), .int 0]) (rest := []) (fs_7 hF) (by decide) rfl rfl q1021 q979 q980 q981 mhX4_judge mnX4_judge dX13_judge_6) (fun y4 F7 h5 g6 hF8 H => ?_) (fun a e F1 h1 g1 hF1 ha ht => GT_i hF1 rfl ha ht)
  refine V_pop dX13_judge_9 rfl ?_
  refine V_aload_n dX13_judge_10 rfl 1 rfl ?_
  refine V_aload_n dX13_judge_11 rfl 0 rfl ?_
  obtain ⟨z10, H⟩ := H
  obtain ⟨b11, z12, H⟩ := H
  refine H_getr ck11 3 (by decide) z10 (by decide) rfl z12 q844 dX13_judge_12 ?_
  refine V_iload_n dX13_judge_15 rfl 2 rfl ?_
  refine G_calli (av := [.ref (ad D 7), .ref (ad D b11), .int x2]) (rest := []) H mqX4_judge q84 (by decide) (Nat.le_of_ble_eq_true rfl) (k_resV (ci := 3) (av := [.ref (ad D b11), .int x2]) (rest := []) (fs_7 hF8) (by decide) rfl rfl q1021 q979 q980 q981 mhX4_judge mnX4_judge dX13_judge_16) (fun y13 F16 h14 g15 hF17 H => ?_) (fun a e F1 h1 g1 hF1 ha ht => GT_i hF1 rfl ha ht)
  refine V_istore_n (l1 := [(3, .int y13), (0, .ref (ad D x0)), (1, .ref (ad D 7)), (2, .int x2)]) dX13_judge_19 rfl (by decide) rfl ?_
  refine V_aload_n dX13_judge_20 rfl 2 rfl ?_
  refine V_aload_n dX13_judge_21 rfl 1 rfl ?_
  obtain ⟨z19, H⟩ := H
  obtain ⟨b20, z21, H⟩ := H
  refine H_getr ck11 4 (by decide) z19 (by decide) rfl z21 q845 dX13_judge_22 ?_
  refine V_iload_n dX13_judge_25 rfl 3 rfl ?_
  refine V_if_ge (tgt := 33) dX13_judge_26 (by decide) (fun c22 => ?_) (fun c22 => ?_)
  · have H := H.1 c22
    refine V_iload_n dX13_judge_33 rfl 3 rfl ?_
    refine G_calli (av := [.ref (ad D 7), .ref (ad D b20), .int x2]) (rest := []) H mqX4_judge q84 (by decide) (Nat.le_of_ble_eq_true rfl) (k_resV (ci := 3) (av := [.ref (ad D b20), .int x2]) (rest := []) (fs_7 hF17) (by decide) rfl rfl q1021 q979 q980 q981 mhX4_judge mnX4_judge dX13_judge_34) (fun y23 F26 h24 g25 hF27 H => ?_) (fun a e F1 h1 g1 hF1 ha ht => GT_i hF1 rfl ha ht)
    refine V_pop dX13_judge_37 rfl ?_
    refine V_iload_n dX13_judge_38 rfl 0 rfl ?_
    exact G_iret hF27 rfl dX13_judge_39 H
  · have H := H.2 c22
    refine V_iload_n dX13_judge_29 rfl 0 rfl ?_
    refine V_goto (tgt := 34) dX13_judge_30 (by decide) ?_
    refine G_calli (av := [.ref (ad D 7), .ref (ad D b20), .int y13]) (rest := []) H mqX4_judge q84 (by decide) (Nat.le_of_ble_eq_true rfl) (k_resV (ci := 3) (av := [.ref (ad D b20), .int y13]) (rest := []) (fs_7 hF17) (by decide) rfl rfl q1021 q979 q980 q981 mhX4_judge mnX4_judge dX13_judge_34) (fun y29 F32 h30 g31 hF33 H => ?_) (fun a e F1 h1 g1 hF1 ha ht => GT_i hF1 rfl ha ht)
    refine V_pop dX13_judge_37 rfl ?_
    refine V_iload_n dX13_judge_38 rfl 0 rfl ?_
    exact G_iret hF33 rfl dX13_judge_39 H
theorem wX13_judge {D : DE} {f : Nat} {Q : Int32 → Frm → HI → HL → Prop} {T : Nat → Frm → HI → HL → Prop} {F : Frm} {h : HI} {g : HL} (hF : k_Fix F) (x0 : Nat) (x2 : Int32) (H : JX13_judge_0 D f Q T F h g x0 x2) : Gi D (f + 1) mX13_judge [.ref (ad D x0), .ref (ad D 7), .int x2] F h g Q T := Cl.ofV (by decide) (Nat.le_of_ble_eq_true rfl) rfl (bX13_judge_0 hF x0 x2 H)
theorem dX13_ask_0 : decode cX13_ask 0 = .ok (.aload_n 0, 1) := by decide +kernel
theorem dX13_ask_1 : decode cX13_ask 1 = .ok (.getfield 9, 3) := by decide +kernel
theorem dX13_ask_4 : decode cX13_ask 4 = .ok (.aload_n 1, 1) := by decide +kernel
theorem dX13_ask_5 : decode cX13_ask 5 = .ok (.iconst 1, 1) := by decide +kernel
theorem dX13_ask_6 : decode cX13_ask 6 = .ok (.aload_n 3, 1) := by decide +kernel
theorem dX13_ask_7 : decode cX13_ask 7 = .ok (.iload 4, 2) := by decide +kernel
theorem dX13_ask_9 : decode cX13_ask 9 = .ok (.invokevirtual 27, 3) := by decide +kernel
theorem dX13_ask_12 : decode cX13_ask 12 = .ok (.aload_n 1, 1) := by decide +kernel
theorem dX13_ask_13 : decode cX13_ask 13 = .ok (.iconst 2, 1) := by decide +kernel
theorem dX13_ask_14 : decode cX13_ask 14 = .ok (.iload 4, 2) := by decide +kernel
theorem dX13_ask_16 : decode cX13_ask 16 = .ok (.imul, 1) := by decide +kernel
theorem dX13_ask_17 : decode cX13_ask 17 = .ok (.invokevirtual 31, 3) := by decide +kernel
theorem dX13_ask_20 : decode cX13_ask 20 = .ok (.astore 5, 2) := by decide +kernel
theorem dX13_ask_22 : decode cX13_ask 22 = .ok (.aload_n 1, 1) := by decide +kernel
theorem dX13_ask_23 : decode cX13_ask 23 = .ok (.iconst 2, 1) := by decide +kernel
theorem dX13_ask_24 : decode cX13_ask 24 = .ok (.iload 4, 2) := by decide +kernel
theorem dX13_ask_26 : decode cX13_ask 26 = .ok (.imul, 1) := by decide +kernel
theorem dX13_ask_27 : decode cX13_ask 27 = .ok (.iconst 1, 1) := by decide +kernel
theorem dX13_ask_28 : decode cX13_ask 28 = .ok (.iadd, 1) := by decide +kernel
theorem dX13_ask_29 : decode cX13_ask 29 = .ok (.invokevirtual 31, 3) := by decide +kernel
theorem dX13_ask_32 : decode cX13_ask 32 = .ok (.astore 6, 2) := by decide +kernel
theorem dX13_ask_34 : decode cX13_ask 34 = .ok (.aload_n 0, 1) := by decide +kernel
theorem dX13_ask_35 : decode cX13_ask 35 = .ok (.getfield 15, 3) := by decide +kernel
theorem dX13_ask_38 : decode cX13_ask 38 = .ok (.aload_n 1, 1) := by decide +kernel
theorem dX13_ask_39 : decode cX13_ask 39 = .ok (.iload_n 2, 1) := by decide +kernel
theorem dX13_ask_40 : decode cX13_ask 40 = .ok (.aload 5, 2) := by decide +kernel
theorem dX13_ask_42 : decode cX13_ask 42 = .ok (.iload 4, 2) := by decide +kernel
theorem dX13_ask_44 : decode cX13_ask 44 = .ok (.iconst 1, 1) := by decide +kernel
theorem dX13_ask_45 : decode cX13_ask 45 = .ok (.iadd, 1) := by decide +kernel
theorem dX13_ask_46 : decode cX13_ask 46 = .ok (.invokevirtual 27, 3) := by decide +kernel
theorem dX13_ask_49 : decode cX13_ask 49 = .ok (.aload_n 0, 1) := by decide +kernel
theorem dX13_ask_50 : decode cX13_ask 50 = .ok (.getfield 18, 3) := by decide +kernel
theorem dX13_ask_53 : decode cX13_ask 53 = .ok (.aload_n 1, 1) := by decide +kernel
theorem dX13_ask_54 : decode cX13_ask 54 = .ok (.iload_n 2, 1) := by decide +kernel
theorem dX13_ask_55 : decode cX13_ask 55 = .ok (.aload 6, 2) := by decide +kernel
theorem dX13_ask_57 : decode cX13_ask 57 = .ok (.iload 4, 2) := by decide +kernel
theorem dX13_ask_59 : decode cX13_ask 59 = .ok (.iconst 1, 1) := by decide +kernel
theorem dX13_ask_60 : decode cX13_ask 60 = .ok (.iadd, 1) := by decide +kernel
theorem dX13_ask_61 : decode cX13_ask 61 = .ok (.invokevirtual 27, 3) := by decide +kernel
theorem dX13_ask_64 : decode cX13_ask 64 = .ok (.aload_n 3, 1) := by decide +kernel
theorem dX13_ask_65 : decode cX13_ask 65 = .ok (.aload_n 1, 1) := by decide +kernel
theorem dX13_ask_66 : decode cX13_ask 66 = .ok (.getfield 37, 3) := by decide +kernel
theorem dX13_ask_69 : decode cX13_ask 69 = .ok (.getfield 41, 3) := by decide +kernel
theorem dX13_ask_72 : decode cX13_ask 72 = .ok (.aload_n 1, 1) := by decide +kernel
theorem dX13_ask_73 : decode cX13_ask 73 = .ok (.getfield 37, 3) := by decide +kernel
theorem dX13_ask_76 : decode cX13_ask 76 = .ok (.getfield 47, 3) := by decide +kernel
theorem dX13_ask_79 : decode cX13_ask 79 = .ok (.aload 5, 2) := by decide +kernel
theorem dX13_ask_81 : decode cX13_ask 81 = .ok (.aload 6, 2) := by decide +kernel
theorem dX13_ask_83 : decode cX13_ask 83 = .ok (.invokevirtual 51, 3) := by decide +kernel
theorem dX13_ask_86 : decode cX13_ask 86 = .ok (.return_, 1) := by decide +kernel
abbrev JX13_ask_0 (D : DE) (f : Nat) (Q : HI → HL → Prop) (F : Frm) (h : HI) (g : HL) (x0 : Nat) (x2 : Int32) (x3 : Nat) (x4 : Int32) : Prop := F.2.1 x0 = (21, 0) ∧ ∃ b2 : Nat, F.2.2 x0 2 = some b2 ∧ ∃ k4 : Nat, isE F b2 k4 ∧ Sv D f (v_ask k4) [.ref (ad D b2), .ref (ad D 9), .int 1, .ref (ad D x3), .int x4] F h g (fun h6 g7 => Sr D f mX5_row [.ref (ad D 9), .int (2 * x4)] F h6 g7 (fun b8 h9 g10 => Sr D f mX5_row [.ref (ad D 9), .int ((2 * x4) + 1)] F h9 g10 (fun b11 h12 g13 => ∃ b14 : Nat, F.2.2 x0 3 = some b14 ∧ ∃ k16 : Nat, isE F b14 k16 ∧ Sv D f (v_ask k16) [.ref (ad D b14), .ref (ad D 9), .int x2, .ref (ad D b8), .int (x4 + 1)] F h12 g13 (fun h18 g19 => ∃ b20 : Nat, F.2.2 x0 4 = some b20 ∧ ∃ k22 : Nat, isE F b20 k22 ∧ Sv D f (v_ask k22) [.ref (ad D b20), .ref (ad D 9), .int x2, .ref (ad D b11), .int (x4 + 1)] F h18 g19 (fun h24 g25 => ∃ b26 : Nat, F.2.2 9 0 = some b26 ∧ F.2.1 b26 = (18, 0) ∧ ∃ b29 : Nat, F.2.2 b26 5 = some b29 ∧ ∃ b31 : Nat, F.2.2 9 0 = some b31 ∧ F.2.1 b31 = (18, 0) ∧ F.2.1 x3 = (15, 0) ∧ Sv D f mX6_addEither [.ref (ad D x3), .ref (ad D b29), .int (h24 b31 2), .ref (ad D b8), .ref (ad D b11)] F h24 g25 (fun h35 g36 => Q h35 g36))))))
theorem bX13_ask_0 {D : DE} {f : Nat} {Q : HI → HL → Prop} {F : Frm} {h : HI} {g : HL} (hF : k_Fix F) (x0 : Nat) (x2 : Int32) (x3 : Nat) (x4 : Int32) (H : JX13_ask_0 D f Q F h g x0 x2 x3 x4) : V D mX13_ask (f + 1) (qv F Q) 0 [(0, .ref (ad D x0)), (1, .ref (ad D 9)), (2, .int x2), (3, .ref (ad D x3)), (4, .int x4)] [] (F, h, g) := by
  refine V_aload_n dX13_ask_0 rfl 0 rfl ?_
  obtain ⟨z1, H⟩ := H
  obtain ⟨b2, z3, H⟩ := H
  refine H_getr ck11 2 (by decide) z1 (by decide) rfl z3 q843 dX13_ask_1 ?_
  refine V_aload_n dX13_ask_4 rfl 1 rfl ?_
  refine V_iconst (v := 1) dX13_ask_5 (by decide) ?_
  refine V_aload_n dX13_ask_6 rfl 3 rfl ?_
  refine V_iload dX13_ask_7 4 rfl ?_
  obtain ⟨k4, z5, H⟩ := H
  refine H_callv (av := [.ref (ad D b2), .ref (ad D 9), .int 1, .ref (ad D x3), .int x4]) (rest := []) H (vq_ask z5.2.1 z5.2.2) (vi_ask z5.2.1 z5.2.2) (vl_ask z5.2.1 z5.2.2) (Nat.le_of_ble_eq_true rfl) (vr_ask (av := [.ref (ad D 9), .int 1, .ref (ad D x3), .int x4]) (rest := []) z5 rfl q1199 dX13_ask_9) (fun h6 g7 H => ?_)
  refine V_aload_n dX13_ask_12 rfl 1 rfl ?_
  refine V_iconst (v := 2) dX13_ask_13 (by decide) ?_
  refine V_iload dX13_ask_14 4 rfl ?_
  refine V_imul dX13_ask_16 ?_
  refine H_callr (av := [.ref (ad D 9), .int (2 * x4)]) (rest := []) H mqX5_row q85 (by decide) (Nat.le_of_ble_eq_true rfl) (k_resV (ci := 4) (av := [.int (2 * x4)]) (rest := []) (fs_9 hF) (by decide) rfl rfl q1235 q1236 q1237 q1238 mhX5_row mnX5_row dX13_ask_17) (fun b8 h9 g10 H => ?_)
  refine V_astore (l1 := [(5, .ref (ad D b8)), (0, .ref (ad D x0)), (1, .ref (ad D 9)), (2, .int x2), (3, .ref (ad D x3)), (4, .int x4)]) dX13_ask_20 (by decide) rfl ?_
  refine V_aload_n dX13_ask_22 rfl 2 rfl ?_
  refine V_iconst (v := 2) dX13_ask_23 (by decide) ?_
  refine V_iload dX13_ask_24 5 rfl ?_
  refine V_imul dX13_ask_26 ?_
  refine V_iconst (v := 1) dX13_ask_27 (by decide) ?_
  refine V_iadd dX13_ask_28 ?_
  refine H_callr (av := [.ref (ad D 9), .int ((2 * x4) + 1)]) (rest := []) H mqX5_row q85 (by decide) (Nat.le_of_ble_eq_true rfl) (k_resV (ci := 4) (av := [.int ((2 * x4) + 1)]) (rest := []) (fs_9 hF) (by decide) rfl rfl q1235 q1236 q1237 q1238 mhX5_row mnX5_row dX13_ask_29) (fun b11 h12 g13 H => ?_)
  refine V_astore (l1 := [(6, .ref (ad D b11)), (5, .ref (ad D b8)), (0, .ref (ad D x0)), (1, .ref (ad D 9)), (2, .int x2), (3, .ref (ad D x3)), (4, .int x4)]) dX13_ask_32 (by decide) rfl ?_
  refine V_aload_n dX13_ask_34 rfl 2 rfl ?_
  obtain ⟨b14, z15, H⟩ := H
  refine H_getr ck11 3 (by decide) z1 (by decide) rfl z15 q844 dX13_ask_35 ?_
  refine V_aload_n dX13_ask_38 rfl 3 rfl ?_
  refine V_iload_n dX13_ask_39 rfl 4 rfl ?_
  refine V_aload dX13_ask_40 1 rfl ?_
  refine V_iload dX13_ask_42 6 rfl ?_
  refine V_iconst (v := 1) dX13_ask_44 (by decide) ?_
  refine V_iadd dX13_ask_45 ?_
  obtain ⟨k16, z17, H⟩ := H
  refine H_callv (av := [.ref (ad D b14), .ref (ad D 9), .int x2, .ref (ad D b8), .int (x4 + 1)]) (rest := []) H (vq_ask z17.2.1 z17.2.2) (vi_ask z17.2.1 z17.2.2) (vl_ask z17.2.1 z17.2.2) (Nat.le_of_ble_eq_true rfl) (vr_ask (av := [.ref (ad D 9), .int x2, .ref (ad D b8), .int (x4 + 1)]) (rest := []) z17 rfl q1199 dX13_ask_46) (fun h18 g19 H => ?_)
  refine V_aload_n dX13_ask_49 rfl 2 rfl ?_
  obtain ⟨b20, z21, H⟩ := H
  refine H_getr ck11 4 (by decide) z1 (by decide) rfl z21 q845 dX13_ask_50 ?_
  refine V_aload_n dX13_ask_53 rfl 3 rfl ?_
  refine V_iload_n dX13_ask_54 rfl 4 rfl ?_
  refine V_aload dX13_ask_55 0 rfl ?_
  refine V_iload dX13_ask_57 6 rfl ?_
  refine V_iconst (v := 1) dX13_ask_59 (by decide) ?_
  refine V_iadd dX13_ask_60 ?_
  obtain ⟨k22, z23, H⟩ := H
  refine H_callv (av := [.ref (ad D b20), .ref (ad D 9), .int x2, .ref (ad D b11), .int (x4 + 1)]) (rest := []) H (vq_ask z23.2.1 z23.2.2) (vi_ask z23.2.1 z23.2.2) (vl_ask z23.2.1 z23.2.2) (Nat.le_of_ble_eq_true rfl) (vr_ask (av := [.ref (ad D 9), .int x2, .ref (ad D b11), .int (x4 + 1)]) (rest := []) z23 rfl q1199 dX13_ask_61) (fun h24 g25 H => ?_)
  refine V_aload_n dX13_ask_64 rfl 5 rfl ?_
  refine V_aload_n dX13_ask_65 rfl 3 rfl ?_
  obtain ⟨b26, z27, H⟩ := H
  refine H_getrN ck4 0 (by decide) (fs_9 hF) (by decide) rfl z27 q256 dX13_ask_66 ?_
  obtain ⟨z28, H⟩ := H
  obtain ⟨b29, z30, H⟩ := H
  refine H_getrN ck8 5 (by decide) z28 (by decide) rfl z30 q685 dX13_ask_69 ?_
  refine V_aload_n dX13_ask_72 rfl 3 rfl ?_
  obtain ⟨b31, z32, H⟩ := H
  refine H_getrN ck4 0 (by decide) (fs_9 hF) (by decide) rfl z32 q256 dX13_ask_73 ?_
  obtain ⟨z33, H⟩ := H
  refine H_getiN ck8 2 (by decide) z33 (by decide) rfl q668 dX13_ask_76 ?_
  refine V_aload dX13_ask_79 1 rfl ?_
  refine V_aload dX13_ask_81 0 rfl ?_
  obtain ⟨z34, H⟩ := H
  refine H_callv (av := [.ref (ad D x3), .ref (ad D b29), .int (h24 b31 2), .ref (ad D b8), .ref (ad D b11)]) (rest := []) H mqX6_addEither q86 (by decide) (Nat.le_of_ble_eq_true rfl) (k_resV (ci := 5) (av := [.ref (ad D b29), .int (h24 b31 2), .ref (ad D b8), .ref (ad D b11)]) (rest := []) z34 (by decide) rfl rfl q1239 q1240 q1241 q1242 mhX6_addEither mnX6_addEither dX13_ask_83) (fun h35 g36 H => ?_)
  exact H_vret rfl dX13_ask_86 H
theorem wX13_ask {D : DE} {f : Nat} {Q : HI → HL → Prop} {F : Frm} {h : HI} {g : HL} (hF : k_Fix F) (x0 : Nat) (x2 : Int32) (x3 : Nat) (x4 : Int32) (H : JX13_ask_0 D f Q F h g x0 x2 x3 x4) : Sv D (f + 1) mX13_ask [.ref (ad D x0), .ref (ad D 9), .int x2, .ref (ad D x3), .int x4] F h g Q := Cl.ofV (by decide) (Nat.le_of_ble_eq_true rfl) rfl (bX13_ask_0 hF x0 x2 x3 x4 H)
theorem dX13_work_0 : decode cX13_work 0 = .ok (.aload_n 1, 1) := by decide +kernel
theorem dX13_work_1 : decode cX13_work 1 = .ok (.aload_n 0, 1) := by decide +kernel
theorem dX13_work_2 : decode cX13_work 2 = .ok (.getfield 9, 3) := by decide +kernel
theorem dX13_work_5 : decode cX13_work 5 = .ok (.iload_n 2, 1) := by decide +kernel
theorem dX13_work_6 : decode cX13_work 6 = .ok (.invokevirtual 57, 3) := by decide +kernel
theorem dX13_work_9 : decode cX13_work 9 = .ok (.istore_n 3, 1) := by decide +kernel
theorem dX13_work_10 : decode cX13_work 10 = .ok (.aload_n 1, 1) := by decide +kernel
theorem dX13_work_11 : decode cX13_work 11 = .ok (.iload_n 3, 1) := by decide +kernel
theorem dX13_work_12 : decode cX13_work 12 = .ok (.ifCond .ne 10, 3) := by decide +kernel
theorem dX13_work_15 : decode cX13_work 15 = .ok (.aload_n 0, 1) := by decide +kernel
theorem dX13_work_16 : decode cX13_work 16 = .ok (.getfield 18, 3) := by decide +kernel
theorem dX13_work_19 : decode cX13_work 19 = .ok (.goto 7, 3) := by decide +kernel
theorem dX13_work_22 : decode cX13_work 22 = .ok (.aload_n 0, 1) := by decide +kernel
theorem dX13_work_23 : decode cX13_work 23 = .ok (.getfield 15, 3) := by decide +kernel
theorem dX13_work_26 : decode cX13_work 26 = .ok (.iload_n 2, 1) := by decide +kernel
theorem dX13_work_27 : decode cX13_work 27 = .ok (.invokevirtual 57, 3) := by decide +kernel
theorem dX13_work_30 : decode cX13_work 30 = .ok (.ireturn, 1) := by decide +kernel
abbrev JX13_work_0 (D : DE) (f : Nat) (Q : Int32 → Frm → HI → HL → Prop) (T : Nat → Frm → HI → HL → Prop) (F : Frm) (h : HI) (g : HL) (x0 : Nat) (x2 : Int32) : Prop := F.2.1 x0 = (21, 0) ∧ ∃ b2 : Nat, F.2.2 x0 2 = some b2 ∧ Gi D f mX7_work [.ref (ad D 101), .ref (ad D b2), .int x2] F h g (fun y4 F7 h5 g6 => ((¬ y4 = 0 → F7.2.1 x0 = (21, 0) ∧ ∃ b12 : Nat, F7.2.2 x0 3 = some b12 ∧ Gi D f mX7_work [.ref (ad D 101), .ref (ad D b12), .int x2] F7 h5 g6 (fun y14 F17 h15 g16 => Q y14 F17 h15 g16) T) ∧ (y4 = 0 → F7.2.1 x0 = (21, 0) ∧ ∃ b21 : Nat, F7.2.2 x0 4 = some b21 ∧ Gi D f mX7_work [.ref (ad D 101), .ref (ad D b21), .int x2] F7 h5 g6 (fun y23 F26 h24 g25 => Q y23 F26 h24 g25) T))) T
theorem bX13_work_0 {D : DE} {f : Nat} {Q : Int32 → Frm → HI → HL → Prop} {T : Nat → Frm → HI → HL → Prop} {F : Frm} {h : HI} {g : HL} (hF : k_Fix F) (x0 : Nat) (x2 : Int32) (H : JX13_work_0 D f Q T F h g x0 x2) : V D mX13_work (f + 1) (gi Q T) 0 [(0, .ref (ad D x0)), (1, .ref (ad D 101)), (2, .int x2)] [] (F, h, g) := by
  refine V_aload_n dX13_work_0 rfl 1 rfl ?_
  refine V_aload_n dX13_work_1 rfl 0 rfl ?_
  obtain ⟨z1, H⟩ := H
  obtain ⟨b2, z3, H⟩ := H
  refine H_getr ck11 2 (by decide) z1 (by decide) rfl z3 q843 dX13_work_2 ?_
  refine V_iload_n dX13_work_5 rfl 2 rfl ?_
  refine G_calli (av := [.ref (ad D 101), .ref (ad D b2), .int x2]) (rest := []) H mqX7_work q87 (by decide) (Nat.le_of_ble_eq_true rfl) (k_resV (ci := 6) (av := [.ref (ad D b2), .int x2]) (rest := []) (fs_101 hF) (by decide) rfl rfl q1388 q1339 q1340 q1341 mhX7_work mnX7_work dX13_work_6) (fun y4 F7 h5 g6 hF8 H => ?_) (fun a e F1 h1 g1 hF1 ha ht => GT_i hF1 rfl ha ht)
  refine V_istore_n (l1 := [(3, .int y4), (0, .ref (ad D x0)), (1, .ref (ad D 101)), (2, .int x2)]) dX13_work_9 rfl (by decide) rfl ?_
  refine V_aload_n dX13_work_10 rfl 2 rfl ?_
  refine V_iload_n dX13_work_11 rfl 0 rfl ?_
  refine V_if_ne (tgt := 22) dX13_work_12 (by decide) (fun c10 => ?_) (fun c10 => ?_)
  · have H := H.1 c10
    refine V_aload_n dX13_work_22 rfl 1 rfl ?_
    obtain ⟨z11, H⟩ := H
    obtain ⟨b12, z13, H⟩ := H
    refine H_getr ck11 3 (by decide) z11 (by decide) rfl z13 q844 dX13_work_23 ?_
    refine V_iload_n dX13_work_26 rfl 3 rfl ?_
    refine G_calli (av := [.ref (ad D 101), .ref (ad D b12), .int x2]) (rest := []) H mqX7_work q87 (by decide) (Nat.le_of_ble_eq_true rfl) (k_resV (ci := 6) (av := [.ref (ad D b12), .int x2]) (rest := []) (fs_101 hF8) (by decide) rfl rfl q1388 q1339 q1340 q1341 mhX7_work mnX7_work dX13_work_27) (fun y14 F17 h15 g16 hF18 H => ?_) (fun a e F1 h1 g1 hF1 ha ht => GT_i hF1 rfl ha ht)
    exact G_iret hF18 rfl dX13_work_30 H
  · have H := H.2 c10
    refine V_aload_n dX13_work_15 rfl 1 rfl ?_
    obtain ⟨z20, H⟩ := H
    obtain ⟨b21, z22, H⟩ := H
    refine H_getr ck11 4 (by decide) z20 (by decide) rfl z22 q845 dX13_work_16 ?_
    refine V_goto (tgt := 26) dX13_work_19 (by decide) ?_
    refine V_iload_n dX13_work_26 rfl 3 rfl ?_
    refine G_calli (av := [.ref (ad D 101), .ref (ad D b21), .int x2]) (rest := []) H mqX7_work q87 (by decide) (Nat.le_of_ble_eq_true rfl) (k_resV (ci := 6) (av := [.ref (ad D b21), .int x2]) (rest := []) (fs_101 hF8) (by decide) rfl rfl q1388 q1339 q1340 q1341 mhX7_work mnX7_work dX13_work_27) (fun y23 F26 h24 g25 hF27 H => ?_) (fun a e F1 h1 g1 hF1 ha ht => GT_i hF1 rfl ha ht)
    exact G_iret hF27 rfl dX13_work_30 H
theorem wX13_work {D : DE} {f : Nat} {Q : Int32 → Frm → HI → HL → Prop} {T : Nat → Frm → HI → HL → Prop} {F : Frm} {h : HI} {g : HL} (hF : k_Fix F) (x0 : Nat) (x2 : Int32) (H : JX13_work_0 D f Q T F h g x0 x2) : Gi D (f + 1) mX13_work [.ref (ad D x0), .ref (ad D 101), .int x2] F h g Q T := Cl.ofV (by decide) (Nat.le_of_ble_eq_true rfl) rfl (bX13_work_0 hF x0 x2 H)
theorem dX11_init_0 : decode cX11_init 0 = .ok (.aload_n 0, 1) := by decide +kernel
theorem dX11_init_1 : decode cX11_init 1 = .ok (.iload_n 1, 1) := by decide +kernel
theorem dX11_init_2 : decode cX11_init 2 = .ok (.invokespecial 3, 3) := by decide +kernel
theorem dX11_init_5 : decode cX11_init 5 = .ok (.aload_n 0, 1) := by decide +kernel
theorem dX11_init_6 : decode cX11_init 6 = .ok (.iload_n 2, 1) := by decide +kernel
theorem dX11_init_7 : decode cX11_init 7 = .ok (.putfield 9, 3) := by decide +kernel
theorem dX11_init_10 : decode cX11_init 10 = .ok (.aload_n 0, 1) := by decide +kernel
theorem dX11_init_11 : decode cX11_init 11 = .ok (.aload_n 3, 1) := by decide +kernel
theorem dX11_init_12 : decode cX11_init 12 = .ok (.putfield 15, 3) := by decide +kernel
theorem dX11_init_15 : decode cX11_init 15 = .ok (.aload_n 0, 1) := by decide +kernel
theorem dX11_init_16 : decode cX11_init 16 = .ok (.aload 4, 2) := by decide +kernel
theorem dX11_init_18 : decode cX11_init 18 = .ok (.putfield 19, 3) := by decide +kernel
theorem dX11_init_21 : decode cX11_init 21 = .ok (.return_, 1) := by decide +kernel
abbrev JX11_init_0 (D : DE) (f : Nat) (Q : Frm → HI → HL → Prop) (T : Nat → Frm → HI → HL → Prop) (F : Frm) (h : HI) (g : HL) (x0 : Nat) (x1 : Int32) (x2 : Int32) (x3 : Nat) (x4 : Nat) : Prop := Sv D f mX10_init [.ref (ad D x0), .int x1] F h g (fun h1 g2 => F.2.1 x0 = (19, 0) ∧ ∀ h4, h4 = up2 h1 x0 2 x2 → ∀ F6, F6 = fwr F x0 3 (some x3) → 160 ≤ x0 ∧ ∀ F11, F11 = fwr F6 x0 4 (some x4) → 160 ≤ x0 ∧ Q F11 h4 g2)
theorem bX11_init_0 {D : DE} {f : Nat} {Q : Frm → HI → HL → Prop} {T : Nat → Frm → HI → HL → Prop} {F : Frm} {h : HI} {g : HL} (hF : k_Fix F) (x0 : Nat) (x1 : Int32) (x2 : Int32) (x3 : Nat) (x4 : Nat) (H : JX11_init_0 D f Q T F h g x0 x1 x2 x3 x4) : V D mX11_init (f + 1) (gv Q T) 0 [(0, .ref (ad D x0)), (1, .int x1), (2, .int x2), (3, .ref (ad D x3)), (4, .ref (ad D x4))] [] (F, h, g) := by
  refine V_aload_n dX11_init_0 rfl 0 rfl ?_
  refine V_iload_n dX11_init_1 rfl 1 rfl ?_
  refine H_callv (av := [.ref (ad D x0), .int x1]) (rest := []) H mqX10_init q102 (by decide) (Nat.le_of_ble_eq_true rfl) (k_resI (av := [.int x1]) (rest := []) rfl q780 q781 q782 mhX10_init mnX10_init dX11_init_2) (fun h1 g2 H => ?_)
  refine V_aload_n dX11_init_5 rfl 0 rfl ?_
  refine V_iload_n dX11_init_6 rfl 2 rfl ?_
  obtain ⟨z3, H⟩ := H
  refine G_putiF ck9 2 (by decide) z3 (by decide) rfl rfl rfl rfl q784 dX11_init_7 (fun h4 e5 => ?_)
  have H := H h4 e5
  refine V_aload_n dX11_init_10 rfl 0 rfl ?_
  refine V_aload_n dX11_init_11 rfl 3 rfl ?_
  refine G_putrF ck9 3 (by decide) z3 (by decide) rfl (fun _ => rfl) (fun _ => rfl) rfl rfl rfl q785 dX11_init_12 (fun F6 e7 => ?_)
  have H := H F6 e7
  obtain ⟨z9, H⟩ := H
  have hF8 : k_Fix F6 := by rw [e7]; exact k_Fix.wr hF (fx_okD z9) _
  have z10 : F6.2.1 x0 = (19, 0) := by rw [e7]; exact z3
  refine V_aload_n dX11_init_15 rfl 0 rfl ?_
  refine V_aload dX11_init_16 4 rfl ?_
  refine G_putrF ck9 4 (by decide) z10 (by decide) rfl (fun _ => rfl) (fun _ => rfl) rfl rfl rfl q786 dX11_init_18 (fun F11 e12 => ?_)
  have H := H F11 e12
  obtain ⟨z14, H⟩ := H
  have hF13 : k_Fix F11 := by rw [e12]; exact k_Fix.wr hF8 (fx_okD z14) _
  have z15 : F11.2.1 x0 = (19, 0) := by rw [e12]; exact z10
  exact G_vret hF13 rfl dX11_init_21 H
theorem wX11_init {D : DE} {f : Nat} {Q : Frm → HI → HL → Prop} {T : Nat → Frm → HI → HL → Prop} {F : Frm} {h : HI} {g : HL} (hF : k_Fix F) (x0 : Nat) (x1 : Int32) (x2 : Int32) (x3 : Nat) (x4 : Nat) (H : JX11_init_0 D f Q T F h g x0 x1 x2 x3 x4) : Gv D (f + 1) mX11_init [.ref (ad D x0), .int x1, .int x2, .ref (ad D x3), .ref (ad D x4)] F h g Q T := Cl.ofV (by decide) (Nat.le_of_ble_eq_true rfl) rfl (bX11_init_0 hF x0 x1 x2 x3 x4 H)
theorem dX11_judge_0 : decode cX11_judge 0 = .ok (.aload_n 1, 1) := by decide +kernel
theorem dX11_judge_1 : decode cX11_judge 1 = .ok (.getfield 22, 3) := by decide +kernel
theorem dX11_judge_4 : decode cX11_judge 4 = .ok (.getfield 28, 3) := by decide +kernel
theorem dX11_judge_7 : decode cX11_judge 7 = .ok (.aload_n 0, 1) := by decide +kernel
theorem dX11_judge_8 : decode cX11_judge 8 = .ok (.getfield 9, 3) := by decide +kernel
theorem dX11_judge_11 : decode cX11_judge 11 = .ok (.aload_n 1, 1) := by decide +kernel
theorem dX11_judge_12 : decode cX11_judge 12 = .ok (.aload_n 0, 1) := by decide +kernel
theorem dX11_judge_13 : decode cX11_judge 13 = .ok (.getfield 15, 3) := by decide +kernel
theorem dX11_judge_16 : decode cX11_judge 16 = .ok (.iconst (-1), 1) := by decide +kernel
theorem dX11_judge_17 : decode cX11_judge 17 = .ok (.invokevirtual 34, 3) := by decide +kernel
theorem dX11_judge_20 : decode cX11_judge 20 = .ok (.iastore, 1) := by decide +kernel
theorem dX11_judge_21 : decode cX11_judge 21 = .ok (.aload_n 1, 1) := by decide +kernel
theorem dX11_judge_22 : decode cX11_judge 22 = .ok (.aload_n 0, 1) := by decide +kernel
theorem dX11_judge_23 : decode cX11_judge 23 = .ok (.getfield 9, 3) := by decide +kernel
theorem dX11_judge_26 : decode cX11_judge 26 = .ok (.invokevirtual 38, 3) := by decide +kernel
theorem dX11_judge_29 : decode cX11_judge 29 = .ok (.aload_n 1, 1) := by decide +kernel
theorem dX11_judge_30 : decode cX11_judge 30 = .ok (.aload_n 0, 1) := by decide +kernel
theorem dX11_judge_31 : decode cX11_judge 31 = .ok (.getfield 19, 3) := by decide +kernel
theorem dX11_judge_34 : decode cX11_judge 34 = .ok (.iload_n 2, 1) := by decide +kernel
theorem dX11_judge_35 : decode cX11_judge 35 = .ok (.invokevirtual 34, 3) := by decide +kernel
theorem dX11_judge_38 : decode cX11_judge 38 = .ok (.istore_n 3, 1) := by decide +kernel
theorem dX11_judge_39 : decode cX11_judge 39 = .ok (.aload_n 1, 1) := by decide +kernel
theorem dX11_judge_40 : decode cX11_judge 40 = .ok (.iconst 1, 1) := by decide +kernel
theorem dX11_judge_41 : decode cX11_judge 41 = .ok (.invokevirtual 41, 3) := by decide +kernel
theorem dX11_judge_44 : decode cX11_judge 44 = .ok (.iload_n 3, 1) := by decide +kernel
theorem dX11_judge_45 : decode cX11_judge 45 = .ok (.ireturn, 1) := by decide +kernel
abbrev JX11_judge_0 (D : DE) (f : Nat) (Q : Int32 → Frm → HI → HL → Prop) (T : Nat → Frm → HI → HL → Prop) (F : Frm) (h : HI) (g : HL) (x0 : Nat) (x2 : Int32) : Prop := ∃ b1 : Nat, F.2.2 7 3 = some b1 ∧ F.2.1 b1 = (18, 0) ∧ ∃ b4 : Nat, F.2.2 b1 5 = some b4 ∧ F.2.1 x0 = (19, 0) ∧ ∃ b7 : Nat, F.2.2 x0 3 = some b7 ∧ Gi D f mX4_judge [.ref (ad D 7), .ref (ad D b7), .int (-1)] F h g (fun y9 F12 h10 g11 => ∃ m15 : Nat, F12.2.1 b4 = (0, m15) ∧ vp_in (h x0 2) m15 ∧ ∀ h18, h18 = up2 h10 b4 (ix (h x0 2)) y9 → F12.2.1 x0 = (19, 0) ∧ Sv D f mX4_open [.ref (ad D 7), .int (h18 x0 2)] F12 h18 g11 (fun h21 g22 => ∃ b23 : Nat, F12.2.2 x0 4 = some b23 ∧ Gi D f mX4_judge [.ref (ad D 7), .ref (ad D b23), .int x2] F12 h21 g22 (fun y25 F28 h26 g27 => Sv D f mX4_close [.ref (ad D 7), .int 1] F28 h26 g27 (fun h31 g32 => Q y25 F28 h31 g32)) T)) T
theorem bX11_judge_0 {D : DE} {f : Nat} {Q : Int32 → Frm → HI → HL → Prop} {T : Nat → Frm → HI → HL → Prop} {F : Frm} {h : HI} {g : HL} (hF : k_Fix F) (x0 : Nat) (x2 : Int32) (H : JX11_judge_0 D f Q T F h g x0 x2) : V D mX11_judge (f + 1) (gi Q T) 0 [(0, .ref (ad D x0)), (1, .ref (ad D 7)), (2, .int x2)] [] (F, h, g) := by
  refine V_aload_n dX11_judge_0 rfl 1 rfl ?_
  obtain ⟨b1, z2, H⟩ := H
  refine H_getrN ck3 3 (by decide) (fs_7 hF) (by decide) rfl z2 q207 dX11_judge_1 ?_
  obtain ⟨z3, H⟩ := H
  obtain ⟨b4, z5, H⟩ := H
  refine H_getrN ck8 5 (by decide) z3 (by decide) rfl z5 q680 dX11_judge_4 ?_
  refine V_aload_n dX11_judge_7 rfl 0 rfl ?_
  obtain ⟨z6, H⟩ := H
  refine H_geti ck9 2 (by decide) z6 (by decide) rfl q784 dX11_judge_8 ?_
  refine V_aload_n dX11_judge_11 rfl 1 rfl ?_
  refine V_aload_n dX11_judge_12 rfl 0 rfl ?_
  obtain ⟨b7, z8, H⟩ := H
  refine H_getr ck9 3 (by decide) z6 (by decide) rfl z8 q785 dX11_judge_13 ?_
  refine V_iconst (v := (-1)) dX11_judge_16 (by decide) ?_
  refine G_calli (av := [.ref (ad D 7), .ref (ad D b7), .int (-1)]) (rest := [.int (h x0 2), .ref (ad D b4)]) H mqX4_judge q84 (by decide) (Nat.le_of_ble_eq_true rfl) (k_resV (ci := 3) (av := [.ref (ad D b7), .int (-1)]) (rest := [.int (h x0 2), .ref (ad D b4)]) (fs_7 hF) (by decide) rfl rfl q1025 q979 q980 q981 mhX4_judge mnX4_judge dX11_judge_17) (fun y9 F12 h10 g11 hF13 H => ?_) (fun a e F1 h1 g1 hF1 ha ht => GT_i hF1 rfl ha ht)
  obtain ⟨m15, z16, H⟩ := H
  obtain ⟨i17, H⟩ := H
  refine H_iast z16 i17 dX11_judge_20 (fun h18 e19 => ?_)
  have H := H h18 e19
  refine V_aload_n dX11_judge_21 rfl 1 rfl ?_
  refine V_aload_n dX11_judge_22 rfl 0 rfl ?_
  obtain ⟨z20, H⟩ := H
  refine H_geti ck9 2 (by decide) z20 (by decide) rfl q784 dX11_judge_23 ?_
  refine H_callv (av := [.ref (ad D 7), .int (h18 x0 2)]) (rest := []) H mqX4_open q84 (by decide) (Nat.le_of_ble_eq_true rfl) (k_resV (ci := 3) (av := [.int (h18 x0 2)]) (rest := []) (fs_7 hF13) (by decide) rfl rfl q1026 q975 q976 q977 mhX4_open mnX4_open dX11_judge_26) (fun h21 g22 H => ?_)
  refine V_aload_n dX11_judge_29 rfl 1 rfl ?_
  refine V_aload_n dX11_judge_30 rfl 0 rfl ?_
  obtain ⟨b23, z24, H⟩ := H
  refine H_getr ck9 4 (by decide) z20 (by decide) rfl z24 q786 dX11_judge_31 ?_
  refine V_iload_n dX11_judge_34 rfl 2 rfl ?_
  refine G_calli (av := [.ref (ad D 7), .ref (ad D b23), .int x2]) (rest := []) H mqX4_judge q84 (by decide) (Nat.le_of_ble_eq_true rfl) (k_resV (ci := 3) (av := [.ref (ad D b23), .int x2]) (rest := []) (fs_7 hF13) (by decide) rfl rfl q1025 q979 q980 q981 mhX4_judge mnX4_judge dX11_judge_35) (fun y25 F28 h26 g27 hF29 H => ?_) (fun a e F1 h1 g1 hF1 ha ht => GT_i hF1 rfl ha ht)
  refine V_istore_n (l1 := [(3, .int y25), (0, .ref (ad D x0)), (1, .ref (ad D 7)), (2, .int x2)]) dX11_judge_38 rfl (by decide) rfl ?_
  refine V_aload_n dX11_judge_39 rfl 2 rfl ?_
  refine V_iconst (v := 1) dX11_judge_40 (by decide) ?_
  refine H_callv (av := [.ref (ad D 7), .int 1]) (rest := []) H mqX4_close q84 (by decide) (Nat.le_of_ble_eq_true rfl) (k_resV (ci := 3) (av := [.int 1]) (rest := []) (fs_7 hF29) (by decide) rfl rfl q1027 q1012 q1013 q1014 mhX4_close mnX4_close dX11_judge_41) (fun h31 g32 H => ?_)
  refine V_iload_n dX11_judge_44 rfl 0 rfl ?_
  exact G_iret hF29 rfl dX11_judge_45 H
theorem wX11_judge {D : DE} {f : Nat} {Q : Int32 → Frm → HI → HL → Prop} {T : Nat → Frm → HI → HL → Prop} {F : Frm} {h : HI} {g : HL} (hF : k_Fix F) (x0 : Nat) (x2 : Int32) (H : JX11_judge_0 D f Q T F h g x0 x2) : Gi D (f + 1) mX11_judge [.ref (ad D x0), .ref (ad D 7), .int x2] F h g Q T := Cl.ofV (by decide) (Nat.le_of_ble_eq_true rfl) rfl (bX11_judge_0 hF x0 x2 H)
theorem dX11_ask_0 : decode cX11_ask 0 = .ok (.aload_n 0, 1) := by decide +kernel
theorem dX11_ask_1 : decode cX11_ask 1 = .ok (.getfield 19, 3) := by decide +kernel
theorem dX11_ask_4 : decode cX11_ask 4 = .ok (.aload_n 1, 1) := by decide +kernel
theorem dX11_ask_5 : decode cX11_ask 5 = .ok (.iload_n 2, 1) := by decide +kernel
theorem dX11_ask_6 : decode cX11_ask 6 = .ok (.aload_n 3, 1) := by decide +kernel
theorem dX11_ask_7 : decode cX11_ask 7 = .ok (.iload 4, 2) := by decide +kernel
theorem dX11_ask_9 : decode cX11_ask 9 = .ok (.invokevirtual 44, 3) := by decide +kernel
theorem dX11_ask_12 : decode cX11_ask 12 = .ok (.aload_n 3, 1) := by decide +kernel
theorem dX11_ask_13 : decode cX11_ask 13 = .ok (.getfield 48, 3) := by decide +kernel
theorem dX11_ask_16 : decode cX11_ask 16 = .ok (.aload_n 0, 1) := by decide +kernel
theorem dX11_ask_17 : decode cX11_ask 17 = .ok (.getfield 9, 3) := by decide +kernel
theorem dX11_ask_20 : decode cX11_ask 20 = .ok (.iaload, 1) := by decide +kernel
theorem dX11_ask_21 : decode cX11_ask 21 = .ok (.ifCond .eq 23, 3) := by decide +kernel
theorem dX11_ask_24 : decode cX11_ask 24 = .ok (.aload_n 0, 1) := by decide +kernel
theorem dX11_ask_25 : decode cX11_ask 25 = .ok (.getfield 15, 3) := by decide +kernel
theorem dX11_ask_28 : decode cX11_ask 28 = .ok (.aload_n 1, 1) := by decide +kernel
theorem dX11_ask_29 : decode cX11_ask 29 = .ok (.aload_n 3, 1) := by decide +kernel
theorem dX11_ask_30 : decode cX11_ask 30 = .ok (.getfield 48, 3) := by decide +kernel
theorem dX11_ask_33 : decode cX11_ask 33 = .ok (.aload_n 0, 1) := by decide +kernel
theorem dX11_ask_34 : decode cX11_ask 34 = .ok (.getfield 9, 3) := by decide +kernel
theorem dX11_ask_37 : decode cX11_ask 37 = .ok (.iaload, 1) := by decide +kernel
theorem dX11_ask_38 : decode cX11_ask 38 = .ok (.aload_n 3, 1) := by decide +kernel
theorem dX11_ask_39 : decode cX11_ask 39 = .ok (.iload 4, 2) := by decide +kernel
theorem dX11_ask_41 : decode cX11_ask 41 = .ok (.invokevirtual 44, 3) := by decide +kernel
theorem dX11_ask_44 : decode cX11_ask 44 = .ok (.return_, 1) := by decide +kernel
abbrev JX11_ask_0 (D : DE) (f : Nat) (Q : HI → HL → Prop) (F : Frm) (h : HI) (g : HL) (x0 : Nat) (x2 : Int32) (x3 : Nat) (x4 : Int32) : Prop := F.2.1 x0 = (19, 0) ∧ ∃ b2 : Nat, F.2.2 x0 4 = some b2 ∧ ∃ k4 : Nat, isE F b2 k4 ∧ Sv D f (v_ask k4) [.ref (ad D b2), .ref (ad D 9), .int x2, .ref (ad D x3), .int x4] F h g (fun h6 g7 => F.2.1 x3 = (15, 0) ∧ ∃ b9 : Nat, F.2.2 x3 0 = some b9 ∧ ∃ m11 : Nat, F.2.1 b9 = (0, m11) ∧ vp_in (h6 x0 2) m11 ∧ (((h6 b9 (ix (h6 x0 2))) = 0 → Q h6 g7) ∧ (¬ (h6 b9 (ix (h6 x0 2))) = 0 → ∃ b15 : Nat, F.2.2 x0 3 = some b15 ∧ ∃ b17 : Nat, F.2.2 x3 0 = some b17 ∧ ∃ m19 : Nat, F.2.1 b17 = (0, m19) ∧ vp_in (h6 x0 2) m19 ∧ ∃ k22 : Nat, isE F b15 k22 ∧ Sv D f (v_ask k22) [.ref (ad D b15), .ref (ad D 9), .int (h6 b17 (ix (h6 x0 2))), .ref (ad D x3), .int x4] F h6 g7 (fun h24 g25 => Q h24 g25))))
theorem bX11_ask_0 {D : DE} {f : Nat} {Q : HI → HL → Prop} {F : Frm} {h : HI} {g : HL} (hF : k_Fix F) (x0 : Nat) (x2 : Int32) (x3 : Nat) (x4 : Int32) (H : JX11_ask_0 D f Q F h g x0 x2 x3 x4) : V D mX11_ask (f + 1) (qv F Q) 0 [(0, .ref (ad D x0)), (1, .ref (ad D 9)), (2, .int x2), (3, .ref (ad D x3)), (4, .int x4)] [] (F, h, g) := by
  refine V_aload_n dX11_ask_0 rfl 0 rfl ?_
  obtain ⟨z1, H⟩ := H
  obtain ⟨b2, z3, H⟩ := H
  refine H_getr ck9 4 (by decide) z1 (by decide) rfl z3 q786 dX11_ask_1 ?_
  refine V_aload_n dX11_ask_4 rfl 1 rfl ?_
  refine V_iload_n dX11_ask_5 rfl 2 rfl ?_
  refine V_aload_n dX11_ask_6 rfl 3 rfl ?_
  refine V_iload dX11_ask_7 4 rfl ?_
  obtain ⟨k4, z5, H⟩ := H
  refine H_callv (av := [.ref (ad D b2), .ref (ad D 9), .int x2, .ref (ad D x3), .int x4]) (rest := []) H (vq_ask z5.2.1 z5.2.2) (vi_ask z5.2.1 z5.2.2) (vl_ask z5.2.1 z5.2.2) (Nat.le_of_ble_eq_true rfl) (vr_ask (av := [.ref (ad D 9), .int x2, .ref (ad D x3), .int x4]) (rest := []) z5 rfl q1202 dX11_ask_9) (fun h6 g7 H => ?_)
  refine V_aload_n dX11_ask_12 rfl 3 rfl ?_
  obtain ⟨z8, H⟩ := H
  obtain ⟨b9, z10, H⟩ := H
  refine H_getrN ck5 0 (by decide) z8 (by decide) rfl z10 q240 dX11_ask_13 ?_
  refine V_aload_n dX11_ask_16 rfl 0 rfl ?_
  refine H_geti ck9 2 (by decide) z1 (by decide) rfl q784 dX11_ask_17 ?_
  obtain ⟨m11, z12, H⟩ := H
  obtain ⟨i13, H⟩ := H
  refine H_iald z12 i13 dX11_ask_20 ?_
  refine V_if_eq (tgt := 44) dX11_ask_21 (by decide) (fun c14 => ?_) (fun c14 => ?_)
  · have H := H.1 c14
    exact H_vret rfl dX11_ask_44 H
  · have H := H.2 c14
    refine V_aload_n dX11_ask_24 rfl 0 rfl ?_
    obtain ⟨b15, z16, H⟩ := H
    refine H_getr ck9 3 (by decide) z1 (by decide) rfl z16 q785 dX11_ask_25 ?_
    refine V_aload_n dX11_ask_28 rfl 1 rfl ?_
    refine V_aload_n dX11_ask_29 rfl 3 rfl ?_
    obtain ⟨b17, z18, H⟩ := H
    refine H_getrN ck5 0 (by decide) z8 (by decide) rfl z18 q240 dX11_ask_30 ?_
    refine V_aload_n dX11_ask_33 rfl 0 rfl ?_
    refine H_geti ck9 2 (by decide) z1 (by decide) rfl q784 dX11_ask_34 ?_
    obtain ⟨m19, z20, H⟩ := H
    obtain ⟨i21, H⟩ := H
    refine H_iald z20 i21 dX11_ask_37 ?_
    refine V_aload_n dX11_ask_38 rfl 3 rfl ?_
    refine V_iload dX11_ask_39 4 rfl ?_
    obtain ⟨k22, z23, H⟩ := H
    refine H_callv (av := [.ref (ad D b15), .ref (ad D 9), .int (h6 b17 (ix (h6 x0 2))), .ref (ad D x3), .int x4]) (rest := []) H (vq_ask z23.2.1 z23.2.2) (vi_ask z23.2.1 z23.2.2) (vl_ask z23.2.1 z23.2.2) (Nat.le_of_ble_eq_true rfl) (vr_ask (av := [.ref (ad D 9), .int (h6 b17 (ix (h6 x0 2))), .ref (ad D x3), .int x4]) (rest := []) z23 rfl q1202 dX11_ask_41) (fun h24 g25 H => ?_)
    exact H_vret rfl dX11_ask_44 H
theorem wX11_ask {D : DE} {f : Nat} {Q : HI → HL → Prop} {F : Frm} {h : HI} {g : HL} (hF : k_Fix F) (x0 : Nat) (x2 : Int32) (x3 : Nat) (x4 : Int32) (H : JX11_ask_0 D f Q F h g x0 x2 x3 x4) : Sv D (f + 1) mX11_ask [.ref (ad D x0), .ref (ad D 9), .int x2, .ref (ad D x3), .int x4] F h g Q := Cl.ofV (by decide) (Nat.le_of_ble_eq_true rfl) rfl (bX11_ask_0 hF x0 x2 x3 x4 H)
theorem dX11_work_0 : decode cX11_work 0 = .ok (.aload_n 1, 1) := by decide +kernel
theorem dX11_work_1 : decode cX11_work 1 = .ok (.getfield 53, 3) := by decide +kernel
theorem dX11_work_4 : decode cX11_work 4 = .ok (.iload_n 2, 1) := by decide +kernel
theorem dX11_work_5 : decode cX11_work 5 = .ok (.aload_n 0, 1) := by decide +kernel
theorem dX11_work_6 : decode cX11_work 6 = .ok (.getfield 9, 3) := by decide +kernel
theorem dX11_work_9 : decode cX11_work 9 = .ok (.iadd, 1) := by decide +kernel
theorem dX11_work_10 : decode cX11_work 10 = .ok (.aload_n 1, 1) := by decide +kernel
theorem dX11_work_11 : decode cX11_work 11 = .ok (.aload_n 0, 1) := by decide +kernel
theorem dX11_work_12 : decode cX11_work 12 = .ok (.getfield 15, 3) := by decide +kernel
theorem dX11_work_15 : decode cX11_work 15 = .ok (.iload_n 2, 1) := by decide +kernel
theorem dX11_work_16 : decode cX11_work 16 = .ok (.invokevirtual 58, 3) := by decide +kernel
theorem dX11_work_19 : decode cX11_work 19 = .ok (.iastore, 1) := by decide +kernel
theorem dX11_work_20 : decode cX11_work 20 = .ok (.aload_n 1, 1) := by decide +kernel
theorem dX11_work_21 : decode cX11_work 21 = .ok (.aload_n 0, 1) := by decide +kernel
theorem dX11_work_22 : decode cX11_work 22 = .ok (.getfield 19, 3) := by decide +kernel
theorem dX11_work_25 : decode cX11_work 25 = .ok (.iload_n 2, 1) := by decide +kernel
theorem dX11_work_26 : decode cX11_work 26 = .ok (.invokevirtual 61, 3) := by decide +kernel
theorem dX11_work_29 : decode cX11_work 29 = .ok (.ireturn, 1) := by decide +kernel
abbrev JX11_work_0 (D : DE) (f : Nat) (Q : Int32 → Frm → HI → HL → Prop) (T : Nat → Frm → HI → HL → Prop) (F : Frm) (h : HI) (g : HL) (x0 : Nat) (x2 : Int32) : Prop := F.2.1 x0 = (19, 0) ∧ ∃ b2 : Nat, F.2.2 x0 3 = some b2 ∧ Gi D f mX7_thing [.ref (ad D 101), .ref (ad D b2), .int x2] F h g (fun y4 F7 h5 g6 => vp_in (x2 + (h x0 2)) 24016 ∧ ∀ h11, h11 = up2 h5 108 (ix (x2 + (h x0 2))) y4 → F7.2.1 x0 = (19, 0) ∧ ∃ b14 : Nat, F7.2.2 x0 4 = some b14 ∧ Gi D f mX7_work [.ref (ad D 101), .ref (ad D b14), .int x2] F7 h11 g6 (fun y16 F19 h17 g18 => Q y16 F19 h17 g18) T) T
theorem bX11_work_0 {D : DE} {f : Nat} {Q : Int32 → Frm → HI → HL → Prop} {T : Nat → Frm → HI → HL → Prop} {F : Frm} {h : HI} {g : HL} (hF : k_Fix F) (x0 : Nat) (x2 : Int32) (H : JX11_work_0 D f Q T F h g x0 x2) : V D mX11_work (f + 1) (gi Q T) 0 [(0, .ref (ad D x0)), (1, .ref (ad D 101)), (2, .int x2)] [] (F, h, g) := by
  refine V_aload_n dX11_work_0 rfl 1 rfl ?_
  refine H_getrN ck6 8 (by decide) (fs_101 hF) (by decide) rfl (fr_101_8 hF) q291 dX11_work_1 ?_
  refine V_iload_n dX11_work_4 rfl 2 rfl ?_
  refine V_aload_n dX11_work_5 rfl 0 rfl ?_
  obtain ⟨z1, H⟩ := H
  refine H_geti ck9 2 (by decide) z1 (by decide) rfl q784 dX11_work_6 ?_
  refine V_iadd dX11_work_9 ?_
  refine V_aload_n dX11_work_10 rfl 1 rfl ?_
  refine V_aload_n dX11_work_11 rfl 0 rfl ?_
  obtain ⟨b2, z3, H⟩ := H
  refine H_getr ck9 3 (by decide) z1 (by decide) rfl z3 q785 dX11_work_12 ?_
  refine V_iload_n dX11_work_15 rfl 2 rfl ?_
  refine G_calli (av := [.ref (ad D 101), .ref (ad D b2), .int x2]) (rest := [.int (x2 + (h x0 2)), .ref (ad D 108)]) H mqX7_thing q87 (by decide) (Nat.le_of_ble_eq_true rfl) (k_resV (ci := 6) (av := [.ref (ad D b2), .int x2]) (rest := [.int (x2 + (h x0 2)), .ref (ad D 108)]) (fs_101 hF) (by decide) rfl rfl q1392 q1358 q1359 q1360 mhX7_thing mnX7_thing dX11_work_16) (fun y4 F7 h5 g6 hF8 H => ?_) (fun a e F1 h1 g1 hF1 ha ht => GT_i hF1 rfl ha ht)
  obtain ⟨i10, H⟩ := H
  refine H_iast (fs_108 hF8) i10 dX11_work_19 (fun h11 e12 => ?_)
  have H := H h11 e12
  refine V_aload_n dX11_work_20 rfl 1 rfl ?_
  refine V_aload_n dX11_work_21 rfl 0 rfl ?_
  obtain ⟨z13, H⟩ := H
  obtain ⟨b14, z15, H⟩ := H
  refine H_getr ck9 4 (by decide) z13 (by decide) rfl z15 q786 dX11_work_22 ?_
  refine V_iload_n dX11_work_25 rfl 2 rfl ?_
  refine G_calli (av := [.ref (ad D 101), .ref (ad D b14), .int x2]) (rest := []) H mqX7_work q87 (by decide) (Nat.le_of_ble_eq_true rfl) (k_resV (ci := 6) (av := [.ref (ad D b14), .int x2]) (rest := []) (fs_101 hF8) (by decide) rfl rfl q1393 q1339 q1340 q1341 mhX7_work mnX7_work dX11_work_26) (fun y16 F19 h17 g18 hF20 H => ?_) (fun a e F1 h1 g1 hF1 ha ht => GT_i hF1 rfl ha ht)
  exact G_iret hF20 rfl dX11_work_29 H
theorem wX11_work {D : DE} {f : Nat} {Q : Int32 → Frm → HI → HL → Prop} {T : Nat → Frm → HI → HL → Prop} {F : Frm} {h : HI} {g : HL} (hF : k_Fix F) (x0 : Nat) (x2 : Int32) (H : JX11_work_0 D f Q T F h g x0 x2) : Gi D (f + 1) mX11_work [.ref (ad D x0), .ref (ad D 101), .int x2] F h g Q T := Cl.ofV (by decide) (Nat.le_of_ble_eq_true rfl) rfl (bX11_work_0 hF x0 x2 H)
theorem dX12_init_0 : decode cX12_init 0 = .ok (.aload_n 0, 1) := by decide +kernel
theorem dX12_init_1 : decode cX12_init 1 = .ok (.iload_n 1, 1) := by decide +kernel
theorem dX12_init_2 : decode cX12_init 2 = .ok (.invokespecial 3, 3) := by decide +kernel
theorem dX12_init_5 : decode cX12_init 5 = .ok (.aload_n 0, 1) := by decide +kernel
theorem dX12_init_6 : decode cX12_init 6 = .ok (.iload_n 2, 1) := by decide +kernel
theorem dX12_init_7 : decode cX12_init 7 = .ok (.putfield 9, 3) := by decide +kernel
theorem dX12_init_10 : decode cX12_init 10 = .ok (.aload_n 0, 1) := by decide +kernel
theorem dX12_init_11 : decode cX12_init 11 = .ok (.aload_n 3, 1) := by decide +kernel
theorem dX12_init_12 : decode cX12_init 12 = .ok (.putfield 15, 3) := by decide +kernel
theorem dX12_init_15 : decode cX12_init 15 = .ok (.aload_n 0, 1) := by decide +kernel
theorem dX12_init_16 : decode cX12_init 16 = .ok (.aload 4, 2) := by decide +kernel
theorem dX12_init_18 : decode cX12_init 18 = .ok (.putfield 19, 3) := by decide +kernel
theorem dX12_init_21 : decode cX12_init 21 = .ok (.return_, 1) := by decide +kernel
abbrev JX12_init_0 (D : DE) (f : Nat) (Q : Frm → HI → HL → Prop) (T : Nat → Frm → HI → HL → Prop) (F : Frm) (h : HI) (g : HL) (x0 : Nat) (x1 : Int32) (x2 : Int32) (x3 : Nat) (x4 : Nat) : Prop := Sv D f mX10_init [.ref (ad D x0), .int x1] F h g (fun h1 g2 => F.2.1 x0 = (20, 0) ∧ ∀ h4, h4 = up2 h1 x0 2 x2 → ∀ F6, F6 = fwr F x0 3 (some x3) → 160 ≤ x0 ∧ ∀ F11, F11 = fwr F6 x0 4 (some x4) → 160 ≤ x0 ∧ Q F11 h4 g2)
theorem bX12_init_0 {D : DE} {f : Nat} {Q : Frm → HI → HL → Prop} {T : Nat → Frm → HI → HL → Prop} {F : Frm} {h : HI} {g : HL} (hF : k_Fix F) (x0 : Nat) (x1 : Int32) (x2 : Int32) (x3 : Nat) (x4 : Nat) (H : JX12_init_0 D f Q T F h g x0 x1 x2 x3 x4) : V D mX12_init (f + 1) (gv Q T) 0 [(0, .ref (ad D x0)), (1, .int x1), (2, .int x2), (3, .ref (ad D x3)), (4, .ref (ad D x4))] [] (F, h, g) := by
  refine V_aload_n dX12_init_0 rfl 0 rfl ?_
  refine V_iload_n dX12_init_1 rfl 1 rfl ?_
  refine H_callv (av := [.ref (ad D x0), .int x1]) (rest := []) H mqX10_init q102 (by decide) (Nat.le_of_ble_eq_true rfl) (k_resI (av := [.int x1]) (rest := []) rfl q820 q781 q782 mhX10_init mnX10_init dX12_init_2) (fun h1 g2 H => ?_)
  refine V_aload_n dX12_init_5 rfl 0 rfl ?_
  refine V_iload_n dX12_init_6 rfl 2 rfl ?_
  obtain ⟨z3, H⟩ := H
  refine G_putiF ck10 2 (by decide) z3 (by decide) rfl rfl rfl rfl q821 dX12_init_7 (fun h4 e5 => ?_)
  have H := H h4 e5
  refine V_aload_n dX12_init_10 rfl 0 rfl ?_
  refine V_aload_n dX12_init_11 rfl 3 rfl ?_
  refine G_putrF ck10 3 (by decide) z3 (by decide) rfl (fun _ => rfl) (fun _ => rfl) rfl rfl rfl q822 dX12_init_12 (fun F6 e7 => ?_)
  have H := H F6 e7
  obtain ⟨z9, H⟩ := H
  have hF8 : k_Fix F6 := by rw [e7]; exact k_Fix.wr hF (fx_okD z9) _
  have z10 : F6.2.1 x0 = (20, 0) := by rw [e7]; exact z3
  refine V_aload_n dX12_init_15 rfl 0 rfl ?_
  refine V_aload dX12_init_16 4 rfl ?_
  refine G_putrF ck10 4 (by decide) z10 (by decide) rfl (fun _ => rfl) (fun _ => rfl) rfl rfl rfl q823 dX12_init_18 (fun F11 e12 => ?_)
  have H := H F11 e12
  obtain ⟨z14, H⟩ := H
  have hF13 : k_Fix F11 := by rw [e12]; exact k_Fix.wr hF8 (fx_okD z14) _
  have z15 : F11.2.1 x0 = (20, 0) := by rw [e12]; exact z10
  exact G_vret hF13 rfl dX12_init_21 H
theorem wX12_init {D : DE} {f : Nat} {Q : Frm → HI → HL → Prop} {T : Nat → Frm → HI → HL → Prop} {F : Frm} {h : HI} {g : HL} (hF : k_Fix F) (x0 : Nat) (x1 : Int32) (x2 : Int32) (x3 : Nat) (x4 : Nat) (H : JX12_init_0 D f Q T F h g x0 x1 x2 x3 x4) : Gv D (f + 1) mX12_init [.ref (ad D x0), .int x1, .int x2, .ref (ad D x3), .ref (ad D x4)] F h g Q T := Cl.ofV (by decide) (Nat.le_of_ble_eq_true rfl) rfl (bX12_init_0 hF x0 x1 x2 x3 x4 H)
theorem dX12_judge_0 : decode cX12_judge 0 = .ok (.aload_n 1, 1) := by decide +kernel
theorem dX12_judge_1 : decode cX12_judge 1 = .ok (.aload_n 0, 1) := by decide +kernel
theorem dX12_judge_2 : decode cX12_judge 2 = .ok (.getfield 15, 3) := by decide +kernel
theorem dX12_judge_5 : decode cX12_judge 5 = .ok (.bipush (-2), 2) := by decide +kernel
theorem dX12_judge_7 : decode cX12_judge 7 = .ok (.invokevirtual 22, 3) := by decide +kernel
theorem dX12_judge_10 : decode cX12_judge 10 = .ok (.istore_n 3, 1) := by decide +kernel
theorem dX12_judge_11 : decode cX12_judge 11 = .ok (.aload_n 1, 1) := by decide +kernel
theorem dX12_judge_12 : decode cX12_judge 12 = .ok (.getfield 28, 3) := by decide +kernel
theorem dX12_judge_15 : decode cX12_judge 15 = .ok (.getfield 32, 3) := by decide +kernel
theorem dX12_judge_18 : decode cX12_judge 18 = .ok (.aload_n 0, 1) := by decide +kernel
theorem dX12_judge_19 : decode cX12_judge 19 = .ok (.getfield 9, 3) := by decide +kernel
theorem dX12_judge_22 : decode cX12_judge 22 = .ok (.iload_n 3, 1) := by decide +kernel
theorem dX12_judge_23 : decode cX12_judge 23 = .ok (.invokestatic 38, 3) := by decide +kernel
theorem dX12_judge_26 : decode cX12_judge 26 = .ok (.iastore, 1) := by decide +kernel
theorem dX12_judge_27 : decode cX12_judge 27 = .ok (.aload_n 1, 1) := by decide +kernel
theorem dX12_judge_28 : decode cX12_judge 28 = .ok (.getfield 28, 3) := by decide +kernel
theorem dX12_judge_31 : decode cX12_judge 31 = .ok (.getfield 32, 3) := by decide +kernel
theorem dX12_judge_34 : decode cX12_judge 34 = .ok (.aload_n 0, 1) := by decide +kernel
theorem dX12_judge_35 : decode cX12_judge 35 = .ok (.getfield 9, 3) := by decide +kernel
theorem dX12_judge_38 : decode cX12_judge 38 = .ok (.iconst 1, 1) := by decide +kernel
theorem dX12_judge_39 : decode cX12_judge 39 = .ok (.iadd, 1) := by decide +kernel
theorem dX12_judge_40 : decode cX12_judge 40 = .ok (.iload_n 3, 1) := by decide +kernel
theorem dX12_judge_41 : decode cX12_judge 41 = .ok (.invokestatic 42, 3) := by decide +kernel
theorem dX12_judge_44 : decode cX12_judge 44 = .ok (.iastore, 1) := by decide +kernel
theorem dX12_judge_45 : decode cX12_judge 45 = .ok (.aload_n 1, 1) := by decide +kernel
theorem dX12_judge_46 : decode cX12_judge 46 = .ok (.aload_n 0, 1) := by decide +kernel
theorem dX12_judge_47 : decode cX12_judge 47 = .ok (.getfield 9, 3) := by decide +kernel
theorem dX12_judge_50 : decode cX12_judge 50 = .ok (.invokevirtual 45, 3) := by decide +kernel
theorem dX12_judge_53 : decode cX12_judge 53 = .ok (.aload_n 1, 1) := by decide +kernel
theorem dX12_judge_54 : decode cX12_judge 54 = .ok (.aload_n 0, 1) := by decide +kernel
theorem dX12_judge_55 : decode cX12_judge 55 = .ok (.getfield 9, 3) := by decide +kernel
theorem dX12_judge_58 : decode cX12_judge 58 = .ok (.iconst 1, 1) := by decide +kernel
theorem dX12_judge_59 : decode cX12_judge 59 = .ok (.iadd, 1) := by decide +kernel
theorem dX12_judge_60 : decode cX12_judge 60 = .ok (.invokevirtual 45, 3) := by decide +kernel
theorem dX12_judge_63 : decode cX12_judge 63 = .ok (.aload_n 1, 1) := by decide +kernel
theorem dX12_judge_64 : decode cX12_judge 64 = .ok (.aload_n 0, 1) := by decide +kernel
theorem dX12_judge_65 : decode cX12_judge 65 = .ok (.getfield 19, 3) := by decide +kernel
theorem dX12_judge_68 : decode cX12_judge 68 = .ok (.iload_n 2, 1) := by decide +kernel
theorem dX12_judge_69 : decode cX12_judge 69 = .ok (.invokevirtual 22, 3) := by decide +kernel
theorem dX12_judge_72 : decode cX12_judge 72 = .ok (.istore 4, 2) := by decide +kernel
theorem dX12_judge_74 : decode cX12_judge 74 = .ok (.aload_n 1, 1) := by decide +kernel
theorem dX12_judge_75 : decode cX12_judge 75 = .ok (.iconst 2, 1) := by decide +kernel
theorem dX12_judge_76 : decode cX12_judge 76 = .ok (.invokevirtual 48, 3) := by decide +kernel
theorem dX12_judge_79 : decode cX12_judge 79 = .ok (.iload 4, 2) := by decide +kernel
theorem dX12_judge_81 : decode cX12_judge 81 = .ok (.ireturn, 1) := by decide +kernel
abbrev JX12_judge_0 (D : DE) (f : Nat) (Q : Int32 → Frm → HI → HL → Prop) (T : Nat → Frm → HI → HL → Prop) (F : Frm) (h : HI) (g : HL) (x0 : Nat) (x2 : Int32) : Prop := F.2.1 x0 = (20, 0) ∧ ∃ b2 : Nat, F.2.2 x0 3 = some b2 ∧ Gi D f mX4_judge [.ref (ad D 7), .ref (ad D b2), .int (-2)] F h g (fun y4 F7 h5 g6 => ∃ b10 : Nat, F7.2.2 7 3 = some b10 ∧ F7.2.1 b10 = (18, 0) ∧ ∃ b13 : Nat, F7.2.2 b10 5 = some b13 ∧ F7.2.1 x0 = (20, 0) ∧ Si D f mX1_left [.int y4] F7 h5 g6 (fun y16 h17 g18 => ∃ m19 : Nat, F7.2.1 b13 = (0, m19) ∧ vp_in (h5 x0 2) m19 ∧ ∀ h22, h22 = up2 h17 b13 (ix (h5 x0 2)) y16 → ∃ b24 : Nat, F7.2.2 7 3 = some b24 ∧ F7.2.1 b24 = (18, 0) ∧ ∃ b27 : Nat, F7.2.2 b24 5 = some b27 ∧ Si D f mX1_right [.int y4] F7 h22 g18 (fun y29 h30 g31 => ∃ m32 : Nat, F7.2.1 b27 = (0, m32) ∧ vp_in ((h22 x0 2) + 1) m32 ∧ ∀ h35, h35 = up2 h30 b27 (ix ((h22 x0 2) + 1)) y29 → Sv D f mX4_open [.ref (ad D 7), .int (h35 x0 2)] F7 h35 g31 (fun h37 g38 => Sv D f mX4_open [.ref (ad D 7), .int ((h37 x0 2) + 1)] F7 h37 g38 (fun h39 g40 => ∃ b41 : Nat, F7.2.2 x0 4 = some b41 ∧ Gi D f mX4_judge [.ref (ad D 7), .ref (ad D b41), .int x2] F7 h39 g40 (fun y43 F46 h44 g45 => Sv D f mX4_close [.ref (ad D 7), .int 2] F46 h44 g45 (fun h49 g50 => Q y43 F46 h49 g50)) T))))) T
theorem bX12_judge_0 {D : DE} {f : Nat} {Q : Int32 → Frm → HI → HL → Prop} {T : Nat → Frm → HI → HL → Prop} {F : Frm} {h : HI} {g : HL} (hF : k_Fix F) (x0 : Nat) (x2 : Int32) (H : JX12_judge_0 D f Q T F h g x0 x2) : V D mX12_judge (f + 1) (gi Q T) 0 [(0, .ref (ad D x0)), (1, .ref (ad D 7)), (2, .int x2)] [] (F, h, g) := by
  refine V_aload_n dX12_judge_0 rfl 1 rfl ?_
  refine V_aload_n dX12_judge_1 rfl 0 rfl ?_
  obtain ⟨z1, H⟩ := H
  obtain ⟨b2, z3, H⟩ := H
  refine H_getr ck10 3 (by decide) z1 (by decide) rfl z3 q822 dX12_judge_2 ?_
  refine V_bipush (v := (-2)) dX12_judge_5 (by decide) ?_
  refine G_calli (av := [.ref (ad D 7), .ref (ad D b2), .int (-2)]) (rest := []) H mqX4_judge q84 (by decide) (Nat.le_of_ble_eq_true rfl) (k_resV (ci := 3) (av := [.ref (ad D b2), .int (-2)]) (rest := []) (fs_7 hF) (by decide) rfl rfl q1003 q979 q980 q981 mhX4_judge mnX4_judge dX12_judge_7) (fun y4 F7 h5 g6 hF8 H => ?_) (fun a e F1 h1 g1 hF1 ha ht => GT_i hF1 rfl ha ht)
  refine V_istore_n (l1 := [(3, .int y4), (0, .ref (ad D x0)), (1, .ref (ad D 7)), (2, .int x2)]) dX12_judge_10 rfl (by decide) rfl ?_
  refine V_aload_n dX12_judge_11 rfl 2 rfl ?_
  obtain ⟨b10, z11, H⟩ := H
  refine H_getrN ck3 3 (by decide) (fs_7 hF8) (by decide) rfl z11 q208 dX12_judge_12 ?_
  obtain ⟨z12, H⟩ := H
  obtain ⟨b13, z14, H⟩ := H
  refine H_getrN ck8 5 (by decide) z12 (by decide) rfl z14 q681 dX12_judge_15 ?_
  refine V_aload_n dX12_judge_18 rfl 1 rfl ?_
  obtain ⟨z15, H⟩ := H
  refine H_geti ck10 2 (by decide) z15 (by decide) rfl q821 dX12_judge_19 ?_
  refine V_iload_n dX12_judge_22 rfl 0 rfl ?_
  refine H_calli (av := [.int y4]) (rest := [.int (h5 x0 2), .ref (ad D b13)]) H mqX1_left q81 (by decide) (Nat.le_of_ble_eq_true rfl) (k_resSN (av := [.int y4]) (rest := [.int (h5 x0 2), .ref (ad D b13)]) (M1 := mX1_left) rfl q1004 q1005 q81 mqX1_left (fun _ _ h => mW_named h) mhX1_left mnX1_left dX12_judge_23) (fun y16 h17 g18 H => ?_)
  obtain ⟨m19, z20, H⟩ := H
  obtain ⟨i21, H⟩ := H
  refine H_iast z20 i21 dX12_judge_26 (fun h22 e23 => ?_)
  have H := H h22 e23
  refine V_aload_n dX12_judge_27 rfl 2 rfl ?_
  obtain ⟨b24, z25, H⟩ := H
  refine H_getrN ck3 3 (by decide) (fs_7 hF8) (by decide) rfl z25 q208 dX12_judge_28 ?_
  obtain ⟨z26, H⟩ := H
  obtain ⟨b27, z28, H⟩ := H
  refine H_getrN ck8 5 (by decide) z26 (by decide) rfl z28 q681 dX12_judge_31 ?_
  refine V_aload_n dX12_judge_34 rfl 1 rfl ?_
  refine H_geti ck10 2 (by decide) z15 (by decide) rfl q821 dX12_judge_35 ?_
  refine V_iconst (v := 1) dX12_judge_38 (by decide) ?_
  refine V_iadd dX12_judge_39 ?_
  refine V_iload_n dX12_judge_40 rfl 0 rfl ?_
  refine H_calli (av := [.int y4]) (rest := [.int ((h22 x0 2) + 1), .ref (ad D b27)]) H mqX1_right q81 (by decide) (Nat.le_of_ble_eq_true rfl) (k_resSN (av := [.int y4]) (rest := [.int ((h22 x0 2) + 1), .ref (ad D b27)]) (M1 := mX1_right) rfl q1007 q1008 q81 mqX1_right (fun _ _ h => mW_named h) mhX1_right mnX1_right dX12_judge_41) (fun y29 h30 g31 H => ?_)
  obtain ⟨m32, z33, H⟩ := H
  obtain ⟨i34, H⟩ := H
  refine H_iast z33 i34 dX12_judge_44 (fun h35 e36 => ?_)
  have H := H h35 e36
  refine V_aload_n dX12_judge_45 rfl 2 rfl ?_
  refine V_aload_n dX12_judge_46 rfl 1 rfl ?_
  refine H_geti ck10 2 (by decide) z15 (by decide) rfl q821 dX12_judge_47 ?_
  refine H_callv (av := [.ref (ad D 7), .int (h35 x0 2)]) (rest := []) H mqX4_open q84 (by decide) (Nat.le_of_ble_eq_true rfl) (k_resV (ci := 3) (av := [.int (h35 x0 2)]) (rest := []) (fs_7 hF8) (by decide) rfl rfl q1010 q975 q976 q977 mhX4_open mnX4_open dX12_judge_50) (fun h37 g38 H => ?_)
  refine V_aload_n dX12_judge_53 rfl 2 rfl ?_
  refine V_aload_n dX12_judge_54 rfl 1 rfl ?_
  refine H_geti ck10 2 (by decide) z15 (by decide) rfl q821 dX12_judge_55 ?_
  refine V_iconst (v := 1) dX12_judge_58 (by decide) ?_
  refine V_iadd dX12_judge_59 ?_
  refine H_callv (av := [.ref (ad D 7), .int ((h37 x0 2) + 1)]) (rest := []) H mqX4_open q84 (by decide) (Nat.le_of_ble_eq_true rfl) (k_resV (ci := 3) (av := [.int ((h37 x0 2) + 1)]) (rest := []) (fs_7 hF8) (by decide) rfl rfl q1010 q975 q976 q977 mhX4_open mnX4_open dX12_judge_60) (fun h39 g40 H => ?_)
  refine V_aload_n dX12_judge_63 rfl 2 rfl ?_
  refine V_aload_n dX12_judge_64 rfl 1 rfl ?_
  obtain ⟨b41, z42, H⟩ := H
  refine H_getr ck10 4 (by decide) z15 (by decide) rfl z42 q823 dX12_judge_65 ?_
  refine V_iload_n dX12_judge_68 rfl 3 rfl ?_
  refine G_calli (av := [.ref (ad D 7), .ref (ad D b41), .int x2]) (rest := []) H mqX4_judge q84 (by decide) (Nat.le_of_ble_eq_true rfl) (k_resV (ci := 3) (av := [.ref (ad D b41), .int x2]) (rest := []) (fs_7 hF8) (by decide) rfl rfl q1003 q979 q980 q981 mhX4_judge mnX4_judge dX12_judge_69) (fun y43 F46 h44 g45 hF47 H => ?_) (fun a e F1 h1 g1 hF1 ha ht => GT_i hF1 rfl ha ht)
  refine V_istore (l1 := [(4, .int y43), (3, .int y4), (0, .ref (ad D x0)), (1, .ref (ad D 7)), (2, .int x2)]) dX12_judge_72 (by decide) rfl ?_
  refine V_aload_n dX12_judge_74 rfl 3 rfl ?_
  refine V_iconst (v := 2) dX12_judge_75 (by decide) ?_
  refine H_callv (av := [.ref (ad D 7), .int 2]) (rest := []) H mqX4_close q84 (by decide) (Nat.le_of_ble_eq_true rfl) (k_resV (ci := 3) (av := [.int 2]) (rest := []) (fs_7 hF47) (by decide) rfl rfl q1011 q1012 q1013 q1014 mhX4_close mnX4_close dX12_judge_76) (fun h49 g50 H => ?_)
  refine V_iload dX12_judge_79 0 rfl ?_
  exact G_iret hF47 rfl dX12_judge_81 H
theorem wX12_judge {D : DE} {f : Nat} {Q : Int32 → Frm → HI → HL → Prop} {T : Nat → Frm → HI → HL → Prop} {F : Frm} {h : HI} {g : HL} (hF : k_Fix F) (x0 : Nat) (x2 : Int32) (H : JX12_judge_0 D f Q T F h g x0 x2) : Gi D (f + 1) mX12_judge [.ref (ad D x0), .ref (ad D 7), .int x2] F h g Q T := Cl.ofV (by decide) (Nat.le_of_ble_eq_true rfl) rfl (bX12_judge_0 hF x0 x2 H)
theorem dX12_ask_0 : decode cX12_ask 0 = .ok (.aload_n 0, 1) := by decide +kernel
theorem dX12_ask_1 : decode cX12_ask 1 = .ok (.getfield 19, 3) := by decide +kernel
theorem dX12_ask_4 : decode cX12_ask 4 = .ok (.aload_n 1, 1) := by decide +kernel
theorem dX12_ask_5 : decode cX12_ask 5 = .ok (.iload_n 2, 1) := by decide +kernel
theorem dX12_ask_6 : decode cX12_ask 6 = .ok (.aload_n 3, 1) := by decide +kernel
theorem dX12_ask_7 : decode cX12_ask 7 = .ok (.iload 4, 2) := by decide +kernel
theorem dX12_ask_9 : decode cX12_ask 9 = .ok (.invokevirtual 51, 3) := by decide +kernel
theorem dX12_ask_12 : decode cX12_ask 12 = .ok (.aload_n 0, 1) := by decide +kernel
theorem dX12_ask_13 : decode cX12_ask 13 = .ok (.getfield 15, 3) := by decide +kernel
theorem dX12_ask_16 : decode cX12_ask 16 = .ok (.aload_n 1, 1) := by decide +kernel
theorem dX12_ask_17 : decode cX12_ask 17 = .ok (.aload_n 0, 1) := by decide +kernel
theorem dX12_ask_18 : decode cX12_ask 18 = .ok (.getfield 15, 3) := by decide +kernel
theorem dX12_ask_21 : decode cX12_ask 21 = .ok (.getfield 55, 3) := by decide +kernel
theorem dX12_ask_24 : decode cX12_ask 24 = .ok (.aload_n 3, 1) := by decide +kernel
theorem dX12_ask_25 : decode cX12_ask 25 = .ok (.getfield 58, 3) := by decide +kernel
theorem dX12_ask_28 : decode cX12_ask 28 = .ok (.aload_n 0, 1) := by decide +kernel
theorem dX12_ask_29 : decode cX12_ask 29 = .ok (.getfield 9, 3) := by decide +kernel
theorem dX12_ask_32 : decode cX12_ask 32 = .ok (.iaload, 1) := by decide +kernel
theorem dX12_ask_33 : decode cX12_ask 33 = .ok (.aload_n 3, 1) := by decide +kernel
theorem dX12_ask_34 : decode cX12_ask 34 = .ok (.getfield 58, 3) := by decide +kernel
theorem dX12_ask_37 : decode cX12_ask 37 = .ok (.aload_n 0, 1) := by decide +kernel
theorem dX12_ask_38 : decode cX12_ask 38 = .ok (.getfield 9, 3) := by decide +kernel
theorem dX12_ask_41 : decode cX12_ask 41 = .ok (.iconst 1, 1) := by decide +kernel
theorem dX12_ask_42 : decode cX12_ask 42 = .ok (.iadd, 1) := by decide +kernel
theorem dX12_ask_43 : decode cX12_ask 43 = .ok (.iaload, 1) := by decide +kernel
theorem dX12_ask_44 : decode cX12_ask 44 = .ok (.invokestatic 63, 3) := by decide +kernel
theorem dX12_ask_47 : decode cX12_ask 47 = .ok (.aload_n 3, 1) := by decide +kernel
theorem dX12_ask_48 : decode cX12_ask 48 = .ok (.iload 4, 2) := by decide +kernel
theorem dX12_ask_50 : decode cX12_ask 50 = .ok (.invokevirtual 51, 3) := by decide +kernel
theorem dX12_ask_53 : decode cX12_ask 53 = .ok (.return_, 1) := by decide +kernel
abbrev JX12_ask_0 (D : DE) (f : Nat) (Q : HI → HL → Prop) (F : Frm) (h : HI) (g : HL) (x0 : Nat) (x2 : Int32) (x3 : Nat) (x4 : Int32) : Prop := F.2.1 x0 = (20, 0) ∧ ∃ b2 : Nat, F.2.2 x0 4 = some b2 ∧ ∃ k4 : Nat, isE F b2 k4 ∧ Sv D f (v_ask k4) [.ref (ad D b2), .ref (ad D 9), .int x2, .ref (ad D x3), .int x4] F h g (fun h6 g7 => ∃ b8 : Nat, F.2.2 x0 3 = some b8 ∧ ∃ b10 : Nat, F.2.2 x0 3 = some b10 ∧ ∃ k12 : Nat, isE F b10 k12 ∧ F.2.1 x3 = (15, 0) ∧ ∃ b15 : Nat, F.2.2 x3 0 = some b15 ∧ ∃ m17 : Nat, F.2.1 b15 = (0, m17) ∧ vp_in (h6 x0 2) m17 ∧ ∃ b20 : Nat, F.2.2 x3 0 = some b20 ∧ ∃ m22 : Nat, F.2.1 b20 = (0, m22) ∧ vp_in ((h6 x0 2) + 1) m22 ∧ Si D f mX1_both [.int (h6 b10 1), .int (h6 b15 (ix (h6 x0 2))), .int (h6 b20 (ix ((h6 x0 2) + 1)))] F h6 g7 (fun y25 h26 g27 => ∃ k28 : Nat, isE F b8 k28 ∧ Sv D f (v_ask k28) [.ref (ad D b8), .ref (ad D 9), .int y25, .ref (ad D x3), .int x4] F h26 g27 (fun h30 g31 => Q h30 g31)))
theorem bX12_ask_0 {D : DE} {f : Nat} {Q : HI → HL → Prop} {F : Frm} {h : HI} {g : HL} (hF : k_Fix F) (x0 : Nat) (x2 : Int32) (x3 : Nat) (x4 : Int32) (H : JX12_ask_0 D f Q F h g x0 x2 x3 x4) : V D mX12_ask (f + 1) (qv F Q) 0 [(0, .ref (ad D x0)), (1, .ref (ad D 9)), (2, .int x2), (3, .ref (ad D x3)), (4, .int x4)] [] (F, h, g) := by
  refine V_aload_n dX12_ask_0 rfl 0 rfl ?_
  obtain ⟨z1, H⟩ := H
  obtain ⟨b2, z3, H⟩ := H
  refine H_getr ck10 4 (by decide) z1 (by decide) rfl z3 q823 dX12_ask_1 ?_
  refine V_aload_n dX12_ask_4 rfl 1 rfl ?_
  refine V_iload_n dX12_ask_5 rfl 2 rfl ?_
  refine V_aload_n dX12_ask_6 rfl 3 rfl ?_
  refine V_iload dX12_ask_7 4 rfl ?_
  obtain ⟨k4, z5, H⟩ := H
  refine H_callv (av := [.ref (ad D b2), .ref (ad D 9), .int x2, .ref (ad D x3), .int x4]) (rest := []) H (vq_ask z5.2.1 z5.2.2) (vi_ask z5.2.1 z5.2.2) (vl_ask z5.2.1 z5.2.2) (Nat.le_of_ble_eq_true rfl) (vr_ask (av := [.ref (ad D 9), .int x2, .ref (ad D x3), .int x4]) (rest := []) z5 rfl q1194 dX12_ask_9) (fun h6 g7 H => ?_)
  refine V_aload_n dX12_ask_12 rfl 0 rfl ?_
  obtain ⟨b8, z9, H⟩ := H
  refine H_getr ck10 3 (by decide) z1 (by decide) rfl z9 q822 dX12_ask_13 ?_
  refine V_aload_n dX12_ask_16 rfl 1 rfl ?_
  refine V_aload_n dX12_ask_17 rfl 0 rfl ?_
  obtain ⟨b10, z11, H⟩ := H
  refine H_getr ck10 3 (by decide) z1 (by decide) rfl z11 q822 dX12_ask_18 ?_
  obtain ⟨k12, z13, H⟩ := H
  refine X_get_type z13 q798 dX12_ask_21 ?_
  refine V_aload_n dX12_ask_24 rfl 3 rfl ?_
  obtain ⟨z14, H⟩ := H
  obtain ⟨b15, z16, H⟩ := H
  refine H_getrN ck5 0 (by decide) z14 (by decide) rfl z16 q241 dX12_ask_25 ?_
  refine V_aload_n dX12_ask_28 rfl 0 rfl ?_
  refine H_geti ck10 2 (by decide) z1 (by decide) rfl q821 dX12_ask_29 ?_
  obtain ⟨m17, z18, H⟩ := H
  obtain ⟨i19, H⟩ := H
  refine H_iald z18 i19 dX12_ask_32 ?_
  refine V_aload_n dX12_ask_33 rfl 3 rfl ?_
  obtain ⟨b20, z21, H⟩ := H
  refine H_getrN ck5 0 (by decide) z14 (by decide) rfl z21 q241 dX12_ask_34 ?_
  refine V_aload_n dX12_ask_37 rfl 0 rfl ?_
  refine H_geti ck10 2 (by decide) z1 (by decide) rfl q821 dX12_ask_38 ?_
  refine V_iconst (v := 1) dX12_ask_41 (by decide) ?_
  refine V_iadd dX12_ask_42 ?_
  obtain ⟨m22, z23, H⟩ := H
  obtain ⟨i24, H⟩ := H
  refine H_iald z23 i24 dX12_ask_43 ?_
  refine H_calli (av := [.int (h6 b10 1), .int (h6 b15 (ix (h6 x0 2))), .int (h6 b20 (ix ((h6 x0 2) + 1)))]) (rest := [.ref (ad D 9), .ref (ad D b8)]) H mqX1_both q81 (by decide) (Nat.le_of_ble_eq_true rfl) (k_resSN (av := [.int (h6 b10 1), .int (h6 b15 (ix (h6 x0 2))), .int (h6 b20 (ix ((h6 x0 2) + 1)))]) (rest := [.ref (ad D 9), .ref (ad D b8)]) (M1 := mX1_both) rfl q1249 q1223 q81 mqX1_both (fun _ _ h => mW_named h) mhX1_both mnX1_both dX12_ask_44) (fun y25 h26 g27 H => ?_)
  refine V_aload_n dX12_ask_47 rfl 3 rfl ?_
  refine V_iload dX12_ask_48 4 rfl ?_
  obtain ⟨k28, z29, H⟩ := H
  refine H_callv (av := [.ref (ad D b8), .ref (ad D 9), .int y25, .ref (ad D x3), .int x4]) (rest := []) H (vq_ask z29.2.1 z29.2.2) (vi_ask z29.2.1 z29.2.2) (vl_ask z29.2.1 z29.2.2) (Nat.le_of_ble_eq_true rfl) (vr_ask (av := [.ref (ad D 9), .int y25, .ref (ad D x3), .int x4]) (rest := []) z29 rfl q1194 dX12_ask_50) (fun h30 g31 H => ?_)
  exact H_vret rfl dX12_ask_53 H
theorem wX12_ask {D : DE} {f : Nat} {Q : HI → HL → Prop} {F : Frm} {h : HI} {g : HL} (hF : k_Fix F) (x0 : Nat) (x2 : Int32) (x3 : Nat) (x4 : Int32) (H : JX12_ask_0 D f Q F h g x0 x2 x3 x4) : Sv D (f + 1) mX12_ask [.ref (ad D x0), .ref (ad D 9), .int x2, .ref (ad D x3), .int x4] F h g Q := Cl.ofV (by decide) (Nat.le_of_ble_eq_true rfl) rfl (bX12_ask_0 hF x0 x2 x3 x4 H)
theorem dX12_work_0 : decode cX12_work 0 = .ok (.aload_n 1, 1) := by decide +kernel
theorem dX12_work_1 : decode cX12_work 1 = .ok (.aload_n 0, 1) := by decide +kernel
theorem dX12_work_2 : decode cX12_work 2 = .ok (.getfield 15, 3) := by decide +kernel
theorem dX12_work_5 : decode cX12_work 5 = .ok (.iload_n 2, 1) := by decide +kernel
theorem dX12_work_6 : decode cX12_work 6 = .ok (.invokevirtual 67, 3) := by decide +kernel
theorem dX12_work_9 : decode cX12_work 9 = .ok (.istore_n 3, 1) := by decide +kernel
theorem dX12_work_10 : decode cX12_work 10 = .ok (.aload_n 1, 1) := by decide +kernel
theorem dX12_work_11 : decode cX12_work 11 = .ok (.getfield 72, 3) := by decide +kernel
theorem dX12_work_14 : decode cX12_work 14 = .ok (.ifCond .ne 39, 3) := by decide +kernel
theorem dX12_work_17 : decode cX12_work 17 = .ok (.aload_n 1, 1) := by decide +kernel
theorem dX12_work_18 : decode cX12_work 18 = .ok (.getfield 75, 3) := by decide +kernel
theorem dX12_work_21 : decode cX12_work 21 = .ok (.iload_n 2, 1) := by decide +kernel
theorem dX12_work_22 : decode cX12_work 22 = .ok (.aload_n 0, 1) := by decide +kernel
theorem dX12_work_23 : decode cX12_work 23 = .ok (.getfield 9, 3) := by decide +kernel
theorem dX12_work_26 : decode cX12_work 26 = .ok (.iadd, 1) := by decide +kernel
theorem dX12_work_27 : decode cX12_work 27 = .ok (.aload_n 1, 1) := by decide +kernel
theorem dX12_work_28 : decode cX12_work 28 = .ok (.getfield 78, 3) := by decide +kernel
theorem dX12_work_31 : decode cX12_work 31 = .ok (.iload_n 3, 1) := by decide +kernel
theorem dX12_work_32 : decode cX12_work 32 = .ok (.iaload, 1) := by decide +kernel
theorem dX12_work_33 : decode cX12_work 33 = .ok (.iastore, 1) := by decide +kernel
theorem dX12_work_34 : decode cX12_work 34 = .ok (.aload_n 1, 1) := by decide +kernel
theorem dX12_work_35 : decode cX12_work 35 = .ok (.getfield 75, 3) := by decide +kernel
theorem dX12_work_38 : decode cX12_work 38 = .ok (.iload_n 2, 1) := by decide +kernel
theorem dX12_work_39 : decode cX12_work 39 = .ok (.aload_n 0, 1) := by decide +kernel
theorem dX12_work_40 : decode cX12_work 40 = .ok (.getfield 9, 3) := by decide +kernel
theorem dX12_work_43 : decode cX12_work 43 = .ok (.iadd, 1) := by decide +kernel
theorem dX12_work_44 : decode cX12_work 44 = .ok (.iconst 1, 1) := by decide +kernel
theorem dX12_work_45 : decode cX12_work 45 = .ok (.iadd, 1) := by decide +kernel
theorem dX12_work_46 : decode cX12_work 46 = .ok (.aload_n 1, 1) := by decide +kernel
theorem dX12_work_47 : decode cX12_work 47 = .ok (.getfield 81, 3) := by decide +kernel
theorem dX12_work_50 : decode cX12_work 50 = .ok (.iload_n 3, 1) := by decide +kernel
theorem dX12_work_51 : decode cX12_work 51 = .ok (.iaload, 1) := by decide +kernel
theorem dX12_work_52 : decode cX12_work 52 = .ok (.iastore, 1) := by decide +kernel
theorem dX12_work_53 : decode cX12_work 53 = .ok (.aload_n 1, 1) := by decide +kernel
theorem dX12_work_54 : decode cX12_work 54 = .ok (.aload_n 0, 1) := by decide +kernel
theorem dX12_work_55 : decode cX12_work 55 = .ok (.getfield 19, 3) := by decide +kernel
theorem dX12_work_58 : decode cX12_work 58 = .ok (.iload_n 2, 1) := by decide +kernel
theorem dX12_work_59 : decode cX12_work 59 = .ok (.invokevirtual 67, 3) := by decide +kernel
theorem dX12_work_62 : decode cX12_work 62 = .ok (.ireturn, 1) := by decide +kernel
abbrev JX12_work_53 (D : DE) (f : Nat) (Q : Int32 → Frm → HI → HL → Prop) (T : Nat → Frm → HI → HL → Prop) (F : Frm) (h : HI) (g : HL) (x0 : Nat) (x2 : Int32) : Prop := F.2.1 x0 = (20, 0) ∧ ∃ b2 : Nat, F.2.2 x0 4 = some b2 ∧ Gi D f mX7_work [.ref (ad D 101), .ref (ad D b2), .int x2] F h g (fun y4 F7 h5 g6 => Q y4 F7 h5 g6) T
theorem bX12_work_53 {D : DE} {f : Nat} {Q : Int32 → Frm → HI → HL → Prop} {T : Nat → Frm → HI → HL → Prop} {F : Frm} {h : HI} {g : HL} (hF : k_Fix F) (x0 : Nat) (x2 : Int32) (H : JX12_work_53 D f Q T F h g x0 x2) : V D mX12_work (f + 1) (gi Q T) 53 [(0, .ref (ad D x0)), (1, .ref (ad D 101)), (2, .int x2)] [] (F, h, g) := by
  refine V_aload_n dX12_work_53 rfl 1 rfl ?_
  refine V_aload_n dX12_work_54 rfl 0 rfl ?_
  obtain ⟨z1, H⟩ := H
  obtain ⟨b2, z3, H⟩ := H
  refine H_getr ck10 4 (by decide) z1 (by decide) rfl z3 q823 dX12_work_55 ?_
  refine V_iload_n dX12_work_58 rfl 2 rfl ?_
  refine G_calli (av := [.ref (ad D 101), .ref (ad D b2), .int x2]) (rest := []) H mqX7_work q87 (by decide) (Nat.le_of_ble_eq_true rfl) (k_resV (ci := 6) (av := [.ref (ad D b2), .int x2]) (rest := []) (fs_101 hF) (by decide) rfl rfl q1380 q1339 q1340 q1341 mhX7_work mnX7_work dX12_work_59) (fun y4 F7 h5 g6 hF8 H => ?_) (fun a e F1 h1 g1 hF1 ha ht => GT_i hF1 rfl ha ht)
  exact G_iret hF8 rfl dX12_work_62 H
abbrev JX12_work_0 (D : DE) (f : Nat) (Q : Int32 → Frm → HI → HL → Prop) (T : Nat → Frm → HI → HL → Prop) (F : Frm) (h : HI) (g : HL) (x0 : Nat) (x2 : Int32) : Prop := F.2.1 x0 = (20, 0) ∧ ∃ b2 : Nat, F.2.2 x0 3 = some b2 ∧ Gi D f mX7_work [.ref (ad D 101), .ref (ad D b2), .int x2] F h g (fun y4 F7 h5 g6 => ((¬ (h5 101 16) = 0 → JX12_work_53 D f Q T F7 h5 g6 x0 x2) ∧ ((h5 101 16) = 0 → F7.2.1 x0 = (20, 0) ∧ vp_in y4 1540 ∧ vp_in (x2 + (h5 x0 2)) 24016 ∧ ∀ h14, h14 = up2 h5 108 (ix (x2 + (h5 x0 2))) (h5 106 (ix y4)) → vp_in y4 1540 ∧ vp_in ((x2 + (h14 x0 2)) + 1) 24016 ∧ ∀ h18, h18 = up2 h14 108 (ix ((x2 + (h14 x0 2)) + 1)) (h14 107 (ix y4)) → JX12_work_53 D f Q T F7 h18 g6 x0 x2))) T
theorem bX12_work_0 {D : DE} {f : Nat} {Q : Int32 → Frm → HI → HL → Prop} {T : Nat → Frm → HI → HL → Prop} {F : Frm} {h : HI} {g : HL} (hF : k_Fix F) (x0 : Nat) (x2 : Int32) (H : JX12_work_0 D f Q T F h g x0 x2) : V D mX12_work (f + 1) (gi Q T) 0 [(0, .ref (ad D x0)), (1, .ref (ad D 101)), (2, .int x2)] [] (F, h, g) := by
  refine V_aload_n dX12_work_0 rfl 1 rfl ?_
  refine V_aload_n dX12_work_1 rfl 0 rfl ?_
  obtain ⟨z1, H⟩ := H
  obtain ⟨b2, z3, H⟩ := H
  refine H_getr ck10 3 (by decide) z1 (by decide) rfl z3 q822 dX12_work_2 ?_
  refine V_iload_n dX12_work_5 rfl 2 rfl ?_
  refine G_calli (av := [.ref (ad D 101), .ref (ad D b2), .int x2]) (rest := []) H mqX7_work q87 (by decide) (Nat.le_of_ble_eq_true rfl) (k_resV (ci := 6) (av := [.ref (ad D b2), .int x2]) (rest := []) (fs_101 hF) (by decide) rfl rfl q1380 q1339 q1340 q1341 mhX7_work mnX7_work dX12_work_6) (fun y4 F7 h5 g6 hF8 H => ?_) (fun a e F1 h1 g1 hF1 ha ht => GT_i hF1 rfl ha ht)
  refine V_istore_n (l1 := [(3, .int y4), (0, .ref (ad D x0)), (1, .ref (ad D 101)), (2, .int x2)]) dX12_work_9 rfl (by decide) rfl ?_
  refine V_aload_n dX12_work_10 rfl 2 rfl ?_
  refine H_getiN ck6 16 (by decide) (fs_101 hF8) (by decide) rfl q310 dX12_work_11 ?_
  refine V_if_ne (tgt := 53) dX12_work_14 (by decide) (fun c10 => ?_) (fun c10 => ?_)
  · have H := H.1 c10
    refine V.sub [1, 2, 3] rfl ?_
    exact bX12_work_53 hF8 x0 x2 H
  · have H := H.2 c10
    refine V_aload_n dX12_work_17 rfl 2 rfl ?_
    refine H_getrN ck6 8 (by decide) (fs_101 hF8) (by decide) rfl (fr_101_8 hF8) q293 dX12_work_18 ?_
    refine V_iload_n dX12_work_21 rfl 3 rfl ?_
    refine V_aload_n dX12_work_22 rfl 1 rfl ?_
    obtain ⟨z11, H⟩ := H
    refine H_geti ck10 2 (by decide) z11 (by decide) rfl q821 dX12_work_23 ?_
    refine V_iadd dX12_work_26 ?_
    refine V_aload_n dX12_work_27 rfl 2 rfl ?_
    refine H_getrN ck6 5 (by decide) (fs_101 hF8) (by decide) rfl (fr_101_5 hF8) q284 dX12_work_28 ?_
    refine V_iload_n dX12_work_31 rfl 0 rfl ?_
    obtain ⟨i12, H⟩ := H
    refine H_iald (fs_106 hF8) i12 dX12_work_32 ?_
    obtain ⟨i13, H⟩ := H
    refine H_iast (fs_108 hF8) i13 dX12_work_33 (fun h14 e15 => ?_)
    have H := H h14 e15
    refine V_aload_n dX12_work_34 rfl 2 rfl ?_
    refine H_getrN ck6 8 (by decide) (fs_101 hF8) (by decide) rfl (fr_101_8 hF8) q293 dX12_work_35 ?_
    refine V_iload_n dX12_work_38 rfl 3 rfl ?_
    refine V_aload_n dX12_work_39 rfl 1 rfl ?_
    refine H_geti ck10 2 (by decide) z11 (by decide) rfl q821 dX12_work_40 ?_
    refine V_iadd dX12_work_43 ?_
    refine V_iconst (v := 1) dX12_work_44 (by decide) ?_
    refine V_iadd dX12_work_45 ?_
    refine V_aload_n dX12_work_46 rfl 2 rfl ?_
    refine H_getrN ck6 6 (by decide) (fs_101 hF8) (by decide) rfl (fr_101_6 hF8) q287 dX12_work_47 ?_
    refine V_iload_n dX12_work_50 rfl 0 rfl ?_
    obtain ⟨i16, H⟩ := H
    refine H_iald (fs_107 hF8) i16 dX12_work_51 ?_
    obtain ⟨i17, H⟩ := H
    refine H_iast (fs_108 hF8) i17 dX12_work_52 (fun h18 e19 => ?_)
    have H := H h18 e19
    refine V.sub [1, 2, 3] rfl ?_
    exact bX12_work_53 hF8 x0 x2 H
theorem wX12_work {D : DE} {f : Nat} {Q : Int32 → Frm → HI → HL → Prop} {T : Nat → Frm → HI → HL → Prop} {F : Frm} {h : HI} {g : HL} (hF : k_Fix F) (x0 : Nat) (x2 : Int32) (H : JX12_work_0 D f Q T F h g x0 x2) : Gi D (f + 1) mX12_work [.ref (ad D x0), .ref (ad D 101), .int x2] F h g Q T := Cl.ofV (by decide) (Nat.le_of_ble_eq_true rfl) rfl (bX12_work_0 hF x0 x2 H)
theorem dX16_init_0 : decode cX16_init 0 = .ok (.aload_n 0, 1) := by decide +kernel
theorem dX16_init_1 : decode cX16_init 1 = .ok (.iload_n 1, 1) := by decide +kernel
theorem dX16_init_2 : decode cX16_init 2 = .ok (.invokespecial 3, 3) := by decide +kernel
theorem dX16_init_5 : decode cX16_init 5 = .ok (.aload_n 0, 1) := by decide +kernel
theorem dX16_init_6 : decode cX16_init 6 = .ok (.aload_n 2, 1) := by decide +kernel
theorem dX16_init_7 : decode cX16_init 7 = .ok (.putfield 9, 3) := by decide +kernel
theorem dX16_init_10 : decode cX16_init 10 = .ok (.aload_n 0, 1) := by decide +kernel
theorem dX16_init_11 : decode cX16_init 11 = .ok (.aload_n 3, 1) := by decide +kernel
theorem dX16_init_12 : decode cX16_init 12 = .ok (.putfield 15, 3) := by decide +kernel
theorem dX16_init_15 : decode cX16_init 15 = .ok (.return_, 1) := by decide +kernel
abbrev JX16_init_0 (D : DE) (f : Nat) (Q : Frm → HI → HL → Prop) (T : Nat → Frm → HI → HL → Prop) (F : Frm) (h : HI) (g : HL) (x0 : Nat) (x1 : Int32) (x2 : Nat) (x3 : Nat) : Prop := Sv D f mX10_init [.ref (ad D x0), .int x1] F h g (fun h1 g2 => F.2.1 x0 = (24, 0) ∧ ∀ F4, F4 = fwr F x0 2 (some x2) → 160 ≤ x0 ∧ ∀ F9, F9 = fwr F4 x0 3 (some x3) → 160 ≤ x0 ∧ Q F9 h1 g2)
theorem bX16_init_0 {D : DE} {f : Nat} {Q : Frm → HI → HL → Prop} {T : Nat → Frm → HI → HL → Prop} {F : Frm} {h : HI} {g : HL} (hF : k_Fix F) (x0 : Nat) (x1 : Int32) (x2 : Nat) (x3 : Nat) (H : JX16_init_0 D f Q T F h g x0 x1 x2 x3) : V D mX16_init (f + 1) (gv Q T) 0 [(0, .ref (ad D x0)), (1, .int x1), (2, .ref (ad D x2)), (3, .ref (ad D x3))] [] (F, h, g) := by
  refine V_aload_n dX16_init_0 rfl 0 rfl ?_
  refine V_iload_n dX16_init_1 rfl 1 rfl ?_
  refine H_callv (av := [.ref (ad D x0), .int x1]) (rest := []) H mqX10_init q102 (by decide) (Nat.le_of_ble_eq_true rfl) (k_resI (av := [.int x1]) (rest := []) rfl q901 q781 q782 mhX10_init mnX10_init dX16_init_2) (fun h1 g2 H => ?_)
  refine V_aload_n dX16_init_5 rfl 0 rfl ?_
  refine V_aload_n dX16_init_6 rfl 2 rfl ?_
  obtain ⟨z3, H⟩ := H
  refine G_putrF ck14 2 (by decide) z3 (by decide) rfl (fun _ => rfl) (fun _ => rfl) rfl rfl rfl q902 dX16_init_7 (fun F4 e5 => ?_)
  have H := H F4 e5
  obtain ⟨z7, H⟩ := H
  have hF6 : k_Fix F4 := by rw [e5]; exact k_Fix.wr hF (fx_okD z7) _
  have z8 : F4.2.1 x0 = (24, 0) := by rw [e5]; exact z3
  refine V_aload_n dX16_init_10 rfl 0 rfl ?_
  refine V_aload_n dX16_init_11 rfl 3 rfl ?_
  refine G_putrF ck14 3 (by decide) z8 (by decide) rfl (fun _ => rfl) (fun _ => rfl) rfl rfl rfl q903 dX16_init_12 (fun F9 e10 => ?_)
  have H := H F9 e10
  obtain ⟨z12, H⟩ := H
  have hF11 : k_Fix F9 := by rw [e10]; exact k_Fix.wr hF6 (fx_okD z12) _
  have z13 : F9.2.1 x0 = (24, 0) := by rw [e10]; exact z8
  exact G_vret hF11 rfl dX16_init_15 H
theorem wX16_init {D : DE} {f : Nat} {Q : Frm → HI → HL → Prop} {T : Nat → Frm → HI → HL → Prop} {F : Frm} {h : HI} {g : HL} (hF : k_Fix F) (x0 : Nat) (x1 : Int32) (x2 : Nat) (x3 : Nat) (H : JX16_init_0 D f Q T F h g x0 x1 x2 x3) : Gv D (f + 1) mX16_init [.ref (ad D x0), .int x1, .ref (ad D x2), .ref (ad D x3)] F h g Q T := Cl.ofV (by decide) (Nat.le_of_ble_eq_true rfl) rfl (bX16_init_0 hF x0 x1 x2 x3 H)
theorem dX16_judge_0 : decode cX16_judge 0 = .ok (.aload_n 1, 1) := by decide +kernel
theorem dX16_judge_1 : decode cX16_judge 1 = .ok (.aload_n 0, 1) := by decide +kernel
theorem dX16_judge_2 : decode cX16_judge 2 = .ok (.getfield 9, 3) := by decide +kernel
theorem dX16_judge_5 : decode cX16_judge 5 = .ok (.iload_n 2, 1) := by decide +kernel
theorem dX16_judge_6 : decode cX16_judge 6 = .ok (.ifCond .le 10, 3) := by decide +kernel
theorem dX16_judge_9 : decode cX16_judge 9 = .ok (.iload_n 2, 1) := by decide +kernel
theorem dX16_judge_10 : decode cX16_judge 10 = .ok (.invokestatic 18, 3) := by decide +kernel
theorem dX16_judge_13 : decode cX16_judge 13 = .ok (.goto 4, 3) := by decide +kernel
theorem dX16_judge_16 : decode cX16_judge 16 = .ok (.iconst (-1), 1) := by decide +kernel
theorem dX16_judge_17 : decode cX16_judge 17 = .ok (.invokevirtual 22, 3) := by decide +kernel
theorem dX16_judge_20 : decode cX16_judge 20 = .ok (.istore_n 3, 1) := by decide +kernel
theorem dX16_judge_21 : decode cX16_judge 21 = .ok (.aload_n 1, 1) := by decide +kernel
theorem dX16_judge_22 : decode cX16_judge 22 = .ok (.aload_n 0, 1) := by decide +kernel
theorem dX16_judge_23 : decode cX16_judge 23 = .ok (.getfield 15, 3) := by decide +kernel
theorem dX16_judge_26 : decode cX16_judge 26 = .ok (.iload_n 2, 1) := by decide +kernel
theorem dX16_judge_27 : decode cX16_judge 27 = .ok (.ifCond .le 10, 3) := by decide +kernel
theorem dX16_judge_30 : decode cX16_judge 30 = .ok (.iload_n 2, 1) := by decide +kernel
theorem dX16_judge_31 : decode cX16_judge 31 = .ok (.invokestatic 28, 3) := by decide +kernel
theorem dX16_judge_34 : decode cX16_judge 34 = .ok (.goto 4, 3) := by decide +kernel
theorem dX16_judge_37 : decode cX16_judge 37 = .ok (.iconst (-1), 1) := by decide +kernel
theorem dX16_judge_38 : decode cX16_judge 38 = .ok (.invokevirtual 22, 3) := by decide +kernel
theorem dX16_judge_41 : decode cX16_judge 41 = .ok (.istore 4, 2) := by decide +kernel
theorem dX16_judge_43 : decode cX16_judge 43 = .ok (.iload_n 3, 1) := by decide +kernel
theorem dX16_judge_44 : decode cX16_judge 44 = .ok (.iload 4, 2) := by decide +kernel
theorem dX16_judge_46 : decode cX16_judge 46 = .ok (.invokestatic 31, 3) := by decide +kernel
theorem dX16_judge_49 : decode cX16_judge 49 = .ok (.ireturn, 1) := by decide +kernel
abbrev JX16_judge_38 (D : DE) (f : Nat) (Q : Int32 → Frm → HI → HL → Prop) (T : Nat → Frm → HI → HL → Prop) (F : Frm) (h : HI) (g : HL) (x3 : Int32) (s1 : Nat) (s2 : Int32) : Prop := Gi D f mX4_judge [.ref (ad D 7), .ref (ad D s1), .int s2] F h g (fun y1 F4 h2 g3 => Si D f mX1_pairOf [.int x3, .int y1] F4 h2 g3 (fun y7 h8 g9 => Q y7 F4 h8 g9)) T
theorem bX16_judge_38 {D : DE} {f : Nat} {Q : Int32 → Frm → HI → HL → Prop} {T : Nat → Frm → HI → HL → Prop} {F : Frm} {h : HI} {g : HL} (hF : k_Fix F) (x3 : Int32) (s1 : Nat) (s2 : Int32) (H : JX16_judge_38 D f Q T F h g x3 s1 s2) : V D mX16_judge (f + 1) (gi Q T) 38 [(3, .int x3)] [.int s2, .ref (ad D s1), .ref (ad D 7)] (F, h, g) := by
  refine G_calli (av := [.ref (ad D 7), .ref (ad D s1), .int s2]) (rest := []) H mqX4_judge q84 (by decide) (Nat.le_of_ble_eq_true rfl) (k_resV (ci := 3) (av := [.ref (ad D s1), .int s2]) (rest := []) (fs_7 hF) (by decide) rfl rfl q1042 q979 q980 q981 mhX4_judge mnX4_judge dX16_judge_38) (fun y1 F4 h2 g3 hF5 H => ?_) (fun a e F1 h1 g1 hF1 ha ht => GT_i hF1 rfl ha ht)
  refine V_istore (l1 := [(4, .int y1), (3, .int x3)]) dX16_judge_41 (by decide) rfl ?_
  refine V_iload_n dX16_judge_43 rfl 1 rfl ?_
  refine V_iload dX16_judge_44 0 rfl ?_
  refine H_calli (av := [.int x3, .int y1]) (rest := []) H mqX1_pairOf q81 (by decide) (Nat.le_of_ble_eq_true rfl) (k_resSN (av := [.int x3, .int y1]) (rest := []) (M1 := mX1_pairOf) rfl q1044 q761 q81 mqX1_pairOf (fun _ _ h => mW_named h) mhX1_pairOf mnX1_pairOf dX16_judge_46) (fun y7 h8 g9 H => ?_)
  exact G_iret hF5 rfl dX16_judge_49 H
abbrev JX16_judge_17 (D : DE) (f : Nat) (Q : Int32 → Frm → HI → HL → Prop) (T : Nat → Frm → HI → HL → Prop) (F : Frm) (h : HI) (g : HL) (x0 : Nat) (x2 : Int32) (s1 : Nat) (s2 : Int32) : Prop := Gi D f mX4_judge [.ref (ad D 7), .ref (ad D s1), .int s2] F h g (fun y1 F4 h2 g3 => F4.2.1 x0 = (24, 0) ∧ ∃ b8 : Nat, F4.2.2 x0 3 = some b8 ∧ ((x2 ≤ 0 → JX16_judge_38 D f Q T F4 h2 g3 y1 b8 (-1)) ∧ (¬ x2 ≤ 0 → Si D f mX1_right [.int x2] F4 h2 g3 (fun y11 h12 g13 => JX16_judge_38 D f Q T F4 h12 g13 y1 b8 y11)))) T
theorem bX16_judge_17 {D : DE} {f : Nat} {Q : Int32 → Frm → HI → HL → Prop} {T : Nat → Frm → HI → HL → Prop} {F : Frm} {h : HI} {g : HL} (hF : k_Fix F) (x0 : Nat) (x2 : Int32) (s1 : Nat) (s2 : Int32) (H : JX16_judge_17 D f Q T F h g x0 x2 s1 s2) : V D mX16_judge (f + 1) (gi Q T) 17 [(0, .ref (ad D x0)), (1, .ref (ad D 7)), (2, .int x2)] [.int s2, .ref (ad D s1), .ref (ad D 7)] (F, h, g) := by
  refine G_calli (av := [.ref (ad D 7), .ref (ad D s1), .int s2]) (rest := []) H mqX4_judge q84 (by decide) (Nat.le_of_ble_eq_true rfl) (k_resV (ci := 3) (av := [.ref (ad D s1), .int s2]) (rest := []) (fs_7 hF) (by decide) rfl rfl q1042 q979 q980 q981 mhX4_judge mnX4_judge dX16_judge_17) (fun y1 F4 h2 g3 hF5 H => ?_) (fun a e F1 h1 g1 hF1 ha ht => GT_i hF1 rfl ha ht)
  refine V_istore_n (l1 := [(3, .int y1), (0, .ref (ad D x0)), (1, .ref (ad D 7)), (2, .int x2)]) dX16_judge_20 rfl (by decide) rfl ?_
  refine V_aload_n dX16_judge_21 rfl 2 rfl ?_
  refine V_aload_n dX16_judge_22 rfl 1 rfl ?_
  obtain ⟨z7, H⟩ := H
  obtain ⟨b8, z9, H⟩ := H
  refine H_getr ck14 3 (by decide) z7 (by decide) rfl z9 q903 dX16_judge_23 ?_
  refine V_iload_n dX16_judge_26 rfl 3 rfl ?_
  refine V_if_le (tgt := 37) dX16_judge_27 (by decide) (fun c10 => ?_) (fun c10 => ?_)
  · have H := H.1 c10
    refine V_iconst (v := (-1)) dX16_judge_37 (by decide) ?_
    refine V.sub [0] rfl ?_
    exact bX16_judge_38 hF5 y1 b8 (-1) H
  · have H := H.2 c10
    refine V_iload_n dX16_judge_30 rfl 3 rfl ?_
    refine H_calli (av := [.int x2]) (rest := [.ref (ad D b8), .ref (ad D 7)]) H mqX1_right q81 (by decide) (Nat.le_of_ble_eq_true rfl) (k_resSN (av := [.int x2]) (rest := [.ref (ad D b8), .ref (ad D 7)]) (M1 := mX1_right) rfl q1043 q1008 q81 mqX1_right (fun _ _ h => mW_named h) mhX1_right mnX1_right dX16_judge_31) (fun y11 h12 g13 H => ?_)
    refine V_goto (tgt := 38) dX16_judge_34 (by decide) ?_
    refine V.sub [0] rfl ?_
    exact bX16_judge_38 hF5 y1 b8 y11 H
abbrev JX16_judge_0 (D : DE) (f : Nat) (Q : Int32 → Frm → HI → HL → Prop) (T : Nat → Frm → HI → HL → Prop) (F : Frm) (h : HI) (g : HL) (x0 : Nat) (x2 : Int32) : Prop := F.2.1 x0 = (24, 0) ∧ ∃ b2 : Nat, F.2.2 x0 2 = some b2 ∧ ((x2 ≤ 0 → JX16_judge_17 D f Q T F h g x0 x2 b2 (-1)) ∧ (¬ x2 ≤ 0 → Si D f mX1_left [.int x2] F h g (fun y5 h6 g7 => JX16_judge_17 D f Q T F h6 g7 x0 x2 b2 y5)))
theorem bX16_judge_0 {D : DE} {f : Nat} {Q : Int32 → Frm → HI → HL → Prop} {T : Nat → Frm → HI → HL → Prop} {F : Frm} {h : HI} {g : HL} (hF : k_Fix F) (x0 : Nat) (x2 : Int32) (H : JX16_judge_0 D f Q T F h g x0 x2) : V D mX16_judge (f + 1) (gi Q T) 0 [(0, .ref (ad D x0)), (1, .ref (ad D 7)), (2, .int x2)] [] (F, h, g) := by
  refine V_aload_n dX16_judge_0 rfl 1 rfl ?_
  refine V_aload_n dX16_judge_1 rfl 0 rfl ?_
  obtain ⟨z1, H⟩ := H
  obtain ⟨b2, z3, H⟩ := H
  refine H_getr ck14 2 (by decide) z1 (by decide) rfl z3 q902 dX16_judge_2 ?_
  refine V_iload_n dX16_judge_5 rfl 2 rfl ?_
  refine V_if_le (tgt := 16) dX16_judge_6 (by decide) (fun c4 => ?_) (fun c4 => ?_)
  · have H := H.1 c4
    refine V_iconst (v := (-1)) dX16_judge_16 (by decide) ?_
    exact bX16_judge_17 hF x0 x2 b2 (-1) H
  · have H := H.2 c4
    refine V_iload_n dX16_judge_9 rfl 2 rfl ?_
    refine H_calli (av := [.int x2]) (rest := [.ref (ad D b2), .ref (ad D 7)]) H mqX1_left q81 (by decide) (Nat.le_of_ble_eq_true rfl) (k_resSN (av := [.int x2]) (rest := [.ref (ad D b2), .ref (ad D 7)]) (M1 := mX1_left) rfl q1041 q1005 q81 mqX1_left (fun _ _ h => mW_named h) mhX1_left mnX1_left dX16_judge_10) (fun y5 h6 g7 H => ?_)
    refine V_goto (tgt := 17) dX16_judge_13 (by decide) ?_
    exact bX16_judge_17 hF x0 x2 b2 y5 H
theorem wX16_judge {D : DE} {f : Nat} {Q : Int32 → Frm → HI → HL → Prop} {T : Nat → Frm → HI → HL → Prop} {F : Frm} {h : HI} {g : HL} (hF : k_Fix F) (x0 : Nat) (x2 : Int32) (H : JX16_judge_0 D f Q T F h g x0 x2) : Gi D (f + 1) mX16_judge [.ref (ad D x0), .ref (ad D 7), .int x2] F h g Q T := Cl.ofV (by decide) (Nat.le_of_ble_eq_true rfl) rfl (bX16_judge_0 hF x0 x2 H)
theorem dX16_ask_0 : decode cX16_ask 0 = .ok (.aload_n 0, 1) := by decide +kernel
theorem dX16_ask_1 : decode cX16_ask 1 = .ok (.getfield 35, 3) := by decide +kernel
theorem dX16_ask_4 : decode cX16_ask 4 = .ok (.iload_n 2, 1) := by decide +kernel
theorem dX16_ask_5 : decode cX16_ask 5 = .ok (.invokestatic 39, 3) := by decide +kernel
theorem dX16_ask_8 : decode cX16_ask 8 = .ok (.ifCond .eq 22, 3) := by decide +kernel
theorem dX16_ask_11 : decode cX16_ask 11 = .ok (.aload_n 0, 1) := by decide +kernel
theorem dX16_ask_12 : decode cX16_ask 12 = .ok (.getfield 9, 3) := by decide +kernel
theorem dX16_ask_15 : decode cX16_ask 15 = .ok (.aload_n 1, 1) := by decide +kernel
theorem dX16_ask_16 : decode cX16_ask 16 = .ok (.aload_n 0, 1) := by decide +kernel
theorem dX16_ask_17 : decode cX16_ask 17 = .ok (.getfield 35, 3) := by decide +kernel
theorem dX16_ask_20 : decode cX16_ask 20 = .ok (.iload_n 2, 1) := by decide +kernel
theorem dX16_ask_21 : decode cX16_ask 21 = .ok (.invokestatic 39, 3) := by decide +kernel
theorem dX16_ask_24 : decode cX16_ask 24 = .ok (.aload_n 3, 1) := by decide +kernel
theorem dX16_ask_25 : decode cX16_ask 25 = .ok (.iload 4, 2) := by decide +kernel
theorem dX16_ask_27 : decode cX16_ask 27 = .ok (.invokevirtual 42, 3) := by decide +kernel
theorem dX16_ask_30 : decode cX16_ask 30 = .ok (.aload_n 0, 1) := by decide +kernel
theorem dX16_ask_31 : decode cX16_ask 31 = .ok (.getfield 35, 3) := by decide +kernel
theorem dX16_ask_34 : decode cX16_ask 34 = .ok (.iload_n 2, 1) := by decide +kernel
theorem dX16_ask_35 : decode cX16_ask 35 = .ok (.invokestatic 46, 3) := by decide +kernel
theorem dX16_ask_38 : decode cX16_ask 38 = .ok (.ifCond .eq 22, 3) := by decide +kernel
theorem dX16_ask_41 : decode cX16_ask 41 = .ok (.aload_n 0, 1) := by decide +kernel
theorem dX16_ask_42 : decode cX16_ask 42 = .ok (.getfield 15, 3) := by decide +kernel
theorem dX16_ask_45 : decode cX16_ask 45 = .ok (.aload_n 1, 1) := by decide +kernel
theorem dX16_ask_46 : decode cX16_ask 46 = .ok (.aload_n 0, 1) := by decide +kernel
theorem dX16_ask_47 : decode cX16_ask 47 = .ok (.getfield 35, 3) := by decide +kernel
theorem dX16_ask_50 : decode cX16_ask 50 = .ok (.iload_n 2, 1) := by decide +kernel
theorem dX16_ask_51 : decode cX16_ask 51 = .ok (.invokestatic 46, 3) := by decide +kernel
theorem dX16_ask_54 : decode cX16_ask 54 = .ok (.aload_n 3, 1) := by decide +kernel
theorem dX16_ask_55 : decode cX16_ask 55 = .ok (.iload 4, 2) := by decide +kernel
theorem dX16_ask_57 : decode cX16_ask 57 = .ok (.invokevirtual 42, 3) := by decide +kernel
theorem dX16_ask_60 : decode cX16_ask 60 = .ok (.return_, 1) := by decide +kernel
abbrev JX16_ask_30 (D : DE) (f : Nat) (Q : HI → HL → Prop) (F : Frm) (h : HI) (g : HL) (x0 : Nat) (x2 : Int32) (x3 : Nat) (x4 : Int32) : Prop := F.2.1 x0 = (24, 0) ∧ Si D f mX1_second [.int (h x0 1), .int x2] F h g (fun y2 h3 g4 => ((y2 = 0 → Q h3 g4) ∧ (¬ y2 = 0 → ∃ b6 : Nat, F.2.2 x0 3 = some b6 ∧ Si D f mX1_second [.int (h3 x0 1), .int x2] F h3 g4 (fun y8 h9 g10 => ∃ k11 : Nat, isE F b6 k11 ∧ Sv D f (v_ask k11) [.ref (ad D b6), .ref (ad D 9), .int y8, .ref (ad D x3), .int x4] F h9 g10 (fun h13 g14 => Q h13 g14)))))
theorem bX16_ask_30 {D : DE} {f : Nat} {Q : HI → HL → Prop} {F : Frm} {h : HI} {g : HL} (hF : k_Fix F) (x0 : Nat) (x2 : Int32) (x3 : Nat) (x4 : Int32) (H : JX16_ask_30 D f Q F h g x0 x2 x3 x4) : V D mX16_ask (f + 1) (qv F Q) 30 [(0, .ref (ad D x0)), (1, .ref (ad D 9)), (2, .int x2), (3, .ref (ad D x3)), (4, .int x4)] [] (F, h, g) := by
  refine V_aload_n dX16_ask_30 rfl 0 rfl ?_
  obtain ⟨z1, H⟩ := H
  refine H_getiU ck14 1 (by decide) z1 (by decide) rfl q796 q797 dX16_ask_31 ?_
  refine V_iload_n dX16_ask_34 rfl 2 rfl ?_
  refine H_calli (av := [.int (h x0 1), .int x2]) (rest := []) H mqX1_second q81 (by decide) (Nat.le_of_ble_eq_true rfl) (k_resSN (av := [.int (h x0 1), .int x2]) (rest := []) (M1 := mX1_second) rfl q1234 q1220 q81 mqX1_second (fun _ _ h => mW_named h) mhX1_second mnX1_second dX16_ask_35) (fun y2 h3 g4 H => ?_)
  refine V_if_eq (tgt := 60) dX16_ask_38 (by decide) (fun c5 => ?_) (fun c5 => ?_)
  · have H := H.1 c5
    exact H_vret rfl dX16_ask_60 H
  · have H := H.2 c5
    refine V_aload_n dX16_ask_41 rfl 0 rfl ?_
    obtain ⟨b6, z7, H⟩ := H
    refine H_getr ck14 3 (by decide) z1 (by decide) rfl z7 q903 dX16_ask_42 ?_
    refine V_aload_n dX16_ask_45 rfl 1 rfl ?_
    refine V_aload_n dX16_ask_46 rfl 0 rfl ?_
    refine H_getiU ck14 1 (by decide) z1 (by decide) rfl q796 q797 dX16_ask_47 ?_
    refine V_iload_n dX16_ask_50 rfl 2 rfl ?_
    refine H_calli (av := [.int (h3 x0 1), .int x2]) (rest := [.ref (ad D 9), .ref (ad D b6)]) H mqX1_second q81 (by decide) (Nat.le_of_ble_eq_true rfl) (k_resSN (av := [.int (h3 x0 1), .int x2]) (rest := [.ref (ad D 9), .ref (ad D b6)]) (M1 := mX1_second) rfl q1234 q1220 q81 mqX1_second (fun _ _ h => mW_named h) mhX1_second mnX1_second dX16_ask_51) (fun y8 h9 g10 H => ?_)
    refine V_aload_n dX16_ask_54 rfl 3 rfl ?_
    refine V_iload dX16_ask_55 4 rfl ?_
    obtain ⟨k11, z12, H⟩ := H
    refine H_callv (av := [.ref (ad D b6), .ref (ad D 9), .int y8, .ref (ad D x3), .int x4]) (rest := []) H (vq_ask z12.2.1 z12.2.2) (vi_ask z12.2.1 z12.2.2) (vl_ask z12.2.1 z12.2.2) (Nat.le_of_ble_eq_true rfl) (vr_ask (av := [.ref (ad D 9), .int y8, .ref (ad D x3), .int x4]) (rest := []) z12 rfl q1230 dX16_ask_57) (fun h13 g14 H => ?_)
    exact H_vret rfl dX16_ask_60 H
abbrev JX16_ask_0 (D : DE) (f : Nat) (Q : HI → HL → Prop) (F : Frm) (h : HI) (g : HL) (x0 : Nat) (x2 : Int32) (x3 : Nat) (x4 : Int32) : Prop := F.2.1 x0 = (24, 0) ∧ Si D f mX1_first [.int (h x0 1), .int x2] F h g (fun y2 h3 g4 => ((y2 = 0 → JX16_ask_30 D f Q F h3 g4 x0 x2 x3 x4) ∧ (¬ y2 = 0 → ∃ b6 : Nat, F.2.2 x0 2 = some b6 ∧ Si D f mX1_first [.int (h3 x0 1), .int x2] F h3 g4 (fun y8 h9 g10 => ∃ k11 : Nat, isE F b6 k11 ∧ Sv D f (v_ask k11) [.ref (ad D b6), .ref (ad D 9), .int y8, .ref (ad D x3), .int x4] F h9 g10 (fun h13 g14 => JX16_ask_30 D f Q F h13 g14 x0 x2 x3 x4)))))
theorem bX16_ask_0 {D : DE} {f : Nat} {Q : HI → HL → Prop} {F : Frm} {h : HI} {g : HL} (hF : k_Fix F) (x0 : Nat) (x2 : Int32) (x3 : Nat) (x4 : Int32) (H : JX16_ask_0 D f Q F h g x0 x2 x3 x4) : V D mX16_ask (f + 1) (qv F Q) 0 [(0, .ref (ad D x0)), (1, .ref (ad D 9)), (2, .int x2), (3, .ref (ad D x3)), (4, .int x4)] [] (F, h, g) := by
  refine V_aload_n dX16_ask_0 rfl 0 rfl ?_
  obtain ⟨z1, H⟩ := H
  refine H_getiU ck14 1 (by decide) z1 (by decide) rfl q796 q797 dX16_ask_1 ?_
  refine V_iload_n dX16_ask_4 rfl 2 rfl ?_
  refine H_calli (av := [.int (h x0 1), .int x2]) (rest := []) H mqX1_first q81 (by decide) (Nat.le_of_ble_eq_true rfl) (k_resSN (av := [.int (h x0 1), .int x2]) (rest := []) (M1 := mX1_first) rfl q1229 q1215 q81 mqX1_first (fun _ _ h => mW_named h) mhX1_first mnX1_first dX16_ask_5) (fun y2 h3 g4 H => ?_)
  refine V_if_eq (tgt := 30) dX16_ask_8 (by decide) (fun c5 => ?_) (fun c5 => ?_)
  · have H := H.1 c5
    exact bX16_ask_30 hF x0 x2 x3 x4 H
  · have H := H.2 c5
    refine V_aload_n dX16_ask_11 rfl 0 rfl ?_
    obtain ⟨b6, z7, H⟩ := H
    refine H_getr ck14 2 (by decide) z1 (by decide) rfl z7 q902 dX16_ask_12 ?_
    refine V_aload_n dX16_ask_15 rfl 1 rfl ?_
    refine V_aload_n dX16_ask_16 rfl 0 rfl ?_
    refine H_getiU ck14 1 (by decide) z1 (by decide) rfl q796 q797 dX16_ask_17 ?_
    refine V_iload_n dX16_ask_20 rfl 2 rfl ?_
    refine H_calli (av := [.int (h3 x0 1), .int x2]) (rest := [.ref (ad D 9), .ref (ad D b6)]) H mqX1_first q81 (by decide) (Nat.le_of_ble_eq_true rfl) (k_resSN (av := [.int (h3 x0 1), .int x2]) (rest := [.ref (ad D 9), .ref (ad D b6)]) (M1 := mX1_first) rfl q1229 q1215 q81 mqX1_first (fun _ _ h => mW_named h) mhX1_first mnX1_first dX16_ask_21) (fun y8 h9 g10 H => ?_)
    refine V_aload_n dX16_ask_24 rfl 3 rfl ?_
    refine V_iload dX16_ask_25 4 rfl ?_
    obtain ⟨k11, z12, H⟩ := H
    refine H_callv (av := [.ref (ad D b6), .ref (ad D 9), .int y8, .ref (ad D x3), .int x4]) (rest := []) H (vq_ask z12.2.1 z12.2.2) (vi_ask z12.2.1 z12.2.2) (vl_ask z12.2.1 z12.2.2) (Nat.le_of_ble_eq_true rfl) (vr_ask (av := [.ref (ad D 9), .int y8, .ref (ad D x3), .int x4]) (rest := []) z12 rfl q1230 dX16_ask_27) (fun h13 g14 H => ?_)
    exact bX16_ask_30 hF x0 x2 x3 x4 H
theorem wX16_ask {D : DE} {f : Nat} {Q : HI → HL → Prop} {F : Frm} {h : HI} {g : HL} (hF : k_Fix F) (x0 : Nat) (x2 : Int32) (x3 : Nat) (x4 : Int32) (H : JX16_ask_0 D f Q F h g x0 x2 x3 x4) : Sv D (f + 1) mX16_ask [.ref (ad D x0), .ref (ad D 9), .int x2, .ref (ad D x3), .int x4] F h g Q := Cl.ofV (by decide) (Nat.le_of_ble_eq_true rfl) rfl (bX16_ask_0 hF x0 x2 x3 x4 H)
theorem dX16_work_0 : decode cX16_work 0 = .ok (.aload_n 1, 1) := by decide +kernel
theorem dX16_work_1 : decode cX16_work 1 = .ok (.invokevirtual 49, 3) := by decide +kernel
theorem dX16_work_4 : decode cX16_work 4 = .ok (.istore_n 3, 1) := by decide +kernel
theorem dX16_work_5 : decode cX16_work 5 = .ok (.aload_n 1, 1) := by decide +kernel
theorem dX16_work_6 : decode cX16_work 6 = .ok (.getfield 55, 3) := by decide +kernel
theorem dX16_work_9 : decode cX16_work 9 = .ok (.ifCond .ne 33, 3) := by decide +kernel
theorem dX16_work_12 : decode cX16_work 12 = .ok (.aload_n 1, 1) := by decide +kernel
theorem dX16_work_13 : decode cX16_work 13 = .ok (.getfield 58, 3) := by decide +kernel
theorem dX16_work_16 : decode cX16_work 16 = .ok (.iload_n 3, 1) := by decide +kernel
theorem dX16_work_17 : decode cX16_work 17 = .ok (.aload_n 1, 1) := by decide +kernel
theorem dX16_work_18 : decode cX16_work 18 = .ok (.aload_n 0, 1) := by decide +kernel
theorem dX16_work_19 : decode cX16_work 19 = .ok (.getfield 9, 3) := by decide +kernel
theorem dX16_work_22 : decode cX16_work 22 = .ok (.iload_n 2, 1) := by decide +kernel
theorem dX16_work_23 : decode cX16_work 23 = .ok (.invokevirtual 62, 3) := by decide +kernel
theorem dX16_work_26 : decode cX16_work 26 = .ok (.iastore, 1) := by decide +kernel
theorem dX16_work_27 : decode cX16_work 27 = .ok (.aload_n 1, 1) := by decide +kernel
theorem dX16_work_28 : decode cX16_work 28 = .ok (.getfield 65, 3) := by decide +kernel
theorem dX16_work_31 : decode cX16_work 31 = .ok (.iload_n 3, 1) := by decide +kernel
theorem dX16_work_32 : decode cX16_work 32 = .ok (.aload_n 1, 1) := by decide +kernel
theorem dX16_work_33 : decode cX16_work 33 = .ok (.aload_n 0, 1) := by decide +kernel
theorem dX16_work_34 : decode cX16_work 34 = .ok (.getfield 15, 3) := by decide +kernel
theorem dX16_work_37 : decode cX16_work 37 = .ok (.iload_n 2, 1) := by decide +kernel
theorem dX16_work_38 : decode cX16_work 38 = .ok (.invokevirtual 62, 3) := by decide +kernel
theorem dX16_work_41 : decode cX16_work 41 = .ok (.iastore, 1) := by decide +kernel
theorem dX16_work_42 : decode cX16_work 42 = .ok (.iload_n 3, 1) := by decide +kernel
theorem dX16_work_43 : decode cX16_work 43 = .ok (.ireturn, 1) := by decide +kernel
abbrev JX16_work_0 (D : DE) (f : Nat) (Q : Int32 → Frm → HI → HL → Prop) (T : Nat → Frm → HI → HL → Prop) (F : Frm) (h : HI) (g : HL) (x0 : Nat) (x2 : Int32) : Prop := Si D f mX7_pair [.ref (ad D 101)] F h g (fun y1 h2 g3 => ((¬ (h2 101 16) = 0 → Q y1 F h2 g3) ∧ ((h2 101 16) = 0 → F.2.1 x0 = (24, 0) ∧ ∃ b6 : Nat, F.2.2 x0 2 = some b6 ∧ Gi D f mX7_thing [.ref (ad D 101), .ref (ad D b6), .int x2] F h2 g3 (fun y8 F11 h9 g10 => vp_in y1 1540 ∧ ∀ h15, h15 = up2 h9 106 (ix y1) y8 → F11.2.1 x0 = (24, 0) ∧ ∃ b18 : Nat, F11.2.2 x0 3 = some b18 ∧ Gi D f mX7_thing [.ref (ad D 101), .ref (ad D b18), .int x2] F11 h15 g10 (fun y20 F23 h21 g22 => vp_in y1 1540 ∧ ∀ h27, h27 = up2 h21 107 (ix y1) y20 → Q y1 F23 h27 g22) T) T)))
theorem bX16_work_0 {D : DE} {f : Nat} {Q : Int32 → Frm → HI → HL → Prop} {T : Nat → Frm → HI → HL → Prop} {F : Frm} {h : HI} {g : HL} (hF : k_Fix F) (x0 : Nat) (x2 : Int32) (H : JX16_work_0 D f Q T F h g x0 x2) : V D mX16_work (f + 1) (gi Q T) 0 [(0, .ref (ad D x0)), (1, .ref (ad D 101)), (2, .int x2)] [] (F, h, g) := by
  refine V_aload_n dX16_work_0 rfl 1 rfl ?_
  refine H_calli (av := [.ref (ad D 101)]) (rest := []) H mqX7_pair q87 (by decide) (Nat.le_of_ble_eq_true rfl) (k_resV (ci := 6) (av := []) (rest := []) (fs_101 hF) (by decide) rfl rfl q1407 q1408 q1409 q1410 mhX7_pair mnX7_pair dX16_work_1) (fun y1 h2 g3 H => ?_)
  refine V_istore_n (l1 := [(3, .int y1), (0, .ref (ad D x0)), (1, .ref (ad D 101)), (2, .int x2)]) dX16_work_4 rfl (by decide) rfl ?_
  refine V_aload_n dX16_work_5 rfl 2 rfl ?_
  refine H_getiN ck6 16 (by decide) (fs_101 hF) (by decide) rfl q309 dX16_work_6 ?_
  refine V_if_ne (tgt := 42) dX16_work_9 (by decide) (fun c4 => ?_) (fun c4 => ?_)
  · have H := H.1 c4
    refine V_iload_n dX16_work_42 rfl 0 rfl ?_
    exact G_iret hF rfl dX16_work_43 H
  · have H := H.2 c4
    refine V_aload_n dX16_work_12 rfl 2 rfl ?_
    refine H_getrN ck6 5 (by decide) (fs_101 hF) (by decide) rfl (fr_101_5 hF) q283 dX16_work_13 ?_
    refine V_iload_n dX16_work_16 rfl 0 rfl ?_
    refine V_aload_n dX16_work_17 rfl 2 rfl ?_
    refine V_aload_n dX16_work_18 rfl 1 rfl ?_
    obtain ⟨z5, H⟩ := H
    obtain ⟨b6, z7, H⟩ := H
    refine H_getr ck14 2 (by decide) z5 (by decide) rfl z7 q902 dX16_work_19 ?_
    refine V_iload_n dX16_work_22 rfl 3 rfl ?_
    refine G_calli (av := [.ref (ad D 101), .ref (ad D b6), .int x2]) (rest := [.int y1, .ref (ad D 106)]) H mqX7_thing q87 (by decide) (Nat.le_of_ble_eq_true rfl) (k_resV (ci := 6) (av := [.ref (ad D b6), .int x2]) (rest := [.int y1, .ref (ad D 106)]) (fs_101 hF) (by decide) rfl rfl q1411 q1358 q1359 q1360 mhX7_thing mnX7_thing dX16_work_23) (fun y8 F11 h9 g10 hF12 H => ?_) (fun a e F1 h1 g1 hF1 ha ht => GT_i hF1 rfl ha ht)
    obtain ⟨i14, H⟩ := H
    refine H_iast (fs_106 hF12) i14 dX16_work_26 (fun h15 e16 => ?_)
    have H := H h15 e16
    refine V_aload_n dX16_work_27 rfl 2 rfl ?_
    refine H_getrN ck6 6 (by decide) (fs_101 hF12) (by decide) rfl (fr_101_6 hF12) q286 dX16_work_28 ?_
    refine V_iload_n dX16_work_31 rfl 0 rfl ?_
    refine V_aload_n dX16_work_32 rfl 2 rfl ?_
    refine V_aload_n dX16_work_33 rfl 1 rfl ?_
    obtain ⟨z17, H⟩ := H
    obtain ⟨b18, z19, H⟩ := H
    refine H_getr ck14 3 (by decide) z17 (by decide) rfl z19 q903 dX16_work_34 ?_
    refine V_iload_n dX16_work_37 rfl 3 rfl ?_
    refine G_calli (av := [.ref (ad D 101), .ref (ad D b18), .int x2]) (rest := [.int y1, .ref (ad D 107)]) H mqX7_thing q87 (by decide) (Nat.le_of_ble_eq_true rfl) (k_resV (ci := 6) (av := [.ref (ad D b18), .int x2]) (rest := [.int y1, .ref (ad D 107)]) (fs_101 hF12) (by decide) rfl rfl q1411 q1358 q1359 q1360 mhX7_thing mnX7_thing dX16_work_38) (fun y20 F23 h21 g22 hF24 H => ?_) (fun a e F1 h1 g1 hF1 ha ht => GT_i hF1 rfl ha ht)
    obtain ⟨i26, H⟩ := H
    refine H_iast (fs_107 hF24) i26 dX16_work_41 (fun h27 e28 => ?_)
    have H := H h27 e28
    refine V_iload_n dX16_work_42 rfl 0 rfl ?_
    exact G_iret hF24 rfl dX16_work_43 H
theorem wX16_work {D : DE} {f : Nat} {Q : Int32 → Frm → HI → HL → Prop} {T : Nat → Frm → HI → HL → Prop} {F : Frm} {h : HI} {g : HL} (hF : k_Fix F) (x0 : Nat) (x2 : Int32) (H : JX16_work_0 D f Q T F h g x0 x2) : Gi D (f + 1) mX16_work [.ref (ad D x0), .ref (ad D 101), .int x2] F h g Q T := Cl.ofV (by decide) (Nat.le_of_ble_eq_true rfl) rfl (bX16_work_0 hF x0 x2 H)
theorem dX17_init_0 : decode cX17_init 0 = .ok (.aload_n 0, 1) := by decide +kernel
theorem dX17_init_1 : decode cX17_init 1 = .ok (.iload_n 1, 1) := by decide +kernel
theorem dX17_init_2 : decode cX17_init 2 = .ok (.invokespecial 3, 3) := by decide +kernel
theorem dX17_init_5 : decode cX17_init 5 = .ok (.aload_n 0, 1) := by decide +kernel
theorem dX17_init_6 : decode cX17_init 6 = .ok (.iconst 4, 1) := by decide +kernel
theorem dX17_init_7 : decode cX17_init 7 = .ok (.anewarray 4, 3) := by decide +kernel
theorem dX17_init_10 : decode cX17_init 10 = .ok (.putfield 9, 3) := by decide +kernel
theorem dX17_init_13 : decode cX17_init 13 = .ok (.return_, 1) := by decide +kernel
abbrev JX17_init_0 (D : DE) (f : Nat) (Q : Frm → HI → HL → Prop) (T : Nat → Frm → HI → HL → Prop) (F : Frm) (h : HI) (g : HL) (x0 : Nat) (x1 : Int32) : Prop := Sv D f mX10_init [.ref (ad D x0), .int x1] F h g (fun h1 g2 => 160 ≤ F.1.1 ∧ ∀ F4 h5 g6, F4 = fnw F (5, 4) 4 → h5 = up1 h1 F.1.1 (fun _ => 0) → g6 = up1 g2 F.1.1 (fun _ => 0) → F4.2.1 x0 = (25, 0) ∧ ∀ F13, F13 = fwr F4 x0 3 (some F.1.1) → 160 ≤ x0 ∧ Q F13 h5 g6)
theorem bX17_init_0 {D : DE} {f : Nat} {Q : Frm → HI → HL → Prop} {T : Nat → Frm → HI → HL → Prop} {F : Frm} {h : HI} {g : HL} (hF : k_Fix F) (x0 : Nat) (x1 : Int32) (H : JX17_init_0 D f Q T F h g x0 x1) : V D mX17_init (f + 1) (gv Q T) 0 [(0, .ref (ad D x0)), (1, .int x1)] [] (F, h, g) := by
  refine V_aload_n dX17_init_0 rfl 0 rfl ?_
  refine V_iload_n dX17_init_1 rfl 1 rfl ?_
  refine H_callv (av := [.ref (ad D x0), .int x1]) (rest := []) H mqX10_init q102 (by decide) (Nat.le_of_ble_eq_true rfl) (k_resI (av := [.int x1]) (rest := []) rfl q920 q781 q782 mhX10_init mnX10_init dX17_init_2) (fun h1 g2 H => ?_)
  refine V_aload_n dX17_init_5 rfl 0 rfl ?_
  refine V_iconst (v := 4) dX17_init_6 (by decide) ?_
  obtain ⟨z3, H⟩ := H
  refine G_anew (t := 5) (N := 4) rfl (by decide) (by decide) q921 (fun _ h => h.2.2.2.1) (by decide) (by decide) (by decide) dX17_init_7 (fun F4 h5 g6 e7 e8 e9 => ?_)
  have H := H F4 h5 g6 e7 e8 e9
  have hF10 : k_Fix F4 := by rw [e7]; exact k_Fix.new hF z3 _ _
  have z11 : F4.2.1 F.1.1 = (5, 4) := by rw [e7]; simp [fnw, up0]
  obtain ⟨z12, H⟩ := H
  refine G_putrF ck15 3 (by decide) z12 (by decide) rfl (fun _ => rfl) (fun _ => rfl) rfl rfl rfl q923 dX17_init_10 (fun F13 e14 => ?_)
  have H := H F13 e14
  obtain ⟨z16, H⟩ := H
  have hF15 : k_Fix F13 := by rw [e14]; exact k_Fix.wr hF10 (fx_okD z16) _
  have z17 : F13.2.1 F.1.1 = (5, 4) := by rw [e14]; exact z11
  have z18 : F13.2.1 x0 = (25, 0) := by rw [e14]; exact z12
  exact G_vret hF15 rfl dX17_init_13 H
theorem wX17_init {D : DE} {f : Nat} {Q : Frm → HI → HL → Prop} {T : Nat → Frm → HI → HL → Prop} {F : Frm} {h : HI} {g : HL} (hF : k_Fix F) (x0 : Nat) (x1 : Int32) (H : JX17_init_0 D f Q T F h g x0 x1) : Gv D (f + 1) mX17_init [.ref (ad D x0), .int x1] F h g Q T := Cl.ofV (by decide) (Nat.le_of_ble_eq_true rfl) rfl (bX17_init_0 hF x0 x1 H)
theorem dX17_judge_0 : decode cX17_judge 0 = .ok (.aload_n 0, 1) := by decide +kernel
theorem dX17_judge_1 : decode cX17_judge 1 = .ok (.aload_n 1, 1) := by decide +kernel
theorem dX17_judge_2 : decode cX17_judge 2 = .ok (.aload_n 0, 1) := by decide +kernel
theorem dX17_judge_3 : decode cX17_judge 3 = .ok (.getfield 15, 3) := by decide +kernel
theorem dX17_judge_6 : decode cX17_judge 6 = .ok (.invokevirtual 19, 3) := by decide +kernel
theorem dX17_judge_9 : decode cX17_judge 9 = .ok (.putfield 25, 3) := by decide +kernel
theorem dX17_judge_12 : decode cX17_judge 12 = .ok (.aload_n 1, 1) := by decide +kernel
theorem dX17_judge_13 : decode cX17_judge 13 = .ok (.aload_n 0, 1) := by decide +kernel
theorem dX17_judge_14 : decode cX17_judge 14 = .ok (.getfield 29, 3) := by decide +kernel
theorem dX17_judge_17 : decode cX17_judge 17 = .ok (.aload_n 0, 1) := by decide +kernel
theorem dX17_judge_18 : decode cX17_judge 18 = .ok (.getfield 25, 3) := by decide +kernel
theorem dX17_judge_21 : decode cX17_judge 21 = .ok (.getfield 32, 3) := by decide +kernel
theorem dX17_judge_24 : decode cX17_judge 24 = .ok (.if_icmp .ne 7, 3) := by decide +kernel
theorem dX17_judge_27 : decode cX17_judge 27 = .ok (.iconst 1, 1) := by decide +kernel
theorem dX17_judge_28 : decode cX17_judge 28 = .ok (.goto 4, 3) := by decide +kernel
theorem dX17_judge_31 : decode cX17_judge 31 = .ok (.iconst 0, 1) := by decide +kernel
theorem dX17_judge_32 : decode cX17_judge 32 = .ok (.iconst 5, 1) := by decide +kernel
theorem dX17_judge_33 : decode cX17_judge 33 = .ok (.aload_n 0, 1) := by decide +kernel
theorem dX17_judge_34 : decode cX17_judge 34 = .ok (.getfield 15, 3) := by decide +kernel
theorem dX17_judge_37 : decode cX17_judge 37 = .ok (.invokevirtual 37, 3) := by decide +kernel
theorem dX17_judge_40 : decode cX17_judge 40 = .ok (.iconst 0, 1) := by decide +kernel
theorem dX17_judge_41 : decode cX17_judge 41 = .ok (.istore_n 3, 1) := by decide +kernel
theorem dX17_judge_42 : decode cX17_judge 42 = .ok (.iload_n 3, 1) := by decide +kernel
theorem dX17_judge_43 : decode cX17_judge 43 = .ok (.aload_n 0, 1) := by decide +kernel
theorem dX17_judge_44 : decode cX17_judge 44 = .ok (.getfield 29, 3) := by decide +kernel
theorem dX17_judge_47 : decode cX17_judge 47 = .ok (.if_icmp .ge 29, 3) := by decide +kernel
theorem dX17_judge_50 : decode cX17_judge 50 = .ok (.aload_n 1, 1) := by decide +kernel
theorem dX17_judge_51 : decode cX17_judge 51 = .ok (.aload_n 0, 1) := by decide +kernel
theorem dX17_judge_52 : decode cX17_judge 52 = .ok (.getfield 9, 3) := by decide +kernel
theorem dX17_judge_55 : decode cX17_judge 55 = .ok (.iload_n 3, 1) := by decide +kernel
theorem dX17_judge_56 : decode cX17_judge 56 = .ok (.aaload, 1) := by decide +kernel
theorem dX17_judge_57 : decode cX17_judge 57 = .ok (.aload_n 0, 1) := by decide +kernel
theorem dX17_judge_58 : decode cX17_judge 58 = .ok (.getfield 25, 3) := by decide +kernel
theorem dX17_judge_61 : decode cX17_judge 61 = .ok (.getfield 41, 3) := by decide +kernel
theorem dX17_judge_64 : decode cX17_judge 64 = .ok (.iload_n 3, 1) := by decide +kernel
theorem dX17_judge_65 : decode cX17_judge 65 = .ok (.iaload, 1) := by decide +kernel
theorem dX17_judge_66 : decode cX17_judge 66 = .ok (.invokevirtual 45, 3) := by decide +kernel
theorem dX17_judge_69 : decode cX17_judge 69 = .ok (.pop, 1) := by decide +kernel
theorem dX17_judge_70 : decode cX17_judge 70 = .ok (.iinc 3 1, 3) := by decide +kernel
theorem dX17_judge_73 : decode cX17_judge 73 = .ok (.goto (-31), 3) := by decide +kernel
theorem dX17_judge_76 : decode cX17_judge 76 = .ok (.aload_n 0, 1) := by decide +kernel
theorem dX17_judge_77 : decode cX17_judge 77 = .ok (.getfield 25, 3) := by decide +kernel
theorem dX17_judge_80 : decode cX17_judge 80 = .ok (.getfield 49, 3) := by decide +kernel
theorem dX17_judge_83 : decode cX17_judge 83 = .ok (.ireturn, 1) := by decide +kernel
abbrev JX17_judge_42 (D : DE) (f : Nat) (Q : Int32 → Frm → HI → HL → Prop) (T : Nat → Frm → HI → HL → Prop) (F : Frm) (h : HI) (g : HL) (x0 : Nat) (x3 : Int32) : Prop := F.2.1 x0 = (25, 0) ∧ (((h x0 4) ≤ x3 → ∃ b3 : Nat, F.2.2 x0 2 = some b3 ∧ F.2.1 b3 = (18, 0) ∧ Q (h b3 3) F h g) ∧ (¬ (h x0 4) ≤ x3 → ∃ b6 : Nat, F.2.2 x0 3 = some b6 ∧ ∃ m8 : Nat, F.2.1 b6 = (5, m8) ∧ vp_in x3 m8 ∧ ∃ b11 : Nat, F.2.2 b6 (ix x3) = some b11 ∧ ∃ b13 : Nat, F.2.2 x0 2 = some b13 ∧ F.2.1 b13 = (18, 0) ∧ ∃ b16 : Nat, F.2.2 b13 5 = some b16 ∧ ∃ m18 : Nat, F.2.1 b16 = (0, m18) ∧ vp_in x3 m18 ∧ Gi D f mX4_judge [.ref (ad D 7), .ref (ad D b11), .int (h b16 (ix x3))] F h g (fun y21 F24 h22 g23 => ∀ y27 : Int32, y27 = x3 + 1 → V D mX17_judge (f + 1) (gi Q T) 42 [(0, .ref (ad D x0)), (1, .ref (ad D 7)), (3, .int y27)] [] (F24, h22, g23)) T))
theorem bX17_judge_42 {D : DE} {f : Nat} {Q : Int32 → Frm → HI → HL → Prop} {T : Nat → Frm → HI → HL → Prop} {F : Frm} {h : HI} {g : HL} (hF : k_Fix F) (x0 : Nat) (x3 : Int32) (H : JX17_judge_42 D f Q T F h g x0 x3) : V D mX17_judge (f + 1) (gi Q T) 42 [(0, .ref (ad D x0)), (1, .ref (ad D 7)), (3, .int x3)] [] (F, h, g) := by
  refine V_iload_n dX17_judge_42 rfl 2 rfl ?_
  refine V_aload_n dX17_judge_43 rfl 0 rfl ?_
  obtain ⟨z1, H⟩ := H
  refine H_geti ck15 4 (by decide) z1 (by decide) rfl q925 dX17_judge_44 ?_
  refine V_icmp_ge (tgt := 76) dX17_judge_47 (by decide) (fun c2 => ?_) (fun c2 => ?_)
  · have H := H.1 c2
    refine V_aload_n dX17_judge_76 rfl 0 rfl ?_
    obtain ⟨b3, z4, H⟩ := H
    refine H_getr ck15 2 (by decide) z1 (by decide) rfl z4 q922 dX17_judge_77 ?_
    obtain ⟨z5, H⟩ := H
    refine H_getiN ck8 3 (by decide) z5 (by decide) rfl q672 dX17_judge_80 ?_
    exact G_iret hF rfl dX17_judge_83 H
  · have H := H.2 c2
    refine V_aload_n dX17_judge_50 rfl 1 rfl ?_
    refine V_aload_n dX17_judge_51 rfl 0 rfl ?_
    obtain ⟨b6, z7, H⟩ := H
    refine H_getr ck15 3 (by decide) z1 (by decide) rfl z7 q923 dX17_judge_52 ?_
    refine V_iload_n dX17_judge_55 rfl 2 rfl ?_
    obtain ⟨m8, z9, H⟩ := H
    obtain ⟨i10, H⟩ := H
    obtain ⟨b11, z12, H⟩ := H
    refine H_aald z9 (by decide) (by decide) rfl i10 z12 dX17_judge_56 ?_
    refine V_aload_n dX17_judge_57 rfl 0 rfl ?_
    obtain ⟨b13, z14, H⟩ := H
    refine H_getr ck15 2 (by decide) z1 (by decide) rfl z14 q922 dX17_judge_58 ?_
    obtain ⟨z15, H⟩ := H
    obtain ⟨b16, z17, H⟩ := H
    refine H_getrN ck8 5 (by decide) z15 (by decide) rfl z17 q683 dX17_judge_61 ?_
    refine V_iload_n dX17_judge_64 rfl 2 rfl ?_
    obtain ⟨m18, z19, H⟩ := H
    obtain ⟨i20, H⟩ := H
    refine H_iald z19 i20 dX17_judge_65 ?_
    refine G_calli (av := [.ref (ad D 7), .ref (ad D b11), .int (h b16 (ix x3))]) (rest := []) H mqX4_judge q84 (by decide) (Nat.le_of_ble_eq_true rfl) (k_resV (ci := 3) (av := [.ref (ad D b11), .int (h b16 (ix x3))]) (rest := []) (fs_7 hF) (by decide) rfl rfl q999 q979 q980 q981 mhX4_judge mnX4_judge dX17_judge_66) (fun y21 F24 h22 g23 hF25 H => ?_) (fun a e F1 h1 g1 hF1 ha ht => GT_i hF1 rfl ha ht)
    refine V_pop dX17_judge_69 rfl ?_
    obtain ⟨y27, e28⟩ : ∃ y : Int32, y = x3 + 1 := ⟨_, rfl⟩
    have H := H y27 e28
    refine V_iinc (j := 2) (v := y27) (l1 := [(3, .int y27), (0, .ref (ad D x0)), (1, .ref (ad D 7))]) dX17_judge_70 rfl (by rw [e28]; rfl) (by decide) rfl ?_
    refine V_goto (tgt := 42) dX17_judge_73 (by decide) ?_
    refine V.sub [1, 2, 0] rfl ?_
    exact H
abbrev JX17_judge_32 (D : DE) (f : Nat) (Q : Int32 → Frm → HI → HL → Prop) (T : Nat → Frm → HI → HL → Prop) (F : Frm) (h : HI) (g : HL) (x0 : Nat) (s1 : Int32) : Prop := F.2.1 x0 = (25, 0) ∧ Gv D f mX4_want [.ref (ad D 7), .int s1, .int 5, .int (h x0 0)] F h g (fun F4 h2 g3 => V D mX17_judge (f + 1) (gi Q T) 42 [(0, .ref (ad D x0)), (1, .ref (ad D 7)), (3, .int 0)] [] (F4, h2, g3)) T
theorem bX17_judge_32 {D : DE} {f : Nat} {Q : Int32 → Frm → HI → HL → Prop} {T : Nat → Frm → HI → HL → Prop} {F : Frm} {h : HI} {g : HL} (hF : k_Fix F) (x0 : Nat) (s1 : Int32) (H : JX17_judge_32 D f Q T F h g x0 s1) : V D mX17_judge (f + 1) (gi Q T) 32 [(0, .ref (ad D x0)), (1, .ref (ad D 7))] [.int s1, .ref (ad D 7)] (F, h, g) := by
  refine V_iconst (v := 5) dX17_judge_32 (by decide) ?_
  refine V_aload_n dX17_judge_33 rfl 0 rfl ?_
  obtain ⟨z1, H⟩ := H
  refine H_getiU ck15 0 (by decide) z1 (by decide) rfl q789 q790 dX17_judge_34 ?_
  refine G_callv (av := [.ref (ad D 7), .int s1, .int 5, .int (h x0 0)]) (rest := []) H mqX4_want q84 (by decide) (Nat.le_of_ble_eq_true rfl) (k_resV (ci := 3) (av := [.int s1, .int 5, .int (h x0 0)]) (rest := []) (fs_7 hF) (by decide) rfl rfl q998 q994 q995 q996 mhX4_want mnX4_want dX17_judge_37) (fun F4 h2 g3 hF5 H => ?_) (fun a e F1 h1 g1 hF1 ha ht => GT_i hF1 rfl ha ht)
  refine V_iconst (v := 0) dX17_judge_40 (by decide) ?_
  refine V_istore_n (l1 := [(3, .int 0), (0, .ref (ad D x0)), (1, .ref (ad D 7))]) dX17_judge_41 rfl (by decide) rfl ?_
  refine V.sub [1, 2, 0] rfl ?_
  exact H
abbrev JX17_judge_0 (D : DE) (f : Nat) (Q : Int32 → Frm → HI → HL → Prop) (T : Nat → Frm → HI → HL → Prop) (F : Frm) (h : HI) (g : HL) (x0 : Nat) (x2 : Int32) : Prop := F.2.1 x0 = (25, 0) ∧ Gr D f mX4_function [.ref (ad D 7), .int (h x0 0)] F h g (fun b2 F5 h3 g4 => F5.2.1 x0 = (25, 0) ∧ ∀ F9, F9 = fwr F5 x0 2 (some b2) → 160 ≤ x0 ∧ ∃ b14 : Nat, F9.2.2 x0 2 = some b14 ∧ F9.2.1 b14 = (18, 0) ∧ ((¬ (h3 x0 4) = (h3 b14 1) → JX17_judge_32 D f Q T F9 h3 g4 x0 0) ∧ ((h3 x0 4) = (h3 b14 1) → JX17_judge_32 D f Q T F9 h3 g4 x0 1))) T
theorem bX17_judge_0 {D : DE} {f : Nat} {Q : Int32 → Frm → HI → HL → Prop} {T : Nat → Frm → HI → HL → Prop} {F : Frm} {h : HI} {g : HL} (hF : k_Fix F) (x0 : Nat) (x2 : Int32) (H : JX17_judge_0 D f Q T F h g x0 x2) : V D mX17_judge (f + 1) (gi Q T) 0 [(0, .ref (ad D x0)), (1, .ref (ad D 7)), (2, .int x2)] [] (F, h, g) := by
  refine V_aload_n dX17_judge_0 rfl 0 rfl ?_
  refine V_aload_n dX17_judge_1 rfl 1 rfl ?_
  refine V_aload_n dX17_judge_2 rfl 0 rfl ?_
  obtain ⟨z1, H⟩ := H
  refine H_getiU ck15 0 (by decide) z1 (by decide) rfl q789 q790 dX17_judge_3 ?_
  refine G_callr (av := [.ref (ad D 7), .int (h x0 0)]) (rest := [.ref (ad D x0)]) H mqX4_function q84 (by decide) (Nat.le_of_ble_eq_true rfl) (k_resV (ci := 3) (av := [.int (h x0 0)]) (rest := [.ref (ad D x0)]) (fs_7 hF) (by decide) rfl rfl q988 q989 q990 q991 mhX4_function mnX4_function dX17_judge_6) (fun b2 F5 h3 g4 hF6 H => ?_) (fun a e F1 h1 g1 hF1 ha ht => GT_i hF1 rfl ha ht)
  obtain ⟨z8, H⟩ := H
  refine G_putr ck15 2 (by decide) z8 (by decide) rfl (fun _ => rfl) (fun _ => rfl) rfl q922 dX17_judge_9 (fun F9 e10 => ?_)
  have H := H F9 e10
  obtain ⟨z12, H⟩ := H
  have hF11 : k_Fix F9 := by rw [e10]; exact k_Fix.wr hF6 (fx_okD z12) _
  have z13 : F9.2.1 x0 = (25, 0) := by rw [e10]; exact z8
  refine V_aload_n dX17_judge_12 rfl 1 rfl ?_
  refine V_aload_n dX17_judge_13 rfl 0 rfl ?_
  refine H_geti ck15 4 (by decide) z13 (by decide) rfl q925 dX17_judge_14 ?_
  refine V_aload_n dX17_judge_17 rfl 0 rfl ?_
  obtain ⟨b14, z15, H⟩ := H
  refine H_getr ck15 2 (by decide) z13 (by decide) rfl z15 q922 dX17_judge_18 ?_
  obtain ⟨z16, H⟩ := H
  refine H_getiN ck8 1 (by decide) z16 (by decide) rfl q662 dX17_judge_21 ?_
  refine V_icmp_ne (tgt := 31) dX17_judge_24 (by decide) (fun c17 => ?_) (fun c17 => ?_)
  · have H := H.1 c17
    refine V_iconst (v := 0) dX17_judge_31 (by decide) ?_
    refine V.sub [0, 1] rfl ?_
    exact bX17_judge_32 hF11 x0 0 H
  · have H := H.2 c17
    refine V_iconst (v := 1) dX17_judge_27 (by decide) ?_
    refine V_goto (tgt := 32) dX17_judge_28 (by decide) ?_
    refine V.sub [0, 1] rfl ?_
    exact bX17_judge_32 hF11 x0 1 H
theorem wX17_judge {D : DE} {f : Nat} {Q : Int32 → Frm → HI → HL → Prop} {T : Nat → Frm → HI → HL → Prop} {F : Frm} {h : HI} {g : HL} (hF : k_Fix F) (x0 : Nat) (x2 : Int32) (H : JX17_judge_0 D f Q T F h g x0 x2) : Gi D (f + 1) mX17_judge [.ref (ad D x0), .ref (ad D 7), .int x2] F h g Q T := Cl.ofV (by decide) (Nat.le_of_ble_eq_true rfl) rfl (bX17_judge_0 hF x0 x2 H)
theorem dX17_ask_0 : decode cX17_ask 0 = .ok (.aload_n 3, 1) := by decide +kernel
theorem dX17_ask_1 : decode cX17_ask 1 = .ok (.dup, 1) := by decide +kernel
theorem dX17_ask_2 : decode cX17_ask 2 = .ok (.getfield 52, 3) := by decide +kernel
theorem dX17_ask_5 : decode cX17_ask 5 = .ok (.aload_n 0, 1) := by decide +kernel
theorem dX17_ask_6 : decode cX17_ask 6 = .ok (.getfield 25, 3) := by decide +kernel
theorem dX17_ask_9 : decode cX17_ask 9 = .ok (.getfield 58, 3) := by decide +kernel
theorem dX17_ask_12 : decode cX17_ask 12 = .ok (.iload_n 2, 1) := by decide +kernel
theorem dX17_ask_13 : decode cX17_ask 13 = .ok (.baload, 1) := by decide +kernel
theorem dX17_ask_14 : decode cX17_ask 14 = .ok (.ior, 1) := by decide +kernel
theorem dX17_ask_15 : decode cX17_ask 15 = .ok (.putfield 52, 3) := by decide +kernel
theorem dX17_ask_18 : decode cX17_ask 18 = .ok (.iconst 0, 1) := by decide +kernel
theorem dX17_ask_19 : decode cX17_ask 19 = .ok (.istore 5, 2) := by decide +kernel
theorem dX17_ask_21 : decode cX17_ask 21 = .ok (.iload 5, 2) := by decide +kernel
theorem dX17_ask_23 : decode cX17_ask 23 = .ok (.aload_n 0, 1) := by decide +kernel
theorem dX17_ask_24 : decode cX17_ask 24 = .ok (.getfield 29, 3) := by decide +kernel
theorem dX17_ask_27 : decode cX17_ask 27 = .ok (.if_icmp .ge 58, 3) := by decide +kernel
theorem dX17_ask_30 : decode cX17_ask 30 = .ok (.aload_n 0, 1) := by decide +kernel
theorem dX17_ask_31 : decode cX17_ask 31 = .ok (.getfield 25, 3) := by decide +kernel
theorem dX17_ask_34 : decode cX17_ask 34 = .ok (.getfield 58, 3) := by decide +kernel
theorem dX17_ask_37 : decode cX17_ask 37 = .ok (.iload_n 2, 1) := by decide +kernel
theorem dX17_ask_38 : decode cX17_ask 38 = .ok (.baload, 1) := by decide +kernel
theorem dX17_ask_39 : decode cX17_ask 39 = .ok (.ifCond .ne 46, 3) := by decide +kernel
theorem dX17_ask_42 : decode cX17_ask 42 = .ok (.aload_n 0, 1) := by decide +kernel
theorem dX17_ask_43 : decode cX17_ask 43 = .ok (.getfield 25, 3) := by decide +kernel
theorem dX17_ask_46 : decode cX17_ask 46 = .ok (.getfield 62, 3) := by decide +kernel
theorem dX17_ask_49 : decode cX17_ask 49 = .ok (.iconst 4, 1) := by decide +kernel
theorem dX17_ask_50 : decode cX17_ask 50 = .ok (.iload_n 2, 1) := by decide +kernel
theorem dX17_ask_51 : decode cX17_ask 51 = .ok (.imul, 1) := by decide +kernel
theorem dX17_ask_52 : decode cX17_ask 52 = .ok (.iload 5, 2) := by decide +kernel
theorem dX17_ask_54 : decode cX17_ask 54 = .ok (.iadd, 1) := by decide +kernel
theorem dX17_ask_55 : decode cX17_ask 55 = .ok (.iaload, 1) := by decide +kernel
theorem dX17_ask_56 : decode cX17_ask 56 = .ok (.istore 6, 2) := by decide +kernel
theorem dX17_ask_58 : decode cX17_ask 58 = .ok (.iload 6, 2) := by decide +kernel
theorem dX17_ask_60 : decode cX17_ask 60 = .ok (.ifCond .eq 19, 3) := by decide +kernel
theorem dX17_ask_63 : decode cX17_ask 63 = .ok (.aload_n 0, 1) := by decide +kernel
theorem dX17_ask_64 : decode cX17_ask 64 = .ok (.getfield 9, 3) := by decide +kernel
theorem dX17_ask_67 : decode cX17_ask 67 = .ok (.iload 5, 2) := by decide +kernel
theorem dX17_ask_69 : decode cX17_ask 69 = .ok (.aaload, 1) := by decide +kernel
theorem dX17_ask_70 : decode cX17_ask 70 = .ok (.aload_n 1, 1) := by decide +kernel
theorem dX17_ask_71 : decode cX17_ask 71 = .ok (.iload 6, 2) := by decide +kernel
theorem dX17_ask_73 : decode cX17_ask 73 = .ok (.aload_n 3, 1) := by decide +kernel
theorem dX17_ask_74 : decode cX17_ask 74 = .ok (.iload 4, 2) := by decide +kernel
theorem dX17_ask_76 : decode cX17_ask 76 = .ok (.invokevirtual 65, 3) := by decide +kernel
theorem dX17_ask_79 : decode cX17_ask 79 = .ok (.iinc 5 1, 3) := by decide +kernel
theorem dX17_ask_82 : decode cX17_ask 82 = .ok (.goto (-61), 3) := by decide +kernel
theorem dX17_ask_85 : decode cX17_ask 85 = .ok (.return_, 1) := by decide +kernel
abbrev JX17_ask_79 (D : DE) (f : Nat) (Q : HI → HL → Prop) (F : Frm) (h : HI) (g : HL) (x0 : Nat) (x2 : Int32) (x3 : Nat) (x4 : Int32) (x5 : Int32) : Prop := ∀ y1 : Int32, y1 = x5 + 1 → V D mX17_ask (f + 1) (qv F Q) 21 [(0, .ref (ad D x0)), (1, .ref (ad D 9)), (2, .int x2), (3, .ref (ad D x3)), (4, .int x4), (5, .int y1)] [] (F, h, g)
theorem bX17_ask_79 {D : DE} {f : Nat} {Q : HI → HL → Prop} {F : Frm} {h : HI} {g : HL} (hF : k_Fix F) (x0 : Nat) (x2 : Int32) (x3 : Nat) (x4 : Int32) (x5 : Int32) (H : JX17_ask_79 D f Q F h g x0 x2 x3 x4 x5) : V D mX17_ask (f + 1) (qv F Q) 79 [(0, .ref (ad D x0)), (1, .ref (ad D 9)), (2, .int x2), (3, .ref (ad D x3)), (4, .int x4), (5, .int x5)] [] (F, h, g) := by
  obtain ⟨y1, e2⟩ : ∃ y : Int32, y = x5 + 1 := ⟨_, rfl⟩
  have H := H y1 e2
  refine V_iinc (j := 5) (v := y1) (l1 := [(5, .int y1), (0, .ref (ad D x0)), (1, .ref (ad D 9)), (2, .int x2), (3, .ref (ad D x3)), (4, .int x4)]) dX17_ask_79 rfl (by rw [e2]; rfl) (by decide) rfl ?_
  refine V_goto (tgt := 21) dX17_ask_82 (by decide) ?_
  refine V.sub [1, 2, 3, 4, 5, 0] rfl ?_
  exact H
abbrev JX17_ask_21 (D : DE) (f : Nat) (Q : HI → HL → Prop) (F : Frm) (h : HI) (g : HL) (x0 : Nat) (x2 : Int32) (x3 : Nat) (x4 : Int32) (x5 : Int32) : Prop := F.2.1 x0 = (25, 0) ∧ (((h x0 4) ≤ x5 → Q h g) ∧ (¬ (h x0 4) ≤ x5 → ∃ b3 : Nat, F.2.2 x0 2 = some b3 ∧ F.2.1 b3 = (18, 0) ∧ ∃ b6 : Nat, F.2.2 b3 7 = some b6 ∧ ∃ m8 : Nat, F.2.1 b6 = (2, m8) ∧ vp_in x2 m8 ∧ ((¬ (h b6 (ix x2)) = 0 → Q h g) ∧ ((h b6 (ix x2)) = 0 → ∃ b12 : Nat, F.2.2 x0 2 = some b12 ∧ F.2.1 b12 = (18, 0) ∧ ∃ b15 : Nat, F.2.2 b12 8 = some b15 ∧ ∃ m17 : Nat, F.2.1 b15 = (0, m17) ∧ vp_in ((4 * x2) + x5) m17 ∧ ∀ y20 : Int32, y20 = (h b15 (ix ((4 * x2) + x5))) → ((y20 = 0 → JX17_ask_79 D f Q F h g x0 x2 x3 x4 x5) ∧ (¬ y20 = 0 → ∃ b23 : Nat, F.2.2 x0 3 = some b23 ∧ ∃ m25 : Nat, F.2.1 b23 = (5, m25) ∧ vp_in x5 m25 ∧ ∃ b28 : Nat, F.2.2 b23 (ix x5) = some b28 ∧ ∃ k30 : Nat, isE F b28 k30 ∧ Sv D f (v_ask k30) [.ref (ad D b28), .ref (ad D 9), .int y20, .ref (ad D x3), .int x4] F h g (fun h32 g33 => JX17_ask_79 D f Q F h32 g33 x0 x2 x3 x4 x5)))))))
theorem bX17_ask_21 {D : DE} {f : Nat} {Q : HI → HL → Prop} {F : Frm} {h : HI} {g : HL} (hF : k_Fix F) (x0 : Nat) (x2 : Int32) (x3 : Nat) (x4 : Int32) (x5 : Int32) (H : JX17_ask_21 D f Q F h g x0 x2 x3 x4 x5) : V D mX17_ask (f + 1) (qv F Q) 21 [(0, .ref (ad D x0)), (1, .ref (ad D 9)), (2, .int x2), (3, .ref (ad D x3)), (4, .int x4), (5, .int x5)] [] (F, h, g) := by
  refine V_iload dX17_ask_21 5 rfl ?_
  refine V_aload_n dX17_ask_23 rfl 0 rfl ?_
  obtain ⟨z1, H⟩ := H
  refine H_geti ck15 4 (by decide) z1 (by decide) rfl q925 dX17_ask_24 ?_
  refine V_icmp_ge (tgt := 85) dX17_ask_27 (by decide) (fun c2 => ?_) (fun c2 => ?_)
  · have H := H.1 c2
    exact H_vret rfl dX17_ask_85 H
  · have H := H.2 c2
    refine V_aload_n dX17_ask_30 rfl 0 rfl ?_
    obtain ⟨b3, z4, H⟩ := H
    refine H_getr ck15 2 (by decide) z1 (by decide) rfl z4 q922 dX17_ask_31 ?_
    obtain ⟨z5, H⟩ := H
    obtain ⟨b6, z7, H⟩ := H
    refine H_getrN ck8 7 (by decide) z5 (by decide) rfl z7 q695 dX17_ask_34 ?_
    refine V_iload_n dX17_ask_37 rfl 2 rfl ?_
    obtain ⟨m8, z9, H⟩ := H
    obtain ⟨i10, H⟩ := H
    refine H_zald z9 i10 dX17_ask_38 ?_
    refine V_if_ne (tgt := 85) dX17_ask_39 (by decide) (fun c11 => ?_) (fun c11 => ?_)
    · have H := H.1 c11
      exact H_vret rfl dX17_ask_85 H
    · have H := H.2 c11
      refine V_aload_n dX17_ask_42 rfl 0 rfl ?_
      obtain ⟨b12, z13, H⟩ := H
      refine H_getr ck15 2 (by decide) z1 (by decide) rfl z13 q922 dX17_ask_43 ?_
      obtain ⟨z14, H⟩ := H
      obtain ⟨b15, z16, H⟩ := H
      refine H_getrN ck8 8 (by decide) z14 (by decide) rfl z16 q698 dX17_ask_46 ?_
      refine V_iconst (v := 4) dX17_ask_49 (by decide) ?_
      refine V_iload_n dX17_ask_50 rfl 2 rfl ?_
      refine V_imul dX17_ask_51 ?_
      refine V_iload dX17_ask_52 5 rfl ?_
      refine V_iadd dX17_ask_54 ?_
      obtain ⟨m17, z18, H⟩ := H
      obtain ⟨i19, H⟩ := H
      refine H_iald z18 i19 dX17_ask_55 ?_
      refine V_topi (fun y20 e21 => ?_)
      have H := H y20 e21
      refine V_istore (l1 := [(6, .int y20), (0, .ref (ad D x0)), (1, .ref (ad D 9)), (2, .int x2), (3, .ref (ad D x3)), (4, .int x4), (5, .int x5)]) dX17_ask_56 (by decide) rfl ?_
      refine V_iload dX17_ask_58 0 rfl ?_
      refine V_if_eq (tgt := 79) dX17_ask_60 (by decide) (fun c22 => ?_) (fun c22 => ?_)
      · have H := H.1 c22
        refine V.sub [1, 2, 3, 4, 5, 6] rfl ?_
        exact bX17_ask_79 hF x0 x2 x3 x4 x5 H
      · have H := H.2 c22
        refine V_aload_n dX17_ask_63 rfl 1 rfl ?_
        obtain ⟨b23, z24, H⟩ := H
        refine H_getr ck15 3 (by decide) z1 (by decide) rfl z24 q923 dX17_ask_64 ?_
        refine V_iload dX17_ask_67 6 rfl ?_
        obtain ⟨m25, z26, H⟩ := H
        obtain ⟨i27, H⟩ := H
        obtain ⟨b28, z29, H⟩ := H
        refine H_aald z26 (by decide) (by decide) rfl i27 z29 dX17_ask_69 ?_
        refine V_aload_n dX17_ask_70 rfl 2 rfl ?_
        refine V_iload dX17_ask_71 0 rfl ?_
        refine V_aload_n dX17_ask_73 rfl 4 rfl ?_
        refine V_iload dX17_ask_74 5 rfl ?_
        obtain ⟨k30, z31, H⟩ := H
        refine H_callv (av := [.ref (ad D b28), .ref (ad D 9), .int y20, .ref (ad D x3), .int x4]) (rest := []) H (vq_ask z31.2.1 z31.2.2) (vi_ask z31.2.1 z31.2.2) (vl_ask z31.2.1 z31.2.2) (Nat.le_of_ble_eq_true rfl) (vr_ask (av := [.ref (ad D 9), .int y20, .ref (ad D x3), .int x4]) (rest := []) z31 rfl q1191 dX17_ask_76) (fun h32 g33 H => ?_)
        refine V.sub [1, 2, 3, 4, 5, 6] rfl ?_
        exact bX17_ask_79 hF x0 x2 x3 x4 x5 H
abbrev JX17_ask_0 (D : DE) (f : Nat) (Q : HI → HL → Prop) (F : Frm) (h : HI) (g : HL) (x0 : Nat) (x2 : Int32) (x3 : Nat) (x4 : Int32) : Prop := F.2.1 x3 = (15, 0) ∧ F.2.1 x0 = (25, 0) ∧ ∃ b3 : Nat, F.2.2 x0 2 = some b3 ∧ F.2.1 b3 = (18, 0) ∧ ∃ b6 : Nat, F.2.2 b3 7 = some b6 ∧ ∃ m8 : Nat, F.2.1 b6 = (2, m8) ∧ vp_in x2 m8 ∧ isB ((h x3 1) ||| (h b6 (ix x2))) ∧ ∀ h11, h11 = up2 h x3 1 ((h x3 1) ||| (h b6 (ix x2))) → V D mX17_ask (f + 1) (qv F Q) 21 [(0, .ref (ad D x0)), (1, .ref (ad D 9)), (2, .int x2), (3, .ref (ad D x3)), (4, .int x4), (5, .int 0)] [] (F, h11, g)
theorem bX17_ask_0 {D : DE} {f : Nat} {Q : HI → HL → Prop} {F : Frm} {h : HI} {g : HL} (hF : k_Fix F) (x0 : Nat) (x2 : Int32) (x3 : Nat) (x4 : Int32) (H : JX17_ask_0 D f Q F h g x0 x2 x3 x4) : V D mX17_ask (f + 1) (qv F Q) 0 [(0, .ref (ad D x0)), (1, .ref (ad D 9)), (2, .int x2), (3, .ref (ad D x3)), (4, .int x4)] [] (F, h, g) := by
  refine V_aload_n dX17_ask_0 rfl 3 rfl ?_
  refine V_dup dX17_ask_1 rfl ?_
  obtain ⟨z1, H⟩ := H
  refine H_getiN ck5 1 (by decide) z1 (by decide) rfl q245 dX17_ask_2 ?_
  refine V_aload_n dX17_ask_5 rfl 0 rfl ?_
  obtain ⟨z2, H⟩ := H
  obtain ⟨b3, z4, H⟩ := H
  refine H_getr ck15 2 (by decide) z2 (by decide) rfl z4 q922 dX17_ask_6 ?_
  obtain ⟨z5, H⟩ := H
  obtain ⟨b6, z7, H⟩ := H
  refine H_getrN ck8 7 (by decide) z5 (by decide) rfl z7 q695 dX17_ask_9 ?_
  refine V_iload_n dX17_ask_12 rfl 2 rfl ?_
  obtain ⟨m8, z9, H⟩ := H
  obtain ⟨i10, H⟩ := H
  refine H_zald z9 i10 dX17_ask_13 ?_
  refine V_ior dX17_ask_14 ?_
  obtain ⟨z13, H⟩ := H
  refine H_putzN ck5 1 (by decide) z1 (by decide) rfl z13 rfl q245 dX17_ask_15 (fun h11 e12 => ?_)
  have H := H h11 e12
  refine V_iconst (v := 0) dX17_ask_18 (by decide) ?_
  refine V_istore (l1 := [(5, .int 0), (0, .ref (ad D x0)), (1, .ref (ad D 9)), (2, .int x2), (3, .ref (ad D x3)), (4, .int x4)]) dX17_ask_19 (by decide) rfl ?_
  refine V.sub [1, 2, 3, 4, 5, 0] rfl ?_
  exact H
theorem wX17_ask {D : DE} {f : Nat} {Q : HI → HL → Prop} {F : Frm} {h : HI} {g : HL} (hF : k_Fix F) (x0 : Nat) (x2 : Int32) (x3 : Nat) (x4 : Int32) (H : JX17_ask_0 D f Q F h g x0 x2 x3 x4) : Sv D (f + 1) mX17_ask [.ref (ad D x0), .ref (ad D 9), .int x2, .ref (ad D x3), .int x4] F h g Q := Cl.ofV (by decide) (Nat.le_of_ble_eq_true rfl) rfl (bX17_ask_0 hF x0 x2 x3 x4 H)
theorem dX17_work_0 : decode cX17_work 0 = .ok (.aload_n 1, 1) := by decide +kernel
theorem dX17_work_1 : decode cX17_work 1 = .ok (.invokevirtual 69, 3) := by decide +kernel
theorem dX17_work_4 : decode cX17_work 4 = .ok (.istore_n 3, 1) := by decide +kernel
theorem dX17_work_5 : decode cX17_work 5 = .ok (.iconst 0, 1) := by decide +kernel
theorem dX17_work_6 : decode cX17_work 6 = .ok (.istore 4, 2) := by decide +kernel
theorem dX17_work_8 : decode cX17_work 8 = .ok (.iload 4, 2) := by decide +kernel
theorem dX17_work_10 : decode cX17_work 10 = .ok (.aload_n 0, 1) := by decide +kernel
theorem dX17_work_11 : decode cX17_work 11 = .ok (.getfield 29, 3) := by decide +kernel
theorem dX17_work_14 : decode cX17_work 14 = .ok (.if_icmp .ge 37, 3) := by decide +kernel
theorem dX17_work_17 : decode cX17_work 17 = .ok (.aload_n 1, 1) := by decide +kernel
theorem dX17_work_18 : decode cX17_work 18 = .ok (.getfield 75, 3) := by decide +kernel
theorem dX17_work_21 : decode cX17_work 21 = .ok (.ifCond .ne 30, 3) := by decide +kernel
theorem dX17_work_24 : decode cX17_work 24 = .ok (.aload_n 1, 1) := by decide +kernel
theorem dX17_work_25 : decode cX17_work 25 = .ok (.getfield 78, 3) := by decide +kernel
theorem dX17_work_28 : decode cX17_work 28 = .ok (.iload_n 3, 1) := by decide +kernel
theorem dX17_work_29 : decode cX17_work 29 = .ok (.iload 4, 2) := by decide +kernel
theorem dX17_work_31 : decode cX17_work 31 = .ok (.iadd, 1) := by decide +kernel
theorem dX17_work_32 : decode cX17_work 32 = .ok (.aload_n 1, 1) := by decide +kernel
theorem dX17_work_33 : decode cX17_work 33 = .ok (.aload_n 0, 1) := by decide +kernel
theorem dX17_work_34 : decode cX17_work 34 = .ok (.getfield 9, 3) := by decide +kernel
theorem dX17_work_37 : decode cX17_work 37 = .ok (.iload 4, 2) := by decide +kernel
theorem dX17_work_39 : decode cX17_work 39 = .ok (.aaload, 1) := by decide +kernel
theorem dX17_work_40 : decode cX17_work 40 = .ok (.iload_n 2, 1) := by decide +kernel
theorem dX17_work_41 : decode cX17_work 41 = .ok (.invokevirtual 81, 3) := by decide +kernel
theorem dX17_work_44 : decode cX17_work 44 = .ok (.iastore, 1) := by decide +kernel
theorem dX17_work_45 : decode cX17_work 45 = .ok (.iinc 4 1, 3) := by decide +kernel
theorem dX17_work_48 : decode cX17_work 48 = .ok (.goto (-40), 3) := by decide +kernel
theorem dX17_work_51 : decode cX17_work 51 = .ok (.aload_n 1, 1) := by decide +kernel
theorem dX17_work_52 : decode cX17_work 52 = .ok (.getfield 75, 3) := by decide +kernel
theorem dX17_work_55 : decode cX17_work 55 = .ok (.ifCond .ne 18, 3) := by decide +kernel
theorem dX17_work_58 : decode cX17_work 58 = .ok (.aload_n 1, 1) := by decide +kernel
theorem dX17_work_59 : decode cX17_work 59 = .ok (.aload_n 0, 1) := by decide +kernel
theorem dX17_work_60 : decode cX17_work 60 = .ok (.getfield 25, 3) := by decide +kernel
theorem dX17_work_63 : decode cX17_work 63 = .ok (.getfield 84, 3) := by decide +kernel
theorem dX17_work_66 : decode cX17_work 66 = .ok (.iload_n 3, 1) := by decide +kernel
theorem dX17_work_67 : decode cX17_work 67 = .ok (.invokevirtual 88, 3) := by decide +kernel
theorem dX17_work_70 : decode cX17_work 70 = .ok (.goto 4, 3) := by decide +kernel
theorem dX17_work_73 : decode cX17_work 73 = .ok (.iconst 0, 1) := by decide +kernel
theorem dX17_work_74 : decode cX17_work 74 = .ok (.ireturn, 1) := by decide +kernel
abbrev JX17_work_51 (D : DE) (f : Nat) (Q : Int32 → Frm → HI → HL → Prop) (T : Nat → Frm → HI → HL → Prop) (F : Frm) (h : HI) (g : HL) (x0 : Nat) (x3 : Int32) : Prop := ((¬ (h 101 16) = 0 → Q 0 F h g) ∧ ((h 101 16) = 0 → F.2.1 x0 = (25, 0) ∧ ∃ b3 : Nat, F.2.2 x0 2 = some b3 ∧ F.2.1 b3 = (18, 0) ∧ ∃ b6 : Nat, F.2.2 b3 6 = some b6 ∧ Gi D f mX7_work [.ref (ad D 101), .ref (ad D b6), .int x3] F h g (fun y8 F11 h9 g10 => Q y8 F11 h9 g10) T))
theorem bX17_work_51 {D : DE} {f : Nat} {Q : Int32 → Frm → HI → HL → Prop} {T : Nat → Frm → HI → HL → Prop} {F : Frm} {h : HI} {g : HL} (hF : k_Fix F) (x0 : Nat) (x3 : Int32) (H : JX17_work_51 D f Q T F h g x0 x3) : V D mX17_work (f + 1) (gi Q T) 51 [(0, .ref (ad D x0)), (1, .ref (ad D 101)), (3, .int x3)] [] (F, h, g) := by
  refine V_aload_n dX17_work_51 rfl 1 rfl ?_
  refine H_getiN ck6 16 (by decide) (fs_101 hF) (by decide) rfl q311 dX17_work_52 ?_
  refine V_if_ne (tgt := 73) dX17_work_55 (by decide) (fun c1 => ?_) (fun c1 => ?_)
  · have H := H.1 c1
    refine V_iconst (v := 0) dX17_work_73 (by decide) ?_
    exact G_iret hF rfl dX17_work_74 H
  · have H := H.2 c1
    refine V_aload_n dX17_work_58 rfl 1 rfl ?_
    refine V_aload_n dX17_work_59 rfl 0 rfl ?_
    obtain ⟨z2, H⟩ := H
    obtain ⟨b3, z4, H⟩ := H
    refine H_getr ck15 2 (by decide) z2 (by decide) rfl z4 q922 dX17_work_60 ?_
    obtain ⟨z5, H⟩ := H
    obtain ⟨b6, z7, H⟩ := H
    refine H_getrN ck8 6 (by decide) z5 (by decide) rfl z7 q691 dX17_work_63 ?_
    refine V_iload_n dX17_work_66 rfl 2 rfl ?_
    refine G_calli (av := [.ref (ad D 101), .ref (ad D b6), .int x3]) (rest := []) H mqX7_work q87 (by decide) (Nat.le_of_ble_eq_true rfl) (k_resV (ci := 6) (av := [.ref (ad D b6), .int x3]) (rest := []) (fs_101 hF) (by decide) rfl rfl q1376 q1339 q1340 q1341 mhX7_work mnX7_work dX17_work_67) (fun y8 F11 h9 g10 hF12 H => ?_) (fun a e F1 h1 g1 hF1 ha ht => GT_i hF1 rfl ha ht)
    refine V_goto (tgt := 74) dX17_work_70 (by decide) ?_
    exact G_iret hF12 rfl dX17_work_74 H
abbrev JX17_work_8 (D : DE) (f : Nat) (Q : Int32 → Frm → HI → HL → Prop) (T : Nat → Frm → HI → HL → Prop) (F : Frm) (h : HI) (g : HL) (x0 : Nat) (x2 : Int32) (x3 : Int32) (x4 : Int32) : Prop := F.2.1 x0 = (25, 0) ∧ (((h x0 4) ≤ x4 → JX17_work_51 D f Q T F h g x0 x3) ∧ (¬ (h x0 4) ≤ x4 → ((¬ (h 101 16) = 0 → JX17_work_51 D f Q T F h g x0 x3) ∧ ((h 101 16) = 0 → ∃ b4 : Nat, F.2.2 x0 3 = some b4 ∧ ∃ m6 : Nat, F.2.1 b4 = (5, m6) ∧ vp_in x4 m6 ∧ ∃ b9 : Nat, F.2.2 b4 (ix x4) = some b9 ∧ Gi D f mX7_thing [.ref (ad D 101), .ref (ad D b9), .int x2] F h g (fun y11 F14 h12 g13 => vp_in (x3 + x4) 24016 ∧ ∀ h18, h18 = up2 h12 108 (ix (x3 + x4)) y11 → ∀ y20 : Int32, y20 = x4 + 1 → V D mX17_work (f + 1) (gi Q T) 8 [(0, .ref (ad D x0)), (1, .ref (ad D 101)), (2, .int x2), (3, .int x3), (4, .int y20)] [] (F14, h18, g13)) T))))
theorem bX17_work_8 {D : DE} {f : Nat} {Q : Int32 → Frm → HI → HL → Prop} {T : Nat → Frm → HI → HL → Prop} {F : Frm} {h : HI} {g : HL} (hF : k_Fix F) (x0 : Nat) (x2 : Int32) (x3 : Int32) (x4 : Int32) (H : JX17_work_8 D f Q T F h g x0 x2 x3 x4) : V D mX17_work (f + 1) (gi Q T) 8 [(0, .ref (ad D x0)), (1, .ref (ad D 101)), (2, .int x2), (3, .int x3), (4, .int x4)] [] (F, h, g) := by
  refine V_iload dX17_work_8 4 rfl ?_
  refine V_aload_n dX17_work_10 rfl 0 rfl ?_
  obtain ⟨z1, H⟩ := H
  refine H_geti ck15 4 (by decide) z1 (by decide) rfl q925 dX17_work_11 ?_
  refine V_icmp_ge (tgt := 51) dX17_work_14 (by decide) (fun c2 => ?_) (fun c2 => ?_)
  · have H := H.1 c2
    refine V.sub [0, 1, 3] rfl ?_
    exact bX17_work_51 hF x0 x3 H
  · have H := H.2 c2
    refine V_aload_n dX17_work_17 rfl 1 rfl ?_
    refine H_getiN ck6 16 (by decide) (fs_101 hF) (by decide) rfl q311 dX17_work_18 ?_
    refine V_if_ne (tgt := 51) dX17_work_21 (by decide) (fun c3 => ?_) (fun c3 => ?_)
    · have H := H.1 c3
      refine V.sub [0, 1, 3] rfl ?_
      exact bX17_work_51 hF x0 x3 H
    · have H := H.2 c3
      refine V_aload_n dX17_work_24 rfl 1 rfl ?_
      refine H_getrN ck6 8 (by decide) (fs_101 hF) (by decide) rfl (fr_101_8 hF) q294 dX17_work_25 ?_
      refine V_iload_n dX17_work_28 rfl 3 rfl ?_
      refine V_iload dX17_work_29 4 rfl ?_
      refine V_iadd dX17_work_31 ?_
      refine V_aload_n dX17_work_32 rfl 1 rfl ?_
      refine V_aload_n dX17_work_33 rfl 0 rfl ?_
      obtain ⟨b4, z5, H⟩ := H
      refine H_getr ck15 3 (by decide) z1 (by decide) rfl z5 q923 dX17_work_34 ?_
      refine V_iload dX17_work_37 4 rfl ?_
      obtain ⟨m6, z7, H⟩ := H
      obtain ⟨i8, H⟩ := H
      obtain ⟨b9, z10, H⟩ := H
      refine H_aald z7 (by decide) (by decide) rfl i8 z10 dX17_work_39 ?_
      refine V_iload_n dX17_work_40 rfl 2 rfl ?_
      refine G_calli (av := [.ref (ad D 101), .ref (ad D b9), .int x2]) (rest := [.int (x3 + x4), .ref (ad D 108)]) H mqX7_thing q87 (by decide) (Nat.le_of_ble_eq_true rfl) (k_resV (ci := 6) (av := [.ref (ad D b9), .int x2]) (rest := [.int (x3 + x4), .ref (ad D 108)]) (fs_101 hF) (by decide) rfl rfl q1357 q1358 q1359 q1360 mhX7_thing mnX7_thing dX17_work_41) (fun y11 F14 h12 g13 hF15 H => ?_) (fun a e F1 h1 g1 hF1 ha ht => GT_i hF1 rfl ha ht)
      obtain ⟨i17, H⟩ := H
      refine H_iast (fs_108 hF15) i17 dX17_work_44 (fun h18 e19 => ?_)
      have H := H h18 e19
      obtain ⟨y20, e21⟩ : ∃ y : Int32, y = x4 + 1 := ⟨_, rfl⟩
      have H := H y20 e21
      refine V_iinc (j := 4) (v := y20) (l1 := [(4, .int y20), (0, .ref (ad D x0)), (1, .ref (ad D 101)), (2, .int x2), (3, .int x3)]) dX17_work_45 rfl (by rw [e21]; rfl) (by decide) rfl ?_
      refine V_goto (tgt := 8) dX17_work_48 (by decide) ?_
      refine V.sub [1, 2, 3, 4, 0] rfl ?_
      exact H
abbrev JX17_work_0 (D : DE) (f : Nat) (Q : Int32 → Frm → HI → HL → Prop) (T : Nat → Frm → HI → HL → Prop) (F : Frm) (h : HI) (g : HL) (x0 : Nat) (x2 : Int32) : Prop := Si D f mX7_call [.ref (ad D 101)] F h g (fun y1 h2 g3 => V D mX17_work (f + 1) (gi Q T) 8 [(0, .ref (ad D x0)), (1, .ref (ad D 101)), (2, .int x2), (3, .int y1), (4, .int 0)] [] (F, h2, g3))
theorem bX17_work_0 {D : DE} {f : Nat} {Q : Int32 → Frm → HI → HL → Prop} {T : Nat → Frm → HI → HL → Prop} {F : Frm} {h : HI} {g : HL} (hF : k_Fix F) (x0 : Nat) (x2 : Int32) (H : JX17_work_0 D f Q T F h g x0 x2) : V D mX17_work (f + 1) (gi Q T) 0 [(0, .ref (ad D x0)), (1, .ref (ad D 101)), (2, .int x2)] [] (F, h, g) := by
  refine V_aload_n dX17_work_0 rfl 1 rfl ?_
  refine H_calli (av := [.ref (ad D 101)]) (rest := []) H mqX7_call q87 (by decide) (Nat.le_of_ble_eq_true rfl) (k_resV (ci := 6) (av := []) (rest := []) (fs_101 hF) (by decide) rfl rfl q1353 q1354 q1355 q1356 mhX7_call mnX7_call dX17_work_1) (fun y1 h2 g3 H => ?_)
  refine V_istore_n (l1 := [(3, .int y1), (0, .ref (ad D x0)), (1, .ref (ad D 101)), (2, .int x2)]) dX17_work_4 rfl (by decide) rfl ?_
  refine V_iconst (v := 0) dX17_work_5 (by decide) ?_
  refine V_istore (l1 := [(4, .int 0), (3, .int y1), (0, .ref (ad D x0)), (1, .ref (ad D 101)), (2, .int x2)]) dX17_work_6 (by decide) rfl ?_
  refine V.sub [2, 3, 4, 1, 0] rfl ?_
  exact H
theorem wX17_work {D : DE} {f : Nat} {Q : Int32 → Frm → HI → HL → Prop} {T : Nat → Frm → HI → HL → Prop} {F : Frm} {h : HI} {g : HL} (hF : k_Fix F) (x0 : Nat) (x2 : Int32) (H : JX17_work_0 D f Q T F h g x0 x2) : Gi D (f + 1) mX17_work [.ref (ad D x0), .ref (ad D 101), .int x2] F h g Q T := Cl.ofV (by decide) (Nat.le_of_ble_eq_true rfl) rfl (bX17_work_0 hF x0 x2 H)
