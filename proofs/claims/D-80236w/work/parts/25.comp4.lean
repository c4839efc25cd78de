/-! walks: strings, handlers (printed by gen/mkcomp2.py) -/
set_option maxRecDepth 100000
theorem dX2_wordOf_0 : decode cX2_wordOf 0 = .ok (.iconst 0, 1) := by decide +kernel
theorem dX2_wordOf_1 : decode cX2_wordOf 1 = .ok (.istore_n 2, 1) := by decide +kernel
theorem dX2_wordOf_2 : decode cX2_wordOf 2 = .ok (.iconst 0, 1) := by decide +kernel
theorem dX2_wordOf_3 : decode cX2_wordOf 3 = .ok (.istore_n 3, 1) := by decide +kernel
theorem dX2_wordOf_4 : decode cX2_wordOf 4 = .ok (.iconst 0, 1) := by decide +kernel
theorem dX2_wordOf_5 : decode cX2_wordOf 5 = .ok (.istore 4, 2) := by decide +kernel
theorem dX2_wordOf_7 : decode cX2_wordOf 7 = .ok (.iload 4, 2) := by decide +kernel
theorem dX2_wordOf_9 : decode cX2_wordOf 9 = .ok (.ldc 81, 2) := by decide +kernel
theorem dX2_wordOf_11 : decode cX2_wordOf 11 = .ok (.invokevirtual 83, 3) := by decide +kernel
theorem dX2_wordOf_14 : decode cX2_wordOf 14 = .ok (.if_icmp .ge 102, 3) := by decide +kernel
theorem dX2_wordOf_17 : decode cX2_wordOf 17 = .ok (.ldc 81, 2) := by decide +kernel
theorem dX2_wordOf_19 : decode cX2_wordOf 19 = .ok (.iload 4, 2) := by decide +kernel
theorem dX2_wordOf_21 : decode cX2_wordOf 21 = .ok (.invokevirtual 87, 3) := by decide +kernel
theorem dX2_wordOf_24 : decode cX2_wordOf 24 = .ok (.bipush 32, 2) := by decide +kernel
theorem dX2_wordOf_26 : decode cX2_wordOf 26 = .ok (.if_icmp .ne 84, 3) := by decide +kernel
theorem dX2_wordOf_29 : decode cX2_wordOf 29 = .ok (.iload 4, 2) := by decide +kernel
theorem dX2_wordOf_31 : decode cX2_wordOf 31 = .ok (.iload_n 3, 1) := by decide +kernel
theorem dX2_wordOf_32 : decode cX2_wordOf 32 = .ok (.isub, 1) := by decide +kernel
theorem dX2_wordOf_33 : decode cX2_wordOf 33 = .ok (.iload_n 1, 1) := by decide +kernel
theorem dX2_wordOf_34 : decode cX2_wordOf 34 = .ok (.if_icmp .ne 7, 3) := by decide +kernel
theorem dX2_wordOf_37 : decode cX2_wordOf 37 = .ok (.iconst 1, 1) := by decide +kernel
theorem dX2_wordOf_38 : decode cX2_wordOf 38 = .ok (.goto 4, 3) := by decide +kernel
theorem dX2_wordOf_41 : decode cX2_wordOf 41 = .ok (.iconst 0, 1) := by decide +kernel
theorem dX2_wordOf_42 : decode cX2_wordOf 42 = .ok (.istore 5, 2) := by decide +kernel
theorem dX2_wordOf_44 : decode cX2_wordOf 44 = .ok (.iconst 0, 1) := by decide +kernel
theorem dX2_wordOf_45 : decode cX2_wordOf 45 = .ok (.istore 6, 2) := by decide +kernel
theorem dX2_wordOf_47 : decode cX2_wordOf 47 = .ok (.iload 6, 2) := by decide +kernel
theorem dX2_wordOf_49 : decode cX2_wordOf 49 = .ok (.iload_n 1, 1) := by decide +kernel
theorem dX2_wordOf_50 : decode cX2_wordOf 50 = .ok (.if_icmp .ge 45, 3) := by decide +kernel
theorem dX2_wordOf_53 : decode cX2_wordOf 53 = .ok (.iload 5, 2) := by decide +kernel
theorem dX2_wordOf_55 : decode cX2_wordOf 55 = .ok (.ifCond .eq 40, 3) := by decide +kernel
theorem dX2_wordOf_58 : decode cX2_wordOf 58 = .ok (.aload_n 0, 1) := by decide +kernel
theorem dX2_wordOf_59 : decode cX2_wordOf 59 = .ok (.getfield 9, 3) := by decide +kernel
theorem dX2_wordOf_62 : decode cX2_wordOf 62 = .ok (.aload_n 0, 1) := by decide +kernel
theorem dX2_wordOf_63 : decode cX2_wordOf 63 = .ok (.getfield 52, 3) := by decide +kernel
theorem dX2_wordOf_66 : decode cX2_wordOf 66 = .ok (.iload 6, 2) := by decide +kernel
theorem dX2_wordOf_68 : decode cX2_wordOf 68 = .ok (.iadd, 1) := by decide +kernel
theorem dX2_wordOf_69 : decode cX2_wordOf 69 = .ok (.baload, 1) := by decide +kernel
theorem dX2_wordOf_70 : decode cX2_wordOf 70 = .ok (.ldc 81, 2) := by decide +kernel
theorem dX2_wordOf_72 : decode cX2_wordOf 72 = .ok (.iload_n 3, 1) := by decide +kernel
theorem dX2_wordOf_73 : decode cX2_wordOf 73 = .ok (.iload 6, 2) := by decide +kernel
theorem dX2_wordOf_75 : decode cX2_wordOf 75 = .ok (.iadd, 1) := by decide +kernel
theorem dX2_wordOf_76 : decode cX2_wordOf 76 = .ok (.invokevirtual 87, 3) := by decide +kernel
theorem dX2_wordOf_79 : decode cX2_wordOf 79 = .ok (.if_icmp .ne 7, 3) := by decide +kernel
theorem dX2_wordOf_82 : decode cX2_wordOf 82 = .ok (.iconst 1, 1) := by decide +kernel
theorem dX2_wordOf_83 : decode cX2_wordOf 83 = .ok (.goto 4, 3) := by decide +kernel
theorem dX2_wordOf_86 : decode cX2_wordOf 86 = .ok (.iconst 0, 1) := by decide +kernel
theorem dX2_wordOf_87 : decode cX2_wordOf 87 = .ok (.istore 5, 2) := by decide +kernel
theorem dX2_wordOf_89 : decode cX2_wordOf 89 = .ok (.iinc 6 1, 3) := by decide +kernel
theorem dX2_wordOf_92 : decode cX2_wordOf 92 = .ok (.goto (-45), 3) := by decide +kernel
theorem dX2_wordOf_95 : decode cX2_wordOf 95 = .ok (.iload 5, 2) := by decide +kernel
theorem dX2_wordOf_97 : decode cX2_wordOf 97 = .ok (.ifCond .eq 5, 3) := by decide +kernel
theorem dX2_wordOf_100 : decode cX2_wordOf 100 = .ok (.iload_n 2, 1) := by decide +kernel
theorem dX2_wordOf_101 : decode cX2_wordOf 101 = .ok (.ireturn, 1) := by decide +kernel
theorem dX2_wordOf_102 : decode cX2_wordOf 102 = .ok (.iinc 2 1, 3) := by decide +kernel
theorem dX2_wordOf_105 : decode cX2_wordOf 105 = .ok (.iload 4, 2) := by decide +kernel
theorem dX2_wordOf_107 : decode cX2_wordOf 107 = .ok (.iconst 1, 1) := by decide +kernel
theorem dX2_wordOf_108 : decode cX2_wordOf 108 = .ok (.iadd, 1) := by decide +kernel
theorem dX2_wordOf_109 : decode cX2_wordOf 109 = .ok (.istore_n 3, 1) := by decide +kernel
theorem dX2_wordOf_110 : decode cX2_wordOf 110 = .ok (.iinc 4 1, 3) := by decide +kernel
theorem dX2_wordOf_113 : decode cX2_wordOf 113 = .ok (.goto (-106), 3) := by decide +kernel
theorem dX2_wordOf_116 : decode cX2_wordOf 116 = .ok (.iconst (-1), 1) := by decide +kernel
theorem dX2_wordOf_117 : decode cX2_wordOf 117 = .ok (.ireturn, 1) := by decide +kernel
abbrev JX2_wordOf_110 (D : DE) (f : Nat) (Q : Int32 → HI → HL → Prop) (F : Frm) (h : HI) (g : HL) (x1 : Int32) (x2 : Int32) (x3 : Int32) (x4 : Int32) : Prop := ∀ y1 : Int32, y1 = x4 + 1 → V D mX2_wordOf (f + 1) (qi F Q) 7 [(0, .ref (ad D 1)), (1, .int x1), (2, .int x2), (3, .int x3), (4, .int y1)] [] (F, h, g)
theorem bX2_wordOf_110 {D : DE} {f : Nat} {Q : Int32 → HI → HL → Prop} {F : Frm} {h : HI} {g : HL} (hF : k_Fix F) (x1 : Int32) (x2 : Int32) (x3 : Int32) (x4 : Int32) (H : JX2_wordOf_110 D f Q F h g x1 x2 x3 x4) : V D mX2_wordOf (f + 1) (qi F Q) 110 [(0, .ref (ad D 1)), (1, .int x1), (2, .int x2), (3, .int x3), (4, .int x4)] [] (F, h, g) := by
  obtain ⟨y1, e2⟩ : ∃ y : Int32, y = x4 + 1 := ⟨_, rfl⟩
  have H := H y1 e2
  refine V_iinc (j := 4) (v := y1) (l1 := [(4, .int y1), (0, .ref (ad D 1)), (1, .int x1), (2, .int x2), (3, .int x3)]) dX2_wordOf_110 rfl (by rw [e2]; rfl) (by decide) rfl ?_
  refine V_goto (tgt := 7) dX2_wordOf_113 (by decide) ?_
  refine V.sub [1, 2, 3, 4, 0] rfl ?_
  exact H
abbrev JX2_wordOf_95 (D : DE) (f : Nat) (Q : Int32 → HI → HL → Prop) (F : Frm) (h : HI) (g : HL) (x1 : Int32) (x2 : Int32) (x4 : Int32) (x5 : Int32) : Prop := ((x5 = 0 → ∀ y2 : Int32, y2 = x2 + 1 → ∀ y4 : Int32, y4 = (x4 + 1) → JX2_wordOf_110 D f Q F h g x1 y2 y4 x4) ∧ (¬ x5 = 0 → Q x2 h g))
theorem bX2_wordOf_95 {D : DE} {f : Nat} {Q : Int32 → HI → HL → Prop} {F : Frm} {h : HI} {g : HL} (hF : k_Fix F) (x1 : Int32) (x2 : Int32) (x4 : Int32) (x5 : Int32) (H : JX2_wordOf_95 D f Q F h g x1 x2 x4 x5) : V D mX2_wordOf (f + 1) (qi F Q) 95 [(0, .ref (ad D 1)), (1, .int x1), (2, .int x2), (4, .int x4), (5, .int x5)] [] (F, h, g) := by
  refine V_iload dX2_wordOf_95 4 rfl ?_
  refine V_if_eq (tgt := 102) dX2_wordOf_97 (by decide) (fun c1 => ?_) (fun c1 => ?_)
  · have H := H.1 c1
    obtain ⟨y2, e3⟩ : ∃ y : Int32, y = x2 + 1 := ⟨_, rfl⟩
    have H := H y2 e3
    refine V_iinc (j := 2) (v := y2) (l1 := [(2, .int y2), (0, .ref (ad D 1)), (1, .int x1), (4, .int x4), (5, .int x5)]) dX2_wordOf_102 rfl (by rw [e3]; rfl) (by decide) rfl ?_
    refine V_iload dX2_wordOf_105 3 rfl ?_
    refine V_iconst (v := 1) dX2_wordOf_107 (by decide) ?_
    refine V_iadd dX2_wordOf_108 ?_
    refine V_topi (fun y4 e5 => ?_)
    have H := H y4 e5
    refine V_istore_n (l1 := [(3, .int y4), (2, .int y2), (0, .ref (ad D 1)), (1, .int x1), (4, .int x4), (5, .int x5)]) dX2_wordOf_109 rfl (by decide) rfl ?_
    refine V.sub [2, 3, 1, 0, 4] rfl ?_
    exact bX2_wordOf_110 hF x1 y2 y4 x4 H
  · have H := H.2 c1
    refine V_iload_n dX2_wordOf_100 rfl 2 rfl ?_
    exact H_iret rfl dX2_wordOf_101 H
abbrev JX2_wordOf_87 (D : DE) (f : Nat) (Q : Int32 → HI → HL → Prop) (F : Frm) (h : HI) (g : HL) (x1 : Int32) (x2 : Int32) (x3 : Int32) (x4 : Int32) (x6 : Int32) (s0 : Int32) : Prop := ∀ y1 : Int32, y1 = x6 + 1 → V D mX2_wordOf (f + 1) (qi F Q) 47 [(0, .ref (ad D 1)), (1, .int x1), (2, .int x2), (3, .int x3), (4, .int x4), (5, .int s0), (6, .int y1)] [] (F, h, g)
theorem bX2_wordOf_87 {D : DE} {f : Nat} {Q : Int32 → HI → HL → Prop} {F : Frm} {h : HI} {g : HL} (hF : k_Fix F) (x1 : Int32) (x2 : Int32) (x3 : Int32) (x4 : Int32) (x6 : Int32) (s0 : Int32) (H : JX2_wordOf_87 D f Q F h g x1 x2 x3 x4 x6 s0) : V D mX2_wordOf (f + 1) (qi F Q) 87 [(0, .ref (ad D 1)), (1, .int x1), (2, .int x2), (3, .int x3), (4, .int x4), (6, .int x6)] [.int s0] (F, h, g) := by
  refine V_istore (l1 := [(5, .int s0), (0, .ref (ad D 1)), (1, .int x1), (2, .int x2), (3, .int x3), (4, .int x4), (6, .int x6)]) dX2_wordOf_87 (by decide) rfl ?_
  obtain ⟨y1, e2⟩ : ∃ y : Int32, y = x6 + 1 := ⟨_, rfl⟩
  have H := H y1 e2
  refine V_iinc (j := 6) (v := y1) (l1 := [(6, .int y1), (5, .int s0), (0, .ref (ad D 1)), (1, .int x1), (2, .int x2), (3, .int x3), (4, .int x4)]) dX2_wordOf_89 rfl (by rw [e2]; rfl) (by decide) rfl ?_
  refine V_goto (tgt := 47) dX2_wordOf_92 (by decide) ?_
  refine V.sub [2, 3, 4, 5, 6, 1, 0] rfl ?_
  exact H
abbrev JX2_wordOf_47 (D : DE) (f : Nat) (Q : Int32 → HI → HL → Prop) (F : Frm) (h : HI) (g : HL) (x1 : Int32) (x2 : Int32) (x3 : Int32) (x4 : Int32) (x5 : Int32) (x6 : Int32) : Prop := ((x1 ≤ x6 → JX2_wordOf_95 D f Q F h g x1 x2 x4 x5) ∧ (¬ x1 ≤ x6 → ((x5 = 0 → JX2_wordOf_95 D f Q F h g x1 x2 x4 x5) ∧ (¬ x5 = 0 → vp_in ((h 1 8) + x6) 4000 ∧ Si D f mJ5_charAt [.ref (dO D 1), .int (x3 + x6)] F h g (fun y4 h5 g6 => ((¬ (h 2 (ix ((h 1 8) + x6))) = y4 → JX2_wordOf_87 D f Q F h5 g6 x1 x2 x3 x4 x6 0) ∧ ((h 2 (ix ((h 1 8) + x6))) = y4 → JX2_wordOf_87 D f Q F h5 g6 x1 x2 x3 x4 x6 1)))))))
theorem bX2_wordOf_47 {D : DE} {f : Nat} {Q : Int32 → HI → HL → Prop} {F : Frm} {h : HI} {g : HL} (hF : k_Fix F) (x1 : Int32) (x2 : Int32) (x3 : Int32) (x4 : Int32) (x5 : Int32) (x6 : Int32) (H : JX2_wordOf_47 D f Q F h g x1 x2 x3 x4 x5 x6) : V D mX2_wordOf (f + 1) (qi F Q) 47 [(0, .ref (ad D 1)), (1, .int x1), (2, .int x2), (3, .int x3), (4, .int x4), (5, .int x5), (6, .int x6)] [] (F, h, g) := by
  refine V_iload dX2_wordOf_47 6 rfl ?_
  refine V_iload_n dX2_wordOf_49 rfl 1 rfl ?_
  refine V_icmp_ge (tgt := 95) dX2_wordOf_50 (by decide) (fun c1 => ?_) (fun c1 => ?_)
  · have H := H.1 c1
    refine V.sub [0, 1, 2, 4, 5] rfl ?_
    exact bX2_wordOf_95 hF x1 x2 x4 x5 H
  · have H := H.2 c1
    refine V_iload dX2_wordOf_53 5 rfl ?_
    refine V_if_eq (tgt := 95) dX2_wordOf_55 (by decide) (fun c2 => ?_) (fun c2 => ?_)
    · have H := H.1 c2
      refine V.sub [0, 1, 2, 4, 5] rfl ?_
      exact bX2_wordOf_95 hF x1 x2 x4 x5 H
    · have H := H.2 c2
      refine V_aload_n dX2_wordOf_58 rfl 0 rfl ?_
      refine H_getr ck1 0 (by decide) (fs_1 hF) (by decide) rfl (fr_1_0 hF) q128 dX2_wordOf_59 ?_
      refine V_aload_n dX2_wordOf_62 rfl 0 rfl ?_
      refine H_geti ck1 8 (by decide) (fs_1 hF) (by decide) rfl q142 dX2_wordOf_63 ?_
      refine V_iload dX2_wordOf_66 6 rfl ?_
      refine V_iadd dX2_wordOf_68 ?_
      obtain ⟨i3, H⟩ := H
      refine H_bald (fs_2 hF) i3 dX2_wordOf_69 ?_
      refine V_ldO (t := dO D 1) (fun _ hE => hE.2.2.2.2.2.2.2.2.2.1) dX2_wordOf_70 ?_
      refine V_iload_n dX2_wordOf_72 rfl 3 rfl ?_
      refine V_iload dX2_wordOf_73 6 rfl ?_
      refine V_iadd dX2_wordOf_75 ?_
      refine H_calli (av := [.ref (dO D 1), .int (x3 + x6)]) (rest := [.int (h 2 (ix ((h 1 8) + x6)))]) H mqJ5_charAt q95 (by decide) (Nat.le_of_ble_eq_true rfl) (k_resO (av := [.int (x3 + x6)]) (rest := [.int (h 2 (ix ((h 1 8) + x6)))]) 0 (by decide) q468 q469 q470 q471 mhJ5_charAt mnJ5_charAt dX2_wordOf_76) (fun y4 h5 g6 H => ?_)
      refine V_icmp_ne (tgt := 86) dX2_wordOf_79 (by decide) (fun c7 => ?_) (fun c7 => ?_)
      · have H := H.1 c7
        refine V_iconst (v := 0) dX2_wordOf_86 (by decide) ?_
        refine V.sub [0, 1, 2, 3, 4, 6] rfl ?_
        exact bX2_wordOf_87 hF x1 x2 x3 x4 x6 0 H
      · have H := H.2 c7
        refine V_iconst (v := 1) dX2_wordOf_82 (by decide) ?_
        refine V_goto (tgt := 87) dX2_wordOf_83 (by decide) ?_
        refine V.sub [0, 1, 2, 3, 4, 6] rfl ?_
        exact bX2_wordOf_87 hF x1 x2 x3 x4 x6 1 H
abbrev JX2_wordOf_42 (D : DE) (f : Nat) (Q : Int32 → HI → HL → Prop) (F : Frm) (h : HI) (g : HL) (x1 : Int32) (x2 : Int32) (x3 : Int32) (x4 : Int32) (s0 : Int32) : Prop := V D mX2_wordOf (f + 1) (qi F Q) 47 [(0, .ref (ad D 1)), (1, .int x1), (2, .int x2), (3, .int x3), (4, .int x4), (5, .int s0), (6, .int 0)] [] (F, h, g)
theorem bX2_wordOf_42 {D : DE} {f : Nat} {Q : Int32 → HI → HL → Prop} {F : Frm} {h : HI} {g : HL} (hF : k_Fix F) (x1 : Int32) (x2 : Int32) (x3 : Int32) (x4 : Int32) (s0 : Int32) (H : JX2_wordOf_42 D f Q F h g x1 x2 x3 x4 s0) : V D mX2_wordOf (f + 1) (qi F Q) 42 [(0, .ref (ad D 1)), (1, .int x1), (2, .int x2), (3, .int x3), (4, .int x4)] [.int s0] (F, h, g) := by
  refine V_istore (l1 := [(5, .int s0), (0, .ref (ad D 1)), (1, .int x1), (2, .int x2), (3, .int x3), (4, .int x4)]) dX2_wordOf_42 (by decide) rfl ?_
  refine V_iconst (v := 0) dX2_wordOf_44 (by decide) ?_
  refine V_istore (l1 := [(6, .int 0), (5, .int s0), (0, .ref (ad D 1)), (1, .int x1), (2, .int x2), (3, .int x3), (4, .int x4)]) dX2_wordOf_45 (by decide) rfl ?_
  refine V.sub [2, 3, 4, 5, 6, 1, 0] rfl ?_
  exact H
abbrev JX2_wordOf_7 (D : DE) (f : Nat) (Q : Int32 → HI → HL → Prop) (F : Frm) (h : HI) (g : HL) (x1 : Int32) (x2 : Int32) (x3 : Int32) (x4 : Int32) : Prop := Si D f mJ5_length [.ref (dO D 1)] F h g (fun y1 h2 g3 => ((y1 ≤ x4 → Q (-1) h2 g3) ∧ (¬ y1 ≤ x4 → Si D f mJ5_charAt [.ref (dO D 1), .int x4] F h2 g3 (fun y5 h6 g7 => ((¬ y5 = 32 → JX2_wordOf_110 D f Q F h6 g7 x1 x2 x3 x4) ∧ (y5 = 32 → ((¬ (x4 - x3) = x1 → JX2_wordOf_42 D f Q F h6 g7 x1 x2 x3 x4 0) ∧ ((x4 - x3) = x1 → JX2_wordOf_42 D f Q F h6 g7 x1 x2 x3 x4 1))))))))
theorem bX2_wordOf_7 {D : DE} {f : Nat} {Q : Int32 → HI → HL → Prop} {F : Frm} {h : HI} {g : HL} (hF : k_Fix F) (x1 : Int32) (x2 : Int32) (x3 : Int32) (x4 : Int32) (H : JX2_wordOf_7 D f Q F h g x1 x2 x3 x4) : V D mX2_wordOf (f + 1) (qi F Q) 7 [(0, .ref (ad D 1)), (1, .int x1), (2, .int x2), (3, .int x3), (4, .int x4)] [] (F, h, g) := by
  refine V_iload dX2_wordOf_7 4 rfl ?_
  refine V_ldO (t := dO D 1) (fun _ hE => hE.2.2.2.2.2.2.2.2.2.1) dX2_wordOf_9 ?_
  refine H_calli (av := [.ref (dO D 1)]) (rest := [.int x4]) H mqJ5_length q95 (by decide) (Nat.le_of_ble_eq_true rfl) (k_resO (av := []) (rest := [.int x4]) 0 (by decide) q458 q459 q460 q461 mhJ5_length mnJ5_length dX2_wordOf_11) (fun y1 h2 g3 H => ?_)
  refine V_icmp_ge (tgt := 116) dX2_wordOf_14 (by decide) (fun c4 => ?_) (fun c4 => ?_)
  · have H := H.1 c4
    refine V_iconst (v := (-1)) dX2_wordOf_116 (by decide) ?_
    exact H_iret rfl dX2_wordOf_117 H
  · have H := H.2 c4
    refine V_ldO (t := dO D 1) (fun _ hE => hE.2.2.2.2.2.2.2.2.2.1) dX2_wordOf_17 ?_
    refine V_iload dX2_wordOf_19 4 rfl ?_
    refine H_calli (av := [.ref (dO D 1), .int x4]) (rest := []) H mqJ5_charAt q95 (by decide) (Nat.le_of_ble_eq_true rfl) (k_resO (av := [.int x4]) (rest := []) 0 (by decide) q468 q469 q470 q471 mhJ5_charAt mnJ5_charAt dX2_wordOf_21) (fun y5 h6 g7 H => ?_)
    refine V_bipush (v := 32) dX2_wordOf_24 (by decide) ?_
    refine V_icmp_ne (tgt := 110) dX2_wordOf_26 (by decide) (fun c8 => ?_) (fun c8 => ?_)
    · have H := H.1 c8
      exact bX2_wordOf_110 hF x1 x2 x3 x4 H
    · have H := H.2 c8
      refine V_iload dX2_wordOf_29 4 rfl ?_
      refine V_iload_n dX2_wordOf_31 rfl 3 rfl ?_
      refine V_isub dX2_wordOf_32 ?_
      refine V_iload_n dX2_wordOf_33 rfl 1 rfl ?_
      refine V_icmp_ne (tgt := 41) dX2_wordOf_34 (by decide) (fun c9 => ?_) (fun c9 => ?_)
      · have H := H.1 c9
        refine V_iconst (v := 0) dX2_wordOf_41 (by decide) ?_
        exact bX2_wordOf_42 hF x1 x2 x3 x4 0 H
      · have H := H.2 c9
        refine V_iconst (v := 1) dX2_wordOf_37 (by decide) ?_
        refine V_goto (tgt := 42) dX2_wordOf_38 (by decide) ?_
        exact bX2_wordOf_42 hF x1 x2 x3 x4 1 H
abbrev JX2_wordOf_0 (D : DE) (f : Nat) (Q : Int32 → HI → HL → Prop) (F : Frm) (h : HI) (g : HL) (x1 : Int32) : Prop := V D mX2_wordOf (f + 1) (qi F Q) 7 [(0, .ref (ad D 1)), (1, .int x1), (2, .int 0), (3, .int 0), (4, .int 0)] [] (F, h, g)
theorem bX2_wordOf_0 {D : DE} {f : Nat} {Q : Int32 → HI → HL → Prop} {F : Frm} {h : HI} {g : HL} (hF : k_Fix F) (x1 : Int32) (H : JX2_wordOf_0 D f Q F h g x1) : V D mX2_wordOf (f + 1) (qi F Q) 0 [(0, .ref (ad D 1)), (1, .int x1)] [] (F, h, g) := by
  refine V_iconst (v := 0) dX2_wordOf_0 (by decide) ?_
  refine V_istore_n (l1 := [(2, .int 0), (0, .ref (ad D 1)), (1, .int x1)]) dX2_wordOf_1 rfl (by decide) rfl ?_
  refine V_iconst (v := 0) dX2_wordOf_2 (by decide) ?_
  refine V_istore_n (l1 := [(3, .int 0), (2, .int 0), (0, .ref (ad D 1)), (1, .int x1)]) dX2_wordOf_3 rfl (by decide) rfl ?_
  refine V_iconst (v := 0) dX2_wordOf_4 (by decide) ?_
  refine V_istore (l1 := [(4, .int 0), (3, .int 0), (2, .int 0), (0, .ref (ad D 1)), (1, .int x1)]) dX2_wordOf_5 (by decide) rfl ?_
  refine V.sub [3, 4, 2, 1, 0] rfl ?_
  exact H
theorem wX2_wordOf {D : DE} {f : Nat} {Q : Int32 → HI → HL → Prop} {F : Frm} {h : HI} {g : HL} (hF : k_Fix F) (x1 : Int32) (H : JX2_wordOf_0 D f Q F h g x1) : Si D (f + 1) mX2_wordOf [.ref (ad D 1), .int x1] F h g Q := Cl.ofV (by decide) (Nat.le_of_ble_eq_true rfl) rfl (bX2_wordOf_0 hF x1 H)
theorem dX2_next_0 : decode cX2_next 0 = .ok (.aload_n 0, 1) := by decide +kernel
theorem dX2_next_1 : decode cX2_next 1 = .ok (.aload_n 0, 1) := by decide +kernel
theorem dX2_next_2 : decode cX2_next 2 = .ok (.getfield 39, 3) := by decide +kernel
theorem dX2_next_5 : decode cX2_next 5 = .ok (.invokevirtual 48, 3) := by decide +kernel
theorem dX2_next_8 : decode cX2_next 8 = .ok (.bipush 32, 2) := by decide +kernel
theorem dX2_next_10 : decode cX2_next 10 = .ok (.if_icmp .eq 16, 3) := by decide +kernel
theorem dX2_next_13 : decode cX2_next 13 = .ok (.aload_n 0, 1) := by decide +kernel
theorem dX2_next_14 : decode cX2_next 14 = .ok (.aload_n 0, 1) := by decide +kernel
theorem dX2_next_15 : decode cX2_next 15 = .ok (.getfield 39, 3) := by decide +kernel
theorem dX2_next_18 : decode cX2_next 18 = .ok (.invokevirtual 48, 3) := by decide +kernel
theorem dX2_next_21 : decode cX2_next 21 = .ok (.bipush 10, 2) := by decide +kernel
theorem dX2_next_23 : decode cX2_next 23 = .ok (.if_icmp .ne 16, 3) := by decide +kernel
theorem dX2_next_26 : decode cX2_next 26 = .ok (.aload_n 0, 1) := by decide +kernel
theorem dX2_next_27 : decode cX2_next 27 = .ok (.dup, 1) := by decide +kernel
theorem dX2_next_28 : decode cX2_next 28 = .ok (.getfield 39, 3) := by decide +kernel
theorem dX2_next_31 : decode cX2_next 31 = .ok (.iconst 1, 1) := by decide +kernel
theorem dX2_next_32 : decode cX2_next 32 = .ok (.iadd, 1) := by decide +kernel
theorem dX2_next_33 : decode cX2_next 33 = .ok (.putfield 39, 3) := by decide +kernel
theorem dX2_next_36 : decode cX2_next 36 = .ok (.goto (-36), 3) := by decide +kernel
theorem dX2_next_39 : decode cX2_next 39 = .ok (.aload_n 0, 1) := by decide +kernel
theorem dX2_next_40 : decode cX2_next 40 = .ok (.aload_n 0, 1) := by decide +kernel
theorem dX2_next_41 : decode cX2_next 41 = .ok (.getfield 39, 3) := by decide +kernel
theorem dX2_next_44 : decode cX2_next 44 = .ok (.putfield 52, 3) := by decide +kernel
theorem dX2_next_47 : decode cX2_next 47 = .ok (.aload_n 0, 1) := by decide +kernel
theorem dX2_next_48 : decode cX2_next 48 = .ok (.aload_n 0, 1) := by decide +kernel
theorem dX2_next_49 : decode cX2_next 49 = .ok (.getfield 39, 3) := by decide +kernel
theorem dX2_next_52 : decode cX2_next 52 = .ok (.invokevirtual 48, 3) := by decide +kernel
theorem dX2_next_55 : decode cX2_next 55 = .ok (.istore_n 1, 1) := by decide +kernel
theorem dX2_next_56 : decode cX2_next 56 = .ok (.iload_n 1, 1) := by decide +kernel
theorem dX2_next_57 : decode cX2_next 57 = .ok (.iconst (-1), 1) := by decide +kernel
theorem dX2_next_58 : decode cX2_next 58 = .ok (.if_icmp .ne 11, 3) := by decide +kernel
theorem dX2_next_61 : decode cX2_next 61 = .ok (.aload_n 0, 1) := by decide +kernel
theorem dX2_next_62 : decode cX2_next 62 = .ok (.iconst 1, 1) := by decide +kernel
theorem dX2_next_63 : decode cX2_next 63 = .ok (.putfield 55, 3) := by decide +kernel
theorem dX2_next_66 : decode cX2_next 66 = .ok (.goto 111, 3) := by decide +kernel
theorem dX2_next_69 : decode cX2_next 69 = .ok (.iload_n 1, 1) := by decide +kernel
theorem dX2_next_70 : decode cX2_next 70 = .ok (.invokestatic 58, 3) := by decide +kernel
theorem dX2_next_73 : decode cX2_next 73 = .ok (.ifCond .ne 10, 3) := by decide +kernel
theorem dX2_next_76 : decode cX2_next 76 = .ok (.iload_n 1, 1) := by decide +kernel
theorem dX2_next_77 : decode cX2_next 77 = .ok (.invokestatic 62, 3) := by decide +kernel
theorem dX2_next_80 : decode cX2_next 80 = .ok (.ifCond .eq 10, 3) := by decide +kernel
theorem dX2_next_83 : decode cX2_next 83 = .ok (.aload_n 0, 1) := by decide +kernel
theorem dX2_next_84 : decode cX2_next 84 = .ok (.invokevirtual 65, 3) := by decide +kernel
theorem dX2_next_87 : decode cX2_next 87 = .ok (.goto 90, 3) := by decide +kernel
theorem dX2_next_90 : decode cX2_next 90 = .ok (.aload_n 0, 1) := by decide +kernel
theorem dX2_next_91 : decode cX2_next 91 = .ok (.iload_n 1, 1) := by decide +kernel
theorem dX2_next_92 : decode cX2_next 92 = .ok (.bipush 61, 2) := by decide +kernel
theorem dX2_next_94 : decode cX2_next 94 = .ok (.if_icmp .ne 23, 3) := by decide +kernel
theorem dX2_next_97 : decode cX2_next 97 = .ok (.aload_n 0, 1) := by decide +kernel
theorem dX2_next_98 : decode cX2_next 98 = .ok (.aload_n 0, 1) := by decide +kernel
theorem dX2_next_99 : decode cX2_next 99 = .ok (.getfield 39, 3) := by decide +kernel
theorem dX2_next_102 : decode cX2_next 102 = .ok (.iconst 1, 1) := by decide +kernel
theorem dX2_next_103 : decode cX2_next 103 = .ok (.iadd, 1) := by decide +kernel
theorem dX2_next_104 : decode cX2_next 104 = .ok (.invokevirtual 48, 3) := by decide +kernel
theorem dX2_next_107 : decode cX2_next 107 = .ok (.bipush 61, 2) := by decide +kernel
theorem dX2_next_109 : decode cX2_next 109 = .ok (.if_icmp .ne 8, 3) := by decide +kernel
theorem dX2_next_112 : decode cX2_next 112 = .ok (.bipush 10, 2) := by decide +kernel
theorem dX2_next_114 : decode cX2_next 114 = .ok (.goto 21, 3) := by decide +kernel
theorem dX2_next_117 : decode cX2_next 117 = .ok (.iload_n 1, 1) := by decide +kernel
theorem dX2_next_118 : decode cX2_next 118 = .ok (.sipush 128, 3) := by decide +kernel
theorem dX2_next_121 : decode cX2_next 121 = .ok (.if_icmp .ge 13, 3) := by decide +kernel
theorem dX2_next_124 : decode cX2_next 124 = .ok (.ldc 68, 2) := by decide +kernel
theorem dX2_next_126 : decode cX2_next 126 = .ok (.iload_n 1, 1) := by decide +kernel
theorem dX2_next_127 : decode cX2_next 127 = .ok (.i2c, 1) := by decide +kernel
theorem dX2_next_128 : decode cX2_next 128 = .ok (.invokevirtual 70, 3) := by decide +kernel
theorem dX2_next_131 : decode cX2_next 131 = .ok (.goto 4, 3) := by decide +kernel
theorem dX2_next_134 : decode cX2_next 134 = .ok (.iconst (-1), 1) := by decide +kernel
theorem dX2_next_135 : decode cX2_next 135 = .ok (.putfield 75, 3) := by decide +kernel
theorem dX2_next_138 : decode cX2_next 138 = .ok (.aload_n 0, 1) := by decide +kernel
theorem dX2_next_139 : decode cX2_next 139 = .ok (.aload_n 0, 1) := by decide +kernel
theorem dX2_next_140 : decode cX2_next 140 = .ok (.getfield 75, 3) := by decide +kernel
theorem dX2_next_143 : decode cX2_next 143 = .ok (.ifCond .ge 7, 3) := by decide +kernel
theorem dX2_next_146 : decode cX2_next 146 = .ok (.iconst 0, 1) := by decide +kernel
theorem dX2_next_147 : decode cX2_next 147 = .ok (.goto 4, 3) := by decide +kernel
theorem dX2_next_150 : decode cX2_next 150 = .ok (.iconst 5, 1) := by decide +kernel
theorem dX2_next_151 : decode cX2_next 151 = .ok (.putfield 55, 3) := by decide +kernel
theorem dX2_next_154 : decode cX2_next 154 = .ok (.aload_n 0, 1) := by decide +kernel
theorem dX2_next_155 : decode cX2_next 155 = .ok (.dup, 1) := by decide +kernel
theorem dX2_next_156 : decode cX2_next 156 = .ok (.getfield 39, 3) := by decide +kernel
theorem dX2_next_159 : decode cX2_next 159 = .ok (.aload_n 0, 1) := by decide +kernel
theorem dX2_next_160 : decode cX2_next 160 = .ok (.getfield 75, 3) := by decide +kernel
theorem dX2_next_163 : decode cX2_next 163 = .ok (.bipush 10, 2) := by decide +kernel
theorem dX2_next_165 : decode cX2_next 165 = .ok (.if_icmp .ne 7, 3) := by decide +kernel
theorem dX2_next_168 : decode cX2_next 168 = .ok (.iconst 2, 1) := by decide +kernel
theorem dX2_next_169 : decode cX2_next 169 = .ok (.goto 4, 3) := by decide +kernel
theorem dX2_next_172 : decode cX2_next 172 = .ok (.iconst 1, 1) := by decide +kernel
theorem dX2_next_173 : decode cX2_next 173 = .ok (.iadd, 1) := by decide +kernel
theorem dX2_next_174 : decode cX2_next 174 = .ok (.putfield 39, 3) := by decide +kernel
theorem dX2_next_177 : decode cX2_next 177 = .ok (.aload_n 0, 1) := by decide +kernel
theorem dX2_next_178 : decode cX2_next 178 = .ok (.getfield 15, 3) := by decide +kernel
theorem dX2_next_181 : decode cX2_next 181 = .ok (.aload_n 0, 1) := by decide +kernel
theorem dX2_next_182 : decode cX2_next 182 = .ok (.getfield 42, 3) := by decide +kernel
theorem dX2_next_185 : decode cX2_next 185 = .ok (.aload_n 0, 1) := by decide +kernel
theorem dX2_next_186 : decode cX2_next 186 = .ok (.getfield 52, 3) := by decide +kernel
theorem dX2_next_189 : decode cX2_next 189 = .ok (.iastore, 1) := by decide +kernel
theorem dX2_next_190 : decode cX2_next 190 = .ok (.aload_n 0, 1) := by decide +kernel
theorem dX2_next_191 : decode cX2_next 191 = .ok (.getfield 19, 3) := by decide +kernel
theorem dX2_next_194 : decode cX2_next 194 = .ok (.aload_n 0, 1) := by decide +kernel
theorem dX2_next_195 : decode cX2_next 195 = .ok (.getfield 42, 3) := by decide +kernel
theorem dX2_next_198 : decode cX2_next 198 = .ok (.aload_n 0, 1) := by decide +kernel
theorem dX2_next_199 : decode cX2_next 199 = .ok (.getfield 39, 3) := by decide +kernel
theorem dX2_next_202 : decode cX2_next 202 = .ok (.aload_n 0, 1) := by decide +kernel
theorem dX2_next_203 : decode cX2_next 203 = .ok (.getfield 52, 3) := by decide +kernel
theorem dX2_next_206 : decode cX2_next 206 = .ok (.isub, 1) := by decide +kernel
theorem dX2_next_207 : decode cX2_next 207 = .ok (.iastore, 1) := by decide +kernel
theorem dX2_next_208 : decode cX2_next 208 = .ok (.aload_n 0, 1) := by decide +kernel
theorem dX2_next_209 : decode cX2_next 209 = .ok (.dup, 1) := by decide +kernel
theorem dX2_next_210 : decode cX2_next 210 = .ok (.getfield 42, 3) := by decide +kernel
theorem dX2_next_213 : decode cX2_next 213 = .ok (.iconst 1, 1) := by decide +kernel
theorem dX2_next_214 : decode cX2_next 214 = .ok (.iadd, 1) := by decide +kernel
theorem dX2_next_215 : decode cX2_next 215 = .ok (.putfield 42, 3) := by decide +kernel
theorem dX2_next_218 : decode cX2_next 218 = .ok (.return_, 1) := by decide +kernel
abbrev JX2_next_177 (D : DE) (f : Nat) (Q : HI → HL → Prop) (F : Frm) (h : HI) (g : HL) : Prop := vp_in (h 1 4) 1001 ∧ ∀ h2, h2 = up2 h 3 (ix (h 1 4)) (h 1 8) → vp_in (h2 1 4) 1001 ∧ ∀ h5, h5 = up2 h2 4 (ix (h2 1 4)) ((h2 1 7) - (h2 1 8)) → ∀ h7, h7 = up2 h5 1 4 ((h5 1 4) + 1) → Q h7 g
theorem bX2_next_177 {D : DE} {f : Nat} {Q : HI → HL → Prop} {F : Frm} {h : HI} {g : HL} (hF : k_Fix F)  (H : JX2_next_177 D f Q F h g ) : V D mX2_next (f + 1) (qv F Q) 177 [(0, .ref (ad D 1))] [] (F, h, g) := by
  refine V_aload_n dX2_next_177 rfl 0 rfl ?_
  refine H_getr ck1 2 (by decide) (fs_1 hF) (by decide) rfl (fr_1_2 hF) q132 dX2_next_178 ?_
  refine V_aload_n dX2_next_181 rfl 0 rfl ?_
  refine H_geti ck1 4 (by decide) (fs_1 hF) (by decide) rfl q135 dX2_next_182 ?_
  refine V_aload_n dX2_next_185 rfl 0 rfl ?_
  refine H_geti ck1 8 (by decide) (fs_1 hF) (by decide) rfl q142 dX2_next_186 ?_
  obtain ⟨i1, H⟩ := H
  refine H_iast (fs_3 hF) i1 dX2_next_189 (fun h2 e3 => ?_)
  have H := H h2 e3
  refine V_aload_n dX2_next_190 rfl 0 rfl ?_
  refine H_getr ck1 3 (by decide) (fs_1 hF) (by decide) rfl (fr_1_3 hF) q134 dX2_next_191 ?_
  refine V_aload_n dX2_next_194 rfl 0 rfl ?_
  refine H_geti ck1 4 (by decide) (fs_1 hF) (by decide) rfl q135 dX2_next_195 ?_
  refine V_aload_n dX2_next_198 rfl 0 rfl ?_
  refine H_geti ck1 7 (by decide) (fs_1 hF) (by decide) rfl q140 dX2_next_199 ?_
  refine V_aload_n dX2_next_202 rfl 0 rfl ?_
  refine H_geti ck1 8 (by decide) (fs_1 hF) (by decide) rfl q142 dX2_next_203 ?_
  refine V_isub dX2_next_206 ?_
  obtain ⟨i4, H⟩ := H
  refine H_iast (fs_4 hF) i4 dX2_next_207 (fun h5 e6 => ?_)
  have H := H h5 e6
  refine V_aload_n dX2_next_208 rfl 0 rfl ?_
  refine V_dup dX2_next_209 rfl ?_
  refine H_geti ck1 4 (by decide) (fs_1 hF) (by decide) rfl q135 dX2_next_210 ?_
  refine V_iconst (v := 1) dX2_next_213 (by decide) ?_
  refine V_iadd dX2_next_214 ?_
  refine H_puti ck1 4 (by decide) (fs_1 hF) (by decide) rfl rfl q135 dX2_next_215 (fun h7 e8 => ?_)
  have H := H h7 e8
  exact H_vret rfl dX2_next_218 H
abbrev JX2_next_173 (D : DE) (f : Nat) (Q : HI → HL → Prop) (F : Frm) (h : HI) (g : HL) (s1 : Int32) (s2 : Int32) : Prop := ∀ h1, h1 = up2 h 1 7 (s1 + s2) → JX2_next_177 D f Q F h1 g
theorem bX2_next_173 {D : DE} {f : Nat} {Q : HI → HL → Prop} {F : Frm} {h : HI} {g : HL} (hF : k_Fix F) (s1 : Int32) (s2 : Int32) (H : JX2_next_173 D f Q F h g s1 s2) : V D mX2_next (f + 1) (qv F Q) 173 [(0, .ref (ad D 1))] [.int s2, .int s1, .ref (ad D 1)] (F, h, g) := by
  refine V_iadd dX2_next_173 ?_
  refine H_puti ck1 7 (by decide) (fs_1 hF) (by decide) rfl rfl q140 dX2_next_174 (fun h1 e2 => ?_)
  have H := H h1 e2
  exact bX2_next_177 hF  H
abbrev JX2_next_151 (D : DE) (f : Nat) (Q : HI → HL → Prop) (F : Frm) (h : HI) (g : HL) (s1 : Int32) : Prop := ∀ h1, h1 = up2 h 1 5 s1 → ((¬ (h1 1 6) = 10 → JX2_next_173 D f Q F h1 g (h1 1 7) 1) ∧ ((h1 1 6) = 10 → JX2_next_173 D f Q F h1 g (h1 1 7) 2))
theorem bX2_next_151 {D : DE} {f : Nat} {Q : HI → HL → Prop} {F : Frm} {h : HI} {g : HL} (hF : k_Fix F) (s1 : Int32) (H : JX2_next_151 D f Q F h g s1) : V D mX2_next (f + 1) (qv F Q) 151 [(0, .ref (ad D 1))] [.int s1, .ref (ad D 1)] (F, h, g) := by
  refine H_puti ck1 5 (by decide) (fs_1 hF) (by decide) rfl rfl q137 dX2_next_151 (fun h1 e2 => ?_)
  have H := H h1 e2
  refine V_aload_n dX2_next_154 rfl 0 rfl ?_
  refine V_dup dX2_next_155 rfl ?_
  refine H_geti ck1 7 (by decide) (fs_1 hF) (by decide) rfl q140 dX2_next_156 ?_
  refine V_aload_n dX2_next_159 rfl 0 rfl ?_
  refine H_geti ck1 6 (by decide) (fs_1 hF) (by decide) rfl q138 dX2_next_160 ?_
  refine V_bipush (v := 10) dX2_next_163 (by decide) ?_
  refine V_icmp_ne (tgt := 172) dX2_next_165 (by decide) (fun c3 => ?_) (fun c3 => ?_)
  · have H := H.1 c3
    refine V_iconst (v := 1) dX2_next_172 (by decide) ?_
    exact bX2_next_173 hF (h1 1 7) 1 H
  · have H := H.2 c3
    refine V_iconst (v := 2) dX2_next_168 (by decide) ?_
    refine V_goto (tgt := 173) dX2_next_169 (by decide) ?_
    exact bX2_next_173 hF (h1 1 7) 2 H
abbrev JX2_next_135 (D : DE) (f : Nat) (Q : HI → HL → Prop) (F : Frm) (h : HI) (g : HL) (s1 : Int32) : Prop := ∀ h1, h1 = up2 h 1 6 s1 → ((0 ≤ (h1 1 6) → JX2_next_151 D f Q F h1 g 5) ∧ (¬ 0 ≤ (h1 1 6) → JX2_next_151 D f Q F h1 g 0))
theorem bX2_next_135 {D : DE} {f : Nat} {Q : HI → HL → Prop} {F : Frm} {h : HI} {g : HL} (hF : k_Fix F) (s1 : Int32) (H : JX2_next_135 D f Q F h g s1) : V D mX2_next (f + 1) (qv F Q) 135 [(0, .ref (ad D 1))] [.int s1, .ref (ad D 1)] (F, h, g) := by
  refine H_puti ck1 6 (by decide) (fs_1 hF) (by decide) rfl rfl q138 dX2_next_135 (fun h1 e2 => ?_)
  have H := H h1 e2
  refine V_aload_n dX2_next_138 rfl 0 rfl ?_
  refine V_aload_n dX2_next_139 rfl 0 rfl ?_
  refine H_geti ck1 6 (by decide) (fs_1 hF) (by decide) rfl q138 dX2_next_140 ?_
  refine V_if_ge (tgt := 150) dX2_next_143 (by decide) (fun c3 => ?_) (fun c3 => ?_)
  · have H := H.1 c3
    refine V_iconst (v := 5) dX2_next_150 (by decide) ?_
    exact bX2_next_151 hF 5 H
  · have H := H.2 c3
    refine V_iconst (v := 0) dX2_next_146 (by decide) ?_
    refine V_goto (tgt := 151) dX2_next_147 (by decide) ?_
    exact bX2_next_151 hF 0 H
abbrev JX2_next_117 (D : DE) (f : Nat) (Q : HI → HL → Prop) (F : Frm) (h : HI) (g : HL) (x1 : Int32) : Prop := ((128 ≤ x1 → JX2_next_135 D f Q F h g (-1)) ∧ (¬ 128 ≤ x1 → Si D f mJ5_indexOf [.ref (dO D 2), .int ((x1.toUInt32 % 65536).toInt32)] F h g (fun y2 h3 g4 => JX2_next_135 D f Q F h3 g4 y2)))
theorem bX2_next_117 {D : DE} {f : Nat} {Q : HI → HL → Prop} {F : Frm} {h : HI} {g : HL} (hF : k_Fix F) (x1 : Int32) (H : JX2_next_117 D f Q F h g x1) : V D mX2_next (f + 1) (qv F Q) 117 [(0, .ref (ad D 1)), (1, .int x1)] [.ref (ad D 1)] (F, h, g) := by
  refine V_iload_n dX2_next_117 rfl 1 rfl ?_
  refine V_sipush (v := 128) dX2_next_118 (by decide) ?_
  refine V_icmp_ge (tgt := 134) dX2_next_121 (by decide) (fun c1 => ?_) (fun c1 => ?_)
  · have H := H.1 c1
    refine V_iconst (v := (-1)) dX2_next_134 (by decide) ?_
    refine V.sub [0] rfl ?_
    exact bX2_next_135 hF (-1) H
  · have H := H.2 c1
    refine V_ldO (t := dO D 2) (fun _ hE => hE.2.2.2.2.2.2.2.2.2.2.1) dX2_next_124 ?_
    refine V_iload_n dX2_next_126 rfl 1 rfl ?_
    refine V_i2c dX2_next_127 ?_
    refine H_calli (av := [.ref (dO D 2), .int ((x1.toUInt32 % 65536).toInt32)]) (rest := [.ref (ad D 1)]) H mqJ5_indexOf q95 (by decide) (Nat.le_of_ble_eq_true rfl) (k_resO (av := [.int ((x1.toUInt32 % 65536).toInt32)]) (rest := [.ref (ad D 1)]) 1 (by decide) q507 q508 q509 q510 mhJ5_indexOf mnJ5_indexOf dX2_next_128) (fun y2 h3 g4 H => ?_)
    refine V_goto (tgt := 135) dX2_next_131 (by decide) ?_
    refine V.sub [0] rfl ?_
    exact bX2_next_135 hF y2 H
abbrev JX2_next_83 (D : DE) (f : Nat) (Q : HI → HL → Prop) (F : Frm) (h : HI) (g : HL) : Prop := Sv D f mX2_word [.ref (ad D 1)] F h g (fun h1 g2 => JX2_next_177 D f Q F h1 g2)
theorem bX2_next_83 {D : DE} {f : Nat} {Q : HI → HL → Prop} {F : Frm} {h : HI} {g : HL} (hF : k_Fix F)  (H : JX2_next_83 D f Q F h g ) : V D mX2_next (f + 1) (qv F Q) 83 [(0, .ref (ad D 1))] [] (F, h, g) := by
  refine V_aload_n dX2_next_83 rfl 0 rfl ?_
  refine H_callv (av := [.ref (ad D 1)]) (rest := []) H mqX2_word q82 (by decide) (Nat.le_of_ble_eq_true rfl) (k_resV (ci := 1) (av := []) (rest := []) (fs_1 hF) (by decide) rfl rfl q449 q451 qs2 q452 mhX2_word mnX2_word dX2_next_84) (fun h1 g2 H => ?_)
  refine V_goto (tgt := 177) dX2_next_87 (by decide) ?_
  exact bX2_next_177 hF  H
abbrev JX2_next_26 (D : DE) (f : Nat) (Q : HI → HL → Prop) (F : Frm) (h : HI) (g : HL) : Prop := ∀ h1, h1 = up2 h 1 7 ((h 1 7) + 1) → V D mX2_next (f + 1) (qv F Q) 0 [(0, .ref (ad D 1))] [] (F, h1, g)
theorem bX2_next_26 {D : DE} {f : Nat} {Q : HI → HL → Prop} {F : Frm} {h : HI} {g : HL} (hF : k_Fix F)  (H : JX2_next_26 D f Q F h g ) : V D mX2_next (f + 1) (qv F Q) 26 [(0, .ref (ad D 1))] [] (F, h, g) := by
  refine V_aload_n dX2_next_26 rfl 0 rfl ?_
  refine V_dup dX2_next_27 rfl ?_
  refine H_geti ck1 7 (by decide) (fs_1 hF) (by decide) rfl q140 dX2_next_28 ?_
  refine V_iconst (v := 1) dX2_next_31 (by decide) ?_
  refine V_iadd dX2_next_32 ?_
  refine H_puti ck1 7 (by decide) (fs_1 hF) (by decide) rfl rfl q140 dX2_next_33 (fun h1 e2 => ?_)
  have H := H h1 e2
  refine V_goto (tgt := 0) dX2_next_36 (by decide) ?_
  exact H
abbrev JX2_next_0 (D : DE) (f : Nat) (Q : HI → HL → Prop) (F : Frm) (h : HI) (g : HL) : Prop := Si D f mX2_byteAt [.ref (ad D 1), .int (h 1 7)] F h g (fun y1 h2 g3 => ((y1 = 32 → JX2_next_26 D f Q F h2 g3) ∧ (¬ y1 = 32 → Si D f mX2_byteAt [.ref (ad D 1), .int (h2 1 7)] F h2 g3 (fun y5 h6 g7 => ((¬ y5 = 10 → ∀ h9, h9 = up2 h6 1 8 (h6 1 7) → Si D f mX2_byteAt [.ref (ad D 1), .int (h9 1 7)] F h9 g7 (fun y11 h12 g13 => ((¬ y11 = (-1) → Si D f mX2_isLetter [.int y11] F h12 g13 (fun y15 h16 g17 => ((¬ y15 = 0 → JX2_next_83 D f Q F h16 g17) ∧ (y15 = 0 → Si D f mX2_isDigit [.int y11] F h16 g17 (fun y19 h20 g21 => ((y19 = 0 → ((¬ y11 = 61 → JX2_next_117 D f Q F h20 g21 y11) ∧ (y11 = 61 → Si D f mX2_byteAt [.ref (ad D 1), .int ((h20 1 7) + 1)] F h20 g21 (fun y24 h25 g26 => ((¬ y24 = 61 → JX2_next_117 D f Q F h25 g26 y11) ∧ (y24 = 61 → JX2_next_135 D f Q F h25 g26 10)))))) ∧ (¬ y19 = 0 → JX2_next_83 D f Q F h20 g21))))))) ∧ (y11 = (-1) → ∀ h28, h28 = up2 h12 1 5 1 → JX2_next_177 D f Q F h28 g13)))) ∧ (y5 = 10 → JX2_next_26 D f Q F h6 g7))))))
theorem bX2_next_0 {D : DE} {f : Nat} {Q : HI → HL → Prop} {F : Frm} {h : HI} {g : HL} (hF : k_Fix F)  (H : JX2_next_0 D f Q F h g ) : V D mX2_next (f + 1) (qv F Q) 0 [(0, .ref (ad D 1))] [] (F, h, g) := by
  refine V_aload_n dX2_next_0 rfl 0 rfl ?_
  refine V_aload_n dX2_next_1 rfl 0 rfl ?_
  refine H_geti ck1 7 (by decide) (fs_1 hF) (by decide) rfl q140 dX2_next_2 ?_
  refine H_calli (av := [.ref (ad D 1), .int (h 1 7)]) (rest := []) H mqX2_byteAt q82 (by decide) (Nat.le_of_ble_eq_true rfl) (k_resV (ci := 1) (av := [.int (h 1 7)]) (rest := []) (fs_1 hF) (by decide) rfl rfl q439 q441 qs1 q442 mhX2_byteAt mnX2_byteAt dX2_next_5) (fun y1 h2 g3 H => ?_)
  refine V_bipush (v := 32) dX2_next_8 (by decide) ?_
  refine V_icmp_eq (tgt := 26) dX2_next_10 (by decide) (fun c4 => ?_) (fun c4 => ?_)
  · have H := H.1 c4
    exact bX2_next_26 hF  H
  · have H := H.2 c4
    refine V_aload_n dX2_next_13 rfl 0 rfl ?_
    refine V_aload_n dX2_next_14 rfl 0 rfl ?_
    refine H_geti ck1 7 (by decide) (fs_1 hF) (by decide) rfl q140 dX2_next_15 ?_
    refine H_calli (av := [.ref (ad D 1), .int (h2 1 7)]) (rest := []) H mqX2_byteAt q82 (by decide) (Nat.le_of_ble_eq_true rfl) (k_resV (ci := 1) (av := [.int (h2 1 7)]) (rest := []) (fs_1 hF) (by decide) rfl rfl q439 q441 qs1 q442 mhX2_byteAt mnX2_byteAt dX2_next_18) (fun y5 h6 g7 H => ?_)
    refine V_bipush (v := 10) dX2_next_21 (by decide) ?_
    refine V_icmp_ne (tgt := 39) dX2_next_23 (by decide) (fun c8 => ?_) (fun c8 => ?_)
    · have H := H.1 c8
      refine V_aload_n dX2_next_39 rfl 0 rfl ?_
      refine V_aload_n dX2_next_40 rfl 0 rfl ?_
      refine H_geti ck1 7 (by decide) (fs_1 hF) (by decide) rfl q140 dX2_next_41 ?_
      refine H_puti ck1 8 (by decide) (fs_1 hF) (by decide) rfl rfl q142 dX2_next_44 (fun h9 e10 => ?_)
      have H := H h9 e10
      refine V_aload_n dX2_next_47 rfl 0 rfl ?_
      refine V_aload_n dX2_next_48 rfl 0 rfl ?_
      refine H_geti ck1 7 (by decide) (fs_1 hF) (by decide) rfl q140 dX2_next_49 ?_
      refine H_calli (av := [.ref (ad D 1), .int (h9 1 7)]) (rest := []) H mqX2_byteAt q82 (by decide) (Nat.le_of_ble_eq_true rfl) (k_resV (ci := 1) (av := [.int (h9 1 7)]) (rest := []) (fs_1 hF) (by decide) rfl rfl q439 q441 qs1 q442 mhX2_byteAt mnX2_byteAt dX2_next_52) (fun y11 h12 g13 H => ?_)
      refine V_istore_n (l1 := [(1, .int y11), (0, .ref (ad D 1))]) dX2_next_55 rfl (by decide) rfl ?_
      refine V_iload_n dX2_next_56 rfl 0 rfl ?_
      refine V_iconst (v := (-1)) dX2_next_57 (by decide) ?_
      refine V_icmp_ne (tgt := 69) dX2_next_58 (by decide) (fun c14 => ?_) (fun c14 => ?_)
      · have H := H.1 c14
        refine V_iload_n dX2_next_69 rfl 0 rfl ?_
        refine H_calli (av := [.int y11]) (rest := []) H mqX2_isLetter q82 (by decide) (Nat.le_of_ble_eq_true rfl) (k_resS (av := [.int y11]) (rest := []) (M1 := mX2_isLetter) rfl q443 q444 q82 mqX2_isLetter (fun _ _ h => mW_named h) mhX2_isLetter mnX2_isLetter dX2_next_70) (fun y15 h16 g17 H => ?_)
        refine V_if_ne (tgt := 83) dX2_next_73 (by decide) (fun c18 => ?_) (fun c18 => ?_)
        · have H := H.1 c18
          refine V.sub [1] rfl ?_
          exact bX2_next_83 hF  H
        · have H := H.2 c18
          refine V_iload_n dX2_next_76 rfl 0 rfl ?_
          refine H_calli (av := [.int y11]) (rest := []) H mqX2_isDigit q82 (by decide) (Nat.le_of_ble_eq_true rfl) (k_resS (av := [.int y11]) (rest := []) (M1 := mX2_isDigit) rfl q446 q447 q82 mqX2_isDigit (fun _ _ h => mW_named h) mhX2_isDigit mnX2_isDigit dX2_next_77) (fun y19 h20 g21 H => ?_)
          refine V_if_eq (tgt := 90) dX2_next_80 (by decide) (fun c22 => ?_) (fun c22 => ?_)
          · have H := H.1 c22
            refine V_aload_n dX2_next_90 rfl 1 rfl ?_
            refine V_iload_n dX2_next_91 rfl 0 rfl ?_
            refine V_bipush (v := 61) dX2_next_92 (by decide) ?_
            refine V_icmp_ne (tgt := 117) dX2_next_94 (by decide) (fun c23 => ?_) (fun c23 => ?_)
            · have H := H.1 c23
              refine V.sub [1, 0] rfl ?_
              exact bX2_next_117 hF y11 H
            · have H := H.2 c23
              refine V_aload_n dX2_next_97 rfl 1 rfl ?_
              refine V_aload_n dX2_next_98 rfl 1 rfl ?_
              refine H_geti ck1 7 (by decide) (fs_1 hF) (by decide) rfl q140 dX2_next_99 ?_
              refine V_iconst (v := 1) dX2_next_102 (by decide) ?_
              refine V_iadd dX2_next_103 ?_
              refine H_calli (av := [.ref (ad D 1), .int ((h20 1 7) + 1)]) (rest := [.ref (ad D 1)]) H mqX2_byteAt q82 (by decide) (Nat.le_of_ble_eq_true rfl) (k_resV (ci := 1) (av := [.int ((h20 1 7) + 1)]) (rest := [.ref (ad D 1)]) (fs_1 hF) (by decide) rfl rfl q439 q441 qs1 q442 mhX2_byteAt mnX2_byteAt dX2_next_104) (fun y24 h25 g26 H => ?_)
              refine V_bipush (v := 61) dX2_next_107 (by decide) ?_
              refine V_icmp_ne (tgt := 117) dX2_next_109 (by decide) (fun c27 => ?_) (fun c27 => ?_)
              · have H := H.1 c27
                refine V.sub [1, 0] rfl ?_
                exact bX2_next_117 hF y11 H
              · have H := H.2 c27
                refine V_bipush (v := 10) dX2_next_112 (by decide) ?_
                refine V_goto (tgt := 135) dX2_next_114 (by decide) ?_
                refine V.sub [1] rfl ?_
                exact bX2_next_135 hF 10 H
          · have H := H.2 c22
            refine V.sub [1] rfl ?_
            exact bX2_next_83 hF  H
      · have H := H.2 c14
        refine V_aload_n dX2_next_61 rfl 1 rfl ?_
        refine V_iconst (v := 1) dX2_next_62 (by decide) ?_
        refine H_puti ck1 5 (by decide) (fs_1 hF) (by decide) rfl rfl q137 dX2_next_63 (fun h28 e29 => ?_)
        have H := H h28 e29
        refine V_goto (tgt := 177) dX2_next_66 (by decide) ?_
        refine V.sub [1] rfl ?_
        exact bX2_next_177 hF  H
    · have H := H.2 c8
      exact bX2_next_26 hF  H
theorem wX2_next {D : DE} {f : Nat} {Q : HI → HL → Prop} {F : Frm} {h : HI} {g : HL} (hF : k_Fix F)  (H : JX2_next_0 D f Q F h g ) : Sv D (f + 1) mX2_next [.ref (ad D 1)] F h g Q := Cl.ofV (by decide) (Nat.le_of_ble_eq_true rfl) rfl (bX2_next_0 hF  H)
theorem dX1_reads_0 : decode cX1_reads 0 = .ok (.aload_n 0, 1) := by decide +kernel
theorem dX1_reads_1 : decode cX1_reads 1 = .ok (.getfield 60, 3) := by decide +kernel
theorem dX1_reads_4 : decode cX1_reads 4 = .ok (.invokevirtual 131, 3) := by decide +kernel
theorem dX1_reads_7 : decode cX1_reads 7 = .ok (.aload_n 0, 1) := by decide +kernel
theorem dX1_reads_8 : decode cX1_reads 8 = .ok (.getfield 73, 3) := by decide +kernel
theorem dX1_reads_11 : decode cX1_reads 11 = .ok (.aload_n 0, 1) := by decide +kernel
theorem dX1_reads_12 : decode cX1_reads 12 = .ok (.getfield 60, 3) := by decide +kernel
theorem dX1_reads_15 : decode cX1_reads 15 = .ok (.getfield 134, 3) := by decide +kernel
theorem dX1_reads_18 : decode cX1_reads 18 = .ok (.invokevirtual 137, 3) := by decide +kernel
theorem dX1_reads_21 : decode cX1_reads 21 = .ok (.goto 6, 3) := by decide +kernel
theorem dX1_reads_24 : decode cX1_reads 24 = .ok (.astore_n 1, 1) := by decide +kernel
theorem dX1_reads_25 : decode cX1_reads 25 = .ok (.iconst 0, 1) := by decide +kernel
theorem dX1_reads_26 : decode cX1_reads 26 = .ok (.ireturn, 1) := by decide +kernel
theorem dX1_reads_27 : decode cX1_reads 27 = .ok (.iconst 1, 1) := by decide +kernel
theorem dX1_reads_28 : decode cX1_reads 28 = .ok (.ireturn, 1) := by decide +kernel
abbrev JX1_reads_0 (D : DE) (f : Nat) (Q : Int32 → Frm → HI → HL → Prop) (T : Nat → Frm → HI → HL → Prop) (F : Frm) (h : HI) (g : HL) : Prop := Gv D f mX3_program [.ref (ad D 5)] F h g (fun F3 h1 g2 => Gv D f mX4_all [.ref (ad D 7), .int (h1 5 2)] F3 h1 g2 (fun F8 h6 g7 => Q 1 F8 h6 g7) (fun e F1 h1 g1 => (e = 0 ∧ Q 0 F1 h1 g1))) (fun e F1 h1 g1 => (e = 0 ∧ Q 0 F1 h1 g1))
theorem bX1_reads_0 {D : DE} {f : Nat} {Q : Int32 → Frm → HI → HL → Prop} {T : Nat → Frm → HI → HL → Prop} {F : Frm} {h : HI} {g : HL} (hF : k_Fix F)  (H : JX1_reads_0 D f Q T F h g ) : V D mX1_reads (f + 1) (gi Q T) 0 [(0, .ref (ad D 0))] [] (F, h, g) := by
  refine V_aload_n dX1_reads_0 rfl 0 rfl ?_
  refine H_getr ck0 1 (by decide) (fs_0 hF) (by decide) rfl (fr_0_1 hF) q373 dX1_reads_1 ?_
  refine G_callv (av := [.ref (ad D 5)]) (rest := []) H mqX3_program q83 (by decide) (Nat.le_of_ble_eq_true rfl) (k_resV (ci := 2) (av := []) (rest := []) (fs_5 hF) (by decide) rfl rfl q427 q428 q429 q430 mhX3_program mnX3_program dX1_reads_4) (fun F3 h1 g2 hF4 H => ?_) (fun a e F1 h1 g1 hF1 ha H => ?_)
  · skip
    refine V_aload_n dX1_reads_7 rfl 0 rfl ?_
    refine H_getr ck0 2 (by decide) (fs_0 hF4) (by decide) rfl (fr_0_2 hF4) q374 dX1_reads_8 ?_
    refine V_aload_n dX1_reads_11 rfl 0 rfl ?_
    refine H_getr ck0 1 (by decide) (fs_0 hF4) (by decide) rfl (fr_0_1 hF4) q373 dX1_reads_12 ?_
    refine H_getiN ck2 2 (by decide) (fs_5 hF4) (by decide) rfl q184 dX1_reads_15 ?_
    refine G_callv (av := [.ref (ad D 7), .int (h1 5 2)]) (rest := []) H mqX4_all q84 (by decide) (Nat.le_of_ble_eq_true rfl) (k_resV (ci := 3) (av := [.int (h1 5 2)]) (rest := []) (fs_7 hF4) (by decide) rfl rfl q970 q971 q972 q973 mhX4_all mnX4_all dX1_reads_18) (fun F8 h6 g7 hF9 H => ?_) (fun a e F1 h1 g1 hF1 ha H => ?_)
    · skip
      refine V_goto (tgt := 27) dX1_reads_21 (by decide) ?_
      refine V_iconst (v := 1) dX1_reads_27 (by decide) ?_
      exact G_zret hF9 rfl isB1 dX1_reads_28 H
    · rcases H with ⟨rfl, H⟩
      · refine VT_catch (ci := 18) [] (0, 21, 24, 108) [] rfl ha (by decide) rfl (fun y hy => by cases hy) (by decide) (by decide) q426 ?_
        refine V_astore_n (l1 := [(1, .ref (ad D a)), (0, .ref (ad D 0))]) dX1_reads_24 rfl (by decide) rfl ?_
        refine V_iconst (v := 0) dX1_reads_25 (by decide) ?_
        exact G_zret hF1 rfl isB0 dX1_reads_26 H
  · rcases H with ⟨rfl, H⟩
    · refine VT_catch (ci := 18) [] (0, 21, 24, 108) [] rfl ha (by decide) rfl (fun y hy => by cases hy) (by decide) (by decide) q426 ?_
      refine V_astore_n (l1 := [(1, .ref (ad D a)), (0, .ref (ad D 0))]) dX1_reads_24 rfl (by decide) rfl ?_
      refine V_iconst (v := 0) dX1_reads_25 (by decide) ?_
      exact G_zret hF1 rfl isB0 dX1_reads_26 H
theorem wX1_reads {D : DE} {f : Nat} {Q : Int32 → Frm → HI → HL → Prop} {T : Nat → Frm → HI → HL → Prop} {F : Frm} {h : HI} {g : HL} (hF : k_Fix F)  (H : JX1_reads_0 D f Q T F h g ) : Gi D (f + 1) mX1_reads [.ref (ad D 0)] F h g Q T := Cl.ofV (by decide) (Nat.le_of_ble_eq_true rfl) rfl (bX1_reads_0 hF  H)
theorem dX1_read_0 : decode cX1_read 0 = .ok (.aload_n 0, 1) := by decide +kernel
theorem dX1_read_1 : decode cX1_read 1 = .ok (.getfield 91, 3) := by decide +kernel
theorem dX1_read_4 : decode cX1_read 4 = .ok (.iconst 0, 1) := by decide +kernel
theorem dX1_read_5 : decode cX1_read 5 = .ok (.aload_n 0, 1) := by decide +kernel
theorem dX1_read_6 : decode cX1_read 6 = .ok (.getfield 51, 3) := by decide +kernel
theorem dX1_read_9 : decode cX1_read 9 = .ok (.getfield 140, 3) := by decide +kernel
theorem dX1_read_12 : decode cX1_read 12 = .ok (.iconst 0, 1) := by decide +kernel
theorem dX1_read_13 : decode cX1_read 13 = .ok (.aload_n 0, 1) := by decide +kernel
theorem dX1_read_14 : decode cX1_read 14 = .ok (.getfield 117, 3) := by decide +kernel
theorem dX1_read_17 : decode cX1_read 17 = .ok (.invokestatic 143, 3) := by decide +kernel
theorem dX1_read_20 : decode cX1_read 20 = .ok (.aload_n 0, 1) := by decide +kernel
theorem dX1_read_21 : decode cX1_read 21 = .ok (.getfield 51, 3) := by decide +kernel
theorem dX1_read_24 : decode cX1_read 24 = .ok (.aload_n 0, 1) := by decide +kernel
theorem dX1_read_25 : decode cX1_read 25 = .ok (.getfield 117, 3) := by decide +kernel
theorem dX1_read_28 : decode cX1_read 28 = .ok (.putfield 149, 3) := by decide +kernel
theorem dX1_read_31 : decode cX1_read 31 = .ok (.aload_n 0, 1) := by decide +kernel
theorem dX1_read_32 : decode cX1_read 32 = .ok (.iconst 0, 1) := by decide +kernel
theorem dX1_read_33 : decode cX1_read 33 = .ok (.putfield 117, 3) := by decide +kernel
theorem dX1_read_36 : decode cX1_read 36 = .ok (.aload_n 0, 1) := by decide +kernel
theorem dX1_read_37 : decode cX1_read 37 = .ok (.invokevirtual 152, 3) := by decide +kernel
theorem dX1_read_40 : decode cX1_read 40 = .ok (.istore_n 1, 1) := by decide +kernel
theorem dX1_read_41 : decode cX1_read 41 = .ok (.aload_n 0, 1) := by decide +kernel
theorem dX1_read_42 : decode cX1_read 42 = .ok (.aload_n 0, 1) := by decide +kernel
theorem dX1_read_43 : decode cX1_read 43 = .ok (.getfield 51, 3) := by decide +kernel
theorem dX1_read_46 : decode cX1_read 46 = .ok (.getfield 156, 3) := by decide +kernel
theorem dX1_read_49 : decode cX1_read 49 = .ok (.putfield 95, 3) := by decide +kernel
theorem dX1_read_52 : decode cX1_read 52 = .ok (.iload_n 1, 1) := by decide +kernel
theorem dX1_read_53 : decode cX1_read 53 = .ok (.ifCond .ne 12, 3) := by decide +kernel
theorem dX1_read_56 : decode cX1_read 56 = .ok (.aload_n 0, 1) := by decide +kernel
theorem dX1_read_57 : decode cX1_read 57 = .ok (.getfield 51, 3) := by decide +kernel
theorem dX1_read_60 : decode cX1_read 60 = .ok (.getfield 159, 3) := by decide +kernel
theorem dX1_read_63 : decode cX1_read 63 = .ok (.ineg, 1) := by decide +kernel
theorem dX1_read_64 : decode cX1_read 64 = .ok (.ireturn, 1) := by decide +kernel
theorem dX1_read_65 : decode cX1_read 65 = .ok (.aload_n 0, 1) := by decide +kernel
theorem dX1_read_66 : decode cX1_read 66 = .ok (.aload_n 0, 1) := by decide +kernel
theorem dX1_read_67 : decode cX1_read 67 = .ok (.getfield 60, 3) := by decide +kernel
theorem dX1_read_70 : decode cX1_read 70 = .ok (.getfield 134, 3) := by decide +kernel
theorem dX1_read_73 : decode cX1_read 73 = .ok (.putfield 162, 3) := by decide +kernel
theorem dX1_read_76 : decode cX1_read 76 = .ok (.iconst 0, 1) := by decide +kernel
theorem dX1_read_77 : decode cX1_read 77 = .ok (.istore_n 2, 1) := by decide +kernel
theorem dX1_read_78 : decode cX1_read 78 = .ok (.iload_n 2, 1) := by decide +kernel
theorem dX1_read_79 : decode cX1_read 79 = .ok (.aload_n 0, 1) := by decide +kernel
theorem dX1_read_80 : decode cX1_read 80 = .ok (.getfield 162, 3) := by decide +kernel
theorem dX1_read_83 : decode cX1_read 83 = .ok (.if_icmp .ge 24, 3) := by decide +kernel
theorem dX1_read_86 : decode cX1_read 86 = .ok (.aload_n 0, 1) := by decide +kernel
theorem dX1_read_87 : decode cX1_read 87 = .ok (.getfield 101, 3) := by decide +kernel
theorem dX1_read_90 : decode cX1_read 90 = .ok (.iload_n 2, 1) := by decide +kernel
theorem dX1_read_91 : decode cX1_read 91 = .ok (.aload_n 0, 1) := by decide +kernel
theorem dX1_read_92 : decode cX1_read 92 = .ok (.getfield 60, 3) := by decide +kernel
theorem dX1_read_95 : decode cX1_read 95 = .ok (.getfield 66, 3) := by decide +kernel
theorem dX1_read_98 : decode cX1_read 98 = .ok (.iload_n 2, 1) := by decide +kernel
theorem dX1_read_99 : decode cX1_read 99 = .ok (.aaload, 1) := by decide +kernel
theorem dX1_read_100 : decode cX1_read 100 = .ok (.aastore, 1) := by decide +kernel
theorem dX1_read_101 : decode cX1_read 101 = .ok (.iinc 2 1, 3) := by decide +kernel
theorem dX1_read_104 : decode cX1_read 104 = .ok (.goto (-26), 3) := by decide +kernel
theorem dX1_read_107 : decode cX1_read 107 = .ok (.aload_n 0, 1) := by decide +kernel
theorem dX1_read_108 : decode cX1_read 108 = .ok (.iconst 0, 1) := by decide +kernel
theorem dX1_read_109 : decode cX1_read 109 = .ok (.putfield 163, 3) := by decide +kernel
theorem dX1_read_112 : decode cX1_read 112 = .ok (.aload_n 0, 1) := by decide +kernel
theorem dX1_read_113 : decode cX1_read 113 = .ok (.getfield 87, 3) := by decide +kernel
theorem dX1_read_116 : decode cX1_read 116 = .ok (.invokevirtual 167, 3) := by decide +kernel
theorem dX1_read_119 : decode cX1_read 119 = .ok (.aload_n 0, 1) := by decide +kernel
theorem dX1_read_120 : decode cX1_read 120 = .ok (.getfield 162, 3) := by decide +kernel
theorem dX1_read_123 : decode cX1_read 123 = .ok (.ireturn, 1) := by decide +kernel
abbrev JX1_read_78 (D : DE) (f : Nat) (Q : Int32 → Frm → HI → HL → Prop) (T : Nat → Frm → HI → HL → Prop) (F : Frm) (h : HI) (g : HL) (x2 : Int32) : Prop := (((h 0 9) ≤ x2 → ∀ h2, h2 = up2 h 0 10 0 → Sv D f mX7_forget [.ref (ad D 101)] F h2 g (fun h4 g5 => Q (h4 0 9) F h4 g5)) ∧ (¬ (h 0 9) ≤ x2 → vp_in x2 12 ∧ ∃ b7 : Nat, F.2.2 6 (ix x2) = some b7 ∧ vp_in x2 12 ∧ F.2.1 b7 = (18, 0) ∧ ∀ F10, F10 = fwr F 112 (ix x2) (some b7) → ∀ y15 : Int32, y15 = x2 + 1 → V D mX1_read (f + 1) (gi Q T) 78 [(0, .ref (ad D 0)), (2, .int y15)] [] (F10, h, g)))
theorem bX1_read_78 {D : DE} {f : Nat} {Q : Int32 → Frm → HI → HL → Prop} {T : Nat → Frm → HI → HL → Prop} {F : Frm} {h : HI} {g : HL} (hF : k_Fix F) (x2 : Int32) (H : JX1_read_78 D f Q T F h g x2) : V D mX1_read (f + 1) (gi Q T) 78 [(0, .ref (ad D 0)), (2, .int x2)] [] (F, h, g) := by
  refine V_iload_n dX1_read_78 rfl 1 rfl ?_
  refine V_aload_n dX1_read_79 rfl 0 rfl ?_
  refine H_geti ck0 9 (by decide) (fs_0 hF) (by decide) rfl q381 dX1_read_80 ?_
  refine V_icmp_ge (tgt := 107) dX1_read_83 (by decide) (fun c1 => ?_) (fun c1 => ?_)
  · have H := H.1 c1
    refine V_aload_n dX1_read_107 rfl 0 rfl ?_
    refine V_iconst (v := 0) dX1_read_108 (by decide) ?_
    refine H_putz ck0 10 (by decide) (fs_0 hF) (by decide) rfl isB0 rfl q382 dX1_read_109 (fun h2 e3 => ?_)
    have H := H h2 e3
    refine V_aload_n dX1_read_112 rfl 0 rfl ?_
    refine H_getr ck0 4 (by decide) (fs_0 hF) (by decide) rfl (fr_0_4 hF) q376 dX1_read_113 ?_
    refine H_callv (av := [.ref (ad D 101)]) (rest := []) H mqX7_forget q87 (by decide) (Nat.le_of_ble_eq_true rfl) (k_resV (ci := 6) (av := []) (rest := []) (fs_101 hF) (by decide) rfl rfl q1049 q1050 q1051 q1052 mhX7_forget mnX7_forget dX1_read_116) (fun h4 g5 H => ?_)
    refine V_aload_n dX1_read_119 rfl 0 rfl ?_
    refine H_geti ck0 9 (by decide) (fs_0 hF) (by decide) rfl q381 dX1_read_120 ?_
    exact G_iret hF rfl dX1_read_123 H
  · have H := H.2 c1
    refine V_aload_n dX1_read_86 rfl 0 rfl ?_
    refine H_getr ck0 8 (by decide) (fs_0 hF) (by decide) rfl (fr_0_8 hF) q380 dX1_read_87 ?_
    refine V_iload_n dX1_read_90 rfl 1 rfl ?_
    refine V_aload_n dX1_read_91 rfl 0 rfl ?_
    refine H_getr ck0 1 (by decide) (fs_0 hF) (by decide) rfl (fr_0_1 hF) q373 dX1_read_92 ?_
    refine H_getrN ck2 1 (by decide) (fs_5 hF) (by decide) rfl (fr_5_1 hF) q182 dX1_read_95 ?_
    refine V_iload_n dX1_read_98 rfl 1 rfl ?_
    obtain ⟨i6, H⟩ := H
    obtain ⟨b7, z8, H⟩ := H
    refine H_aald (fs_6 hF) (by decide) (by decide) rfl i6 z8 dX1_read_99 ?_
    obtain ⟨i9, H⟩ := H
    obtain ⟨z12, H⟩ := H
    refine G_aast (cb := 8) (fs_112 hF) (by decide) (by decide) rfl i9 z12 (by decide) rfl (k_asgS rfl) dX1_read_100 (fun F10 e11 => ?_)
    have H := H F10 e11
    have hF13 : k_Fix F10 := by rw [e11]; exact k_Fix.wr hF (fx_okA (by decide +kernel)) _
    have z14 : F10.2.1 b7 = (18, 0) := by rw [e11]; exact z12
    obtain ⟨y15, e16⟩ : ∃ y : Int32, y = x2 + 1 := ⟨_, rfl⟩
    have H := H y15 e16
    refine V_iinc (j := 1) (v := y15) (l1 := [(2, .int y15), (0, .ref (ad D 0))]) dX1_read_101 rfl (by rw [e16]; rfl) (by decide) rfl ?_
    refine V_goto (tgt := 78) dX1_read_104 (by decide) ?_
    refine V.sub [1, 0] rfl ?_
    exact H
abbrev JX1_read_0 (D : DE) (f : Nat) (Q : Int32 → Frm → HI → HL → Prop) (T : Nat → Frm → HI → HL → Prop) (F : Frm) (h : HI) (g : HL) : Prop := ¬ (h 0 6) < 0 ∧ ix (h 0 6) ≤ 4000 ∧ ix (h 0 6) ≤ 4000 ∧ (∀ i, i < ix (h 0 6) → fits .byte (.int (h 111 i)) = true) ∧ ∀ h5, h5 = up1 h 2 (va_cpy (h 111) (h 2) 0 0 (ix (h 0 6))) → ∀ h7, h7 = up2 h5 1 1 (h5 0 6) → ∀ h9, h9 = up2 h7 0 6 0 → Gi D f mX1_reads [.ref (ad D 0)] F h9 g (fun y11 F14 h12 g13 => ∀ h17, h17 = up2 h12 0 7 (h12 1 10) → ((¬ y11 = 0 → ∀ h20, h20 = up2 h17 0 9 (h17 5 2) → V D mX1_read (f + 1) (gi Q T) 78 [(0, .ref (ad D 0)), (2, .int 0)] [] (F14, h20, g13)) ∧ (y11 = 0 → Q (-(h17 1 9)) F14 h17 g13))) T
theorem bX1_read_0 {D : DE} {f : Nat} {Q : Int32 → Frm → HI → HL → Prop} {T : Nat → Frm → HI → HL → Prop} {F : Frm} {h : HI} {g : HL} (hF : k_Fix F)  (H : JX1_read_0 D f Q T F h g ) : V D mX1_read (f + 1) (gi Q T) 0 [(0, .ref (ad D 0))] [] (F, h, g) := by
  refine V_aload_n dX1_read_0 rfl 0 rfl ?_
  refine H_getr ck0 5 (by decide) (fs_0 hF) (by decide) rfl (fr_0_5 hF) q377 dX1_read_1 ?_
  refine V_iconst (v := 0) dX1_read_4 (by decide) ?_
  refine V_aload_n dX1_read_5 rfl 0 rfl ?_
  refine H_getr ck0 0 (by decide) (fs_0 hF) (by decide) rfl (fr_0_0 hF) q372 dX1_read_6 ?_
  refine H_getrN ck1 0 (by decide) (fs_1 hF) (by decide) rfl (fr_1_0 hF) q129 dX1_read_9 ?_
  refine V_iconst (v := 0) dX1_read_12 (by decide) ?_
  refine V_aload_n dX1_read_13 rfl 0 rfl ?_
  refine H_geti ck0 6 (by decide) (fs_0 hF) (by decide) rfl q378 dX1_read_14 ?_
  obtain ⟨z1, H⟩ := H
  obtain ⟨z2, H⟩ := H
  obtain ⟨z3, H⟩ := H
  obtain ⟨z4, H⟩ := H
  refine H_copyb (fs_111 hF) (fs_2 hF) z1 z2 z3 z4 (by omega) (Nat.le_of_ble_eq_true rfl) q419 q421 q420 q94 dX1_read_17 (fun h5 e6 => ?_)
  have H := H h5 e6
  refine V_aload_n dX1_read_20 rfl 0 rfl ?_
  refine H_getr ck0 0 (by decide) (fs_0 hF) (by decide) rfl (fr_0_0 hF) q372 dX1_read_21 ?_
  refine V_aload_n dX1_read_24 rfl 0 rfl ?_
  refine H_geti ck0 6 (by decide) (fs_0 hF) (by decide) rfl q378 dX1_read_25 ?_
  refine H_putiN ck1 1 (by decide) (fs_1 hF) (by decide) rfl rfl q131 dX1_read_28 (fun h7 e8 => ?_)
  have H := H h7 e8
  refine V_aload_n dX1_read_31 rfl 0 rfl ?_
  refine V_iconst (v := 0) dX1_read_32 (by decide) ?_
  refine H_puti ck0 6 (by decide) (fs_0 hF) (by decide) rfl rfl q378 dX1_read_33 (fun h9 e10 => ?_)
  have H := H h9 e10
  refine V_aload_n dX1_read_36 rfl 0 rfl ?_
  refine G_calli (av := [.ref (ad D 0)]) (rest := []) H mqX1_reads q81 (by decide) (Nat.le_of_ble_eq_true rfl) (k_resVW (ci := 0) (av := []) (rest := []) (fs_0 hF) (by decide) rfl rfl q422 q424 qs0 q425 mhX1_reads mnX1_reads dX1_read_37) (fun y11 F14 h12 g13 hF15 H => ?_) (fun a e F1 h1 g1 hF1 ha ht => GT_i hF1 rfl ha ht)
  refine V_istore_n (l1 := [(1, .int y11), (0, .ref (ad D 0))]) dX1_read_40 rfl (by decide) rfl ?_
  refine V_aload_n dX1_read_41 rfl 1 rfl ?_
  refine V_aload_n dX1_read_42 rfl 1 rfl ?_
  refine H_getr ck0 0 (by decide) (fs_0 hF15) (by decide) rfl (fr_0_0 hF15) q372 dX1_read_43 ?_
  refine H_getiN ck1 10 (by decide) (fs_1 hF15) (by decide) rfl q146 dX1_read_46 ?_
  refine H_puti ck0 7 (by decide) (fs_0 hF15) (by decide) rfl rfl q379 dX1_read_49 (fun h17 e18 => ?_)
  have H := H h17 e18
  refine V_iload_n dX1_read_52 rfl 0 rfl ?_
  refine V_if_ne (tgt := 65) dX1_read_53 (by decide) (fun c19 => ?_) (fun c19 => ?_)
  · have H := H.1 c19
    refine V_aload_n dX1_read_65 rfl 1 rfl ?_
    refine V_aload_n dX1_read_66 rfl 1 rfl ?_
    refine H_getr ck0 1 (by decide) (fs_0 hF15) (by decide) rfl (fr_0_1 hF15) q373 dX1_read_67 ?_
    refine H_getiN ck2 2 (by decide) (fs_5 hF15) (by decide) rfl q184 dX1_read_70 ?_
    refine H_puti ck0 9 (by decide) (fs_0 hF15) (by decide) rfl rfl q381 dX1_read_73 (fun h20 e21 => ?_)
    have H := H h20 e21
    refine V_iconst (v := 0) dX1_read_76 (by decide) ?_
    refine V_istore_n (l1 := [(2, .int 0), (1, .int y11), (0, .ref (ad D 0))]) dX1_read_77 rfl (by decide) rfl ?_
    refine V.sub [2, 0] rfl ?_
    exact H
  · have H := H.2 c19
    refine V_aload_n dX1_read_56 rfl 1 rfl ?_
    refine H_getr ck0 0 (by decide) (fs_0 hF15) (by decide) rfl (fr_0_0 hF15) q372 dX1_read_57 ?_
    refine H_getiN ck1 9 (by decide) (fs_1 hF15) (by decide) rfl q144 dX1_read_60 ?_
    refine V_ineg dX1_read_63 ?_
    exact G_iret hF15 rfl dX1_read_64 H
theorem wX1_read {D : DE} {f : Nat} {Q : Int32 → Frm → HI → HL → Prop} {T : Nat → Frm → HI → HL → Prop} {F : Frm} {h : HI} {g : HL} (hF : k_Fix F)  (H : JX1_read_0 D f Q T F h g ) : Gi D (f + 1) mX1_read [.ref (ad D 0)] F h g Q T := Cl.ofV (by decide) (Nat.le_of_ble_eq_true rfl) rfl (bX1_read_0 hF  H)
theorem dX0_feed_0 : decode cX0_feed 0 = .ok (.aload 6, 2) := by decide +kernel
theorem dX0_feed_2 : decode cX0_feed 2 = .ok (.iconst 0, 1) := by decide +kernel
theorem dX0_feed_3 : decode cX0_feed 3 = .ok (.aload_n 0, 1) := by decide +kernel
theorem dX0_feed_4 : decode cX0_feed 4 = .ok (.iload_n 1, 1) := by decide +kernel
theorem dX0_feed_5 : decode cX0_feed 5 = .ok (.iload_n 2, 1) := by decide +kernel
theorem dX0_feed_6 : decode cX0_feed 6 = .ok (.iload_n 3, 1) := by decide +kernel
theorem dX0_feed_7 : decode cX0_feed 7 = .ok (.iload 4, 2) := by decide +kernel
theorem dX0_feed_9 : decode cX0_feed 9 = .ok (.iload 5, 2) := by decide +kernel
theorem dX0_feed_11 : decode cX0_feed 11 = .ok (.invokevirtual 7, 3) := by decide +kernel
theorem dX0_feed_14 : decode cX0_feed 14 = .ok (.i2l, 1) := by decide +kernel
theorem dX0_feed_15 : decode cX0_feed 15 = .ok (.lastore, 1) := by decide +kernel
theorem dX0_feed_16 : decode cX0_feed 16 = .ok (.goto 7, 3) := by decide +kernel
theorem dX0_feed_19 : decode cX0_feed 19 = .ok (.astore 7, 2) := by decide +kernel
theorem dX0_feed_21 : decode cX0_feed 21 = .ok (.iconst 1, 1) := by decide +kernel
theorem dX0_feed_22 : decode cX0_feed 22 = .ok (.ireturn, 1) := by decide +kernel
theorem dX0_feed_23 : decode cX0_feed 23 = .ok (.iconst 0, 1) := by decide +kernel
theorem dX0_feed_24 : decode cX0_feed 24 = .ok (.ireturn, 1) := by decide +kernel
abbrev JX0_feed_0 (D : DE) (f : Nat) (Q : Int32 → Frm → HI → HL → Prop) (T : Nat → Frm → HI → HL → Prop) (F : Frm) (h : HI) (g : HL) (x1 : Int32) (x2 : Int32) (x3 : Int32) (x4 : Int32) (x5 : Int32) : Prop := Gi D f mX1_feed [.ref (ad D 0), .int x1, .int x2, .int x3, .int x4, .int x5] F h g (fun y1 F4 h2 g3 => ∀ g7, g7 = up2 g3 159 (ix 0) y1.toInt64 → Q 0 F4 h2 g7) (fun e F1 h1 g1 => (e = 0 ∧ Q 1 F1 h1 g1))
theorem bX0_feed_0 {D : DE} {f : Nat} {Q : Int32 → Frm → HI → HL → Prop} {T : Nat → Frm → HI → HL → Prop} {F : Frm} {h : HI} {g : HL} (hF : k_Fix F) (x1 : Int32) (x2 : Int32) (x3 : Int32) (x4 : Int32) (x5 : Int32) (H : JX0_feed_0 D f Q T F h g x1 x2 x3 x4 x5) : V D mX0_feed (f + 1) (gi Q T) 0 [(0, .ref (ad D 0)), (1, .int x1), (2, .int x2), (3, .int x3), (4, .int x4), (5, .int x5), (6, .ref (ad D 159))] [] (F, h, g) := by
  refine V_aload dX0_feed_0 6 rfl ?_
  refine V_iconst (v := 0) dX0_feed_2 (by decide) ?_
  refine V_aload_n dX0_feed_3 rfl 0 rfl ?_
  refine V_iload_n dX0_feed_4 rfl 1 rfl ?_
  refine V_iload_n dX0_feed_5 rfl 2 rfl ?_
  refine V_iload_n dX0_feed_6 rfl 3 rfl ?_
  refine V_iload dX0_feed_7 4 rfl ?_
  refine V_iload dX0_feed_9 5 rfl ?_
  refine G_calli (av := [.ref (ad D 0), .int x1, .int x2, .int x3, .int x4, .int x5]) (rest := [.int 0, .ref (ad D 159)]) H mqX1_feed q81 (by decide) (Nat.le_of_ble_eq_true rfl) (k_resV (ci := 0) (av := [.int x1, .int x2, .int x3, .int x4, .int x5]) (rest := [.int 0, .ref (ad D 159)]) (fs_0 hF) (by decide) rfl rfl q1061 q1062 q1063 q1064 mhX1_feed mnX1_feed dX0_feed_11) (fun y1 F4 h2 g3 hF5 H => ?_) (fun a e F1 h1 g1 hF1 ha H => ?_)
  · skip
    refine V_i2l dX0_feed_14 ?_
    refine H_last (fs_159 hF5) (by unfold vp_in; decide) dX0_feed_15 (fun g7 e8 => ?_)
    have H := H g7 e8
    refine V_goto (tgt := 23) dX0_feed_16 (by decide) ?_
    refine V_iconst (v := 0) dX0_feed_23 (by decide) ?_
    exact G_iret hF5 rfl dX0_feed_24 H
  · rcases H with ⟨rfl, H⟩
    · refine VT_catch (ci := 18) [] (0, 16, 19, 13) [] rfl ha (by decide) rfl (fun y hy => by cases hy) (by decide) (by decide) q1060 ?_
      refine V_astore (l1 := [(7, .ref (ad D a)), (0, .ref (ad D 0)), (1, .int x1), (2, .int x2), (3, .int x3), (4, .int x4), (5, .int x5), (6, .ref (ad D 159))]) dX0_feed_19 (by decide) rfl ?_
      refine V_iconst (v := 1) dX0_feed_21 (by decide) ?_
      exact G_iret hF1 rfl dX0_feed_22 H
theorem wX0_feed {D : DE} {f : Nat} {Q : Int32 → Frm → HI → HL → Prop} {T : Nat → Frm → HI → HL → Prop} {F : Frm} {h : HI} {g : HL} (hF : k_Fix F) (x1 : Int32) (x2 : Int32) (x3 : Int32) (x4 : Int32) (x5 : Int32) (H : JX0_feed_0 D f Q T F h g x1 x2 x3 x4 x5) : Gi D (f + 1) mX0_feed [.ref (ad D 0), .int x1, .int x2, .int x3, .int x4, .int x5, .ref (ad D 159)] F h g Q T := Cl.ofV (by decide) (Nat.le_of_ble_eq_true rfl) rfl (bX0_feed_0 hF x1 x2 x3 x4 x5 H)
theorem dX0_cut_0 : decode cX0_cut 0 = .ok (.aload_n 2, 1) := by decide +kernel
theorem dX0_cut_1 : decode cX0_cut 1 = .ok (.iconst 0, 1) := by decide +kernel
theorem dX0_cut_2 : decode cX0_cut 2 = .ok (.aload_n 0, 1) := by decide +kernel
theorem dX0_cut_3 : decode cX0_cut 3 = .ok (.iload_n 1, 1) := by decide +kernel
theorem dX0_cut_4 : decode cX0_cut 4 = .ok (.invokevirtual 15, 3) := by decide +kernel
theorem dX0_cut_7 : decode cX0_cut 7 = .ok (.i2l, 1) := by decide +kernel
theorem dX0_cut_8 : decode cX0_cut 8 = .ok (.lastore, 1) := by decide +kernel
theorem dX0_cut_9 : decode cX0_cut 9 = .ok (.goto 6, 3) := by decide +kernel
theorem dX0_cut_12 : decode cX0_cut 12 = .ok (.astore_n 3, 1) := by decide +kernel
theorem dX0_cut_13 : decode cX0_cut 13 = .ok (.iconst 1, 1) := by decide +kernel
theorem dX0_cut_14 : decode cX0_cut 14 = .ok (.ireturn, 1) := by decide +kernel
theorem dX0_cut_15 : decode cX0_cut 15 = .ok (.iconst 0, 1) := by decide +kernel
theorem dX0_cut_16 : decode cX0_cut 16 = .ok (.ireturn, 1) := by decide +kernel
abbrev JX0_cut_0 (D : DE) (f : Nat) (Q : Int32 → Frm → HI → HL → Prop) (T : Nat → Frm → HI → HL → Prop) (F : Frm) (h : HI) (g : HL) (x1 : Int32) : Prop := Gi D f mX1_cut [.ref (ad D 0), .int x1] F h g (fun y1 F4 h2 g3 => ∀ g7, g7 = up2 g3 159 (ix 0) y1.toInt64 → Q 0 F4 h2 g7) (fun e F1 h1 g1 => (e = 1 ∧ Q 1 F1 h1 g1))
theorem bX0_cut_0 {D : DE} {f : Nat} {Q : Int32 → Frm → HI → HL → Prop} {T : Nat → Frm → HI → HL → Prop} {F : Frm} {h : HI} {g : HL} (hF : k_Fix F) (x1 : Int32) (H : JX0_cut_0 D f Q T F h g x1) : V D mX0_cut (f + 1) (gi Q T) 0 [(0, .ref (ad D 0)), (1, .int x1), (2, .ref (ad D 159))] [] (F, h, g) := by
  refine V_aload_n dX0_cut_0 rfl 2 rfl ?_
  refine V_iconst (v := 0) dX0_cut_1 (by decide) ?_
  refine V_aload_n dX0_cut_2 rfl 0 rfl ?_
  refine V_iload_n dX0_cut_3 rfl 1 rfl ?_
  refine G_calli (av := [.ref (ad D 0), .int x1]) (rest := [.int 0, .ref (ad D 159)]) H mqX1_cut q81 (by decide) (Nat.le_of_ble_eq_true rfl) (k_resV (ci := 0) (av := [.int x1]) (rest := [.int 0, .ref (ad D 159)]) (fs_0 hF) (by decide) rfl rfl q1086 q1087 q1088 q1089 mhX1_cut mnX1_cut dX0_cut_4) (fun y1 F4 h2 g3 hF5 H => ?_) (fun a e F1 h1 g1 hF1 ha H => ?_)
  · skip
    refine V_i2l dX0_cut_7 ?_
    refine H_last (fs_159 hF5) (by unfold vp_in; decide) dX0_cut_8 (fun g7 e8 => ?_)
    have H := H g7 e8
    refine V_goto (tgt := 15) dX0_cut_9 (by decide) ?_
    refine V_iconst (v := 0) dX0_cut_15 (by decide) ?_
    exact G_iret hF5 rfl dX0_cut_16 H
  · rcases H with ⟨rfl, H⟩
    · refine VT_catch (ci := 19) [] (0, 9, 12, 19) [] rfl ha (by decide) rfl (fun y hy => by cases hy) (by decide) (by decide) q1085 ?_
      refine V_astore_n (l1 := [(3, .ref (ad D a)), (0, .ref (ad D 0)), (1, .int x1), (2, .ref (ad D 159))]) dX0_cut_12 rfl (by decide) rfl ?_
      refine V_iconst (v := 1) dX0_cut_13 (by decide) ?_
      exact G_iret hF1 rfl dX0_cut_14 H
theorem wX0_cut {D : DE} {f : Nat} {Q : Int32 → Frm → HI → HL → Prop} {T : Nat → Frm → HI → HL → Prop} {F : Frm} {h : HI} {g : HL} (hF : k_Fix F) (x1 : Int32) (H : JX0_cut_0 D f Q T F h g x1) : Gi D (f + 1) mX0_cut [.ref (ad D 0), .int x1, .ref (ad D 159)] F h g Q T := Cl.ofV (by decide) (Nat.le_of_ble_eq_true rfl) rfl (bX0_cut_0 hF x1 H)
theorem dX0_function_0 : decode cX0_function 0 = .ok (.aload_n 3, 1) := by decide +kernel
theorem dX0_function_1 : decode cX0_function 1 = .ok (.iconst 0, 1) := by decide +kernel
theorem dX0_function_2 : decode cX0_function 2 = .ok (.aload_n 0, 1) := by decide +kernel
theorem dX0_function_3 : decode cX0_function 3 = .ok (.iload_n 1, 1) := by decide +kernel
theorem dX0_function_4 : decode cX0_function 4 = .ok (.iload_n 2, 1) := by decide +kernel
theorem dX0_function_5 : decode cX0_function 5 = .ok (.invokevirtual 21, 3) := by decide +kernel
theorem dX0_function_8 : decode cX0_function 8 = .ok (.i2l, 1) := by decide +kernel
theorem dX0_function_9 : decode cX0_function 9 = .ok (.lastore, 1) := by decide +kernel
theorem dX0_function_10 : decode cX0_function 10 = .ok (.goto 7, 3) := by decide +kernel
theorem dX0_function_13 : decode cX0_function 13 = .ok (.astore 4, 2) := by decide +kernel
theorem dX0_function_15 : decode cX0_function 15 = .ok (.iconst 1, 1) := by decide +kernel
theorem dX0_function_16 : decode cX0_function 16 = .ok (.ireturn, 1) := by decide +kernel
theorem dX0_function_17 : decode cX0_function 17 = .ok (.iconst 0, 1) := by decide +kernel
theorem dX0_function_18 : decode cX0_function 18 = .ok (.ireturn, 1) := by decide +kernel
abbrev JX0_function_0 (D : DE) (f : Nat) (Q : Int32 → Frm → HI → HL → Prop) (T : Nat → Frm → HI → HL → Prop) (F : Frm) (h : HI) (g : HL) (x1 : Int32) (x2 : Int32) : Prop := Gi D f mX1_function [.ref (ad D 0), .int x1, .int x2] F h g (fun y1 F4 h2 g3 => ∀ g7, g7 = up2 g3 159 (ix 0) y1.toInt64 → Q 0 F4 h2 g7) (fun e F1 h1 g1 => (e = 2 ∧ Q 1 F1 h1 g1))
theorem bX0_function_0 {D : DE} {f : Nat} {Q : Int32 → Frm → HI → HL → Prop} {T : Nat → Frm → HI → HL → Prop} {F : Frm} {h : HI} {g : HL} (hF : k_Fix F) (x1 : Int32) (x2 : Int32) (H : JX0_function_0 D f Q T F h g x1 x2) : V D mX0_function (f + 1) (gi Q T) 0 [(0, .ref (ad D 0)), (1, .int x1), (2, .int x2), (3, .ref (ad D 159))] [] (F, h, g) := by
  refine V_aload_n dX0_function_0 rfl 3 rfl ?_
  refine V_iconst (v := 0) dX0_function_1 (by decide) ?_
  refine V_aload_n dX0_function_2 rfl 0 rfl ?_
  refine V_iload_n dX0_function_3 rfl 1 rfl ?_
  refine V_iload_n dX0_function_4 rfl 2 rfl ?_
  refine G_calli (av := [.ref (ad D 0), .int x1, .int x2]) (rest := [.int 0, .ref (ad D 159)]) H mqX1_function q81 (by decide) (Nat.le_of_ble_eq_true rfl) (k_resV (ci := 0) (av := [.int x1, .int x2]) (rest := [.int 0, .ref (ad D 159)]) (fs_0 hF) (by decide) rfl rfl q1135 q1136 q1137 q1138 mhX1_function mnX1_function dX0_function_5) (fun y1 F4 h2 g3 hF5 H => ?_) (fun a e F1 h1 g1 hF1 ha H => ?_)
  · skip
    refine V_i2l dX0_function_8 ?_
    refine H_last (fs_159 hF5) (by unfold vp_in; decide) dX0_function_9 (fun g7 e8 => ?_)
    have H := H g7 e8
    refine V_goto (tgt := 17) dX0_function_10 (by decide) ?_
    refine V_iconst (v := 0) dX0_function_17 (by decide) ?_
    exact G_iret hF5 rfl dX0_function_18 H
  · rcases H with ⟨rfl, H⟩
    · refine VT_catch (ci := 20) [] (0, 10, 13, 25) [] rfl ha (by decide) rfl (fun y hy => by cases hy) (by decide) (by decide) q1111 ?_
      refine V_astore (l1 := [(4, .ref (ad D a)), (0, .ref (ad D 0)), (1, .int x1), (2, .int x2), (3, .ref (ad D 159))]) dX0_function_13 (by decide) rfl ?_
      refine V_iconst (v := 1) dX0_function_15 (by decide) ?_
      exact G_iret hF1 rfl dX0_function_16 H
theorem wX0_function {D : DE} {f : Nat} {Q : Int32 → Frm → HI → HL → Prop} {T : Nat → Frm → HI → HL → Prop} {F : Frm} {h : HI} {g : HL} (hF : k_Fix F) (x1 : Int32) (x2 : Int32) (H : JX0_function_0 D f Q T F h g x1 x2) : Gi D (f + 1) mX0_function [.ref (ad D 0), .int x1, .int x2, .ref (ad D 159)] F h g Q T := Cl.ofV (by decide) (Nat.le_of_ble_eq_true rfl) rfl (bX0_function_0 hF x1 x2 H)
theorem dX0_rounds_0 : decode cX0_rounds 0 = .ok (.aload_n 1, 1) := by decide +kernel
theorem dX0_rounds_1 : decode cX0_rounds 1 = .ok (.iconst 0, 1) := by decide +kernel
theorem dX0_rounds_2 : decode cX0_rounds 2 = .ok (.aload_n 0, 1) := by decide +kernel
theorem dX0_rounds_3 : decode cX0_rounds 3 = .ok (.invokevirtual 27, 3) := by decide +kernel
theorem dX0_rounds_6 : decode cX0_rounds 6 = .ok (.i2l, 1) := by decide +kernel
theorem dX0_rounds_7 : decode cX0_rounds 7 = .ok (.lastore, 1) := by decide +kernel
theorem dX0_rounds_8 : decode cX0_rounds 8 = .ok (.goto 6, 3) := by decide +kernel
theorem dX0_rounds_11 : decode cX0_rounds 11 = .ok (.astore_n 2, 1) := by decide +kernel
theorem dX0_rounds_12 : decode cX0_rounds 12 = .ok (.iconst 1, 1) := by decide +kernel
theorem dX0_rounds_13 : decode cX0_rounds 13 = .ok (.ireturn, 1) := by decide +kernel
theorem dX0_rounds_14 : decode cX0_rounds 14 = .ok (.iconst 0, 1) := by decide +kernel
theorem dX0_rounds_15 : decode cX0_rounds 15 = .ok (.ireturn, 1) := by decide +kernel
abbrev JX0_rounds_0 (D : DE) (f : Nat) (Q : Int32 → Frm → HI → HL → Prop) (T : Nat → Frm → HI → HL → Prop) (F : Frm) (h : HI) (g : HL) : Prop := Gi D f mX1_rounds [.ref (ad D 0)] F h g (fun y1 F4 h2 g3 => ∀ g7, g7 = up2 g3 159 (ix 0) y1.toInt64 → Q 0 F4 h2 g7) (fun e F1 h1 g1 => (e = 0 ∧ Q 1 F1 h1 g1))
theorem bX0_rounds_0 {D : DE} {f : Nat} {Q : Int32 → Frm → HI → HL → Prop} {T : Nat → Frm → HI → HL → Prop} {F : Frm} {h : HI} {g : HL} (hF : k_Fix F)  (H : JX0_rounds_0 D f Q T F h g ) : V D mX0_rounds (f + 1) (gi Q T) 0 [(0, .ref (ad D 0)), (1, .ref (ad D 159))] [] (F, h, g) := by
  refine V_aload_n dX0_rounds_0 rfl 1 rfl ?_
  refine V_iconst (v := 0) dX0_rounds_1 (by decide) ?_
  refine V_aload_n dX0_rounds_2 rfl 0 rfl ?_
  refine G_calli (av := [.ref (ad D 0)]) (rest := [.int 0, .ref (ad D 159)]) H mqX1_rounds q81 (by decide) (Nat.le_of_ble_eq_true rfl) (k_resV (ci := 0) (av := []) (rest := [.int 0, .ref (ad D 159)]) (fs_0 hF) (by decide) rfl rfl q1169 q1170 q1171 q1172 mhX1_rounds mnX1_rounds dX0_rounds_3) (fun y1 F4 h2 g3 hF5 H => ?_) (fun a e F1 h1 g1 hF1 ha H => ?_)
  · skip
    refine V_i2l dX0_rounds_6 ?_
    refine H_last (fs_159 hF5) (by unfold vp_in; decide) dX0_rounds_7 (fun g7 e8 => ?_)
    have H := H g7 e8
    refine V_goto (tgt := 14) dX0_rounds_8 (by decide) ?_
    refine V_iconst (v := 0) dX0_rounds_14 (by decide) ?_
    exact G_iret hF5 rfl dX0_rounds_15 H
  · rcases H with ⟨rfl, H⟩
    · refine VT_catch (ci := 18) [] (0, 8, 11, 13) [] rfl ha (by decide) rfl (fun y hy => by cases hy) (by decide) (by decide) q1060 ?_
      refine V_astore_n (l1 := [(2, .ref (ad D a)), (0, .ref (ad D 0)), (1, .ref (ad D 159))]) dX0_rounds_11 rfl (by decide) rfl ?_
      refine V_iconst (v := 1) dX0_rounds_12 (by decide) ?_
      exact G_iret hF1 rfl dX0_rounds_13 H
theorem wX0_rounds {D : DE} {f : Nat} {Q : Int32 → Frm → HI → HL → Prop} {T : Nat → Frm → HI → HL → Prop} {F : Frm} {h : HI} {g : HL} (hF : k_Fix F)  (H : JX0_rounds_0 D f Q T F h g ) : Gi D (f + 1) mX0_rounds [.ref (ad D 0), .ref (ad D 159)] F h g Q T := Cl.ofV (by decide) (Nat.le_of_ble_eq_true rfl) rfl (bX0_rounds_0 hF  H)
theorem dX0_dead_0 : decode cX0_dead 0 = .ok (.aload_n 3, 1) := by decide +kernel
theorem dX0_dead_1 : decode cX0_dead 1 = .ok (.iconst 0, 1) := by decide +kernel
theorem dX0_dead_2 : decode cX0_dead 2 = .ok (.aload_n 0, 1) := by decide +kernel
theorem dX0_dead_3 : decode cX0_dead 3 = .ok (.iload_n 1, 1) := by decide +kernel
theorem dX0_dead_4 : decode cX0_dead 4 = .ok (.iload_n 2, 1) := by decide +kernel
theorem dX0_dead_5 : decode cX0_dead 5 = .ok (.invokevirtual 31, 3) := by decide +kernel
theorem dX0_dead_8 : decode cX0_dead 8 = .ok (.ifCond .eq 7, 3) := by decide +kernel
theorem dX0_dead_11 : decode cX0_dead 11 = .ok (.lconst 1, 1) := by decide +kernel
theorem dX0_dead_12 : decode cX0_dead 12 = .ok (.goto 4, 3) := by decide +kernel
theorem dX0_dead_15 : decode cX0_dead 15 = .ok (.lconst 0, 1) := by decide +kernel
theorem dX0_dead_16 : decode cX0_dead 16 = .ok (.lastore, 1) := by decide +kernel
theorem dX0_dead_17 : decode cX0_dead 17 = .ok (.goto 11, 3) := by decide +kernel
theorem dX0_dead_20 : decode cX0_dead 20 = .ok (.astore 4, 2) := by decide +kernel
theorem dX0_dead_22 : decode cX0_dead 22 = .ok (.iconst 1, 1) := by decide +kernel
theorem dX0_dead_23 : decode cX0_dead 23 = .ok (.ireturn, 1) := by decide +kernel
theorem dX0_dead_24 : decode cX0_dead 24 = .ok (.astore 4, 2) := by decide +kernel
theorem dX0_dead_26 : decode cX0_dead 26 = .ok (.iconst 2, 1) := by decide +kernel
theorem dX0_dead_27 : decode cX0_dead 27 = .ok (.ireturn, 1) := by decide +kernel
theorem dX0_dead_28 : decode cX0_dead 28 = .ok (.iconst 0, 1) := by decide +kernel
theorem dX0_dead_29 : decode cX0_dead 29 = .ok (.ireturn, 1) := by decide +kernel
abbrev JX0_dead_0 (D : DE) (f : Nat) (Q : Int32 → Frm → HI → HL → Prop) (T : Nat → Frm → HI → HL → Prop) (F : Frm) (h : HI) (g : HL) (x1 : Int32) (x2 : Int32) : Prop := Gi D f mX1_dead [.ref (ad D 0), .int x1, .int x2] F h g (fun y1 F4 h2 g3 => ((y1 = 0 → ∀ g8, g8 = up2 g3 159 (ix 0) 0 → Q 0 F4 h2 g8) ∧ (¬ y1 = 0 → ∀ g10, g10 = up2 g3 159 (ix 0) 1 → Q 0 F4 h2 g10))) (fun e F1 h1 g1 => (e = 0 ∧ Q 1 F1 h1 g1) ∨ (e = 2 ∧ Q 2 F1 h1 g1))
theorem bX0_dead_0 {D : DE} {f : Nat} {Q : Int32 → Frm → HI → HL → Prop} {T : Nat → Frm → HI → HL → Prop} {F : Frm} {h : HI} {g : HL} (hF : k_Fix F) (x1 : Int32) (x2 : Int32) (H : JX0_dead_0 D f Q T F h g x1 x2) : V D mX0_dead (f + 1) (gi Q T) 0 [(0, .ref (ad D 0)), (1, .int x1), (2, .int x2), (3, .ref (ad D 159))] [] (F, h, g) := by
  refine V_aload_n dX0_dead_0 rfl 3 rfl ?_
  refine V_iconst (v := 0) dX0_dead_1 (by decide) ?_
  refine V_aload_n dX0_dead_2 rfl 0 rfl ?_
  refine V_iload_n dX0_dead_3 rfl 1 rfl ?_
  refine V_iload_n dX0_dead_4 rfl 2 rfl ?_
  refine G_calli (av := [.ref (ad D 0), .int x1, .int x2]) (rest := [.int 0, .ref (ad D 159)]) H mqX1_dead q81 (by decide) (Nat.le_of_ble_eq_true rfl) (k_resV (ci := 0) (av := [.int x1, .int x2]) (rest := [.int 0, .ref (ad D 159)]) (fs_0 hF) (by decide) rfl rfl q1268 q1269 q1270 q1271 mhX1_dead mnX1_dead dX0_dead_5) (fun y1 F4 h2 g3 hF5 H => ?_) (fun a e F1 h1 g1 hF1 ha H => ?_)
  · skip
    refine V_if_eq (tgt := 15) dX0_dead_8 (by decide) (fun c7 => ?_) (fun c7 => ?_)
    · have H := H.1 c7
      refine V_lconst (v := 0) dX0_dead_15 (by decide) ?_
      refine H_last (fs_159 hF5) (by unfold vp_in; decide) dX0_dead_16 (fun g8 e9 => ?_)
      have H := H g8 e9
      refine V_goto (tgt := 28) dX0_dead_17 (by decide) ?_
      refine V_iconst (v := 0) dX0_dead_28 (by decide) ?_
      exact G_iret hF5 rfl dX0_dead_29 H
    · have H := H.2 c7
      refine V_lconst (v := 1) dX0_dead_11 (by decide) ?_
      refine V_goto (tgt := 16) dX0_dead_12 (by decide) ?_
      refine H_last (fs_159 hF5) (by unfold vp_in; decide) dX0_dead_16 (fun g10 e11 => ?_)
      have H := H g10 e11
      refine V_goto (tgt := 28) dX0_dead_17 (by decide) ?_
      refine V_iconst (v := 0) dX0_dead_28 (by decide) ?_
      exact G_iret hF5 rfl dX0_dead_29 H
  · rcases H with ⟨rfl, H⟩ | ⟨rfl, H⟩
    · refine VT_catch (ci := 18) [] (0, 17, 20, 13) [(0, 17, 24, 25)] rfl ha (by decide) rfl (fun y hy => by cases hy) (by decide) (by decide) q1060 ?_
      refine V_astore (l1 := [(4, .ref (ad D a)), (0, .ref (ad D 0)), (1, .int x1), (2, .int x2), (3, .ref (ad D 159))]) dX0_dead_20 (by decide) rfl ?_
      refine V_iconst (v := 1) dX0_dead_22 (by decide) ?_
      exact G_iret hF1 rfl dX0_dead_23 H
    · refine VT_catch (ci := 20) [(0, 17, 20, 13)] (0, 17, 24, 25) [] rfl ha (by decide) rfl (fun y hy => by rcases List.mem_singleton.mp hy with rfl; exact ⟨by decide, by decide, _, q1060, fun _ hE => hE.2.2.2.2.2.2.2.2.2.2.2.2.2.2.2.2.2.2.2.2.2.1⟩) (by decide) (by decide) q1111 ?_
      refine V_astore (l1 := [(4, .ref (ad D a)), (0, .ref (ad D 0)), (1, .int x1), (2, .int x2), (3, .ref (ad D 159))]) dX0_dead_24 (by decide) rfl ?_
      refine V_iconst (v := 2) dX0_dead_26 (by decide) ?_
      exact G_iret hF1 rfl dX0_dead_27 H
theorem wX0_dead {D : DE} {f : Nat} {Q : Int32 → Frm → HI → HL → Prop} {T : Nat → Frm → HI → HL → Prop} {F : Frm} {h : HI} {g : HL} (hF : k_Fix F) (x1 : Int32) (x2 : Int32) (H : JX0_dead_0 D f Q T F h g x1 x2) : Gi D (f + 1) mX0_dead [.ref (ad D 0), .int x1, .int x2, .ref (ad D 159)] F h g Q T := Cl.ofV (by decide) (Nat.le_of_ble_eq_true rfl) rfl (bX0_dead_0 hF x1 x2 H)
theorem dX0_asks_0 : decode cX0_asks 0 = .ok (.aload 4, 2) := by decide +kernel
theorem dX0_asks_2 : decode cX0_asks 2 = .ok (.iconst 0, 1) := by decide +kernel
theorem dX0_asks_3 : decode cX0_asks 3 = .ok (.aload_n 0, 1) := by decide +kernel
theorem dX0_asks_4 : decode cX0_asks 4 = .ok (.iload_n 1, 1) := by decide +kernel
theorem dX0_asks_5 : decode cX0_asks 5 = .ok (.iload_n 2, 1) := by decide +kernel
theorem dX0_asks_6 : decode cX0_asks 6 = .ok (.iload_n 3, 1) := by decide +kernel
theorem dX0_asks_7 : decode cX0_asks 7 = .ok (.invokevirtual 35, 3) := by decide +kernel
theorem dX0_asks_10 : decode cX0_asks 10 = .ok (.i2l, 1) := by decide +kernel
theorem dX0_asks_11 : decode cX0_asks 11 = .ok (.lastore, 1) := by decide +kernel
theorem dX0_asks_12 : decode cX0_asks 12 = .ok (.goto 11, 3) := by decide +kernel
theorem dX0_asks_15 : decode cX0_asks 15 = .ok (.astore 5, 2) := by decide +kernel
theorem dX0_asks_17 : decode cX0_asks 17 = .ok (.iconst 1, 1) := by decide +kernel
theorem dX0_asks_18 : decode cX0_asks 18 = .ok (.ireturn, 1) := by decide +kernel
theorem dX0_asks_19 : decode cX0_asks 19 = .ok (.astore 5, 2) := by decide +kernel
theorem dX0_asks_21 : decode cX0_asks 21 = .ok (.iconst 2, 1) := by decide +kernel
theorem dX0_asks_22 : decode cX0_asks 22 = .ok (.ireturn, 1) := by decide +kernel
theorem dX0_asks_23 : decode cX0_asks 23 = .ok (.iconst 0, 1) := by decide +kernel
theorem dX0_asks_24 : decode cX0_asks 24 = .ok (.ireturn, 1) := by decide +kernel
abbrev JX0_asks_0 (D : DE) (f : Nat) (Q : Int32 → Frm → HI → HL → Prop) (T : Nat → Frm → HI → HL → Prop) (F : Frm) (h : HI) (g : HL) (x1 : Int32) (x2 : Int32) (x3 : Int32) : Prop := Gi D f mX1_asks [.ref (ad D 0), .int x1, .int x2, .int x3] F h g (fun y1 F4 h2 g3 => ∀ g7, g7 = up2 g3 159 (ix 0) y1.toInt64 → Q 0 F4 h2 g7) (fun e F1 h1 g1 => (e = 0 ∧ Q 1 F1 h1 g1) ∨ (e = 2 ∧ Q 2 F1 h1 g1))
theorem bX0_asks_0 {D : DE} {f : Nat} {Q : Int32 → Frm → HI → HL → Prop} {T : Nat → Frm → HI → HL → Prop} {F : Frm} {h : HI} {g : HL} (hF : k_Fix F) (x1 : Int32) (x2 : Int32) (x3 : Int32) (H : JX0_asks_0 D f Q T F h g x1 x2 x3) : V D mX0_asks (f + 1) (gi Q T) 0 [(0, .ref (ad D 0)), (1, .int x1), (2, .int x2), (3, .int x3), (4, .ref (ad D 159))] [] (F, h, g) := by
  refine V_aload dX0_asks_0 4 rfl ?_
  refine V_iconst (v := 0) dX0_asks_2 (by decide) ?_
  refine V_aload_n dX0_asks_3 rfl 0 rfl ?_
  refine V_iload_n dX0_asks_4 rfl 1 rfl ?_
  refine V_iload_n dX0_asks_5 rfl 2 rfl ?_
  refine V_iload_n dX0_asks_6 rfl 3 rfl ?_
  refine G_calli (av := [.ref (ad D 0), .int x1, .int x2, .int x3]) (rest := [.int 0, .ref (ad D 159)]) H mqX1_asks q81 (by decide) (Nat.le_of_ble_eq_true rfl) (k_resV (ci := 0) (av := [.int x1, .int x2, .int x3]) (rest := [.int 0, .ref (ad D 159)]) (fs_0 hF) (by decide) rfl rfl q1279 q1280 q1281 q1282 mhX1_asks mnX1_asks dX0_asks_7) (fun y1 F4 h2 g3 hF5 H => ?_) (fun a e F1 h1 g1 hF1 ha H => ?_)
  · skip
    refine V_i2l dX0_asks_10 ?_
    refine H_last (fs_159 hF5) (by unfold vp_in; decide) dX0_asks_11 (fun g7 e8 => ?_)
    have H := H g7 e8
    refine V_goto (tgt := 23) dX0_asks_12 (by decide) ?_
    refine V_iconst (v := 0) dX0_asks_23 (by decide) ?_
    exact G_iret hF5 rfl dX0_asks_24 H
  · rcases H with ⟨rfl, H⟩ | ⟨rfl, H⟩
    · refine VT_catch (ci := 18) [] (0, 12, 15, 13) [(0, 12, 19, 25)] rfl ha (by decide) rfl (fun y hy => by cases hy) (by decide) (by decide) q1060 ?_
      refine V_astore (l1 := [(5, .ref (ad D a)), (0, .ref (ad D 0)), (1, .int x1), (2, .int x2), (3, .int x3), (4, .ref (ad D 159))]) dX0_asks_15 (by decide) rfl ?_
      refine V_iconst (v := 1) dX0_asks_17 (by decide) ?_
      exact G_iret hF1 rfl dX0_asks_18 H
    · refine VT_catch (ci := 20) [(0, 12, 15, 13)] (0, 12, 19, 25) [] rfl ha (by decide) rfl (fun y hy => by rcases List.mem_singleton.mp hy with rfl; exact ⟨by decide, by decide, _, q1060, fun _ hE => hE.2.2.2.2.2.2.2.2.2.2.2.2.2.2.2.2.2.2.2.2.2.1⟩) (by decide) (by decide) q1111 ?_
      refine V_astore (l1 := [(5, .ref (ad D a)), (0, .ref (ad D 0)), (1, .int x1), (2, .int x2), (3, .int x3), (4, .ref (ad D 159))]) dX0_asks_19 (by decide) rfl ?_
      refine V_iconst (v := 2) dX0_asks_21 (by decide) ?_
      exact G_iret hF1 rfl dX0_asks_22 H
theorem wX0_asks {D : DE} {f : Nat} {Q : Int32 → Frm → HI → HL → Prop} {T : Nat → Frm → HI → HL → Prop} {F : Frm} {h : HI} {g : HL} (hF : k_Fix F) (x1 : Int32) (x2 : Int32) (x3 : Int32) (H : JX0_asks_0 D f Q T F h g x1 x2 x3) : Gi D (f + 1) mX0_asks [.ref (ad D 0), .int x1, .int x2, .int x3, .ref (ad D 159)] F h g Q T := Cl.ofV (by decide) (Nat.le_of_ble_eq_true rfl) rfl (bX0_asks_0 hF x1 x2 x3 H)
theorem dX0_strict_0 : decode cX0_strict 0 = .ok (.aload_n 3, 1) := by decide +kernel
theorem dX0_strict_1 : decode cX0_strict 1 = .ok (.iconst 0, 1) := by decide +kernel
theorem dX0_strict_2 : decode cX0_strict 2 = .ok (.aload_n 0, 1) := by decide +kernel
theorem dX0_strict_3 : decode cX0_strict 3 = .ok (.iload_n 1, 1) := by decide +kernel
theorem dX0_strict_4 : decode cX0_strict 4 = .ok (.iload_n 2, 1) := by decide +kernel
theorem dX0_strict_5 : decode cX0_strict 5 = .ok (.invokevirtual 39, 3) := by decide +kernel
theorem dX0_strict_8 : decode cX0_strict 8 = .ok (.ifCond .eq 7, 3) := by decide +kernel
theorem dX0_strict_11 : decode cX0_strict 11 = .ok (.lconst 1, 1) := by decide +kernel
theorem dX0_strict_12 : decode cX0_strict 12 = .ok (.goto 4, 3) := by decide +kernel
theorem dX0_strict_15 : decode cX0_strict 15 = .ok (.lconst 0, 1) := by decide +kernel
theorem dX0_strict_16 : decode cX0_strict 16 = .ok (.lastore, 1) := by decide +kernel
theorem dX0_strict_17 : decode cX0_strict 17 = .ok (.goto 11, 3) := by decide +kernel
theorem dX0_strict_20 : decode cX0_strict 20 = .ok (.astore 4, 2) := by decide +kernel
theorem dX0_strict_22 : decode cX0_strict 22 = .ok (.iconst 1, 1) := by decide +kernel
theorem dX0_strict_23 : decode cX0_strict 23 = .ok (.ireturn, 1) := by decide +kernel
theorem dX0_strict_24 : decode cX0_strict 24 = .ok (.astore 4, 2) := by decide +kernel
theorem dX0_strict_26 : decode cX0_strict 26 = .ok (.iconst 2, 1) := by decide +kernel
theorem dX0_strict_27 : decode cX0_strict 27 = .ok (.ireturn, 1) := by decide +kernel
theorem dX0_strict_28 : decode cX0_strict 28 = .ok (.iconst 0, 1) := by decide +kernel
theorem dX0_strict_29 : decode cX0_strict 29 = .ok (.ireturn, 1) := by decide +kernel
abbrev JX0_strict_0 (D : DE) (f : Nat) (Q : Int32 → Frm → HI → HL → Prop) (T : Nat → Frm → HI → HL → Prop) (F : Frm) (h : HI) (g : HL) (x1 : Int32) (x2 : Int32) : Prop := Gi D f mX1_strict [.ref (ad D 0), .int x1, .int x2] F h g (fun y1 F4 h2 g3 => ((y1 = 0 → ∀ g8, g8 = up2 g3 159 (ix 0) 0 → Q 0 F4 h2 g8) ∧ (¬ y1 = 0 → ∀ g10, g10 = up2 g3 159 (ix 0) 1 → Q 0 F4 h2 g10))) (fun e F1 h1 g1 => (e = 0 ∧ Q 1 F1 h1 g1) ∨ (e = 2 ∧ Q 2 F1 h1 g1))
theorem bX0_strict_0 {D : DE} {f : Nat} {Q : Int32 → Frm → HI → HL → Prop} {T : Nat → Frm → HI → HL → Prop} {F : Frm} {h : HI} {g : HL} (hF : k_Fix F) (x1 : Int32) (x2 : Int32) (H : JX0_strict_0 D f Q T F h g x1 x2) : V D mX0_strict (f + 1) (gi Q T) 0 [(0, .ref (ad D 0)), (1, .int x1), (2, .int x2), (3, .ref (ad D 159))] [] (F, h, g) := by
  refine V_aload_n dX0_strict_0 rfl 3 rfl ?_
  refine V_iconst (v := 0) dX0_strict_1 (by decide) ?_
  refine V_aload_n dX0_strict_2 rfl 0 rfl ?_
  refine V_iload_n dX0_strict_3 rfl 1 rfl ?_
  refine V_iload_n dX0_strict_4 rfl 2 rfl ?_
  refine G_calli (av := [.ref (ad D 0), .int x1, .int x2]) (rest := [.int 0, .ref (ad D 159)]) H mqX1_strict q81 (by decide) (Nat.le_of_ble_eq_true rfl) (k_resV (ci := 0) (av := [.int x1, .int x2]) (rest := [.int 0, .ref (ad D 159)]) (fs_0 hF) (by decide) rfl rfl q1286 q1287 q1288 q1289 mhX1_strict mnX1_strict dX0_strict_5) (fun y1 F4 h2 g3 hF5 H => ?_) (fun a e F1 h1 g1 hF1 ha H => ?_)
  · skip
    refine V_if_eq (tgt := 15) dX0_strict_8 (by decide) (fun c7 => ?_) (fun c7 => ?_)
    · have H := H.1 c7
      refine V_lconst (v := 0) dX0_strict_15 (by decide) ?_
      refine H_last (fs_159 hF5) (by unfold vp_in; decide) dX0_strict_16 (fun g8 e9 => ?_)
      have H := H g8 e9
      refine V_goto (tgt := 28) dX0_strict_17 (by decide) ?_
      refine V_iconst (v := 0) dX0_strict_28 (by decide) ?_
      exact G_iret hF5 rfl dX0_strict_29 H
    · have H := H.2 c7
      refine V_lconst (v := 1) dX0_strict_11 (by decide) ?_
      refine V_goto (tgt := 16) dX0_strict_12 (by decide) ?_
      refine H_last (fs_159 hF5) (by unfold vp_in; decide) dX0_strict_16 (fun g10 e11 => ?_)
      have H := H g10 e11
      refine V_goto (tgt := 28) dX0_strict_17 (by decide) ?_
      refine V_iconst (v := 0) dX0_strict_28 (by decide) ?_
      exact G_iret hF5 rfl dX0_strict_29 H
  · rcases H with ⟨rfl, H⟩ | ⟨rfl, H⟩
    · refine VT_catch (ci := 18) [] (0, 17, 20, 13) [(0, 17, 24, 25)] rfl ha (by decide) rfl (fun y hy => by cases hy) (by decide) (by decide) q1060 ?_
      refine V_astore (l1 := [(4, .ref (ad D a)), (0, .ref (ad D 0)), (1, .int x1), (2, .int x2), (3, .ref (ad D 159))]) dX0_strict_20 (by decide) rfl ?_
      refine V_iconst (v := 1) dX0_strict_22 (by decide) ?_
      exact G_iret hF1 rfl dX0_strict_23 H
    · refine VT_catch (ci := 20) [(0, 17, 20, 13)] (0, 17, 24, 25) [] rfl ha (by decide) rfl (fun y hy => by rcases List.mem_singleton.mp hy with rfl; exact ⟨by decide, by decide, _, q1060, fun _ hE => hE.2.2.2.2.2.2.2.2.2.2.2.2.2.2.2.2.2.2.2.2.2.1⟩) (by decide) (by decide) q1111 ?_
      refine V_astore (l1 := [(4, .ref (ad D a)), (0, .ref (ad D 0)), (1, .int x1), (2, .int x2), (3, .ref (ad D 159))]) dX0_strict_24 (by decide) rfl ?_
      refine V_iconst (v := 2) dX0_strict_26 (by decide) ?_
      exact G_iret hF1 rfl dX0_strict_27 H
theorem wX0_strict {D : DE} {f : Nat} {Q : Int32 → Frm → HI → HL → Prop} {T : Nat → Frm → HI → HL → Prop} {F : Frm} {h : HI} {g : HL} (hF : k_Fix F) (x1 : Int32) (x2 : Int32) (H : JX0_strict_0 D f Q T F h g x1 x2) : Gi D (f + 1) mX0_strict [.ref (ad D 0), .int x1, .int x2, .ref (ad D 159)] F h g Q T := Cl.ofV (by decide) (Nat.le_of_ble_eq_true rfl) rfl (bX0_strict_0 hF x1 x2 H)
theorem dX0_plant_0 : decode cX0_plant 0 = .ok (.aload 5, 2) := by decide +kernel
theorem dX0_plant_2 : decode cX0_plant 2 = .ok (.iconst 0, 1) := by decide +kernel
theorem dX0_plant_3 : decode cX0_plant 3 = .ok (.aload_n 0, 1) := by decide +kernel
theorem dX0_plant_4 : decode cX0_plant 4 = .ok (.iload_n 1, 1) := by decide +kernel
theorem dX0_plant_5 : decode cX0_plant 5 = .ok (.iload_n 2, 1) := by decide +kernel
theorem dX0_plant_6 : decode cX0_plant 6 = .ok (.iload_n 3, 1) := by decide +kernel
theorem dX0_plant_7 : decode cX0_plant 7 = .ok (.iload 4, 2) := by decide +kernel
theorem dX0_plant_9 : decode cX0_plant 9 = .ok (.invokevirtual 42, 3) := by decide +kernel
theorem dX0_plant_12 : decode cX0_plant 12 = .ok (.i2l, 1) := by decide +kernel
theorem dX0_plant_13 : decode cX0_plant 13 = .ok (.lastore, 1) := by decide +kernel
theorem dX0_plant_14 : decode cX0_plant 14 = .ok (.goto 15, 3) := by decide +kernel
theorem dX0_plant_17 : decode cX0_plant 17 = .ok (.astore 6, 2) := by decide +kernel
theorem dX0_plant_19 : decode cX0_plant 19 = .ok (.iconst 1, 1) := by decide +kernel
theorem dX0_plant_20 : decode cX0_plant 20 = .ok (.ireturn, 1) := by decide +kernel
theorem dX0_plant_21 : decode cX0_plant 21 = .ok (.astore 6, 2) := by decide +kernel
theorem dX0_plant_23 : decode cX0_plant 23 = .ok (.iconst 2, 1) := by decide +kernel
theorem dX0_plant_24 : decode cX0_plant 24 = .ok (.ireturn, 1) := by decide +kernel
theorem dX0_plant_25 : decode cX0_plant 25 = .ok (.astore 6, 2) := by decide +kernel
theorem dX0_plant_27 : decode cX0_plant 27 = .ok (.iconst 3, 1) := by decide +kernel
theorem dX0_plant_28 : decode cX0_plant 28 = .ok (.ireturn, 1) := by decide +kernel
theorem dX0_plant_29 : decode cX0_plant 29 = .ok (.iconst 0, 1) := by decide +kernel
theorem dX0_plant_30 : decode cX0_plant 30 = .ok (.ireturn, 1) := by decide +kernel
abbrev JX0_plant_0 (D : DE) (f : Nat) (Q : Int32 → Frm → HI → HL → Prop) (T : Nat → Frm → HI → HL → Prop) (F : Frm) (h : HI) (g : HL) (x1 : Int32) (x2 : Int32) (x3 : Int32) (x4 : Int32) : Prop := Gi D f mX1_plant [.ref (ad D 0), .int x1, .int x2, .int x3, .int x4] F h g (fun y1 F4 h2 g3 => ∀ g7, g7 = up2 g3 159 (ix 0) y1.toInt64 → Q 0 F4 h2 g7) (fun e F1 h1 g1 => (e = 0 ∧ Q 1 F1 h1 g1) ∨ (e = 2 ∧ Q 2 F1 h1 g1) ∨ (e = 1 ∧ Q 3 F1 h1 g1))
theorem bX0_plant_0 {D : DE} {f : Nat} {Q : Int32 → Frm → HI → HL → Prop} {T : Nat → Frm → HI → HL → Prop} {F : Frm} {h : HI} {g : HL} (hF : k_Fix F) (x1 : Int32) (x2 : Int32) (x3 : Int32) (x4 : Int32) (H : JX0_plant_0 D f Q T F h g x1 x2 x3 x4) : V D mX0_plant (f + 1) (gi Q T) 0 [(0, .ref (ad D 0)), (1, .int x1), (2, .int x2), (3, .int x3), (4, .int x4), (5, .ref (ad D 159))] [] (F, h, g) := by
  refine V_aload dX0_plant_0 5 rfl ?_
  refine V_iconst (v := 0) dX0_plant_2 (by decide) ?_
  refine V_aload_n dX0_plant_3 rfl 0 rfl ?_
  refine V_iload_n dX0_plant_4 rfl 1 rfl ?_
  refine V_iload_n dX0_plant_5 rfl 2 rfl ?_
  refine V_iload_n dX0_plant_6 rfl 3 rfl ?_
  refine V_iload dX0_plant_7 4 rfl ?_
  refine G_calli (av := [.ref (ad D 0), .int x1, .int x2, .int x3, .int x4]) (rest := [.int 0, .ref (ad D 159)]) H mqX1_plant q81 (by decide) (Nat.le_of_ble_eq_true rfl) (k_resV (ci := 0) (av := [.int x1, .int x2, .int x3, .int x4]) (rest := [.int 0, .ref (ad D 159)]) (fs_0 hF) (by decide) rfl rfl q1294 q1295 q1296 q1297 mhX1_plant mnX1_plant dX0_plant_9) (fun y1 F4 h2 g3 hF5 H => ?_) (fun a e F1 h1 g1 hF1 ha H => ?_)
  · skip
    refine V_i2l dX0_plant_12 ?_
    refine H_last (fs_159 hF5) (by unfold vp_in; decide) dX0_plant_13 (fun g7 e8 => ?_)
    have H := H g7 e8
    refine V_goto (tgt := 29) dX0_plant_14 (by decide) ?_
    refine V_iconst (v := 0) dX0_plant_29 (by decide) ?_
    exact G_iret hF5 rfl dX0_plant_30 H
  · rcases H with ⟨rfl, H⟩ | ⟨rfl, H⟩ | ⟨rfl, H⟩
    · refine VT_catch (ci := 18) [] (0, 14, 17, 13) [(0, 14, 21, 25), (0, 14, 25, 19)] rfl ha (by decide) rfl (fun y hy => by cases hy) (by decide) (by decide) q1060 ?_
      refine V_astore (l1 := [(6, .ref (ad D a)), (0, .ref (ad D 0)), (1, .int x1), (2, .int x2), (3, .int x3), (4, .int x4), (5, .ref (ad D 159))]) dX0_plant_17 (by decide) rfl ?_
      refine V_iconst (v := 1) dX0_plant_19 (by decide) ?_
      exact G_iret hF1 rfl dX0_plant_20 H
    · refine VT_catch (ci := 20) [(0, 14, 17, 13)] (0, 14, 21, 25) [(0, 14, 25, 19)] rfl ha (by decide) rfl (fun y hy => by rcases List.mem_singleton.mp hy with rfl; exact ⟨by decide, by decide, _, q1060, fun _ hE => hE.2.2.2.2.2.2.2.2.2.2.2.2.2.2.2.2.2.2.2.2.2.1⟩) (by decide) (by decide) q1111 ?_
      refine V_astore (l1 := [(6, .ref (ad D a)), (0, .ref (ad D 0)), (1, .int x1), (2, .int x2), (3, .int x3), (4, .int x4), (5, .ref (ad D 159))]) dX0_plant_21 (by decide) rfl ?_
      refine V_iconst (v := 2) dX0_plant_23 (by decide) ?_
      exact G_iret hF1 rfl dX0_plant_24 H
    · refine VT_catch (ci := 19) [(0, 14, 17, 13), (0, 14, 21, 25)] (0, 14, 25, 19) [] rfl ha (by decide) rfl (fun y hy => (List.mem_cons.mp hy).elim (fun hz => by subst hz; exact ⟨by decide, by decide, _, q1060, fun _ hE => hE.2.2.2.2.2.2.2.2.2.2.2.2.2.2.2.2.2.2.2.1⟩) (fun hz => by rcases List.mem_singleton.mp hz with rfl; exact ⟨by decide, by decide, _, q1111, fun _ hE => hE.2.2.2.2.2.2.2.2.2.2.2.2.2.2.2.2.2.2.2.2.1⟩)) (by decide) (by decide) q1085 ?_
      refine V_astore (l1 := [(6, .ref (ad D a)), (0, .ref (ad D 0)), (1, .int x1), (2, .int x2), (3, .int x3), (4, .int x4), (5, .ref (ad D 159))]) dX0_plant_25 (by decide) rfl ?_
      refine V_iconst (v := 3) dX0_plant_27 (by decide) ?_
      exact G_iret hF1 rfl dX0_plant_28 H
theorem wX0_plant {D : DE} {f : Nat} {Q : Int32 → Frm → HI → HL → Prop} {T : Nat → Frm → HI → HL → Prop} {F : Frm} {h : HI} {g : HL} (hF : k_Fix F) (x1 : Int32) (x2 : Int32) (x3 : Int32) (x4 : Int32) (H : JX0_plant_0 D f Q T F h g x1 x2 x3 x4) : Gi D (f + 1) mX0_plant [.ref (ad D 0), .int x1, .int x2, .int x3, .int x4, .ref (ad D 159)] F h g Q T := Cl.ofV (by decide) (Nat.le_of_ble_eq_true rfl) rfl (bX0_plant_0 hF x1 x2 x3 x4 H)
theorem dX0_check_0 : decode cX0_check 0 = .ok (.aload_n 1, 1) := by decide +kernel
theorem dX0_check_1 : decode cX0_check 1 = .ok (.iconst 0, 1) := by decide +kernel
theorem dX0_check_2 : decode cX0_check 2 = .ok (.aload_n 0, 1) := by decide +kernel
theorem dX0_check_3 : decode cX0_check 3 = .ok (.invokevirtual 46, 3) := by decide +kernel
theorem dX0_check_6 : decode cX0_check 6 = .ok (.i2l, 1) := by decide +kernel
theorem dX0_check_7 : decode cX0_check 7 = .ok (.lastore, 1) := by decide +kernel
theorem dX0_check_8 : decode cX0_check 8 = .ok (.goto 6, 3) := by decide +kernel
theorem dX0_check_11 : decode cX0_check 11 = .ok (.astore_n 2, 1) := by decide +kernel
theorem dX0_check_12 : decode cX0_check 12 = .ok (.iconst 1, 1) := by decide +kernel
theorem dX0_check_13 : decode cX0_check 13 = .ok (.ireturn, 1) := by decide +kernel
theorem dX0_check_14 : decode cX0_check 14 = .ok (.iconst 0, 1) := by decide +kernel
theorem dX0_check_15 : decode cX0_check 15 = .ok (.ireturn, 1) := by decide +kernel
abbrev JX0_check_0 (D : DE) (f : Nat) (Q : Int32 → Frm → HI → HL → Prop) (T : Nat → Frm → HI → HL → Prop) (F : Frm) (h : HI) (g : HL) : Prop := Gi D f mX1_check [.ref (ad D 0)] F h g (fun y1 F4 h2 g3 => ∀ g7, g7 = up2 g3 159 (ix 0) y1.toInt64 → Q 0 F4 h2 g7) (fun e F1 h1 g1 => (e = 0 ∧ Q 1 F1 h1 g1))
theorem bX0_check_0 {D : DE} {f : Nat} {Q : Int32 → Frm → HI → HL → Prop} {T : Nat → Frm → HI → HL → Prop} {F : Frm} {h : HI} {g : HL} (hF : k_Fix F)  (H : JX0_check_0 D f Q T F h g ) : V D mX0_check (f + 1) (gi Q T) 0 [(0, .ref (ad D 0)), (1, .ref (ad D 159))] [] (F, h, g) := by
  refine V_aload_n dX0_check_0 rfl 1 rfl ?_
  refine V_iconst (v := 0) dX0_check_1 (by decide) ?_
  refine V_aload_n dX0_check_2 rfl 0 rfl ?_
  refine G_calli (av := [.ref (ad D 0)]) (rest := [.int 0, .ref (ad D 159)]) H mqX1_check q81 (by decide) (Nat.le_of_ble_eq_true rfl) (k_resV (ci := 0) (av := []) (rest := [.int 0, .ref (ad D 159)]) (fs_0 hF) (by decide) rfl rfl q1301 q1302 q1303 q1304 mhX1_check mnX1_check dX0_check_3) (fun y1 F4 h2 g3 hF5 H => ?_) (fun a e F1 h1 g1 hF1 ha H => ?_)
  · skip
    refine V_i2l dX0_check_6 ?_
    refine H_last (fs_159 hF5) (by unfold vp_in; decide) dX0_check_7 (fun g7 e8 => ?_)
    have H := H g7 e8
    refine V_goto (tgt := 14) dX0_check_8 (by decide) ?_
    refine V_iconst (v := 0) dX0_check_14 (by decide) ?_
    exact G_iret hF5 rfl dX0_check_15 H
  · rcases H with ⟨rfl, H⟩
    · refine VT_catch (ci := 18) [] (0, 8, 11, 13) [] rfl ha (by decide) rfl (fun y hy => by cases hy) (by decide) (by decide) q1060 ?_
      refine V_astore_n (l1 := [(2, .ref (ad D a)), (0, .ref (ad D 0)), (1, .ref (ad D 159))]) dX0_check_11 rfl (by decide) rfl ?_
      refine V_iconst (v := 1) dX0_check_12 (by decide) ?_
      exact G_iret hF1 rfl dX0_check_13 H
theorem wX0_check {D : DE} {f : Nat} {Q : Int32 → Frm → HI → HL → Prop} {T : Nat → Frm → HI → HL → Prop} {F : Frm} {h : HI} {g : HL} (hF : k_Fix F)  (H : JX0_check_0 D f Q T F h g ) : Gi D (f + 1) mX0_check [.ref (ad D 0), .ref (ad D 159)] F h g Q T := Cl.ofV (by decide) (Nat.le_of_ble_eq_true rfl) rfl (bX0_check_0 hF  H)
theorem dX0_input_0 : decode cX0_input 0 = .ok (.aload_n 3, 1) := by decide +kernel
theorem dX0_input_1 : decode cX0_input 1 = .ok (.iconst 0, 1) := by decide +kernel
theorem dX0_input_2 : decode cX0_input 2 = .ok (.aload_n 0, 1) := by decide +kernel
theorem dX0_input_3 : decode cX0_input 3 = .ok (.iload_n 1, 1) := by decide +kernel
theorem dX0_input_4 : decode cX0_input 4 = .ok (.iload_n 2, 1) := by decide +kernel
theorem dX0_input_5 : decode cX0_input 5 = .ok (.invokevirtual 49, 3) := by decide +kernel
theorem dX0_input_8 : decode cX0_input 8 = .ok (.i2l, 1) := by decide +kernel
theorem dX0_input_9 : decode cX0_input 9 = .ok (.lastore, 1) := by decide +kernel
theorem dX0_input_10 : decode cX0_input 10 = .ok (.goto 11, 3) := by decide +kernel
theorem dX0_input_13 : decode cX0_input 13 = .ok (.astore 4, 2) := by decide +kernel
theorem dX0_input_15 : decode cX0_input 15 = .ok (.iconst 1, 1) := by decide +kernel
theorem dX0_input_16 : decode cX0_input 16 = .ok (.ireturn, 1) := by decide +kernel
theorem dX0_input_17 : decode cX0_input 17 = .ok (.astore 4, 2) := by decide +kernel
theorem dX0_input_19 : decode cX0_input 19 = .ok (.iconst 2, 1) := by decide +kernel
theorem dX0_input_20 : decode cX0_input 20 = .ok (.ireturn, 1) := by decide +kernel
theorem dX0_input_21 : decode cX0_input 21 = .ok (.iconst 0, 1) := by decide +kernel
theorem dX0_input_22 : decode cX0_input 22 = .ok (.ireturn, 1) := by decide +kernel
abbrev JX0_input_0 (D : DE) (f : Nat) (Q : Int32 → Frm → HI → HL → Prop) (T : Nat → Frm → HI → HL → Prop) (F : Frm) (h : HI) (g : HL) (x1 : Int32) (x2 : Int32) : Prop := Gi D f mX1_input [.ref (ad D 0), .int x1, .int x2] F h g (fun y1 F4 h2 g3 => ∀ g7, g7 = up2 g3 159 (ix 0) y1.toInt64 → Q 0 F4 h2 g7) (fun e F1 h1 g1 => (e = 1 ∧ Q 1 F1 h1 g1) ∨ (e = 0 ∧ Q 2 F1 h1 g1))
theorem bX0_input_0 {D : DE} {f : Nat} {Q : Int32 → Frm → HI → HL → Prop} {T : Nat → Frm → HI → HL → Prop} {F : Frm} {h : HI} {g : HL} (hF : k_Fix F) (x1 : Int32) (x2 : Int32) (H : JX0_input_0 D f Q T F h g x1 x2) : V D mX0_input (f + 1) (gi Q T) 0 [(0, .ref (ad D 0)), (1, .int x1), (2, .int x2), (3, .ref (ad D 159))] [] (F, h, g) := by
  refine V_aload_n dX0_input_0 rfl 3 rfl ?_
  refine V_iconst (v := 0) dX0_input_1 (by decide) ?_
  refine V_aload_n dX0_input_2 rfl 0 rfl ?_
  refine V_iload_n dX0_input_3 rfl 1 rfl ?_
  refine V_iload_n dX0_input_4 rfl 2 rfl ?_
  refine G_calli (av := [.ref (ad D 0), .int x1, .int x2]) (rest := [.int 0, .ref (ad D 159)]) H mqX1_input q81 (by decide) (Nat.le_of_ble_eq_true rfl) (k_resV (ci := 0) (av := [.int x1, .int x2]) (rest := [.int 0, .ref (ad D 159)]) (fs_0 hF) (by decide) rfl rfl q1308 q1309 q1310 q1311 mhX1_input mnX1_input dX0_input_5) (fun y1 F4 h2 g3 hF5 H => ?_) (fun a e F1 h1 g1 hF1 ha H => ?_)
  · skip
    refine V_i2l dX0_input_8 ?_
    refine H_last (fs_159 hF5) (by unfold vp_in; decide) dX0_input_9 (fun g7 e8 => ?_)
    have H := H g7 e8
    refine V_goto (tgt := 21) dX0_input_10 (by decide) ?_
    refine V_iconst (v := 0) dX0_input_21 (by decide) ?_
    exact G_iret hF5 rfl dX0_input_22 H
  · rcases H with ⟨rfl, H⟩ | ⟨rfl, H⟩
    · refine VT_catch (ci := 19) [] (0, 10, 13, 19) [(0, 10, 17, 13)] rfl ha (by decide) rfl (fun y hy => by cases hy) (by decide) (by decide) q1085 ?_
      refine V_astore (l1 := [(4, .ref (ad D a)), (0, .ref (ad D 0)), (1, .int x1), (2, .int x2), (3, .ref (ad D 159))]) dX0_input_13 (by decide) rfl ?_
      refine V_iconst (v := 1) dX0_input_15 (by decide) ?_
      exact G_iret hF1 rfl dX0_input_16 H
    · refine VT_catch (ci := 18) [(0, 10, 13, 19)] (0, 10, 17, 13) [] rfl ha (by decide) rfl (fun y hy => by rcases List.mem_singleton.mp hy with rfl; exact ⟨by decide, by decide, _, q1085, fun _ hE => hE.2.2.2.2.2.2.2.2.2.2.2.2.2.2.2.2.2.1⟩) (by decide) (by decide) q1060 ?_
      refine V_astore (l1 := [(4, .ref (ad D a)), (0, .ref (ad D 0)), (1, .int x1), (2, .int x2), (3, .ref (ad D 159))]) dX0_input_17 (by decide) rfl ?_
      refine V_iconst (v := 2) dX0_input_19 (by decide) ?_
      exact G_iret hF1 rfl dX0_input_20 H
theorem wX0_input {D : DE} {f : Nat} {Q : Int32 → Frm → HI → HL → Prop} {T : Nat → Frm → HI → HL → Prop} {F : Frm} {h : HI} {g : HL} (hF : k_Fix F) (x1 : Int32) (x2 : Int32) (H : JX0_input_0 D f Q T F h g x1 x2) : Gi D (f + 1) mX0_input [.ref (ad D 0), .int x1, .int x2, .ref (ad D 159)] F h g Q T := Cl.ofV (by decide) (Nat.le_of_ble_eq_true rfl) rfl (bX0_input_0 hF x1 x2 H)
theorem dX0_run_0 : decode cX0_run 0 = .ok (.aload 4, 2) := by decide +kernel
theorem dX0_run_2 : decode cX0_run 2 = .ok (.iconst 0, 1) := by decide +kernel
theorem dX0_run_3 : decode cX0_run 3 = .ok (.aload_n 0, 1) := by decide +kernel
theorem dX0_run_4 : decode cX0_run 4 = .ok (.iload_n 1, 1) := by decide +kernel
theorem dX0_run_5 : decode cX0_run 5 = .ok (.iload_n 2, 1) := by decide +kernel
theorem dX0_run_6 : decode cX0_run 6 = .ok (.iload_n 3, 1) := by decide +kernel
theorem dX0_run_7 : decode cX0_run 7 = .ok (.invokevirtual 52, 3) := by decide +kernel
theorem dX0_run_10 : decode cX0_run 10 = .ok (.i2l, 1) := by decide +kernel
theorem dX0_run_11 : decode cX0_run 11 = .ok (.lastore, 1) := by decide +kernel
theorem dX0_run_12 : decode cX0_run 12 = .ok (.goto 15, 3) := by decide +kernel
theorem dX0_run_15 : decode cX0_run 15 = .ok (.astore 5, 2) := by decide +kernel
theorem dX0_run_17 : decode cX0_run 17 = .ok (.iconst 1, 1) := by decide +kernel
theorem dX0_run_18 : decode cX0_run 18 = .ok (.ireturn, 1) := by decide +kernel
theorem dX0_run_19 : decode cX0_run 19 = .ok (.astore 5, 2) := by decide +kernel
theorem dX0_run_21 : decode cX0_run 21 = .ok (.iconst 2, 1) := by decide +kernel
theorem dX0_run_22 : decode cX0_run 22 = .ok (.ireturn, 1) := by decide +kernel
theorem dX0_run_23 : decode cX0_run 23 = .ok (.astore 5, 2) := by decide +kernel
theorem dX0_run_25 : decode cX0_run 25 = .ok (.iconst 3, 1) := by decide +kernel
theorem dX0_run_26 : decode cX0_run 26 = .ok (.ireturn, 1) := by decide +kernel
theorem dX0_run_27 : decode cX0_run 27 = .ok (.iconst 0, 1) := by decide +kernel
theorem dX0_run_28 : decode cX0_run 28 = .ok (.ireturn, 1) := by decide +kernel
abbrev JX0_run_0 (D : DE) (f : Nat) (Q : Int32 → Frm → HI → HL → Prop) (T : Nat → Frm → HI → HL → Prop) (F : Frm) (h : HI) (g : HL) (x1 : Int32) (x2 : Int32) (x3 : Int32) : Prop := Gi D f mX1_run [.ref (ad D 0), .int x1, .int x2, .int x3] F h g (fun y1 F4 h2 g3 => ∀ g7, g7 = up2 g3 159 (ix 0) y1.toInt64 → Q 0 F4 h2 g7) (fun e F1 h1 g1 => (e = 0 ∧ Q 1 F1 h1 g1) ∨ (e = 2 ∧ Q 2 F1 h1 g1) ∨ (e = 1 ∧ Q 3 F1 h1 g1))
theorem bX0_run_0 {D : DE} {f : Nat} {Q : Int32 → Frm → HI → HL → Prop} {T : Nat → Frm → HI → HL → Prop} {F : Frm} {h : HI} {g : HL} (hF : k_Fix F) (x1 : Int32) (x2 : Int32) (x3 : Int32) (H : JX0_run_0 D f Q T F h g x1 x2 x3) : V D mX0_run (f + 1) (gi Q T) 0 [(0, .ref (ad D 0)), (1, .int x1), (2, .int x2), (3, .int x3), (4, .ref (ad D 159))] [] (F, h, g) := by
  refine V_aload dX0_run_0 4 rfl ?_
  refine V_iconst (v := 0) dX0_run_2 (by decide) ?_
  refine V_aload_n dX0_run_3 rfl 0 rfl ?_
  refine V_iload_n dX0_run_4 rfl 1 rfl ?_
  refine V_iload_n dX0_run_5 rfl 2 rfl ?_
  refine V_iload_n dX0_run_6 rfl 3 rfl ?_
  refine G_calli (av := [.ref (ad D 0), .int x1, .int x2, .int x3]) (rest := [.int 0, .ref (ad D 159)]) H mqX1_run q81 (by decide) (Nat.le_of_ble_eq_true rfl) (k_resV (ci := 0) (av := [.int x1, .int x2, .int x3]) (rest := [.int 0, .ref (ad D 159)]) (fs_0 hF) (by decide) rfl rfl q1315 q1316 q1317 q1318 mhX1_run mnX1_run dX0_run_7) (fun y1 F4 h2 g3 hF5 H => ?_) (fun a e F1 h1 g1 hF1 ha H => ?_)
  · skip
    refine V_i2l dX0_run_10 ?_
    refine H_last (fs_159 hF5) (by unfold vp_in; decide) dX0_run_11 (fun g7 e8 => ?_)
    have H := H g7 e8
    refine V_goto (tgt := 27) dX0_run_12 (by decide) ?_
    refine V_iconst (v := 0) dX0_run_27 (by decide) ?_
    exact G_iret hF5 rfl dX0_run_28 H
  · rcases H with ⟨rfl, H⟩ | ⟨rfl, H⟩ | ⟨rfl, H⟩
    · refine VT_catch (ci := 18) [] (0, 12, 15, 13) [(0, 12, 19, 25), (0, 12, 23, 19)] rfl ha (by decide) rfl (fun y hy => by cases hy) (by decide) (by decide) q1060 ?_
      refine V_astore (l1 := [(5, .ref (ad D a)), (0, .ref (ad D 0)), (1, .int x1), (2, .int x2), (3, .int x3), (4, .ref (ad D 159))]) dX0_run_15 (by decide) rfl ?_
      refine V_iconst (v := 1) dX0_run_17 (by decide) ?_
      exact G_iret hF1 rfl dX0_run_18 H
    · refine VT_catch (ci := 20) [(0, 12, 15, 13)] (0, 12, 19, 25) [(0, 12, 23, 19)] rfl ha (by decide) rfl (fun y hy => by rcases List.mem_singleton.mp hy with rfl; exact ⟨by decide, by decide, _, q1060, fun _ hE => hE.2.2.2.2.2.2.2.2.2.2.2.2.2.2.2.2.2.2.2.2.2.1⟩) (by decide) (by decide) q1111 ?_
      refine V_astore (l1 := [(5, .ref (ad D a)), (0, .ref (ad D 0)), (1, .int x1), (2, .int x2), (3, .int x3), (4, .ref (ad D 159))]) dX0_run_19 (by decide) rfl ?_
      refine V_iconst (v := 2) dX0_run_21 (by decide) ?_
      exact G_iret hF1 rfl dX0_run_22 H
    · refine VT_catch (ci := 19) [(0, 12, 15, 13), (0, 12, 19, 25)] (0, 12, 23, 19) [] rfl ha (by decide) rfl (fun y hy => (List.mem_cons.mp hy).elim (fun hz => by subst hz; exact ⟨by decide, by decide, _, q1060, fun _ hE => hE.2.2.2.2.2.2.2.2.2.2.2.2.2.2.2.2.2.2.2.1⟩) (fun hz => by rcases List.mem_singleton.mp hz with rfl; exact ⟨by decide, by decide, _, q1111, fun _ hE => hE.2.2.2.2.2.2.2.2.2.2.2.2.2.2.2.2.2.2.2.2.1⟩)) (by decide) (by decide) q1085 ?_
      refine V_astore (l1 := [(5, .ref (ad D a)), (0, .ref (ad D 0)), (1, .int x1), (2, .int x2), (3, .int x3), (4, .ref (ad D 159))]) dX0_run_23 (by decide) rfl ?_
      refine V_iconst (v := 3) dX0_run_25 (by decide) ?_
      exact G_iret hF1 rfl dX0_run_26 H
theorem wX0_run {D : DE} {f : Nat} {Q : Int32 → Frm → HI → HL → Prop} {T : Nat → Frm → HI → HL → Prop} {F : Frm} {h : HI} {g : HL} (hF : k_Fix F) (x1 : Int32) (x2 : Int32) (x3 : Int32) (H : JX0_run_0 D f Q T F h g x1 x2 x3) : Gi D (f + 1) mX0_run [.ref (ad D 0), .int x1, .int x2, .int x3, .ref (ad D 159)] F h g Q T := Cl.ofV (by decide) (Nat.le_of_ble_eq_true rfl) rfl (bX0_run_0 hF x1 x2 x3 H)
theorem dX0_told_0 : decode cX0_told 0 = .ok (.aload_n 2, 1) := by decide +kernel
theorem dX0_told_1 : decode cX0_told 1 = .ok (.iconst 0, 1) := by decide +kernel
theorem dX0_told_2 : decode cX0_told 2 = .ok (.aload_n 0, 1) := by decide +kernel
theorem dX0_told_3 : decode cX0_told 3 = .ok (.iload_n 1, 1) := by decide +kernel
theorem dX0_told_4 : decode cX0_told 4 = .ok (.invokevirtual 55, 3) := by decide +kernel
theorem dX0_told_7 : decode cX0_told 7 = .ok (.i2l, 1) := by decide +kernel
theorem dX0_told_8 : decode cX0_told 8 = .ok (.lastore, 1) := by decide +kernel
theorem dX0_told_9 : decode cX0_told 9 = .ok (.goto 6, 3) := by decide +kernel
theorem dX0_told_12 : decode cX0_told 12 = .ok (.astore_n 3, 1) := by decide +kernel
theorem dX0_told_13 : decode cX0_told 13 = .ok (.iconst 1, 1) := by decide +kernel
theorem dX0_told_14 : decode cX0_told 14 = .ok (.ireturn, 1) := by decide +kernel
theorem dX0_told_15 : decode cX0_told 15 = .ok (.iconst 0, 1) := by decide +kernel
theorem dX0_told_16 : decode cX0_told 16 = .ok (.ireturn, 1) := by decide +kernel
abbrev JX0_told_0 (D : DE) (f : Nat) (Q : Int32 → Frm → HI → HL → Prop) (T : Nat → Frm → HI → HL → Prop) (F : Frm) (h : HI) (g : HL) (x1 : Int32) : Prop := Gi D f mX1_told [.ref (ad D 0), .int x1] F h g (fun y1 F4 h2 g3 => ∀ g7, g7 = up2 g3 159 (ix 0) y1.toInt64 → Q 0 F4 h2 g7) (fun e F1 h1 g1 => (e = 2 ∧ Q 1 F1 h1 g1))
theorem bX0_told_0 {D : DE} {f : Nat} {Q : Int32 → Frm → HI → HL → Prop} {T : Nat → Frm → HI → HL → Prop} {F : Frm} {h : HI} {g : HL} (hF : k_Fix F) (x1 : Int32) (H : JX0_told_0 D f Q T F h g x1) : V D mX0_told (f + 1) (gi Q T) 0 [(0, .ref (ad D 0)), (1, .int x1), (2, .ref (ad D 159))] [] (F, h, g) := by
  refine V_aload_n dX0_told_0 rfl 2 rfl ?_
  refine V_iconst (v := 0) dX0_told_1 (by decide) ?_
  refine V_aload_n dX0_told_2 rfl 0 rfl ?_
  refine V_iload_n dX0_told_3 rfl 1 rfl ?_
  refine G_calli (av := [.ref (ad D 0), .int x1]) (rest := [.int 0, .ref (ad D 159)]) H mqX1_told q81 (by decide) (Nat.le_of_ble_eq_true rfl) (k_resV (ci := 0) (av := [.int x1]) (rest := [.int 0, .ref (ad D 159)]) (fs_0 hF) (by decide) rfl rfl q1430 q1431 q1432 q1433 mhX1_told mnX1_told dX0_told_4) (fun y1 F4 h2 g3 hF5 H => ?_) (fun a e F1 h1 g1 hF1 ha H => ?_)
  · skip
    refine V_i2l dX0_told_7 ?_
    refine H_last (fs_159 hF5) (by unfold vp_in; decide) dX0_told_8 (fun g7 e8 => ?_)
    have H := H g7 e8
    refine V_goto (tgt := 15) dX0_told_9 (by decide) ?_
    refine V_iconst (v := 0) dX0_told_15 (by decide) ?_
    exact G_iret hF5 rfl dX0_told_16 H
  · rcases H with ⟨rfl, H⟩
    · refine VT_catch (ci := 20) [] (0, 9, 12, 25) [] rfl ha (by decide) rfl (fun y hy => by cases hy) (by decide) (by decide) q1111 ?_
      refine V_astore_n (l1 := [(3, .ref (ad D a)), (0, .ref (ad D 0)), (1, .int x1), (2, .ref (ad D 159))]) dX0_told_12 rfl (by decide) rfl ?_
      refine V_iconst (v := 1) dX0_told_13 (by decide) ?_
      exact G_iret hF1 rfl dX0_told_14 H
theorem wX0_told {D : DE} {f : Nat} {Q : Int32 → Frm → HI → HL → Prop} {T : Nat → Frm → HI → HL → Prop} {F : Frm} {h : HI} {g : HL} (hF : k_Fix F) (x1 : Int32) (H : JX0_told_0 D f Q T F h g x1) : Gi D (f + 1) mX0_told [.ref (ad D 0), .int x1, .ref (ad D 159)] F h g Q T := Cl.ofV (by decide) (Nat.le_of_ble_eq_true rfl) rfl (bX0_told_0 hF x1 H)
theorem dX0_result_0 : decode cX0_result 0 = .ok (.aload_n 2, 1) := by decide +kernel
theorem dX0_result_1 : decode cX0_result 1 = .ok (.iconst 0, 1) := by decide +kernel
theorem dX0_result_2 : decode cX0_result 2 = .ok (.aload_n 0, 1) := by decide +kernel
theorem dX0_result_3 : decode cX0_result 3 = .ok (.iload_n 1, 1) := by decide +kernel
theorem dX0_result_4 : decode cX0_result 4 = .ok (.invokevirtual 58, 3) := by decide +kernel
theorem dX0_result_7 : decode cX0_result 7 = .ok (.i2l, 1) := by decide +kernel
theorem dX0_result_8 : decode cX0_result 8 = .ok (.lastore, 1) := by decide +kernel
theorem dX0_result_9 : decode cX0_result 9 = .ok (.goto 6, 3) := by decide +kernel
theorem dX0_result_12 : decode cX0_result 12 = .ok (.astore_n 3, 1) := by decide +kernel
theorem dX0_result_13 : decode cX0_result 13 = .ok (.iconst 1, 1) := by decide +kernel
theorem dX0_result_14 : decode cX0_result 14 = .ok (.ireturn, 1) := by decide +kernel
theorem dX0_result_15 : decode cX0_result 15 = .ok (.iconst 0, 1) := by decide +kernel
theorem dX0_result_16 : decode cX0_result 16 = .ok (.ireturn, 1) := by decide +kernel
abbrev JX0_result_0 (D : DE) (f : Nat) (Q : Int32 → Frm → HI → HL → Prop) (T : Nat → Frm → HI → HL → Prop) (F : Frm) (h : HI) (g : HL) (x1 : Int32) : Prop := Gi D f mX1_result [.ref (ad D 0), .int x1] F h g (fun y1 F4 h2 g3 => ∀ g7, g7 = up2 g3 159 (ix 0) y1.toInt64 → Q 0 F4 h2 g7) (fun e F1 h1 g1 => (e = 2 ∧ Q 1 F1 h1 g1))
theorem bX0_result_0 {D : DE} {f : Nat} {Q : Int32 → Frm → HI → HL → Prop} {T : Nat → Frm → HI → HL → Prop} {F : Frm} {h : HI} {g : HL} (hF : k_Fix F) (x1 : Int32) (H : JX0_result_0 D f Q T F h g x1) : V D mX0_result (f + 1) (gi Q T) 0 [(0, .ref (ad D 0)), (1, .int x1), (2, .ref (ad D 159))] [] (F, h, g) := by
  refine V_aload_n dX0_result_0 rfl 2 rfl ?_
  refine V_iconst (v := 0) dX0_result_1 (by decide) ?_
  refine V_aload_n dX0_result_2 rfl 0 rfl ?_
  refine V_iload_n dX0_result_3 rfl 1 rfl ?_
  refine G_calli (av := [.ref (ad D 0), .int x1]) (rest := [.int 0, .ref (ad D 159)]) H mqX1_result q81 (by decide) (Nat.le_of_ble_eq_true rfl) (k_resV (ci := 0) (av := [.int x1]) (rest := [.int 0, .ref (ad D 159)]) (fs_0 hF) (by decide) rfl rfl q1437 q1438 q1439 q1440 mhX1_result mnX1_result dX0_result_4) (fun y1 F4 h2 g3 hF5 H => ?_) (fun a e F1 h1 g1 hF1 ha H => ?_)
  · skip
    refine V_i2l dX0_result_7 ?_
    refine H_last (fs_159 hF5) (by unfold vp_in; decide) dX0_result_8 (fun g7 e8 => ?_)
    have H := H g7 e8
    refine V_goto (tgt := 15) dX0_result_9 (by decide) ?_
    refine V_iconst (v := 0) dX0_result_15 (by decide) ?_
    exact G_iret hF5 rfl dX0_result_16 H
  · rcases H with ⟨rfl, H⟩
    · refine VT_catch (ci := 20) [] (0, 9, 12, 25) [] rfl ha (by decide) rfl (fun y hy => by cases hy) (by decide) (by decide) q1111 ?_
      refine V_astore_n (l1 := [(3, .ref (ad D a)), (0, .ref (ad D 0)), (1, .int x1), (2, .ref (ad D 159))]) dX0_result_12 rfl (by decide) rfl ?_
      refine V_iconst (v := 1) dX0_result_13 (by decide) ?_
      exact G_iret hF1 rfl dX0_result_14 H
theorem wX0_result {D : DE} {f : Nat} {Q : Int32 → Frm → HI → HL → Prop} {T : Nat → Frm → HI → HL → Prop} {F : Frm} {h : HI} {g : HL} (hF : k_Fix F) (x1 : Int32) (H : JX0_result_0 D f Q T F h g x1) : Gi D (f + 1) mX0_result [.ref (ad D 0), .int x1, .ref (ad D 159)] F h g Q T := Cl.ofV (by decide) (Nat.le_of_ble_eq_true rfl) rfl (bX0_result_0 hF x1 H)
theorem dX0_needed_0 : decode cX0_needed 0 = .ok (.aload_n 2, 1) := by decide +kernel
theorem dX0_needed_1 : decode cX0_needed 1 = .ok (.iconst 0, 1) := by decide +kernel
theorem dX0_needed_2 : decode cX0_needed 2 = .ok (.aload_n 0, 1) := by decide +kernel
theorem dX0_needed_3 : decode cX0_needed 3 = .ok (.iload_n 1, 1) := by decide +kernel
theorem dX0_needed_4 : decode cX0_needed 4 = .ok (.invokevirtual 61, 3) := by decide +kernel
theorem dX0_needed_7 : decode cX0_needed 7 = .ok (.ifCond .eq 7, 3) := by decide +kernel
theorem dX0_needed_10 : decode cX0_needed 10 = .ok (.lconst 1, 1) := by decide +kernel
theorem dX0_needed_11 : decode cX0_needed 11 = .ok (.goto 4, 3) := by decide +kernel
theorem dX0_needed_14 : decode cX0_needed 14 = .ok (.lconst 0, 1) := by decide +kernel
theorem dX0_needed_15 : decode cX0_needed 15 = .ok (.lastore, 1) := by decide +kernel
theorem dX0_needed_16 : decode cX0_needed 16 = .ok (.goto 6, 3) := by decide +kernel
theorem dX0_needed_19 : decode cX0_needed 19 = .ok (.astore_n 3, 1) := by decide +kernel
theorem dX0_needed_20 : decode cX0_needed 20 = .ok (.iconst 1, 1) := by decide +kernel
theorem dX0_needed_21 : decode cX0_needed 21 = .ok (.ireturn, 1) := by decide +kernel
theorem dX0_needed_22 : decode cX0_needed 22 = .ok (.iconst 0, 1) := by decide +kernel
theorem dX0_needed_23 : decode cX0_needed 23 = .ok (.ireturn, 1) := by decide +kernel
abbrev JX0_needed_0 (D : DE) (f : Nat) (Q : Int32 → Frm → HI → HL → Prop) (T : Nat → Frm → HI → HL → Prop) (F : Frm) (h : HI) (g : HL) (x1 : Int32) : Prop := Gi D f mX1_needed [.ref (ad D 0), .int x1] F h g (fun y1 F4 h2 g3 => ((y1 = 0 → ∀ g8, g8 = up2 g3 159 (ix 0) 0 → Q 0 F4 h2 g8) ∧ (¬ y1 = 0 → ∀ g10, g10 = up2 g3 159 (ix 0) 1 → Q 0 F4 h2 g10))) (fun e F1 h1 g1 => (e = 2 ∧ Q 1 F1 h1 g1))
theorem bX0_needed_0 {D : DE} {f : Nat} {Q : Int32 → Frm → HI → HL → Prop} {T : Nat → Frm → HI → HL → Prop} {F : Frm} {h : HI} {g : HL} (hF : k_Fix F) (x1 : Int32) (H : JX0_needed_0 D f Q T F h g x1) : V D mX0_needed (f + 1) (gi Q T) 0 [(0, .ref (ad D 0)), (1, .int x1), (2, .ref (ad D 159))] [] (F, h, g) := by
  refine V_aload_n dX0_needed_0 rfl 2 rfl ?_
  refine V_iconst (v := 0) dX0_needed_1 (by decide) ?_
  refine V_aload_n dX0_needed_2 rfl 0 rfl ?_
  refine V_iload_n dX0_needed_3 rfl 1 rfl ?_
  refine G_calli (av := [.ref (ad D 0), .int x1]) (rest := [.int 0, .ref (ad D 159)]) H mqX1_needed q81 (by decide) (Nat.le_of_ble_eq_true rfl) (k_resV (ci := 0) (av := [.int x1]) (rest := [.int 0, .ref (ad D 159)]) (fs_0 hF) (by decide) rfl rfl q1448 q1449 q1450 q1451 mhX1_needed mnX1_needed dX0_needed_4) (fun y1 F4 h2 g3 hF5 H => ?_) (fun a e F1 h1 g1 hF1 ha H => ?_)
  · skip
    refine V_if_eq (tgt := 14) dX0_needed_7 (by decide) (fun c7 => ?_) (fun c7 => ?_)
    · have H := H.1 c7
      refine V_lconst (v := 0) dX0_needed_14 (by decide) ?_
      refine H_last (fs_159 hF5) (by unfold vp_in; decide) dX0_needed_15 (fun g8 e9 => ?_)
      have H := H g8 e9
      refine V_goto (tgt := 22) dX0_needed_16 (by decide) ?_
      refine V_iconst (v := 0) dX0_needed_22 (by decide) ?_
      exact G_iret hF5 rfl dX0_needed_23 H
    · have H := H.2 c7
      refine V_lconst (v := 1) dX0_needed_10 (by decide) ?_
      refine V_goto (tgt := 15) dX0_needed_11 (by decide) ?_
      refine H_last (fs_159 hF5) (by unfold vp_in; decide) dX0_needed_15 (fun g10 e11 => ?_)
      have H := H g10 e11
      refine V_goto (tgt := 22) dX0_needed_16 (by decide) ?_
      refine V_iconst (v := 0) dX0_needed_22 (by decide) ?_
      exact G_iret hF5 rfl dX0_needed_23 H
  · rcases H with ⟨rfl, H⟩
    · refine VT_catch (ci := 20) [] (0, 16, 19, 25) [] rfl ha (by decide) rfl (fun y hy => by cases hy) (by decide) (by decide) q1111 ?_
      refine V_astore_n (l1 := [(3, .ref (ad D a)), (0, .ref (ad D 0)), (1, .int x1), (2, .ref (ad D 159))]) dX0_needed_19 rfl (by decide) rfl ?_
      refine V_iconst (v := 1) dX0_needed_20 (by decide) ?_
      exact G_iret hF1 rfl dX0_needed_21 H
theorem wX0_needed {D : DE} {f : Nat} {Q : Int32 → Frm → HI → HL → Prop} {T : Nat → Frm → HI → HL → Prop} {F : Frm} {h : HI} {g : HL} (hF : k_Fix F) (x1 : Int32) (H : JX0_needed_0 D f Q T F h g x1) : Gi D (f + 1) mX0_needed [.ref (ad D 0), .int x1, .ref (ad D 159)] F h g Q T := Cl.ofV (by decide) (Nat.le_of_ble_eq_true rfl) rfl (bX0_needed_0 hF x1 H)
