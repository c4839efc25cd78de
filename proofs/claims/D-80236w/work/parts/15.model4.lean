/-! walks of StrictProofsModel, printed by gen/mkmodel.py -/
set_option maxRecDepth 100000
theorem dX8_plant_0 : decode cX8_plant 0 = .ok (.aload_n 0, 1) := by decide +kernel
theorem dX8_plant_1 : decode cX8_plant 1 = .ok (.aload_n 0, 1) := by decide +kernel
theorem dX8_plant_2 : decode cX8_plant 2 = .ok (.getfield 354, 3) := by decide +kernel
theorem dX8_plant_5 : decode cX8_plant 5 = .ok (.ifCond .ne 7, 3) := by decide +kernel
theorem dX8_plant_8 : decode cX8_plant 8 = .ok (.iconst 1, 1) := by decide +kernel
theorem dX8_plant_9 : decode cX8_plant 9 = .ok (.goto 47, 3) := by decide +kernel
theorem dX8_plant_12 : decode cX8_plant 12 = .ok (.aload_n 0, 1) := by decide +kernel
theorem dX8_plant_13 : decode cX8_plant 13 = .ok (.iload_n 1, 1) := by decide +kernel
theorem dX8_plant_14 : decode cX8_plant 14 = .ok (.iload_n 2, 1) := by decide +kernel
theorem dX8_plant_15 : decode cX8_plant 15 = .ok (.invokevirtual 387, 3) := by decide +kernel
theorem dX8_plant_18 : decode cX8_plant 18 = .ok (.ifCond .eq 12, 3) := by decide +kernel
theorem dX8_plant_21 : decode cX8_plant 21 = .ok (.aload_n 0, 1) := by decide +kernel
theorem dX8_plant_22 : decode cX8_plant 22 = .ok (.iload_n 1, 1) := by decide +kernel
theorem dX8_plant_23 : decode cX8_plant 23 = .ok (.iload_n 3, 1) := by decide +kernel
theorem dX8_plant_24 : decode cX8_plant 24 = .ok (.invokevirtual 390, 3) := by decide +kernel
theorem dX8_plant_27 : decode cX8_plant 27 = .ok (.ifCond .ne 7, 3) := by decide +kernel
theorem dX8_plant_30 : decode cX8_plant 30 = .ok (.iconst 2, 1) := by decide +kernel
theorem dX8_plant_31 : decode cX8_plant 31 = .ok (.goto 25, 3) := by decide +kernel
theorem dX8_plant_34 : decode cX8_plant 34 = .ok (.iload 4, 2) := by decide +kernel
theorem dX8_plant_36 : decode cX8_plant 36 = .ok (.i2l, 1) := by decide +kernel
theorem dX8_plant_37 : decode cX8_plant 37 = .ok (.lconst 0, 1) := by decide +kernel
theorem dX8_plant_38 : decode cX8_plant 38 = .ok (.aload_n 0, 1) := by decide +kernel
theorem dX8_plant_39 : decode cX8_plant 39 = .ok (.iload_n 1, 1) := by decide +kernel
theorem dX8_plant_40 : decode cX8_plant 40 = .ok (.iload_n 3, 1) := by decide +kernel
theorem dX8_plant_41 : decode cX8_plant 41 = .ok (.invokevirtual 384, 3) := by decide +kernel
theorem dX8_plant_44 : decode cX8_plant 44 = .ok (.i2l, 1) := by decide +kernel
theorem dX8_plant_45 : decode cX8_plant 45 = .ok (.invokestatic 154, 3) := by decide +kernel
theorem dX8_plant_48 : decode cX8_plant 48 = .ok (.ifCond .ne 7, 3) := by decide +kernel
theorem dX8_plant_51 : decode cX8_plant 51 = .ok (.iconst 3, 1) := by decide +kernel
theorem dX8_plant_52 : decode cX8_plant 52 = .ok (.goto 4, 3) := by decide +kernel
theorem dX8_plant_55 : decode cX8_plant 55 = .ok (.iconst 0, 1) := by decide +kernel
theorem dX8_plant_56 : decode cX8_plant 56 = .ok (.putfield 148, 3) := by decide +kernel
theorem dX8_plant_59 : decode cX8_plant 59 = .ok (.aload_n 0, 1) := by decide +kernel
theorem dX8_plant_60 : decode cX8_plant 60 = .ok (.getfield 148, 3) := by decide +kernel
theorem dX8_plant_63 : decode cX8_plant 63 = .ok (.ifCond .le 5, 3) := by decide +kernel
theorem dX8_plant_66 : decode cX8_plant 66 = .ok (.iconst 0, 1) := by decide +kernel
theorem dX8_plant_67 : decode cX8_plant 67 = .ok (.ireturn, 1) := by decide +kernel
theorem dX8_plant_68 : decode cX8_plant 68 = .ok (.bipush 26, 2) := by decide +kernel
theorem dX8_plant_70 : decode cX8_plant 70 = .ok (.iload_n 1, 1) := by decide +kernel
theorem dX8_plant_71 : decode cX8_plant 71 = .ok (.imul, 1) := by decide +kernel
theorem dX8_plant_72 : decode cX8_plant 72 = .ok (.iload_n 2, 1) := by decide +kernel
theorem dX8_plant_73 : decode cX8_plant 73 = .ok (.iadd, 1) := by decide +kernel
theorem dX8_plant_74 : decode cX8_plant 74 = .ok (.istore 5, 2) := by decide +kernel
theorem dX8_plant_76 : decode cX8_plant 76 = .ok (.aload_n 0, 1) := by decide +kernel
theorem dX8_plant_77 : decode cX8_plant 77 = .ok (.iload_n 1, 1) := by decide +kernel
theorem dX8_plant_78 : decode cX8_plant 78 = .ok (.iload_n 2, 1) := by decide +kernel
theorem dX8_plant_79 : decode cX8_plant 79 = .ok (.iload_n 3, 1) := by decide +kernel
theorem dX8_plant_80 : decode cX8_plant 80 = .ok (.invokevirtual 393, 3) := by decide +kernel
theorem dX8_plant_83 : decode cX8_plant 83 = .ok (.istore 6, 2) := by decide +kernel
theorem dX8_plant_85 : decode cX8_plant 85 = .ok (.iconst 0, 1) := by decide +kernel
theorem dX8_plant_86 : decode cX8_plant 86 = .ok (.istore 7, 2) := by decide +kernel
theorem dX8_plant_88 : decode cX8_plant 88 = .ok (.iload 7, 2) := by decide +kernel
theorem dX8_plant_90 : decode cX8_plant 90 = .ok (.aload_n 0, 1) := by decide +kernel
theorem dX8_plant_91 : decode cX8_plant 91 = .ok (.getfield 24, 3) := by decide +kernel
theorem dX8_plant_94 : decode cX8_plant 94 = .ok (.bipush 12, 2) := by decide +kernel
theorem dX8_plant_96 : decode cX8_plant 96 = .ok (.aload_n 0, 1) := by decide +kernel
theorem dX8_plant_97 : decode cX8_plant 97 = .ok (.getfield 345, 3) := by decide +kernel
theorem dX8_plant_100 : decode cX8_plant 100 = .ok (.imul, 1) := by decide +kernel
theorem dX8_plant_101 : decode cX8_plant 101 = .ok (.iload_n 1, 1) := by decide +kernel
theorem dX8_plant_102 : decode cX8_plant 102 = .ok (.iadd, 1) := by decide +kernel
theorem dX8_plant_103 : decode cX8_plant 103 = .ok (.iaload, 1) := by decide +kernel
theorem dX8_plant_104 : decode cX8_plant 104 = .ok (.if_icmp .ge 29, 3) := by decide +kernel
theorem dX8_plant_107 : decode cX8_plant 107 = .ok (.aload_n 0, 1) := by decide +kernel
theorem dX8_plant_108 : decode cX8_plant 108 = .ok (.getfield 97, 3) := by decide +kernel
theorem dX8_plant_111 : decode cX8_plant 111 = .ok (.iconst 4, 1) := by decide +kernel
theorem dX8_plant_112 : decode cX8_plant 112 = .ok (.iload 5, 2) := by decide +kernel
theorem dX8_plant_114 : decode cX8_plant 114 = .ok (.imul, 1) := by decide +kernel
theorem dX8_plant_115 : decode cX8_plant 115 = .ok (.iload 7, 2) := by decide +kernel
theorem dX8_plant_117 : decode cX8_plant 117 = .ok (.iadd, 1) := by decide +kernel
theorem dX8_plant_118 : decode cX8_plant 118 = .ok (.aload_n 0, 1) := by decide +kernel
theorem dX8_plant_119 : decode cX8_plant 119 = .ok (.iload_n 1, 1) := by decide +kernel
theorem dX8_plant_120 : decode cX8_plant 120 = .ok (.iload_n 2, 1) := by decide +kernel
theorem dX8_plant_121 : decode cX8_plant 121 = .ok (.iload 7, 2) := by decide +kernel
theorem dX8_plant_123 : decode cX8_plant 123 = .ok (.invokevirtual 393, 3) := by decide +kernel
theorem dX8_plant_126 : decode cX8_plant 126 = .ok (.iastore, 1) := by decide +kernel
theorem dX8_plant_127 : decode cX8_plant 127 = .ok (.iinc 7 1, 3) := by decide +kernel
theorem dX8_plant_130 : decode cX8_plant 130 = .ok (.goto (-42), 3) := by decide +kernel
theorem dX8_plant_133 : decode cX8_plant 133 = .ok (.aload_n 0, 1) := by decide +kernel
theorem dX8_plant_134 : decode cX8_plant 134 = .ok (.getfield 100, 3) := by decide +kernel
theorem dX8_plant_137 : decode cX8_plant 137 = .ok (.iload 5, 2) := by decide +kernel
theorem dX8_plant_139 : decode cX8_plant 139 = .ok (.iconst 0, 1) := by decide +kernel
theorem dX8_plant_140 : decode cX8_plant 140 = .ok (.bastore, 1) := by decide +kernel
theorem dX8_plant_141 : decode cX8_plant 141 = .ok (.aload_n 0, 1) := by decide +kernel
theorem dX8_plant_142 : decode cX8_plant 142 = .ok (.getfield 97, 3) := by decide +kernel
theorem dX8_plant_145 : decode cX8_plant 145 = .ok (.iconst 4, 1) := by decide +kernel
theorem dX8_plant_146 : decode cX8_plant 146 = .ok (.iload 5, 2) := by decide +kernel
theorem dX8_plant_148 : decode cX8_plant 148 = .ok (.imul, 1) := by decide +kernel
theorem dX8_plant_149 : decode cX8_plant 149 = .ok (.iload_n 3, 1) := by decide +kernel
theorem dX8_plant_150 : decode cX8_plant 150 = .ok (.iadd, 1) := by decide +kernel
theorem dX8_plant_151 : decode cX8_plant 151 = .ok (.iload 4, 2) := by decide +kernel
theorem dX8_plant_153 : decode cX8_plant 153 = .ok (.iastore, 1) := by decide +kernel
theorem dX8_plant_154 : decode cX8_plant 154 = .ok (.iload 6, 2) := by decide +kernel
theorem dX8_plant_156 : decode cX8_plant 156 = .ok (.ireturn, 1) := by decide +kernel
abbrev JX8_plant_88 (D : DE) (f : Nat) (Q : Int32 → HI → HL → Prop) (F : Frm) (h : HI) (g : HL) (x1 : Int32) (x2 : Int32) (x3 : Int32) (x4 : Int32) (x5 : Int32) (x6 : Int32) (x7 : Int32) : Prop := vp_in ((12 * (h 115 47)) + x1) 24 ∧ (((h 119 (ix ((12 * (h 115 47)) + x1))) ≤ x7 → vp_in x5 312 ∧ ∀ h4, h4 = up2 h 144 (ix x5) 0 → vp_in ((4 * x5) + x3) 1248 ∧ ∀ h7, h7 = up2 h4 143 (ix ((4 * x5) + x3)) x4 → Q x6 h7 g) ∧ (¬ (h 119 (ix ((12 * (h 115 47)) + x1))) ≤ x7 → Si D f mX8_has [.ref (ad D 115), .int x1, .int x2, .int x7] F h g (fun y11 h9 g10 => vp_in ((4 * x5) + x7) 1248 ∧ ∀ h13, h13 = up2 h9 143 (ix ((4 * x5) + x7)) y11 → ∀ y15 : Int32, y15 = x7 + 1 → V D mX8_plant (f + 1) (qi F Q) 88 [(0, .ref (ad D 115)), (1, .int x1), (2, .int x2), (3, .int x3), (4, .int x4), (5, .int x5), (6, .int x6), (7, .int y15)] [] (F, h13, g10))))
theorem bX8_plant_88 {D : DE} {f : Nat} {Q : Int32 → HI → HL → Prop} {F : Frm} {h : HI} {g : HL} (hF : k_Fix F) (x1 : Int32) (x2 : Int32) (x3 : Int32) (x4 : Int32) (x5 : Int32) (x6 : Int32) (x7 : Int32) (H : JX8_plant_88 D f Q F h g x1 x2 x3 x4 x5 x6 x7) : V D mX8_plant (f + 1) (qi F Q) 88 [(0, .ref (ad D 115)), (1, .int x1), (2, .int x2), (3, .int x3), (4, .int x4), (5, .int x5), (6, .int x6), (7, .int x7)] [] (F, h, g) := by
  refine V_iload dX8_plant_88 7 rfl ?_
  refine V_aload_n dX8_plant_90 rfl 0 rfl ?_
  refine H_getr ck7 13 (by decide) (fs_115 hF) (by decide) rfl (fr_115_13 hF) q1471 dX8_plant_91 ?_
  refine V_bipush (v := 12) dX8_plant_94 (by decide) ?_
  refine V_aload_n dX8_plant_96 rfl 0 rfl ?_
  refine H_geti ck7 47 (by decide) (fs_115 hF) (by decide) rfl q1505 dX8_plant_97 ?_
  refine V_imul dX8_plant_100 ?_
  refine V_iload_n dX8_plant_101 rfl 1 rfl ?_
  refine V_iadd dX8_plant_102 ?_
  obtain ⟨i1, H⟩ := H
  refine H_iald (fs_119 hF) i1 dX8_plant_103 ?_
  refine V_icmp_ge (tgt := 133) dX8_plant_104 (by decide) (fun c2 => ?_) (fun c2 => ?_)
  · have H := H.1 c2
    refine V_aload_n dX8_plant_133 rfl 0 rfl ?_
    refine H_getr ck7 52 (by decide) (fs_115 hF) (by decide) rfl (fr_115_52 hF) q1510 dX8_plant_134 ?_
    refine V_iload dX8_plant_137 5 rfl ?_
    refine V_iconst (v := 0) dX8_plant_139 (by decide) ?_
    obtain ⟨i3, H⟩ := H
    refine H_zast (fs_144 hF) i3 isB0 dX8_plant_140 (fun h4 e5 => ?_)
    have H := H h4 e5
    refine V_aload_n dX8_plant_141 rfl 0 rfl ?_
    refine H_getr ck7 51 (by decide) (fs_115 hF) (by decide) rfl (fr_115_51 hF) q1509 dX8_plant_142 ?_
    refine V_iconst (v := 4) dX8_plant_145 (by decide) ?_
    refine V_iload dX8_plant_146 5 rfl ?_
    refine V_imul dX8_plant_148 ?_
    refine V_iload_n dX8_plant_149 rfl 3 rfl ?_
    refine V_iadd dX8_plant_150 ?_
    refine V_iload dX8_plant_151 4 rfl ?_
    obtain ⟨i6, H⟩ := H
    refine H_iast (fs_143 hF) i6 dX8_plant_153 (fun h7 e8 => ?_)
    have H := H h7 e8
    refine V_iload dX8_plant_154 6 rfl ?_
    exact H_iret rfl dX8_plant_156 H
  · have H := H.2 c2
    refine V_aload_n dX8_plant_107 rfl 0 rfl ?_
    refine H_getr ck7 51 (by decide) (fs_115 hF) (by decide) rfl (fr_115_51 hF) q1509 dX8_plant_108 ?_
    refine V_iconst (v := 4) dX8_plant_111 (by decide) ?_
    refine V_iload dX8_plant_112 5 rfl ?_
    refine V_imul dX8_plant_114 ?_
    refine V_iload dX8_plant_115 7 rfl ?_
    refine V_iadd dX8_plant_117 ?_
    refine V_aload_n dX8_plant_118 rfl 0 rfl ?_
    refine V_iload_n dX8_plant_119 rfl 1 rfl ?_
    refine V_iload_n dX8_plant_120 rfl 2 rfl ?_
    refine V_iload dX8_plant_121 7 rfl ?_
    refine H_calli (av := [.ref (ad D 115), .int x1, .int x2, .int x7]) (rest := [.int ((4 * x5) + x7), .ref (ad D 143)]) H mqX8_has q88 (by decide) (Nat.le_of_ble_eq_true rfl) (k_resV (ci := 7) (av := [.int x1, .int x2, .int x7]) (rest := [.int ((4 * x5) + x7), .ref (ad D 143)]) (fs_115 hF) (by decide) rfl rfl q1932 q1934 qs66 q1935 mhX8_has mnX8_has dX8_plant_123) (fun y11 h9 g10 H => ?_)
    obtain ⟨i12, H⟩ := H
    refine H_iast (fs_143 hF) i12 dX8_plant_126 (fun h13 e14 => ?_)
    have H := H h13 e14
    obtain ⟨y15, e16⟩ : ∃ y : Int32, y = x7 + 1 := ⟨_, rfl⟩
    have H := H y15 e16
    refine V_iinc (j := 7) (v := y15) (l1 := [(7, .int y15), (0, .ref (ad D 115)), (1, .int x1), (2, .int x2), (3, .int x3), (4, .int x4), (5, .int x5), (6, .int x6)]) dX8_plant_127 rfl (by rw [e16]; rfl) (by decide) rfl ?_
    refine V_goto (tgt := 88) dX8_plant_130 (by decide) ?_
    refine V.sub [1, 2, 3, 4, 5, 6, 7, 0] rfl ?_
    exact H
abbrev JX8_plant_56 (D : DE) (f : Nat) (Q : Int32 → HI → HL → Prop) (F : Frm) (h : HI) (g : HL) (x1 : Int32) (x2 : Int32) (x3 : Int32) (x4 : Int32) (s1 : Int32) : Prop := ∀ h1, h1 = up2 h 115 0 s1 → (((h1 115 0) ≤ 0 → ∀ y4 : Int32, y4 = (26 * x1) + x2 → Si D f mX8_has [.ref (ad D 115), .int x1, .int x2, .int x3] F h1 g (fun y8 h6 g7 => V D mX8_plant (f + 1) (qi F Q) 88 [(0, .ref (ad D 115)), (1, .int x1), (2, .int x2), (3, .int x3), (4, .int x4), (5, .int y4), (6, .int y8), (7, .int 0)] [] (F, h6, g7))) ∧ (¬ (h1 115 0) ≤ 0 → Q 0 h1 g))
theorem bX8_plant_56 {D : DE} {f : Nat} {Q : Int32 → HI → HL → Prop} {F : Frm} {h : HI} {g : HL} (hF : k_Fix F) (x1 : Int32) (x2 : Int32) (x3 : Int32) (x4 : Int32) (s1 : Int32) (H : JX8_plant_56 D f Q F h g x1 x2 x3 x4 s1) : V D mX8_plant (f + 1) (qi F Q) 56 [(0, .ref (ad D 115)), (1, .int x1), (2, .int x2), (3, .int x3), (4, .int x4)] [.int s1, .ref (ad D 115)] (F, h, g) := by
  refine H_puti ck7 0 (by decide) (fs_115 hF) (by decide) rfl rfl q1458 dX8_plant_56 (fun h1 e2 => ?_)
  have H := H h1 e2
  refine V_aload_n dX8_plant_59 rfl 0 rfl ?_
  refine H_geti ck7 0 (by decide) (fs_115 hF) (by decide) rfl q1458 dX8_plant_60 ?_
  refine V_if_le (tgt := 68) dX8_plant_63 (by decide) (fun c3 => ?_) (fun c3 => ?_)
  · have H := H.1 c3
    refine V_bipush (v := 26) dX8_plant_68 (by decide) ?_
    refine V_iload_n dX8_plant_70 rfl 1 rfl ?_
    refine V_imul dX8_plant_71 ?_
    refine V_iload_n dX8_plant_72 rfl 2 rfl ?_
    refine V_iadd dX8_plant_73 ?_
    refine V_topi (fun y4 e5 => ?_)
    have H := H y4 e5
    refine V_istore (l1 := [(5, .int y4), (0, .ref (ad D 115)), (1, .int x1), (2, .int x2), (3, .int x3), (4, .int x4)]) dX8_plant_74 (by decide) rfl ?_
    refine V_aload_n dX8_plant_76 rfl 1 rfl ?_
    refine V_iload_n dX8_plant_77 rfl 2 rfl ?_
    refine V_iload_n dX8_plant_78 rfl 3 rfl ?_
    refine V_iload_n dX8_plant_79 rfl 4 rfl ?_
    refine H_calli (av := [.ref (ad D 115), .int x1, .int x2, .int x3]) (rest := []) H mqX8_has q88 (by decide) (Nat.le_of_ble_eq_true rfl) (k_resV (ci := 7) (av := [.int x1, .int x2, .int x3]) (rest := []) (fs_115 hF) (by decide) rfl rfl q1932 q1934 qs66 q1935 mhX8_has mnX8_has dX8_plant_80) (fun y8 h6 g7 H => ?_)
    refine V_istore (l1 := [(6, .int y8), (5, .int y4), (0, .ref (ad D 115)), (1, .int x1), (2, .int x2), (3, .int x3), (4, .int x4)]) dX8_plant_83 (by decide) rfl ?_
    refine V_iconst (v := 0) dX8_plant_85 (by decide) ?_
    refine V_istore (l1 := [(7, .int 0), (6, .int y8), (5, .int y4), (0, .ref (ad D 115)), (1, .int x1), (2, .int x2), (3, .int x3), (4, .int x4)]) dX8_plant_86 (by decide) rfl ?_
    refine V.sub [3, 4, 5, 6, 7, 2, 1, 0] rfl ?_
    exact H
  · have H := H.2 c3
    refine V_iconst (v := 0) dX8_plant_66 (by decide) ?_
    exact H_iret rfl dX8_plant_67 H
abbrev JX8_plant_30 (D : DE) (f : Nat) (Q : Int32 → HI → HL → Prop) (F : Frm) (h : HI) (g : HL) (x1 : Int32) (x2 : Int32) (x3 : Int32) (x4 : Int32) : Prop := JX8_plant_56 D f Q F h g x1 x2 x3 x4 2
theorem bX8_plant_30 {D : DE} {f : Nat} {Q : Int32 → HI → HL → Prop} {F : Frm} {h : HI} {g : HL} (hF : k_Fix F) (x1 : Int32) (x2 : Int32) (x3 : Int32) (x4 : Int32) (H : JX8_plant_30 D f Q F h g x1 x2 x3 x4) : V D mX8_plant (f + 1) (qi F Q) 30 [(0, .ref (ad D 115)), (1, .int x1), (2, .int x2), (3, .int x3), (4, .int x4)] [.ref (ad D 115)] (F, h, g) := by
  refine V_iconst (v := 2) dX8_plant_30 (by decide) ?_
  refine V_goto (tgt := 56) dX8_plant_31 (by decide) ?_
  exact bX8_plant_56 hF x1 x2 x3 x4 2 H
abbrev JX8_plant_0 (D : DE) (f : Nat) (Q : Int32 → HI → HL → Prop) (F : Frm) (h : HI) (g : HL) (x1 : Int32) (x2 : Int32) (x3 : Int32) (x4 : Int32) : Prop := ((¬ (h 115 46) = 0 → Si D f mX8_isRowThere [.ref (ad D 115), .int x1, .int x2] F h g (fun y4 h2 g3 => ((y4 = 0 → JX8_plant_30 D f Q F h2 g3 x1 x2 x3 x4) ∧ (¬ y4 = 0 → Si D f mX8_isParamOf [.ref (ad D 115), .int x1, .int x3] F h2 g3 (fun y8 h6 g7 => ((¬ y8 = 0 → Si D f mX8_all [.ref (ad D 115), .int x1, .int x3] F h6 g7 (fun y12 h10 g11 => Si D f mX8_within [.long x4.toInt64, .long 0, .long y12.toInt64] F h10 g11 (fun y15 h13 g14 => ((¬ y15 = 0 → JX8_plant_56 D f Q F h13 g14 x1 x2 x3 x4 0) ∧ (y15 = 0 → JX8_plant_56 D f Q F h13 g14 x1 x2 x3 x4 3))))) ∧ (y8 = 0 → JX8_plant_30 D f Q F h6 g7 x1 x2 x3 x4))))))) ∧ ((h 115 46) = 0 → JX8_plant_56 D f Q F h g x1 x2 x3 x4 1))
theorem bX8_plant_0 {D : DE} {f : Nat} {Q : Int32 → HI → HL → Prop} {F : Frm} {h : HI} {g : HL} (hF : k_Fix F) (x1 : Int32) (x2 : Int32) (x3 : Int32) (x4 : Int32) (H : JX8_plant_0 D f Q F h g x1 x2 x3 x4) : V D mX8_plant (f + 1) (qi F Q) 0 [(0, .ref (ad D 115)), (1, .int x1), (2, .int x2), (3, .int x3), (4, .int x4)] [] (F, h, g) := by
  refine V_aload_n dX8_plant_0 rfl 0 rfl ?_
  refine V_aload_n dX8_plant_1 rfl 0 rfl ?_
  refine H_geti ck7 46 (by decide) (fs_115 hF) (by decide) rfl q1504 dX8_plant_2 ?_
  refine V_if_ne (tgt := 12) dX8_plant_5 (by decide) (fun c1 => ?_) (fun c1 => ?_)
  · have H := H.1 c1
    refine V_aload_n dX8_plant_12 rfl 0 rfl ?_
    refine V_iload_n dX8_plant_13 rfl 1 rfl ?_
    refine V_iload_n dX8_plant_14 rfl 2 rfl ?_
    refine H_calli (av := [.ref (ad D 115), .int x1, .int x2]) (rest := [.ref (ad D 115)]) H mqX8_isRowThere q88 (by decide) (Nat.le_of_ble_eq_true rfl) (k_resV (ci := 7) (av := [.int x1, .int x2]) (rest := [.ref (ad D 115)]) (fs_115 hF) (by decide) rfl rfl q1920 q1922 qs64 q1923 mhX8_isRowThere mnX8_isRowThere dX8_plant_15) (fun y4 h2 g3 H => ?_)
    refine V_if_eq (tgt := 30) dX8_plant_18 (by decide) (fun c5 => ?_) (fun c5 => ?_)
    · have H := H.1 c5
      exact bX8_plant_30 hF x1 x2 x3 x4 H
    · have H := H.2 c5
      refine V_aload_n dX8_plant_21 rfl 0 rfl ?_
      refine V_iload_n dX8_plant_22 rfl 1 rfl ?_
      refine V_iload_n dX8_plant_23 rfl 3 rfl ?_
      refine H_calli (av := [.ref (ad D 115), .int x1, .int x3]) (rest := [.ref (ad D 115)]) H mqX8_isParamOf q88 (by decide) (Nat.le_of_ble_eq_true rfl) (k_resV (ci := 7) (av := [.int x1, .int x3]) (rest := [.ref (ad D 115)]) (fs_115 hF) (by decide) rfl rfl q1928 q1930 qs65 q1931 mhX8_isParamOf mnX8_isParamOf dX8_plant_24) (fun y8 h6 g7 H => ?_)
      refine V_if_ne (tgt := 34) dX8_plant_27 (by decide) (fun c9 => ?_) (fun c9 => ?_)
      · have H := H.1 c9
        refine V_iload dX8_plant_34 4 rfl ?_
        refine V_i2l dX8_plant_36 ?_
        refine V_lconst (v := 0) dX8_plant_37 (by decide) ?_
        refine V_aload_n dX8_plant_38 rfl 0 rfl ?_
        refine V_iload_n dX8_plant_39 rfl 1 rfl ?_
        refine V_iload_n dX8_plant_40 rfl 3 rfl ?_
        refine H_calli (av := [.ref (ad D 115), .int x1, .int x3]) (rest := [.long 0, .long x4.toInt64, .ref (ad D 115)]) H mqX8_all q88 (by decide) (Nat.le_of_ble_eq_true rfl) (k_resV (ci := 7) (av := [.int x1, .int x3]) (rest := [.long 0, .long x4.toInt64, .ref (ad D 115)]) (fs_115 hF) (by decide) rfl rfl q1936 q1938 qs67 q1939 mhX8_all mnX8_all dX8_plant_41) (fun y12 h10 g11 H => ?_)
        refine V_i2l dX8_plant_44 ?_
        refine H_calli (av := [.long x4.toInt64, .long 0, .long y12.toInt64]) (rest := [.ref (ad D 115)]) H mqX8_within q88 (by decide) (Nat.le_of_ble_eq_true rfl) (k_resS (av := [.long x4.toInt64, .long 0, .long y12.toInt64]) (rest := [.ref (ad D 115)]) (M1 := mX8_within) rfl q1721 q1722 q88 mqX8_within (fun _ _ h => mW_named h) mhX8_within mnX8_within dX8_plant_45) (fun y15 h13 g14 H => ?_)
        refine V_if_ne (tgt := 55) dX8_plant_48 (by decide) (fun c16 => ?_) (fun c16 => ?_)
        · have H := H.1 c16
          refine V_iconst (v := 0) dX8_plant_55 (by decide) ?_
          exact bX8_plant_56 hF x1 x2 x3 x4 0 H
        · have H := H.2 c16
          refine V_iconst (v := 3) dX8_plant_51 (by decide) ?_
          refine V_goto (tgt := 56) dX8_plant_52 (by decide) ?_
          exact bX8_plant_56 hF x1 x2 x3 x4 3 H
      · have H := H.2 c9
        exact bX8_plant_30 hF x1 x2 x3 x4 H
  · have H := H.2 c1
    refine V_iconst (v := 1) dX8_plant_8 (by decide) ?_
    refine V_goto (tgt := 56) dX8_plant_9 (by decide) ?_
    exact bX8_plant_56 hF x1 x2 x3 x4 1 H
theorem wX8_plant {D : DE} {f : Nat} {Q : Int32 → HI → HL → Prop} {F : Frm} {h : HI} {g : HL} (hF : k_Fix F) (x1 : Int32) (x2 : Int32) (x3 : Int32) (x4 : Int32) (H : JX8_plant_0 D f Q F h g x1 x2 x3 x4) : Si D (f + 1) mX8_plant [.ref (ad D 115), .int x1, .int x2, .int x3, .int x4] F h g Q := Cl.ofV (by decide) (Nat.le_of_ble_eq_true rfl) rfl (bX8_plant_0 hF x1 x2 x3 x4 H)
theorem dX8_tellsTooMuch_0 : decode cX8_tellsTooMuch 0 = .ok (.aload_n 0, 1) := by decide +kernel
theorem dX8_tellsTooMuch_1 : decode cX8_tellsTooMuch 1 = .ok (.bipush 12, 2) := by decide +kernel
theorem dX8_tellsTooMuch_3 : decode cX8_tellsTooMuch 3 = .ok (.aload_n 0, 1) := by decide +kernel
theorem dX8_tellsTooMuch_4 : decode cX8_tellsTooMuch 4 = .ok (.getfield 345, 3) := by decide +kernel
theorem dX8_tellsTooMuch_7 : decode cX8_tellsTooMuch 7 = .ok (.imul, 1) := by decide +kernel
theorem dX8_tellsTooMuch_8 : decode cX8_tellsTooMuch 8 = .ok (.iload_n 1, 1) := by decide +kernel
theorem dX8_tellsTooMuch_9 : decode cX8_tellsTooMuch 9 = .ok (.iadd, 1) := by decide +kernel
theorem dX8_tellsTooMuch_10 : decode cX8_tellsTooMuch 10 = .ok (.putfield 239, 3) := by decide +kernel
theorem dX8_tellsTooMuch_13 : decode cX8_tellsTooMuch 13 = .ok (.aload_n 0, 1) := by decide +kernel
theorem dX8_tellsTooMuch_14 : decode cX8_tellsTooMuch 14 = .ok (.aload_n 0, 1) := by decide +kernel
theorem dX8_tellsTooMuch_15 : decode cX8_tellsTooMuch 15 = .ok (.getfield 30, 3) := by decide +kernel
theorem dX8_tellsTooMuch_18 : decode cX8_tellsTooMuch 18 = .ok (.aload_n 0, 1) := by decide +kernel
theorem dX8_tellsTooMuch_19 : decode cX8_tellsTooMuch 19 = .ok (.getfield 239, 3) := by decide +kernel
theorem dX8_tellsTooMuch_22 : decode cX8_tellsTooMuch 22 = .ok (.iaload, 1) := by decide +kernel
theorem dX8_tellsTooMuch_23 : decode cX8_tellsTooMuch 23 = .ok (.iload_n 2, 1) := by decide +kernel
theorem dX8_tellsTooMuch_24 : decode cX8_tellsTooMuch 24 = .ok (.invokevirtual 377, 3) := by decide +kernel
theorem dX8_tellsTooMuch_27 : decode cX8_tellsTooMuch 27 = .ok (.istore_n 3, 1) := by decide +kernel
theorem dX8_tellsTooMuch_28 : decode cX8_tellsTooMuch 28 = .ok (.aload_n 0, 1) := by decide +kernel
theorem dX8_tellsTooMuch_29 : decode cX8_tellsTooMuch 29 = .ok (.getfield 100, 3) := by decide +kernel
theorem dX8_tellsTooMuch_32 : decode cX8_tellsTooMuch 32 = .ok (.bipush 26, 2) := by decide +kernel
theorem dX8_tellsTooMuch_34 : decode cX8_tellsTooMuch 34 = .ok (.iload_n 1, 1) := by decide +kernel
theorem dX8_tellsTooMuch_35 : decode cX8_tellsTooMuch 35 = .ok (.imul, 1) := by decide +kernel
theorem dX8_tellsTooMuch_36 : decode cX8_tellsTooMuch 36 = .ok (.iload_n 2, 1) := by decide +kernel
theorem dX8_tellsTooMuch_37 : decode cX8_tellsTooMuch 37 = .ok (.iadd, 1) := by decide +kernel
theorem dX8_tellsTooMuch_38 : decode cX8_tellsTooMuch 38 = .ok (.baload, 1) := by decide +kernel
theorem dX8_tellsTooMuch_39 : decode cX8_tellsTooMuch 39 = .ok (.ifCond .eq 13, 3) := by decide +kernel
theorem dX8_tellsTooMuch_42 : decode cX8_tellsTooMuch 42 = .ok (.iload_n 3, 1) := by decide +kernel
theorem dX8_tellsTooMuch_43 : decode cX8_tellsTooMuch 43 = .ok (.ifCond .ne 7, 3) := by decide +kernel
theorem dX8_tellsTooMuch_46 : decode cX8_tellsTooMuch 46 = .ok (.iconst 1, 1) := by decide +kernel
theorem dX8_tellsTooMuch_47 : decode cX8_tellsTooMuch 47 = .ok (.goto 4, 3) := by decide +kernel
theorem dX8_tellsTooMuch_50 : decode cX8_tellsTooMuch 50 = .ok (.iconst 0, 1) := by decide +kernel
theorem dX8_tellsTooMuch_51 : decode cX8_tellsTooMuch 51 = .ok (.ireturn, 1) := by decide +kernel
theorem dX8_tellsTooMuch_52 : decode cX8_tellsTooMuch 52 = .ok (.iconst 0, 1) := by decide +kernel
theorem dX8_tellsTooMuch_53 : decode cX8_tellsTooMuch 53 = .ok (.istore 4, 2) := by decide +kernel
theorem dX8_tellsTooMuch_55 : decode cX8_tellsTooMuch 55 = .ok (.iconst 0, 1) := by decide +kernel
theorem dX8_tellsTooMuch_56 : decode cX8_tellsTooMuch 56 = .ok (.istore 5, 2) := by decide +kernel
theorem dX8_tellsTooMuch_58 : decode cX8_tellsTooMuch 58 = .ok (.iload 5, 2) := by decide +kernel
theorem dX8_tellsTooMuch_60 : decode cX8_tellsTooMuch 60 = .ok (.aload_n 0, 1) := by decide +kernel
theorem dX8_tellsTooMuch_61 : decode cX8_tellsTooMuch 61 = .ok (.getfield 24, 3) := by decide +kernel
theorem dX8_tellsTooMuch_64 : decode cX8_tellsTooMuch 64 = .ok (.aload_n 0, 1) := by decide +kernel
theorem dX8_tellsTooMuch_65 : decode cX8_tellsTooMuch 65 = .ok (.getfield 239, 3) := by decide +kernel
theorem dX8_tellsTooMuch_68 : decode cX8_tellsTooMuch 68 = .ok (.iaload, 1) := by decide +kernel
theorem dX8_tellsTooMuch_69 : decode cX8_tellsTooMuch 69 = .ok (.if_icmp .ge 78, 3) := by decide +kernel
theorem dX8_tellsTooMuch_72 : decode cX8_tellsTooMuch 72 = .ok (.aload_n 0, 1) := by decide +kernel
theorem dX8_tellsTooMuch_73 : decode cX8_tellsTooMuch 73 = .ok (.iload_n 1, 1) := by decide +kernel
theorem dX8_tellsTooMuch_74 : decode cX8_tellsTooMuch 74 = .ok (.iload_n 2, 1) := by decide +kernel
theorem dX8_tellsTooMuch_75 : decode cX8_tellsTooMuch 75 = .ok (.iload 5, 2) := by decide +kernel
theorem dX8_tellsTooMuch_77 : decode cX8_tellsTooMuch 77 = .ok (.invokevirtual 393, 3) := by decide +kernel
theorem dX8_tellsTooMuch_80 : decode cX8_tellsTooMuch 80 = .ok (.istore 6, 2) := by decide +kernel
theorem dX8_tellsTooMuch_82 : decode cX8_tellsTooMuch 82 = .ok (.iload 4, 2) := by decide +kernel
theorem dX8_tellsTooMuch_84 : decode cX8_tellsTooMuch 84 = .ok (.ifCond .ne 50, 3) := by decide +kernel
theorem dX8_tellsTooMuch_87 : decode cX8_tellsTooMuch 87 = .ok (.aload_n 0, 1) := by decide +kernel
theorem dX8_tellsTooMuch_88 : decode cX8_tellsTooMuch 88 = .ok (.getfield 36, 3) := by decide +kernel
theorem dX8_tellsTooMuch_91 : decode cX8_tellsTooMuch 91 = .ok (.bipush 16, 2) := by decide +kernel
theorem dX8_tellsTooMuch_93 : decode cX8_tellsTooMuch 93 = .ok (.aload_n 0, 1) := by decide +kernel
theorem dX8_tellsTooMuch_94 : decode cX8_tellsTooMuch 94 = .ok (.getfield 239, 3) := by decide +kernel
theorem dX8_tellsTooMuch_97 : decode cX8_tellsTooMuch 97 = .ok (.imul, 1) := by decide +kernel
theorem dX8_tellsTooMuch_98 : decode cX8_tellsTooMuch 98 = .ok (.iload 5, 2) := by decide +kernel
theorem dX8_tellsTooMuch_100 : decode cX8_tellsTooMuch 100 = .ok (.iadd, 1) := by decide +kernel
theorem dX8_tellsTooMuch_101 : decode cX8_tellsTooMuch 101 = .ok (.iaload, 1) := by decide +kernel
theorem dX8_tellsTooMuch_102 : decode cX8_tellsTooMuch 102 = .ok (.iload 6, 2) := by decide +kernel
theorem dX8_tellsTooMuch_104 : decode cX8_tellsTooMuch 104 = .ok (.iload_n 3, 1) := by decide +kernel
theorem dX8_tellsTooMuch_105 : decode cX8_tellsTooMuch 105 = .ok (.ifCond .eq 13, 3) := by decide +kernel
theorem dX8_tellsTooMuch_108 : decode cX8_tellsTooMuch 108 = .ok (.aload_n 0, 1) := by decide +kernel
theorem dX8_tellsTooMuch_109 : decode cX8_tellsTooMuch 109 = .ok (.iload_n 1, 1) := by decide +kernel
theorem dX8_tellsTooMuch_110 : decode cX8_tellsTooMuch 110 = .ok (.iload 5, 2) := by decide +kernel
theorem dX8_tellsTooMuch_112 : decode cX8_tellsTooMuch 112 = .ok (.invokevirtual 384, 3) := by decide +kernel
theorem dX8_tellsTooMuch_115 : decode cX8_tellsTooMuch 115 = .ok (.goto 10, 3) := by decide +kernel
theorem dX8_tellsTooMuch_118 : decode cX8_tellsTooMuch 118 = .ok (.aload_n 0, 1) := by decide +kernel
theorem dX8_tellsTooMuch_119 : decode cX8_tellsTooMuch 119 = .ok (.getfield 90, 3) := by decide +kernel
theorem dX8_tellsTooMuch_122 : decode cX8_tellsTooMuch 122 = .ok (.iload 5, 2) := by decide +kernel
theorem dX8_tellsTooMuch_124 : decode cX8_tellsTooMuch 124 = .ok (.iaload, 1) := by decide +kernel
theorem dX8_tellsTooMuch_125 : decode cX8_tellsTooMuch 125 = .ok (.iconst 0, 1) := by decide +kernel
theorem dX8_tellsTooMuch_126 : decode cX8_tellsTooMuch 126 = .ok (.invokestatic 360, 3) := by decide +kernel
theorem dX8_tellsTooMuch_129 : decode cX8_tellsTooMuch 129 = .ok (.iload 6, 2) := by decide +kernel
theorem dX8_tellsTooMuch_131 : decode cX8_tellsTooMuch 131 = .ok (.if_icmp .eq 7, 3) := by decide +kernel
theorem dX8_tellsTooMuch_134 : decode cX8_tellsTooMuch 134 = .ok (.iconst 1, 1) := by decide +kernel
theorem dX8_tellsTooMuch_135 : decode cX8_tellsTooMuch 135 = .ok (.goto 4, 3) := by decide +kernel
theorem dX8_tellsTooMuch_138 : decode cX8_tellsTooMuch 138 = .ok (.iconst 0, 1) := by decide +kernel
theorem dX8_tellsTooMuch_139 : decode cX8_tellsTooMuch 139 = .ok (.istore 4, 2) := by decide +kernel
theorem dX8_tellsTooMuch_141 : decode cX8_tellsTooMuch 141 = .ok (.iinc 5 1, 3) := by decide +kernel
theorem dX8_tellsTooMuch_144 : decode cX8_tellsTooMuch 144 = .ok (.goto (-86), 3) := by decide +kernel
theorem dX8_tellsTooMuch_147 : decode cX8_tellsTooMuch 147 = .ok (.iload 4, 2) := by decide +kernel
theorem dX8_tellsTooMuch_149 : decode cX8_tellsTooMuch 149 = .ok (.ireturn, 1) := by decide +kernel
abbrev JX8_tellsTooMuch_139 (D : DE) (f : Nat) (Q : Int32 → HI → HL → Prop) (F : Frm) (h : HI) (g : HL) (x1 : Int32) (x2 : Int32) (x3 : Int32) (x5 : Int32) (s0 : Int32) : Prop := ∀ y1 : Int32, y1 = x5 + 1 → V D mX8_tellsTooMuch (f + 1) (qi F Q) 58 [(0, .ref (ad D 115)), (1, .int x1), (2, .int x2), (3, .int x3), (4, .int s0), (5, .int y1)] [] (F, h, g)
theorem bX8_tellsTooMuch_139 {D : DE} {f : Nat} {Q : Int32 → HI → HL → Prop} {F : Frm} {h : HI} {g : HL} (hF : k_Fix F) (x1 : Int32) (x2 : Int32) (x3 : Int32) (x5 : Int32) (s0 : Int32) (H : JX8_tellsTooMuch_139 D f Q F h g x1 x2 x3 x5 s0) : V D mX8_tellsTooMuch (f + 1) (qi F Q) 139 [(0, .ref (ad D 115)), (1, .int x1), (2, .int x2), (3, .int x3), (5, .int x5)] [.int s0] (F, h, g) := by
  refine V_istore (l1 := [(4, .int s0), (0, .ref (ad D 115)), (1, .int x1), (2, .int x2), (3, .int x3), (5, .int x5)]) dX8_tellsTooMuch_139 (by decide) rfl ?_
  obtain ⟨y1, e2⟩ : ∃ y : Int32, y = x5 + 1 := ⟨_, rfl⟩
  have H := H y1 e2
  refine V_iinc (j := 5) (v := y1) (l1 := [(5, .int y1), (4, .int s0), (0, .ref (ad D 115)), (1, .int x1), (2, .int x2), (3, .int x3)]) dX8_tellsTooMuch_141 rfl (by rw [e2]; rfl) (by decide) rfl ?_
  refine V_goto (tgt := 58) dX8_tellsTooMuch_144 (by decide) ?_
  refine V.sub [2, 3, 4, 5, 1, 0] rfl ?_
  exact H
abbrev JX8_tellsTooMuch_134 (D : DE) (f : Nat) (Q : Int32 → HI → HL → Prop) (F : Frm) (h : HI) (g : HL) (x1 : Int32) (x2 : Int32) (x3 : Int32) (x5 : Int32) : Prop := JX8_tellsTooMuch_139 D f Q F h g x1 x2 x3 x5 1
theorem bX8_tellsTooMuch_134 {D : DE} {f : Nat} {Q : Int32 → HI → HL → Prop} {F : Frm} {h : HI} {g : HL} (hF : k_Fix F) (x1 : Int32) (x2 : Int32) (x3 : Int32) (x5 : Int32) (H : JX8_tellsTooMuch_134 D f Q F h g x1 x2 x3 x5) : V D mX8_tellsTooMuch (f + 1) (qi F Q) 134 [(0, .ref (ad D 115)), (1, .int x1), (2, .int x2), (3, .int x3), (5, .int x5)] [] (F, h, g) := by
  refine V_iconst (v := 1) dX8_tellsTooMuch_134 (by decide) ?_
  refine V_goto (tgt := 139) dX8_tellsTooMuch_135 (by decide) ?_
  exact bX8_tellsTooMuch_139 hF x1 x2 x3 x5 1 H
abbrev JX8_tellsTooMuch_125 (D : DE) (f : Nat) (Q : Int32 → HI → HL → Prop) (F : Frm) (h : HI) (g : HL) (x1 : Int32) (x2 : Int32) (x3 : Int32) (x5 : Int32) (x6 : Int32) (s0 : Int32) (s1 : Int32) (s2 : Int32) : Prop := Si D f mX8_joined [.int s0, .int s1, .int s2, .int 0] F h g (fun y3 h1 g2 => ((y3 = x6 → JX8_tellsTooMuch_139 D f Q F h1 g2 x1 x2 x3 x5 0) ∧ (¬ y3 = x6 → JX8_tellsTooMuch_134 D f Q F h1 g2 x1 x2 x3 x5)))
theorem bX8_tellsTooMuch_125 {D : DE} {f : Nat} {Q : Int32 → HI → HL → Prop} {F : Frm} {h : HI} {g : HL} (hF : k_Fix F) (x1 : Int32) (x2 : Int32) (x3 : Int32) (x5 : Int32) (x6 : Int32) (s0 : Int32) (s1 : Int32) (s2 : Int32) (H : JX8_tellsTooMuch_125 D f Q F h g x1 x2 x3 x5 x6 s0 s1 s2) : V D mX8_tellsTooMuch (f + 1) (qi F Q) 125 [(0, .ref (ad D 115)), (1, .int x1), (2, .int x2), (3, .int x3), (5, .int x5), (6, .int x6)] [.int s2, .int s1, .int s0] (F, h, g) := by
  refine V_iconst (v := 0) dX8_tellsTooMuch_125 (by decide) ?_
  refine H_calli (av := [.int s0, .int s1, .int s2, .int 0]) (rest := []) H mqX8_joined q88 (by decide) (Nat.le_of_ble_eq_true rfl) (k_resS (av := [.int s0, .int s1, .int s2, .int 0]) (rest := []) (M1 := mX8_joined) rfl q1903 q1904 q88 mqX8_joined (fun _ _ h => mW_named h) mhX8_joined mnX8_joined dX8_tellsTooMuch_126) (fun y3 h1 g2 H => ?_)
  refine V_iload dX8_tellsTooMuch_129 5 rfl ?_
  refine V_icmp_eq (tgt := 138) dX8_tellsTooMuch_131 (by decide) (fun c4 => ?_) (fun c4 => ?_)
  · have H := H.1 c4
    refine V_iconst (v := 0) dX8_tellsTooMuch_138 (by decide) ?_
    refine V.sub [0, 1, 2, 3, 4] rfl ?_
    exact bX8_tellsTooMuch_139 hF x1 x2 x3 x5 0 H
  · have H := H.2 c4
    refine V.sub [0, 1, 2, 3, 4] rfl ?_
    exact bX8_tellsTooMuch_134 hF x1 x2 x3 x5 H
abbrev JX8_tellsTooMuch_58 (D : DE) (f : Nat) (Q : Int32 → HI → HL → Prop) (F : Frm) (h : HI) (g : HL) (x1 : Int32) (x2 : Int32) (x3 : Int32) (x4 : Int32) (x5 : Int32) : Prop := vp_in (h 115 33) 24 ∧ (((h 119 (ix (h 115 33))) ≤ x5 → (isB x4 ∧ Q x4 h g)) ∧ (¬ (h 119 (ix (h 115 33))) ≤ x5 → Si D f mX8_has [.ref (ad D 115), .int x1, .int x2, .int x5] F h g (fun y5 h3 g4 => ((¬ x4 = 0 → JX8_tellsTooMuch_134 D f Q F h3 g4 x1 x2 x3 x5) ∧ (x4 = 0 → vp_in ((16 * (h3 115 33)) + x5) 384 ∧ ((x3 = 0 → vp_in x5 8000 ∧ JX8_tellsTooMuch_125 D f Q F h3 g4 x1 x2 x3 x5 y5 (h3 123 (ix ((16 * (h3 115 33)) + x5))) y5 (h3 141 (ix x5))) ∧ (¬ x3 = 0 → Si D f mX8_all [.ref (ad D 115), .int x1, .int x5] F h3 g4 (fun y12 h10 g11 => JX8_tellsTooMuch_125 D f Q F h10 g11 x1 x2 x3 x5 y5 (h3 123 (ix ((16 * (h3 115 33)) + x5))) y5 y12))))))))
theorem bX8_tellsTooMuch_58 {D : DE} {f : Nat} {Q : Int32 → HI → HL → Prop} {F : Frm} {h : HI} {g : HL} (hF : k_Fix F) (x1 : Int32) (x2 : Int32) (x3 : Int32) (x4 : Int32) (x5 : Int32) (H : JX8_tellsTooMuch_58 D f Q F h g x1 x2 x3 x4 x5) : V D mX8_tellsTooMuch (f + 1) (qi F Q) 58 [(0, .ref (ad D 115)), (1, .int x1), (2, .int x2), (3, .int x3), (4, .int x4), (5, .int x5)] [] (F, h, g) := by
  refine V_iload dX8_tellsTooMuch_58 5 rfl ?_
  refine V_aload_n dX8_tellsTooMuch_60 rfl 0 rfl ?_
  refine H_getr ck7 13 (by decide) (fs_115 hF) (by decide) rfl (fr_115_13 hF) q1471 dX8_tellsTooMuch_61 ?_
  refine V_aload_n dX8_tellsTooMuch_64 rfl 0 rfl ?_
  refine H_geti ck7 33 (by decide) (fs_115 hF) (by decide) rfl q1491 dX8_tellsTooMuch_65 ?_
  obtain ⟨i1, H⟩ := H
  refine H_iald (fs_119 hF) i1 dX8_tellsTooMuch_68 ?_
  refine V_icmp_ge (tgt := 147) dX8_tellsTooMuch_69 (by decide) (fun c2 => ?_) (fun c2 => ?_)
  · have H := H.1 c2
    refine V_iload dX8_tellsTooMuch_147 4 rfl ?_
    exact H_zret rfl H.1 dX8_tellsTooMuch_149 H.2
  · have H := H.2 c2
    refine V_aload_n dX8_tellsTooMuch_72 rfl 0 rfl ?_
    refine V_iload_n dX8_tellsTooMuch_73 rfl 1 rfl ?_
    refine V_iload_n dX8_tellsTooMuch_74 rfl 2 rfl ?_
    refine V_iload dX8_tellsTooMuch_75 5 rfl ?_
    refine H_calli (av := [.ref (ad D 115), .int x1, .int x2, .int x5]) (rest := []) H mqX8_has q88 (by decide) (Nat.le_of_ble_eq_true rfl) (k_resV (ci := 7) (av := [.int x1, .int x2, .int x5]) (rest := []) (fs_115 hF) (by decide) rfl rfl q1932 q1934 qs66 q1935 mhX8_has mnX8_has dX8_tellsTooMuch_77) (fun y5 h3 g4 H => ?_)
    refine V_istore (l1 := [(6, .int y5), (0, .ref (ad D 115)), (1, .int x1), (2, .int x2), (3, .int x3), (4, .int x4), (5, .int x5)]) dX8_tellsTooMuch_80 (by decide) rfl ?_
    refine V_iload dX8_tellsTooMuch_82 5 rfl ?_
    refine V_if_ne (tgt := 134) dX8_tellsTooMuch_84 (by decide) (fun c6 => ?_) (fun c6 => ?_)
    · have H := H.1 c6
      refine V.sub [1, 2, 3, 4, 6] rfl ?_
      exact bX8_tellsTooMuch_134 hF x1 x2 x3 x5 H
    · have H := H.2 c6
      refine V_aload_n dX8_tellsTooMuch_87 rfl 1 rfl ?_
      refine H_getr ck7 17 (by decide) (fs_115 hF) (by decide) rfl (fr_115_17 hF) q1475 dX8_tellsTooMuch_88 ?_
      refine V_bipush (v := 16) dX8_tellsTooMuch_91 (by decide) ?_
      refine V_aload_n dX8_tellsTooMuch_93 rfl 1 rfl ?_
      refine H_geti ck7 33 (by decide) (fs_115 hF) (by decide) rfl q1491 dX8_tellsTooMuch_94 ?_
      refine V_imul dX8_tellsTooMuch_97 ?_
      refine V_iload dX8_tellsTooMuch_98 6 rfl ?_
      refine V_iadd dX8_tellsTooMuch_100 ?_
      obtain ⟨i7, H⟩ := H
      refine H_iald (fs_123 hF) i7 dX8_tellsTooMuch_101 ?_
      refine V_iload dX8_tellsTooMuch_102 0 rfl ?_
      refine V_iload_n dX8_tellsTooMuch_104 rfl 4 rfl ?_
      refine V_if_eq (tgt := 118) dX8_tellsTooMuch_105 (by decide) (fun c8 => ?_) (fun c8 => ?_)
      · have H := H.1 c8
        refine V_aload_n dX8_tellsTooMuch_118 rfl 1 rfl ?_
        refine H_getr ck7 49 (by decide) (fs_115 hF) (by decide) rfl (fr_115_49 hF) q1507 dX8_tellsTooMuch_119 ?_
        refine V_iload dX8_tellsTooMuch_122 6 rfl ?_
        obtain ⟨i9, H⟩ := H
        refine H_iald (fs_141 hF) i9 dX8_tellsTooMuch_124 ?_
        refine V.sub [1, 2, 3, 4, 6, 0] rfl ?_
        exact bX8_tellsTooMuch_125 hF x1 x2 x3 x5 y5 (h3 123 (ix ((16 * (h3 115 33)) + x5))) y5 (h3 141 (ix x5)) H
      · have H := H.2 c8
        refine V_aload_n dX8_tellsTooMuch_108 rfl 1 rfl ?_
        refine V_iload_n dX8_tellsTooMuch_109 rfl 2 rfl ?_
        refine V_iload dX8_tellsTooMuch_110 6 rfl ?_
        refine H_calli (av := [.ref (ad D 115), .int x1, .int x5]) (rest := [.int y5, .int (h3 123 (ix ((16 * (h3 115 33)) + x5)))]) H mqX8_all q88 (by decide) (Nat.le_of_ble_eq_true rfl) (k_resV (ci := 7) (av := [.int x1, .int x5]) (rest := [.int y5, .int (h3 123 (ix ((16 * (h3 115 33)) + x5)))]) (fs_115 hF) (by decide) rfl rfl q1936 q1938 qs67 q1939 mhX8_all mnX8_all dX8_tellsTooMuch_112) (fun y12 h10 g11 H => ?_)
        refine V_goto (tgt := 125) dX8_tellsTooMuch_115 (by decide) ?_
        refine V.sub [1, 2, 3, 4, 6, 0] rfl ?_
        exact bX8_tellsTooMuch_125 hF x1 x2 x3 x5 y5 (h3 123 (ix ((16 * (h3 115 33)) + x5))) y5 y12 H
abbrev JX8_tellsTooMuch_0 (D : DE) (f : Nat) (Q : Int32 → HI → HL → Prop) (F : Frm) (h : HI) (g : HL) (x1 : Int32) (x2 : Int32) : Prop := ∀ h1, h1 = up2 h 115 33 ((12 * (h 115 47)) + x1) → vp_in (h1 115 33) 24 ∧ Si D f mX8_asks [.ref (ad D 115), .int (h1 121 (ix (h1 115 33))), .int x2] F h1 g (fun y6 h4 g5 => vp_in ((26 * x1) + x2) 312 ∧ (((h4 144 (ix ((26 * x1) + x2))) = 0 → V D mX8_tellsTooMuch (f + 1) (qi F Q) 58 [(0, .ref (ad D 115)), (1, .int x1), (2, .int x2), (3, .int y6), (4, .int 0), (5, .int 0)] [] (F, h4, g5)) ∧ (¬ (h4 144 (ix ((26 * x1) + x2))) = 0 → ((¬ y6 = 0 → Q 0 h4 g5) ∧ (y6 = 0 → Q 1 h4 g5)))))
theorem bX8_tellsTooMuch_0 {D : DE} {f : Nat} {Q : Int32 → HI → HL → Prop} {F : Frm} {h : HI} {g : HL} (hF : k_Fix F) (x1 : Int32) (x2 : Int32) (H : JX8_tellsTooMuch_0 D f Q F h g x1 x2) : V D mX8_tellsTooMuch (f + 1) (qi F Q) 0 [(0, .ref (ad D 115)), (1, .int x1), (2, .int x2)] [] (F, h, g) := by
  refine V_aload_n dX8_tellsTooMuch_0 rfl 0 rfl ?_
  refine V_bipush (v := 12) dX8_tellsTooMuch_1 (by decide) ?_
  refine V_aload_n dX8_tellsTooMuch_3 rfl 0 rfl ?_
  refine H_geti ck7 47 (by decide) (fs_115 hF) (by decide) rfl q1505 dX8_tellsTooMuch_4 ?_
  refine V_imul dX8_tellsTooMuch_7 ?_
  refine V_iload_n dX8_tellsTooMuch_8 rfl 1 rfl ?_
  refine V_iadd dX8_tellsTooMuch_9 ?_
  refine H_puti ck7 33 (by decide) (fs_115 hF) (by decide) rfl rfl q1491 dX8_tellsTooMuch_10 (fun h1 e2 => ?_)
  have H := H h1 e2
  refine V_aload_n dX8_tellsTooMuch_13 rfl 0 rfl ?_
  refine V_aload_n dX8_tellsTooMuch_14 rfl 0 rfl ?_
  refine H_getr ck7 15 (by decide) (fs_115 hF) (by decide) rfl (fr_115_15 hF) q1473 dX8_tellsTooMuch_15 ?_
  refine V_aload_n dX8_tellsTooMuch_18 rfl 0 rfl ?_
  refine H_geti ck7 33 (by decide) (fs_115 hF) (by decide) rfl q1491 dX8_tellsTooMuch_19 ?_
  obtain ⟨i3, H⟩ := H
  refine H_iald (fs_121 hF) i3 dX8_tellsTooMuch_22 ?_
  refine V_iload_n dX8_tellsTooMuch_23 rfl 2 rfl ?_
  refine H_calli (av := [.ref (ad D 115), .int (h1 121 (ix (h1 115 33))), .int x2]) (rest := []) H mqX8_asks q88 (by decide) (Nat.le_of_ble_eq_true rfl) (k_resV (ci := 7) (av := [.int (h1 121 (ix (h1 115 33))), .int x2]) (rest := []) (fs_115 hF) (by decide) rfl rfl q1887 q1889 qs59 q1890 mhX8_asks mnX8_asks dX8_tellsTooMuch_24) (fun y6 h4 g5 H => ?_)
  refine V_istore_n (l1 := [(3, .int y6), (0, .ref (ad D 115)), (1, .int x1), (2, .int x2)]) dX8_tellsTooMuch_27 rfl (by decide) rfl ?_
  refine V_aload_n dX8_tellsTooMuch_28 rfl 1 rfl ?_
  refine H_getr ck7 52 (by decide) (fs_115 hF) (by decide) rfl (fr_115_52 hF) q1510 dX8_tellsTooMuch_29 ?_
  refine V_bipush (v := 26) dX8_tellsTooMuch_32 (by decide) ?_
  refine V_iload_n dX8_tellsTooMuch_34 rfl 2 rfl ?_
  refine V_imul dX8_tellsTooMuch_35 ?_
  refine V_iload_n dX8_tellsTooMuch_36 rfl 3 rfl ?_
  refine V_iadd dX8_tellsTooMuch_37 ?_
  obtain ⟨i7, H⟩ := H
  refine H_zald (fs_144 hF) i7 dX8_tellsTooMuch_38 ?_
  refine V_if_eq (tgt := 52) dX8_tellsTooMuch_39 (by decide) (fun c8 => ?_) (fun c8 => ?_)
  · have H := H.1 c8
    refine V_iconst (v := 0) dX8_tellsTooMuch_52 (by decide) ?_
    refine V_istore (l1 := [(4, .int 0), (3, .int y6), (0, .ref (ad D 115)), (1, .int x1), (2, .int x2)]) dX8_tellsTooMuch_53 (by decide) rfl ?_
    refine V_iconst (v := 0) dX8_tellsTooMuch_55 (by decide) ?_
    refine V_istore (l1 := [(5, .int 0), (4, .int 0), (3, .int y6), (0, .ref (ad D 115)), (1, .int x1), (2, .int x2)]) dX8_tellsTooMuch_56 (by decide) rfl ?_
    refine V.sub [3, 4, 5, 2, 1, 0] rfl ?_
    exact H
  · have H := H.2 c8
    refine V_iload_n dX8_tellsTooMuch_42 rfl 0 rfl ?_
    refine V_if_ne (tgt := 50) dX8_tellsTooMuch_43 (by decide) (fun c9 => ?_) (fun c9 => ?_)
    · have H := H.1 c9
      refine V_iconst (v := 0) dX8_tellsTooMuch_50 (by decide) ?_
      exact H_zret rfl isB0 dX8_tellsTooMuch_51 H
    · have H := H.2 c9
      refine V_iconst (v := 1) dX8_tellsTooMuch_46 (by decide) ?_
      refine V_goto (tgt := 51) dX8_tellsTooMuch_47 (by decide) ?_
      exact H_zret rfl isB1 dX8_tellsTooMuch_51 H
theorem wX8_tellsTooMuch {D : DE} {f : Nat} {Q : Int32 → HI → HL → Prop} {F : Frm} {h : HI} {g : HL} (hF : k_Fix F) (x1 : Int32) (x2 : Int32) (H : JX8_tellsTooMuch_0 D f Q F h g x1 x2) : Si D (f + 1) mX8_tellsTooMuch [.ref (ad D 115), .int x1, .int x2] F h g Q := Cl.ofV (by decide) (Nat.le_of_ble_eq_true rfl) rfl (bX8_tellsTooMuch_0 hF x1 x2 H)
theorem dX8_check_0 : decode cX8_check 0 = .ok (.aload_n 0, 1) := by decide +kernel
theorem dX8_check_1 : decode cX8_check 1 = .ok (.aload_n 0, 1) := by decide +kernel
theorem dX8_check_2 : decode cX8_check 2 = .ok (.getfield 354, 3) := by decide +kernel
theorem dX8_check_5 : decode cX8_check 5 = .ok (.ifCond .eq 7, 3) := by decide +kernel
theorem dX8_check_8 : decode cX8_check 8 = .ok (.iconst 0, 1) := by decide +kernel
theorem dX8_check_9 : decode cX8_check 9 = .ok (.goto 4, 3) := by decide +kernel
theorem dX8_check_12 : decode cX8_check 12 = .ok (.iconst 1, 1) := by decide +kernel
theorem dX8_check_13 : decode cX8_check 13 = .ok (.putfield 148, 3) := by decide +kernel
theorem dX8_check_16 : decode cX8_check 16 = .ok (.aload_n 0, 1) := by decide +kernel
theorem dX8_check_17 : decode cX8_check 17 = .ok (.getfield 148, 3) := by decide +kernel
theorem dX8_check_20 : decode cX8_check 20 = .ok (.ifCond .le 5, 3) := by decide +kernel
theorem dX8_check_23 : decode cX8_check 23 = .ok (.iconst 0, 1) := by decide +kernel
theorem dX8_check_24 : decode cX8_check 24 = .ok (.ireturn, 1) := by decide +kernel
theorem dX8_check_25 : decode cX8_check 25 = .ok (.iconst 0, 1) := by decide +kernel
theorem dX8_check_26 : decode cX8_check 26 = .ok (.istore_n 1, 1) := by decide +kernel
theorem dX8_check_27 : decode cX8_check 27 = .ok (.iload_n 1, 1) := by decide +kernel
theorem dX8_check_28 : decode cX8_check 28 = .ok (.aload_n 0, 1) := by decide +kernel
theorem dX8_check_29 : decode cX8_check 29 = .ok (.getfield 63, 3) := by decide +kernel
theorem dX8_check_32 : decode cX8_check 32 = .ok (.aload_n 0, 1) := by decide +kernel
theorem dX8_check_33 : decode cX8_check 33 = .ok (.getfield 345, 3) := by decide +kernel
theorem dX8_check_36 : decode cX8_check 36 = .ok (.iaload, 1) := by decide +kernel
theorem dX8_check_37 : decode cX8_check 37 = .ok (.if_icmp .ge 54, 3) := by decide +kernel
theorem dX8_check_40 : decode cX8_check 40 = .ok (.iconst 1, 1) := by decide +kernel
theorem dX8_check_41 : decode cX8_check 41 = .ok (.istore_n 2, 1) := by decide +kernel
theorem dX8_check_42 : decode cX8_check 42 = .ok (.iload_n 2, 1) := by decide +kernel
theorem dX8_check_43 : decode cX8_check 43 = .ok (.aload_n 0, 1) := by decide +kernel
theorem dX8_check_44 : decode cX8_check 44 = .ok (.getfield 21, 3) := by decide +kernel
theorem dX8_check_47 : decode cX8_check 47 = .ok (.bipush 12, 2) := by decide +kernel
theorem dX8_check_49 : decode cX8_check 49 = .ok (.aload_n 0, 1) := by decide +kernel
theorem dX8_check_50 : decode cX8_check 50 = .ok (.getfield 345, 3) := by decide +kernel
theorem dX8_check_53 : decode cX8_check 53 = .ok (.imul, 1) := by decide +kernel
theorem dX8_check_54 : decode cX8_check 54 = .ok (.iload_n 1, 1) := by decide +kernel
theorem dX8_check_55 : decode cX8_check 55 = .ok (.iadd, 1) := by decide +kernel
theorem dX8_check_56 : decode cX8_check 56 = .ok (.iaload, 1) := by decide +kernel
theorem dX8_check_57 : decode cX8_check 57 = .ok (.invokestatic 166, 3) := by decide +kernel
theorem dX8_check_60 : decode cX8_check 60 = .ok (.if_icmp .ge 25, 3) := by decide +kernel
theorem dX8_check_63 : decode cX8_check 63 = .ok (.aload_n 0, 1) := by decide +kernel
theorem dX8_check_64 : decode cX8_check 64 = .ok (.iload_n 1, 1) := by decide +kernel
theorem dX8_check_65 : decode cX8_check 65 = .ok (.iload_n 2, 1) := by decide +kernel
theorem dX8_check_66 : decode cX8_check 66 = .ok (.invokevirtual 397, 3) := by decide +kernel
theorem dX8_check_69 : decode cX8_check 69 = .ok (.ifCond .eq 10, 3) := by decide +kernel
theorem dX8_check_72 : decode cX8_check 72 = .ok (.bipush 32, 2) := by decide +kernel
theorem dX8_check_74 : decode cX8_check 74 = .ok (.iload_n 1, 1) := by decide +kernel
theorem dX8_check_75 : decode cX8_check 75 = .ok (.imul, 1) := by decide +kernel
theorem dX8_check_76 : decode cX8_check 76 = .ok (.iload_n 2, 1) := by decide +kernel
theorem dX8_check_77 : decode cX8_check 77 = .ok (.iadd, 1) := by decide +kernel
theorem dX8_check_78 : decode cX8_check 78 = .ok (.ireturn, 1) := by decide +kernel
theorem dX8_check_79 : decode cX8_check 79 = .ok (.iinc 2 1, 3) := by decide +kernel
theorem dX8_check_82 : decode cX8_check 82 = .ok (.goto (-40), 3) := by decide +kernel
theorem dX8_check_85 : decode cX8_check 85 = .ok (.iinc 1 1, 3) := by decide +kernel
theorem dX8_check_88 : decode cX8_check 88 = .ok (.goto (-61), 3) := by decide +kernel
theorem dX8_check_91 : decode cX8_check 91 = .ok (.iconst (-1), 1) := by decide +kernel
theorem dX8_check_92 : decode cX8_check 92 = .ok (.ireturn, 1) := by decide +kernel
abbrev JX8_check_42 (D : DE) (f : Nat) (Q : Int32 → HI → HL → Prop) (F : Frm) (h : HI) (g : HL) (x1 : Int32) (x2 : Int32) : Prop := vp_in ((12 * (h 115 47)) + x1) 24 ∧ Si D f mX8_demands [.int (h 118 (ix ((12 * (h 115 47)) + x1)))] F h g (fun y4 h2 g3 => ((y4 ≤ x2 → ∀ y6 : Int32, y6 = x1 + 1 → V D mX8_check (f + 1) (qi F Q) 27 [(0, .ref (ad D 115)), (1, .int y6)] [] (F, h2, g3)) ∧ (¬ y4 ≤ x2 → Si D f mX8_tellsTooMuch [.ref (ad D 115), .int x1, .int x2] F h2 g3 (fun y10 h8 g9 => ((y10 = 0 → ∀ y12 : Int32, y12 = x2 + 1 → V D mX8_check (f + 1) (qi F Q) 42 [(0, .ref (ad D 115)), (1, .int x1), (2, .int y12)] [] (F, h8, g9)) ∧ (¬ y10 = 0 → Q ((32 * x1) + x2) h8 g9))))))
theorem bX8_check_42 {D : DE} {f : Nat} {Q : Int32 → HI → HL → Prop} {F : Frm} {h : HI} {g : HL} (hF : k_Fix F) (x1 : Int32) (x2 : Int32) (H : JX8_check_42 D f Q F h g x1 x2) : V D mX8_check (f + 1) (qi F Q) 42 [(0, .ref (ad D 115)), (1, .int x1), (2, .int x2)] [] (F, h, g) := by
  refine V_iload_n dX8_check_42 rfl 2 rfl ?_
  refine V_aload_n dX8_check_43 rfl 0 rfl ?_
  refine H_getr ck7 12 (by decide) (fs_115 hF) (by decide) rfl (fr_115_12 hF) q1470 dX8_check_44 ?_
  refine V_bipush (v := 12) dX8_check_47 (by decide) ?_
  refine V_aload_n dX8_check_49 rfl 0 rfl ?_
  refine H_geti ck7 47 (by decide) (fs_115 hF) (by decide) rfl q1505 dX8_check_50 ?_
  refine V_imul dX8_check_53 ?_
  refine V_iload_n dX8_check_54 rfl 1 rfl ?_
  refine V_iadd dX8_check_55 ?_
  obtain ⟨i1, H⟩ := H
  refine H_iald (fs_118 hF) i1 dX8_check_56 ?_
  refine H_calli (av := [.int (h 118 (ix ((12 * (h 115 47)) + x1)))]) (rest := [.int x2]) H mqX8_demands q88 (by decide) (Nat.le_of_ble_eq_true rfl) (k_resS (av := [.int (h 118 (ix ((12 * (h 115 47)) + x1)))]) (rest := [.int x2]) (M1 := mX8_demands) rfl q1876 q1877 q88 mqX8_demands (fun _ _ h => mW_named h) mhX8_demands mnX8_demands dX8_check_57) (fun y4 h2 g3 H => ?_)
  refine V_icmp_ge (tgt := 85) dX8_check_60 (by decide) (fun c5 => ?_) (fun c5 => ?_)
  · have H := H.1 c5
    obtain ⟨y6, e7⟩ : ∃ y : Int32, y = x1 + 1 := ⟨_, rfl⟩
    have H := H y6 e7
    refine V_iinc (j := 1) (v := y6) (l1 := [(1, .int y6), (0, .ref (ad D 115)), (2, .int x2)]) dX8_check_85 rfl (by rw [e7]; rfl) (by decide) rfl ?_
    refine V_goto (tgt := 27) dX8_check_88 (by decide) ?_
    refine V.sub [1, 0] rfl ?_
    exact H
  · have H := H.2 c5
    refine V_aload_n dX8_check_63 rfl 0 rfl ?_
    refine V_iload_n dX8_check_64 rfl 1 rfl ?_
    refine V_iload_n dX8_check_65 rfl 2 rfl ?_
    refine H_calli (av := [.ref (ad D 115), .int x1, .int x2]) (rest := []) H mqX8_tellsTooMuch q88 (by decide) (Nat.le_of_ble_eq_true rfl) (k_resV (ci := 7) (av := [.int x1, .int x2]) (rest := []) (fs_115 hF) (by decide) rfl rfl q1952 q1954 qs68 q1955 mhX8_tellsTooMuch mnX8_tellsTooMuch dX8_check_66) (fun y10 h8 g9 H => ?_)
    refine V_if_eq (tgt := 79) dX8_check_69 (by decide) (fun c11 => ?_) (fun c11 => ?_)
    · have H := H.1 c11
      obtain ⟨y12, e13⟩ : ∃ y : Int32, y = x2 + 1 := ⟨_, rfl⟩
      have H := H y12 e13
      refine V_iinc (j := 2) (v := y12) (l1 := [(2, .int y12), (0, .ref (ad D 115)), (1, .int x1)]) dX8_check_79 rfl (by rw [e13]; rfl) (by decide) rfl ?_
      refine V_goto (tgt := 42) dX8_check_82 (by decide) ?_
      refine V.sub [1, 2, 0] rfl ?_
      exact H
    · have H := H.2 c11
      refine V_bipush (v := 32) dX8_check_72 (by decide) ?_
      refine V_iload_n dX8_check_74 rfl 1 rfl ?_
      refine V_imul dX8_check_75 ?_
      refine V_iload_n dX8_check_76 rfl 2 rfl ?_
      refine V_iadd dX8_check_77 ?_
      exact H_iret rfl dX8_check_78 H
abbrev JX8_check_27 (D : DE) (f : Nat) (Q : Int32 → HI → HL → Prop) (F : Frm) (h : HI) (g : HL) (x1 : Int32) : Prop := vp_in (h 115 47) 2 ∧ (((h 132 (ix (h 115 47))) ≤ x1 → Q (-1) h g) ∧ (¬ (h 132 (ix (h 115 47))) ≤ x1 → V D mX8_check (f + 1) (qi F Q) 42 [(0, .ref (ad D 115)), (1, .int x1), (2, .int 1)] [] (F, h, g)))
theorem bX8_check_27 {D : DE} {f : Nat} {Q : Int32 → HI → HL → Prop} {F : Frm} {h : HI} {g : HL} (hF : k_Fix F) (x1 : Int32) (H : JX8_check_27 D f Q F h g x1) : V D mX8_check (f + 1) (qi F Q) 27 [(0, .ref (ad D 115)), (1, .int x1)] [] (F, h, g) := by
  refine V_iload_n dX8_check_27 rfl 1 rfl ?_
  refine V_aload_n dX8_check_28 rfl 0 rfl ?_
  refine H_getr ck7 26 (by decide) (fs_115 hF) (by decide) rfl (fr_115_26 hF) q1484 dX8_check_29 ?_
  refine V_aload_n dX8_check_32 rfl 0 rfl ?_
  refine H_geti ck7 47 (by decide) (fs_115 hF) (by decide) rfl q1505 dX8_check_33 ?_
  obtain ⟨i1, H⟩ := H
  refine H_iald (fs_132 hF) i1 dX8_check_36 ?_
  refine V_icmp_ge (tgt := 91) dX8_check_37 (by decide) (fun c2 => ?_) (fun c2 => ?_)
  · have H := H.1 c2
    refine V_iconst (v := (-1)) dX8_check_91 (by decide) ?_
    exact H_iret rfl dX8_check_92 H
  · have H := H.2 c2
    refine V_iconst (v := 1) dX8_check_40 (by decide) ?_
    refine V_istore_n (l1 := [(2, .int 1), (0, .ref (ad D 115)), (1, .int x1)]) dX8_check_41 rfl (by decide) rfl ?_
    refine V.sub [1, 2, 0] rfl ?_
    exact H
abbrev JX8_check_13 (D : DE) (f : Nat) (Q : Int32 → HI → HL → Prop) (F : Frm) (h : HI) (g : HL) (s1 : Int32) : Prop := ∀ h1, h1 = up2 h 115 0 s1 → (((h1 115 0) ≤ 0 → V D mX8_check (f + 1) (qi F Q) 27 [(0, .ref (ad D 115)), (1, .int 0)] [] (F, h1, g)) ∧ (¬ (h1 115 0) ≤ 0 → Q 0 h1 g))
theorem bX8_check_13 {D : DE} {f : Nat} {Q : Int32 → HI → HL → Prop} {F : Frm} {h : HI} {g : HL} (hF : k_Fix F) (s1 : Int32) (H : JX8_check_13 D f Q F h g s1) : V D mX8_check (f + 1) (qi F Q) 13 [(0, .ref (ad D 115))] [.int s1, .ref (ad D 115)] (F, h, g) := by
  refine H_puti ck7 0 (by decide) (fs_115 hF) (by decide) rfl rfl q1458 dX8_check_13 (fun h1 e2 => ?_)
  have H := H h1 e2
  refine V_aload_n dX8_check_16 rfl 0 rfl ?_
  refine H_geti ck7 0 (by decide) (fs_115 hF) (by decide) rfl q1458 dX8_check_17 ?_
  refine V_if_le (tgt := 25) dX8_check_20 (by decide) (fun c3 => ?_) (fun c3 => ?_)
  · have H := H.1 c3
    refine V_iconst (v := 0) dX8_check_25 (by decide) ?_
    refine V_istore_n (l1 := [(1, .int 0), (0, .ref (ad D 115))]) dX8_check_26 rfl (by decide) rfl ?_
    refine V.sub [1, 0] rfl ?_
    exact H
  · have H := H.2 c3
    refine V_iconst (v := 0) dX8_check_23 (by decide) ?_
    exact H_iret rfl dX8_check_24 H
abbrev JX8_check_0 (D : DE) (f : Nat) (Q : Int32 → HI → HL → Prop) (F : Frm) (h : HI) (g : HL) : Prop := (((h 115 46) = 0 → JX8_check_13 D f Q F h g 1) ∧ (¬ (h 115 46) = 0 → JX8_check_13 D f Q F h g 0))
theorem bX8_check_0 {D : DE} {f : Nat} {Q : Int32 → HI → HL → Prop} {F : Frm} {h : HI} {g : HL} (hF : k_Fix F)  (H : JX8_check_0 D f Q F h g ) : V D mX8_check (f + 1) (qi F Q) 0 [(0, .ref (ad D 115))] [] (F, h, g) := by
  refine V_aload_n dX8_check_0 rfl 0 rfl ?_
  refine V_aload_n dX8_check_1 rfl 0 rfl ?_
  refine H_geti ck7 46 (by decide) (fs_115 hF) (by decide) rfl q1504 dX8_check_2 ?_
  refine V_if_eq (tgt := 12) dX8_check_5 (by decide) (fun c1 => ?_) (fun c1 => ?_)
  · have H := H.1 c1
    refine V_iconst (v := 1) dX8_check_12 (by decide) ?_
    exact bX8_check_13 hF 1 H
  · have H := H.2 c1
    refine V_iconst (v := 0) dX8_check_8 (by decide) ?_
    refine V_goto (tgt := 13) dX8_check_9 (by decide) ?_
    exact bX8_check_13 hF 0 H
theorem wX8_check {D : DE} {f : Nat} {Q : Int32 → HI → HL → Prop} {F : Frm} {h : HI} {g : HL} (hF : k_Fix F)  (H : JX8_check_0 D f Q F h g ) : Si D (f + 1) mX8_check [.ref (ad D 115)] F h g Q := Cl.ofV (by decide) (Nat.le_of_ble_eq_true rfl) rfl (bX8_check_0 hF  H)
theorem dX8_input_0 : decode cX8_input 0 = .ok (.aload_n 0, 1) := by decide +kernel
theorem dX8_input_1 : decode cX8_input 1 = .ok (.iload_n 1, 1) := by decide +kernel
theorem dX8_input_2 : decode cX8_input 2 = .ok (.i2l, 1) := by decide +kernel
theorem dX8_input_3 : decode cX8_input 3 = .ok (.lconst 0, 1) := by decide +kernel
theorem dX8_input_4 : decode cX8_input 4 = .ok (.ldc2_w 400, 3) := by decide +kernel
theorem dX8_input_7 : decode cX8_input 7 = .ok (.invokestatic 154, 3) := by decide +kernel
theorem dX8_input_10 : decode cX8_input 10 = .ok (.ifCond .ne 7, 3) := by decide +kernel
theorem dX8_input_13 : decode cX8_input 13 = .ok (.iconst 1, 1) := by decide +kernel
theorem dX8_input_14 : decode cX8_input 14 = .ok (.goto 17, 3) := by decide +kernel
theorem dX8_input_17 : decode cX8_input 17 = .ok (.aload_n 0, 1) := by decide +kernel
theorem dX8_input_18 : decode cX8_input 18 = .ok (.getfield 402, 3) := by decide +kernel
theorem dX8_input_21 : decode cX8_input 21 = .ok (.bipush 40, 2) := by decide +kernel
theorem dX8_input_23 : decode cX8_input 23 = .ok (.if_icmp .ne 7, 3) := by decide +kernel
theorem dX8_input_26 : decode cX8_input 26 = .ok (.iconst 2, 1) := by decide +kernel
theorem dX8_input_27 : decode cX8_input 27 = .ok (.goto 4, 3) := by decide +kernel
theorem dX8_input_30 : decode cX8_input 30 = .ok (.iconst 0, 1) := by decide +kernel
theorem dX8_input_31 : decode cX8_input 31 = .ok (.putfield 148, 3) := by decide +kernel
theorem dX8_input_34 : decode cX8_input 34 = .ok (.aload_n 0, 1) := by decide +kernel
theorem dX8_input_35 : decode cX8_input 35 = .ok (.getfield 148, 3) := by decide +kernel
theorem dX8_input_38 : decode cX8_input 38 = .ok (.ifCond .le 5, 3) := by decide +kernel
theorem dX8_input_41 : decode cX8_input 41 = .ok (.iconst 0, 1) := by decide +kernel
theorem dX8_input_42 : decode cX8_input 42 = .ok (.ireturn, 1) := by decide +kernel
theorem dX8_input_43 : decode cX8_input 43 = .ok (.aload_n 0, 1) := by decide +kernel
theorem dX8_input_44 : decode cX8_input 44 = .ok (.getfield 103, 3) := by decide +kernel
theorem dX8_input_47 : decode cX8_input 47 = .ok (.aload_n 0, 1) := by decide +kernel
theorem dX8_input_48 : decode cX8_input 48 = .ok (.getfield 402, 3) := by decide +kernel
theorem dX8_input_51 : decode cX8_input 51 = .ok (.iload_n 1, 1) := by decide +kernel
theorem dX8_input_52 : decode cX8_input 52 = .ok (.iastore, 1) := by decide +kernel
theorem dX8_input_53 : decode cX8_input 53 = .ok (.aload_n 0, 1) := by decide +kernel
theorem dX8_input_54 : decode cX8_input 54 = .ok (.getfield 106, 3) := by decide +kernel
theorem dX8_input_57 : decode cX8_input 57 = .ok (.aload_n 0, 1) := by decide +kernel
theorem dX8_input_58 : decode cX8_input 58 = .ok (.getfield 402, 3) := by decide +kernel
theorem dX8_input_61 : decode cX8_input 61 = .ok (.iload_n 2, 1) := by decide +kernel
theorem dX8_input_62 : decode cX8_input 62 = .ok (.iastore, 1) := by decide +kernel
theorem dX8_input_63 : decode cX8_input 63 = .ok (.aload_n 0, 1) := by decide +kernel
theorem dX8_input_64 : decode cX8_input 64 = .ok (.dup, 1) := by decide +kernel
theorem dX8_input_65 : decode cX8_input 65 = .ok (.getfield 402, 3) := by decide +kernel
theorem dX8_input_68 : decode cX8_input 68 = .ok (.iconst 1, 1) := by decide +kernel
theorem dX8_input_69 : decode cX8_input 69 = .ok (.iadd, 1) := by decide +kernel
theorem dX8_input_70 : decode cX8_input 70 = .ok (.putfield 402, 3) := by decide +kernel
theorem dX8_input_73 : decode cX8_input 73 = .ok (.aload_n 0, 1) := by decide +kernel
theorem dX8_input_74 : decode cX8_input 74 = .ok (.getfield 402, 3) := by decide +kernel
theorem dX8_input_77 : decode cX8_input 77 = .ok (.ireturn, 1) := by decide +kernel
abbrev JX8_input_31 (D : DE) (f : Nat) (Q : Int32 → HI → HL → Prop) (F : Frm) (h : HI) (g : HL) (x1 : Int32) (x2 : Int32) (s1 : Int32) : Prop := ∀ h1, h1 = up2 h 115 0 s1 → (((h1 115 0) ≤ 0 → vp_in (h1 115 55) 40 ∧ ∀ h5, h5 = up2 h1 145 (ix (h1 115 55)) x1 → vp_in (h5 115 55) 40 ∧ ∀ h8, h8 = up2 h5 146 (ix (h5 115 55)) x2 → ∀ h10, h10 = up2 h8 115 55 ((h8 115 55) + 1) → Q (h10 115 55) h10 g) ∧ (¬ (h1 115 0) ≤ 0 → Q 0 h1 g))
theorem bX8_input_31 {D : DE} {f : Nat} {Q : Int32 → HI → HL → Prop} {F : Frm} {h : HI} {g : HL} (hF : k_Fix F) (x1 : Int32) (x2 : Int32) (s1 : Int32) (H : JX8_input_31 D f Q F h g x1 x2 s1) : V D mX8_input (f + 1) (qi F Q) 31 [(0, .ref (ad D 115)), (1, .int x1), (2, .int x2)] [.int s1, .ref (ad D 115)] (F, h, g) := by
  refine H_puti ck7 0 (by decide) (fs_115 hF) (by decide) rfl rfl q1458 dX8_input_31 (fun h1 e2 => ?_)
  have H := H h1 e2
  refine V_aload_n dX8_input_34 rfl 0 rfl ?_
  refine H_geti ck7 0 (by decide) (fs_115 hF) (by decide) rfl q1458 dX8_input_35 ?_
  refine V_if_le (tgt := 43) dX8_input_38 (by decide) (fun c3 => ?_) (fun c3 => ?_)
  · have H := H.1 c3
    refine V_aload_n dX8_input_43 rfl 0 rfl ?_
    refine H_getr ck7 53 (by decide) (fs_115 hF) (by decide) rfl (fr_115_53 hF) q1511 dX8_input_44 ?_
    refine V_aload_n dX8_input_47 rfl 0 rfl ?_
    refine H_geti ck7 55 (by decide) (fs_115 hF) (by decide) rfl q1513 dX8_input_48 ?_
    refine V_iload_n dX8_input_51 rfl 1 rfl ?_
    obtain ⟨i4, H⟩ := H
    refine H_iast (fs_145 hF) i4 dX8_input_52 (fun h5 e6 => ?_)
    have H := H h5 e6
    refine V_aload_n dX8_input_53 rfl 0 rfl ?_
    refine H_getr ck7 54 (by decide) (fs_115 hF) (by decide) rfl (fr_115_54 hF) q1512 dX8_input_54 ?_
    refine V_aload_n dX8_input_57 rfl 0 rfl ?_
    refine H_geti ck7 55 (by decide) (fs_115 hF) (by decide) rfl q1513 dX8_input_58 ?_
    refine V_iload_n dX8_input_61 rfl 2 rfl ?_
    obtain ⟨i7, H⟩ := H
    refine H_iast (fs_146 hF) i7 dX8_input_62 (fun h8 e9 => ?_)
    have H := H h8 e9
    refine V_aload_n dX8_input_63 rfl 0 rfl ?_
    refine V_dup dX8_input_64 rfl ?_
    refine H_geti ck7 55 (by decide) (fs_115 hF) (by decide) rfl q1513 dX8_input_65 ?_
    refine V_iconst (v := 1) dX8_input_68 (by decide) ?_
    refine V_iadd dX8_input_69 ?_
    refine H_puti ck7 55 (by decide) (fs_115 hF) (by decide) rfl rfl q1513 dX8_input_70 (fun h10 e11 => ?_)
    have H := H h10 e11
    refine V_aload_n dX8_input_73 rfl 0 rfl ?_
    refine H_geti ck7 55 (by decide) (fs_115 hF) (by decide) rfl q1513 dX8_input_74 ?_
    exact H_iret rfl dX8_input_77 H
  · have H := H.2 c3
    refine V_iconst (v := 0) dX8_input_41 (by decide) ?_
    exact H_iret rfl dX8_input_42 H
abbrev JX8_input_0 (D : DE) (f : Nat) (Q : Int32 → HI → HL → Prop) (F : Frm) (h : HI) (g : HL) (x1 : Int32) (x2 : Int32) : Prop := Si D f mX8_within [.long x1.toInt64, .long 0, .long 2] F h g (fun y3 h1 g2 => ((¬ y3 = 0 → ((¬ (h1 115 55) = 40 → JX8_input_31 D f Q F h1 g2 x1 x2 0) ∧ ((h1 115 55) = 40 → JX8_input_31 D f Q F h1 g2 x1 x2 2))) ∧ (y3 = 0 → JX8_input_31 D f Q F h1 g2 x1 x2 1)))
theorem bX8_input_0 {D : DE} {f : Nat} {Q : Int32 → HI → HL → Prop} {F : Frm} {h : HI} {g : HL} (hF : k_Fix F) (x1 : Int32) (x2 : Int32) (H : JX8_input_0 D f Q F h g x1 x2) : V D mX8_input (f + 1) (qi F Q) 0 [(0, .ref (ad D 115)), (1, .int x1), (2, .int x2)] [] (F, h, g) := by
  refine V_aload_n dX8_input_0 rfl 0 rfl ?_
  refine V_iload_n dX8_input_1 rfl 1 rfl ?_
  refine V_i2l dX8_input_2 ?_
  refine V_lconst (v := 0) dX8_input_3 (by decide) ?_
  refine V_ldc2 (v := 2) dX8_input_4 q1960 ?_
  refine H_calli (av := [.long x1.toInt64, .long 0, .long 2]) (rest := [.ref (ad D 115)]) H mqX8_within q88 (by decide) (Nat.le_of_ble_eq_true rfl) (k_resS (av := [.long x1.toInt64, .long 0, .long 2]) (rest := [.ref (ad D 115)]) (M1 := mX8_within) rfl q1721 q1722 q88 mqX8_within (fun _ _ h => mW_named h) mhX8_within mnX8_within dX8_input_7) (fun y3 h1 g2 H => ?_)
  refine V_if_ne (tgt := 17) dX8_input_10 (by decide) (fun c4 => ?_) (fun c4 => ?_)
  · have H := H.1 c4
    refine V_aload_n dX8_input_17 rfl 0 rfl ?_
    refine H_geti ck7 55 (by decide) (fs_115 hF) (by decide) rfl q1513 dX8_input_18 ?_
    refine V_bipush (v := 40) dX8_input_21 (by decide) ?_
    refine V_icmp_ne (tgt := 30) dX8_input_23 (by decide) (fun c5 => ?_) (fun c5 => ?_)
    · have H := H.1 c5
      refine V_iconst (v := 0) dX8_input_30 (by decide) ?_
      exact bX8_input_31 hF x1 x2 0 H
    · have H := H.2 c5
      refine V_iconst (v := 2) dX8_input_26 (by decide) ?_
      refine V_goto (tgt := 31) dX8_input_27 (by decide) ?_
      exact bX8_input_31 hF x1 x2 2 H
  · have H := H.2 c4
    refine V_iconst (v := 1) dX8_input_13 (by decide) ?_
    refine V_goto (tgt := 31) dX8_input_14 (by decide) ?_
    exact bX8_input_31 hF x1 x2 1 H
theorem wX8_input {D : DE} {f : Nat} {Q : Int32 → HI → HL → Prop} {F : Frm} {h : HI} {g : HL} (hF : k_Fix F) (x1 : Int32) (x2 : Int32) (H : JX8_input_0 D f Q F h g x1 x2) : Si D (f + 1) mX8_input [.ref (ad D 115), .int x1, .int x2] F h g Q := Cl.ofV (by decide) (Nat.le_of_ble_eq_true rfl) rfl (bX8_input_0 hF x1 x2 H)
theorem dX8_behind_0 : decode cX8_behind 0 = .ok (.iload_n 1, 1) := by decide +kernel
theorem dX8_behind_1 : decode cX8_behind 1 = .ok (.istore_n 3, 1) := by decide +kernel
theorem dX8_behind_2 : decode cX8_behind 2 = .ok (.iconst 1, 1) := by decide +kernel
theorem dX8_behind_3 : decode cX8_behind 3 = .ok (.istore 4, 2) := by decide +kernel
theorem dX8_behind_5 : decode cX8_behind 5 = .ok (.aload_n 0, 1) := by decide +kernel
theorem dX8_behind_6 : decode cX8_behind 6 = .ok (.getfield 109, 3) := by decide +kernel
theorem dX8_behind_9 : decode cX8_behind 9 = .ok (.iconst 0, 1) := by decide +kernel
theorem dX8_behind_10 : decode cX8_behind 10 = .ok (.iload_n 2, 1) := by decide +kernel
theorem dX8_behind_11 : decode cX8_behind 11 = .ok (.iastore, 1) := by decide +kernel
theorem dX8_behind_12 : decode cX8_behind 12 = .ok (.iload 4, 2) := by decide +kernel
theorem dX8_behind_14 : decode cX8_behind 14 = .ok (.ifCond .le 107, 3) := by decide +kernel
theorem dX8_behind_17 : decode cX8_behind 17 = .ok (.iload_n 3, 1) := by decide +kernel
theorem dX8_behind_18 : decode cX8_behind 18 = .ok (.iconst (-1), 1) := by decide +kernel
theorem dX8_behind_19 : decode cX8_behind 19 = .ok (.if_icmp .eq 102, 3) := by decide +kernel
theorem dX8_behind_22 : decode cX8_behind 22 = .ok (.iinc 4 (-1), 3) := by decide +kernel
theorem dX8_behind_25 : decode cX8_behind 25 = .ok (.aload_n 0, 1) := by decide +kernel
theorem dX8_behind_26 : decode cX8_behind 26 = .ok (.getfield 109, 3) := by decide +kernel
theorem dX8_behind_29 : decode cX8_behind 29 = .ok (.iload 4, 2) := by decide +kernel
theorem dX8_behind_31 : decode cX8_behind 31 = .ok (.iaload, 1) := by decide +kernel
theorem dX8_behind_32 : decode cX8_behind 32 = .ok (.istore 5, 2) := by decide +kernel
theorem dX8_behind_34 : decode cX8_behind 34 = .ok (.iload_n 3, 1) := by decide +kernel
theorem dX8_behind_35 : decode cX8_behind 35 = .ok (.aload_n 0, 1) := by decide +kernel
theorem dX8_behind_36 : decode cX8_behind 36 = .ok (.getfield 402, 3) := by decide +kernel
theorem dX8_behind_39 : decode cX8_behind 39 = .ok (.if_icmp .ge 32, 3) := by decide +kernel
theorem dX8_behind_42 : decode cX8_behind 42 = .ok (.aload_n 0, 1) := by decide +kernel
theorem dX8_behind_43 : decode cX8_behind 43 = .ok (.getfield 103, 3) := by decide +kernel
theorem dX8_behind_46 : decode cX8_behind 46 = .ok (.iload_n 3, 1) := by decide +kernel
theorem dX8_behind_47 : decode cX8_behind 47 = .ok (.iaload, 1) := by decide +kernel
theorem dX8_behind_48 : decode cX8_behind 48 = .ok (.ifCond .ne 8, 3) := by decide +kernel
theorem dX8_behind_51 : decode cX8_behind 51 = .ok (.iload 5, 2) := by decide +kernel
theorem dX8_behind_53 : decode cX8_behind 53 = .ok (.ifCond .gt 18, 3) := by decide +kernel
theorem dX8_behind_56 : decode cX8_behind 56 = .ok (.aload_n 0, 1) := by decide +kernel
theorem dX8_behind_57 : decode cX8_behind 57 = .ok (.getfield 103, 3) := by decide +kernel
theorem dX8_behind_60 : decode cX8_behind 60 = .ok (.iload_n 3, 1) := by decide +kernel
theorem dX8_behind_61 : decode cX8_behind 61 = .ok (.iaload, 1) := by decide +kernel
theorem dX8_behind_62 : decode cX8_behind 62 = .ok (.iconst 2, 1) := by decide +kernel
theorem dX8_behind_63 : decode cX8_behind 63 = .ok (.if_icmp .ne 13, 3) := by decide +kernel
theorem dX8_behind_66 : decode cX8_behind 66 = .ok (.iload 5, 2) := by decide +kernel
theorem dX8_behind_68 : decode cX8_behind 68 = .ok (.ifCond .ne 8, 3) := by decide +kernel
theorem dX8_behind_71 : decode cX8_behind 71 = .ok (.iconst (-1), 1) := by decide +kernel
theorem dX8_behind_72 : decode cX8_behind 72 = .ok (.istore_n 3, 1) := by decide +kernel
theorem dX8_behind_73 : decode cX8_behind 73 = .ok (.goto 45, 3) := by decide +kernel
theorem dX8_behind_76 : decode cX8_behind 76 = .ok (.aload_n 0, 1) := by decide +kernel
theorem dX8_behind_77 : decode cX8_behind 77 = .ok (.getfield 103, 3) := by decide +kernel
theorem dX8_behind_80 : decode cX8_behind 80 = .ok (.iload_n 3, 1) := by decide +kernel
theorem dX8_behind_81 : decode cX8_behind 81 = .ok (.iaload, 1) := by decide +kernel
theorem dX8_behind_82 : decode cX8_behind 82 = .ok (.iconst 2, 1) := by decide +kernel
theorem dX8_behind_83 : decode cX8_behind 83 = .ok (.if_icmp .ne 32, 3) := by decide +kernel
theorem dX8_behind_86 : decode cX8_behind 86 = .ok (.aload_n 0, 1) := by decide +kernel
theorem dX8_behind_87 : decode cX8_behind 87 = .ok (.getfield 109, 3) := by decide +kernel
theorem dX8_behind_90 : decode cX8_behind 90 = .ok (.iload 4, 2) := by decide +kernel
theorem dX8_behind_92 : decode cX8_behind 92 = .ok (.iload 5, 2) := by decide +kernel
theorem dX8_behind_94 : decode cX8_behind 94 = .ok (.invokestatic 162, 3) := by decide +kernel
theorem dX8_behind_97 : decode cX8_behind 97 = .ok (.iastore, 1) := by decide +kernel
theorem dX8_behind_98 : decode cX8_behind 98 = .ok (.aload_n 0, 1) := by decide +kernel
theorem dX8_behind_99 : decode cX8_behind 99 = .ok (.getfield 109, 3) := by decide +kernel
theorem dX8_behind_102 : decode cX8_behind 102 = .ok (.iload 4, 2) := by decide +kernel
theorem dX8_behind_104 : decode cX8_behind 104 = .ok (.iconst 1, 1) := by decide +kernel
theorem dX8_behind_105 : decode cX8_behind 105 = .ok (.iadd, 1) := by decide +kernel
theorem dX8_behind_106 : decode cX8_behind 106 = .ok (.iload 5, 2) := by decide +kernel
theorem dX8_behind_108 : decode cX8_behind 108 = .ok (.invokestatic 169, 3) := by decide +kernel
theorem dX8_behind_111 : decode cX8_behind 111 = .ok (.iastore, 1) := by decide +kernel
theorem dX8_behind_112 : decode cX8_behind 112 = .ok (.iinc 4 2, 3) := by decide +kernel
theorem dX8_behind_115 : decode cX8_behind 115 = .ok (.iinc 3 1, 3) := by decide +kernel
theorem dX8_behind_118 : decode cX8_behind 118 = .ok (.goto (-106), 3) := by decide +kernel
theorem dX8_behind_121 : decode cX8_behind 121 = .ok (.iload_n 3, 1) := by decide +kernel
theorem dX8_behind_122 : decode cX8_behind 122 = .ok (.ireturn, 1) := by decide +kernel
abbrev JX8_behind_118 (D : DE) (f : Nat) (Q : Int32 → HI → HL → Prop) (F : Frm) (h : HI) (g : HL) (x3 : Int32) (x4 : Int32) : Prop := V D mX8_behind (f + 1) (qi F Q) 12 [(0, .ref (ad D 115)), (3, .int x3), (4, .int x4)] [] (F, h, g)
theorem bX8_behind_118 {D : DE} {f : Nat} {Q : Int32 → HI → HL → Prop} {F : Frm} {h : HI} {g : HL} (hF : k_Fix F) (x3 : Int32) (x4 : Int32) (H : JX8_behind_118 D f Q F h g x3 x4) : V D mX8_behind (f + 1) (qi F Q) 118 [(0, .ref (ad D 115)), (3, .int x3), (4, .int x4)] [] (F, h, g) := by
  refine V_goto (tgt := 12) dX8_behind_118 (by decide) ?_
  exact H
abbrev JX8_behind_115 (D : DE) (f : Nat) (Q : Int32 → HI → HL → Prop) (F : Frm) (h : HI) (g : HL) (x3 : Int32) (x4 : Int32) : Prop := ∀ y1 : Int32, y1 = x3 + 1 → JX8_behind_118 D f Q F h g y1 x4
theorem bX8_behind_115 {D : DE} {f : Nat} {Q : Int32 → HI → HL → Prop} {F : Frm} {h : HI} {g : HL} (hF : k_Fix F) (x3 : Int32) (x4 : Int32) (H : JX8_behind_115 D f Q F h g x3 x4) : V D mX8_behind (f + 1) (qi F Q) 115 [(0, .ref (ad D 115)), (3, .int x3), (4, .int x4)] [] (F, h, g) := by
  obtain ⟨y1, e2⟩ : ∃ y : Int32, y = x3 + 1 := ⟨_, rfl⟩
  have H := H y1 e2
  refine V_iinc (j := 1) (v := y1) (l1 := [(3, .int y1), (0, .ref (ad D 115)), (4, .int x4)]) dX8_behind_115 rfl (by rw [e2]; rfl) (by decide) rfl ?_
  refine V.sub [1, 0, 2] rfl ?_
  exact bX8_behind_118 hF y1 x4 H
abbrev JX8_behind_76 (D : DE) (f : Nat) (Q : Int32 → HI → HL → Prop) (F : Frm) (h : HI) (g : HL) (x3 : Int32) (x4 : Int32) (x5 : Int32) : Prop := vp_in x3 40 ∧ ((¬ (h 145 (ix x3)) = 2 → JX8_behind_115 D f Q F h g x3 x4) ∧ ((h 145 (ix x3)) = 2 → Si D f mX8_secondOf [.int x5] F h g (fun y5 h3 g4 => vp_in x4 8 ∧ ∀ h7, h7 = up2 h3 147 (ix x4) y5 → Si D f mX8_firstOf [.int x5] F h7 g4 (fun y11 h9 g10 => vp_in (x4 + 1) 8 ∧ ∀ h13, h13 = up2 h9 147 (ix (x4 + 1)) y11 → ∀ y15 : Int32, y15 = x4 + 2 → JX8_behind_115 D f Q F h13 g10 x3 y15))))
theorem bX8_behind_76 {D : DE} {f : Nat} {Q : Int32 → HI → HL → Prop} {F : Frm} {h : HI} {g : HL} (hF : k_Fix F) (x3 : Int32) (x4 : Int32) (x5 : Int32) (H : JX8_behind_76 D f Q F h g x3 x4 x5) : V D mX8_behind (f + 1) (qi F Q) 76 [(0, .ref (ad D 115)), (3, .int x3), (4, .int x4), (5, .int x5)] [] (F, h, g) := by
  refine V_aload_n dX8_behind_76 rfl 0 rfl ?_
  refine H_getr ck7 53 (by decide) (fs_115 hF) (by decide) rfl (fr_115_53 hF) q1511 dX8_behind_77 ?_
  refine V_iload_n dX8_behind_80 rfl 1 rfl ?_
  obtain ⟨i1, H⟩ := H
  refine H_iald (fs_145 hF) i1 dX8_behind_81 ?_
  refine V_iconst (v := 2) dX8_behind_82 (by decide) ?_
  refine V_icmp_ne (tgt := 115) dX8_behind_83 (by decide) (fun c2 => ?_) (fun c2 => ?_)
  · have H := H.1 c2
    refine V.sub [0, 1, 2] rfl ?_
    exact bX8_behind_115 hF x3 x4 H
  · have H := H.2 c2
    refine V_aload_n dX8_behind_86 rfl 0 rfl ?_
    refine H_getr ck7 56 (by decide) (fs_115 hF) (by decide) rfl (fr_115_56 hF) q1514 dX8_behind_87 ?_
    refine V_iload dX8_behind_90 2 rfl ?_
    refine V_iload dX8_behind_92 3 rfl ?_
    refine H_calli (av := [.int x5]) (rest := [.int x4, .ref (ad D 147)]) H mqX8_secondOf q88 (by decide) (Nat.le_of_ble_eq_true rfl) (k_resS (av := [.int x5]) (rest := [.int x4, .ref (ad D 147)]) (M1 := mX8_secondOf) rfl q1850 q1851 q88 mqX8_secondOf (fun _ _ h => mW_named h) mhX8_secondOf mnX8_secondOf dX8_behind_94) (fun y5 h3 g4 H => ?_)
    obtain ⟨i6, H⟩ := H
    refine H_iast (fs_147 hF) i6 dX8_behind_97 (fun h7 e8 => ?_)
    have H := H h7 e8
    refine V_aload_n dX8_behind_98 rfl 0 rfl ?_
    refine H_getr ck7 56 (by decide) (fs_115 hF) (by decide) rfl (fr_115_56 hF) q1514 dX8_behind_99 ?_
    refine V_iload dX8_behind_102 2 rfl ?_
    refine V_iconst (v := 1) dX8_behind_104 (by decide) ?_
    refine V_iadd dX8_behind_105 ?_
    refine V_iload dX8_behind_106 3 rfl ?_
    refine H_calli (av := [.int x5]) (rest := [.int (x4 + 1), .ref (ad D 147)]) H mqX8_firstOf q88 (by decide) (Nat.le_of_ble_eq_true rfl) (k_resS (av := [.int x5]) (rest := [.int (x4 + 1), .ref (ad D 147)]) (M1 := mX8_firstOf) rfl q1853 q1854 q88 mqX8_firstOf (fun _ _ h => mW_named h) mhX8_firstOf mnX8_firstOf dX8_behind_108) (fun y11 h9 g10 H => ?_)
    obtain ⟨i12, H⟩ := H
    refine H_iast (fs_147 hF) i12 dX8_behind_111 (fun h13 e14 => ?_)
    have H := H h13 e14
    obtain ⟨y15, e16⟩ : ∃ y : Int32, y = x4 + 2 := ⟨_, rfl⟩
    have H := H y15 e16
    refine V_iinc (j := 2) (v := y15) (l1 := [(4, .int y15), (0, .ref (ad D 115)), (3, .int x3), (5, .int x5)]) dX8_behind_112 rfl (by rw [e16]; rfl) (by decide) rfl ?_
    refine V.sub [1, 2, 0] rfl ?_
    exact bX8_behind_115 hF x3 y15 H
abbrev JX8_behind_71 (D : DE) (f : Nat) (Q : Int32 → HI → HL → Prop) (F : Frm) (h : HI) (g : HL) (x4 : Int32) : Prop := JX8_behind_118 D f Q F h g (-1) x4
theorem bX8_behind_71 {D : DE} {f : Nat} {Q : Int32 → HI → HL → Prop} {F : Frm} {h : HI} {g : HL} (hF : k_Fix F) (x4 : Int32) (H : JX8_behind_71 D f Q F h g x4) : V D mX8_behind (f + 1) (qi F Q) 71 [(0, .ref (ad D 115)), (4, .int x4)] [] (F, h, g) := by
  refine V_iconst (v := (-1)) dX8_behind_71 (by decide) ?_
  refine V_istore_n (l1 := [(3, .int (-1)), (0, .ref (ad D 115)), (4, .int x4)]) dX8_behind_72 rfl (by decide) rfl ?_
  refine V_goto (tgt := 118) dX8_behind_73 (by decide) ?_
  refine V.sub [1, 0, 2] rfl ?_
  exact bX8_behind_118 hF (-1) x4 H
abbrev JX8_behind_56 (D : DE) (f : Nat) (Q : Int32 → HI → HL → Prop) (F : Frm) (h : HI) (g : HL) (x3 : Int32) (x4 : Int32) (x5 : Int32) : Prop := vp_in x3 40 ∧ ((¬ (h 145 (ix x3)) = 2 → JX8_behind_76 D f Q F h g x3 x4 x5) ∧ ((h 145 (ix x3)) = 2 → ((¬ x5 = 0 → JX8_behind_76 D f Q F h g x3 x4 x5) ∧ (x5 = 0 → JX8_behind_71 D f Q F h g x4))))
theorem bX8_behind_56 {D : DE} {f : Nat} {Q : Int32 → HI → HL → Prop} {F : Frm} {h : HI} {g : HL} (hF : k_Fix F) (x3 : Int32) (x4 : Int32) (x5 : Int32) (H : JX8_behind_56 D f Q F h g x3 x4 x5) : V D mX8_behind (f + 1) (qi F Q) 56 [(0, .ref (ad D 115)), (3, .int x3), (4, .int x4), (5, .int x5)] [] (F, h, g) := by
  refine V_aload_n dX8_behind_56 rfl 0 rfl ?_
  refine H_getr ck7 53 (by decide) (fs_115 hF) (by decide) rfl (fr_115_53 hF) q1511 dX8_behind_57 ?_
  refine V_iload_n dX8_behind_60 rfl 1 rfl ?_
  obtain ⟨i1, H⟩ := H
  refine H_iald (fs_145 hF) i1 dX8_behind_61 ?_
  refine V_iconst (v := 2) dX8_behind_62 (by decide) ?_
  refine V_icmp_ne (tgt := 76) dX8_behind_63 (by decide) (fun c2 => ?_) (fun c2 => ?_)
  · have H := H.1 c2
    exact bX8_behind_76 hF x3 x4 x5 H
  · have H := H.2 c2
    refine V_iload dX8_behind_66 3 rfl ?_
    refine V_if_ne (tgt := 76) dX8_behind_68 (by decide) (fun c3 => ?_) (fun c3 => ?_)
    · have H := H.1 c3
      exact bX8_behind_76 hF x3 x4 x5 H
    · have H := H.2 c3
      refine V.sub [0, 2] rfl ?_
      exact bX8_behind_71 hF x4 H
abbrev JX8_behind_12 (D : DE) (f : Nat) (Q : Int32 → HI → HL → Prop) (F : Frm) (h : HI) (g : HL) (x3 : Int32) (x4 : Int32) : Prop := ((x4 ≤ 0 → Q x3 h g) ∧ (¬ x4 ≤ 0 → ((x3 = (-1) → Q x3 h g) ∧ (¬ x3 = (-1) → ∀ y3 : Int32, y3 = x4 + (-1) → vp_in y3 8 ∧ ∀ y6 : Int32, y6 = h 147 (ix y3) → (((h 115 55) ≤ x3 → JX8_behind_71 D f Q F h g y3) ∧ (¬ (h 115 55) ≤ x3 → vp_in x3 40 ∧ ((¬ (h 145 (ix x3)) = 0 → JX8_behind_56 D f Q F h g x3 y3 y6) ∧ ((h 145 (ix x3)) = 0 → ((0 < y6 → JX8_behind_71 D f Q F h g y3) ∧ (¬ 0 < y6 → JX8_behind_56 D f Q F h g x3 y3 y6))))))))))
theorem bX8_behind_12 {D : DE} {f : Nat} {Q : Int32 → HI → HL → Prop} {F : Frm} {h : HI} {g : HL} (hF : k_Fix F) (x3 : Int32) (x4 : Int32) (H : JX8_behind_12 D f Q F h g x3 x4) : V D mX8_behind (f + 1) (qi F Q) 12 [(0, .ref (ad D 115)), (3, .int x3), (4, .int x4)] [] (F, h, g) := by
  refine V_iload dX8_behind_12 2 rfl ?_
  refine V_if_le (tgt := 121) dX8_behind_14 (by decide) (fun c1 => ?_) (fun c1 => ?_)
  · have H := H.1 c1
    refine V_iload_n dX8_behind_121 rfl 1 rfl ?_
    exact H_iret rfl dX8_behind_122 H
  · have H := H.2 c1
    refine V_iload_n dX8_behind_17 rfl 1 rfl ?_
    refine V_iconst (v := (-1)) dX8_behind_18 (by decide) ?_
    refine V_icmp_eq (tgt := 121) dX8_behind_19 (by decide) (fun c2 => ?_) (fun c2 => ?_)
    · have H := H.1 c2
      refine V_iload_n dX8_behind_121 rfl 1 rfl ?_
      exact H_iret rfl dX8_behind_122 H
    · have H := H.2 c2
      obtain ⟨y3, e4⟩ : ∃ y : Int32, y = x4 + (-1) := ⟨_, rfl⟩
      have H := H y3 e4
      refine V_iinc (j := 2) (v := y3) (l1 := [(4, .int y3), (0, .ref (ad D 115)), (3, .int x3)]) dX8_behind_22 rfl (by rw [e4]; rfl) (by decide) rfl ?_
      refine V_aload_n dX8_behind_25 rfl 1 rfl ?_
      refine H_getr ck7 56 (by decide) (fs_115 hF) (by decide) rfl (fr_115_56 hF) q1514 dX8_behind_26 ?_
      refine V_iload dX8_behind_29 0 rfl ?_
      obtain ⟨i5, H⟩ := H
      refine H_iald (fs_147 hF) i5 dX8_behind_31 ?_
      refine V_topi (fun y6 e7 => ?_)
      have H := H y6 e7
      refine V_istore (l1 := [(5, .int y6), (4, .int y3), (0, .ref (ad D 115)), (3, .int x3)]) dX8_behind_32 (by decide) rfl ?_
      refine V_iload_n dX8_behind_34 rfl 3 rfl ?_
      refine V_aload_n dX8_behind_35 rfl 2 rfl ?_
      refine H_geti ck7 55 (by decide) (fs_115 hF) (by decide) rfl q1513 dX8_behind_36 ?_
      refine V_icmp_ge (tgt := 71) dX8_behind_39 (by decide) (fun c8 => ?_) (fun c8 => ?_)
      · have H := H.1 c8
        refine V.sub [2, 1] rfl ?_
        exact bX8_behind_71 hF y3 H
      · have H := H.2 c8
        refine V_aload_n dX8_behind_42 rfl 2 rfl ?_
        refine H_getr ck7 53 (by decide) (fs_115 hF) (by decide) rfl (fr_115_53 hF) q1511 dX8_behind_43 ?_
        refine V_iload_n dX8_behind_46 rfl 3 rfl ?_
        obtain ⟨i9, H⟩ := H
        refine H_iald (fs_145 hF) i9 dX8_behind_47 ?_
        refine V_if_ne (tgt := 56) dX8_behind_48 (by decide) (fun c10 => ?_) (fun c10 => ?_)
        · have H := H.1 c10
          refine V.sub [2, 3, 1, 0] rfl ?_
          exact bX8_behind_56 hF x3 y3 y6 H
        · have H := H.2 c10
          refine V_iload dX8_behind_51 0 rfl ?_
          refine V_if_gt (tgt := 71) dX8_behind_53 (by decide) (fun c11 => ?_) (fun c11 => ?_)
          · have H := H.1 c11
            refine V.sub [2, 1] rfl ?_
            exact bX8_behind_71 hF y3 H
          · have H := H.2 c11
            refine V.sub [2, 3, 1, 0] rfl ?_
            exact bX8_behind_56 hF x3 y3 y6 H
abbrev JX8_behind_0 (D : DE) (f : Nat) (Q : Int32 → HI → HL → Prop) (F : Frm) (h : HI) (g : HL) (x1 : Int32) (x2 : Int32) : Prop := ∀ h1, h1 = up2 h 147 (ix 0) x2 → V D mX8_behind (f + 1) (qi F Q) 12 [(0, .ref (ad D 115)), (3, .int x1), (4, .int 1)] [] (F, h1, g)
theorem bX8_behind_0 {D : DE} {f : Nat} {Q : Int32 → HI → HL → Prop} {F : Frm} {h : HI} {g : HL} (hF : k_Fix F) (x1 : Int32) (x2 : Int32) (H : JX8_behind_0 D f Q F h g x1 x2) : V D mX8_behind (f + 1) (qi F Q) 0 [(0, .ref (ad D 115)), (1, .int x1), (2, .int x2)] [] (F, h, g) := by
  refine V_iload_n dX8_behind_0 rfl 1 rfl ?_
  refine V_istore_n (l1 := [(3, .int x1), (0, .ref (ad D 115)), (1, .int x1), (2, .int x2)]) dX8_behind_1 rfl (by decide) rfl ?_
  refine V_iconst (v := 1) dX8_behind_2 (by decide) ?_
  refine V_istore (l1 := [(4, .int 1), (3, .int x1), (0, .ref (ad D 115)), (1, .int x1), (2, .int x2)]) dX8_behind_3 (by decide) rfl ?_
  refine V_aload_n dX8_behind_5 rfl 2 rfl ?_
  refine H_getr ck7 56 (by decide) (fs_115 hF) (by decide) rfl (fr_115_56 hF) q1514 dX8_behind_6 ?_
  refine V_iconst (v := 0) dX8_behind_9 (by decide) ?_
  refine V_iload_n dX8_behind_10 rfl 4 rfl ?_
  refine H_iast (fs_147 hF) (by unfold vp_in; decide) dX8_behind_11 (fun h1 e2 => ?_)
  have H := H h1 e2
  refine V.sub [2, 1, 0] rfl ?_
  exact H
theorem wX8_behind {D : DE} {f : Nat} {Q : Int32 → HI → HL → Prop} {F : Frm} {h : HI} {g : HL} (hF : k_Fix F) (x1 : Int32) (x2 : Int32) (H : JX8_behind_0 D f Q F h g x1 x2) : Si D (f + 1) mX8_behind [.ref (ad D 115), .int x1, .int x2] F h g Q := Cl.ofV (by decide) (Nat.le_of_ble_eq_true rfl) rfl (bX8_behind_0 hF x1 x2 H)
theorem dX8_lay_0 : decode cX8_lay 0 = .ok (.aload_n 0, 1) := by decide +kernel
theorem dX8_lay_1 : decode cX8_lay 1 = .ok (.iload_n 1, 1) := by decide +kernel
theorem dX8_lay_2 : decode cX8_lay 2 = .ok (.iload_n 2, 1) := by decide +kernel
theorem dX8_lay_3 : decode cX8_lay 3 = .ok (.invokevirtual 405, 3) := by decide +kernel
theorem dX8_lay_6 : decode cX8_lay 6 = .ok (.istore_n 3, 1) := by decide +kernel
theorem dX8_lay_7 : decode cX8_lay 7 = .ok (.iload_n 1, 1) := by decide +kernel
theorem dX8_lay_8 : decode cX8_lay 8 = .ok (.istore 4, 2) := by decide +kernel
theorem dX8_lay_10 : decode cX8_lay 10 = .ok (.iload 4, 2) := by decide +kernel
theorem dX8_lay_12 : decode cX8_lay 12 = .ok (.iload_n 3, 1) := by decide +kernel
theorem dX8_lay_13 : decode cX8_lay 13 = .ok (.if_icmp .ge 97, 3) := by decide +kernel
theorem dX8_lay_16 : decode cX8_lay 16 = .ok (.aload_n 0, 1) := by decide +kernel
theorem dX8_lay_17 : decode cX8_lay 17 = .ok (.getfield 127, 3) := by decide +kernel
theorem dX8_lay_20 : decode cX8_lay 20 = .ok (.iload 4, 2) := by decide +kernel
theorem dX8_lay_22 : decode cX8_lay 22 = .ok (.iconst 0, 1) := by decide +kernel
theorem dX8_lay_23 : decode cX8_lay 23 = .ok (.bastore, 1) := by decide +kernel
theorem dX8_lay_24 : decode cX8_lay 24 = .ok (.aload_n 0, 1) := by decide +kernel
theorem dX8_lay_25 : decode cX8_lay 25 = .ok (.getfield 118, 3) := by decide +kernel
theorem dX8_lay_28 : decode cX8_lay 28 = .ok (.iload 4, 2) := by decide +kernel
theorem dX8_lay_30 : decode cX8_lay 30 = .ok (.aload_n 0, 1) := by decide +kernel
theorem dX8_lay_31 : decode cX8_lay 31 = .ok (.getfield 103, 3) := by decide +kernel
theorem dX8_lay_34 : decode cX8_lay 34 = .ok (.iload 4, 2) := by decide +kernel
theorem dX8_lay_36 : decode cX8_lay 36 = .ok (.iaload, 1) := by decide +kernel
theorem dX8_lay_37 : decode cX8_lay 37 = .ok (.iconst 1, 1) := by decide +kernel
theorem dX8_lay_38 : decode cX8_lay 38 = .ok (.if_icmp .ne 7, 3) := by decide +kernel
theorem dX8_lay_41 : decode cX8_lay 41 = .ok (.iconst 3, 1) := by decide +kernel
theorem dX8_lay_42 : decode cX8_lay 42 = .ok (.goto 4, 3) := by decide +kernel
theorem dX8_lay_45 : decode cX8_lay 45 = .ok (.iconst 2, 1) := by decide +kernel
theorem dX8_lay_46 : decode cX8_lay 46 = .ok (.iastore, 1) := by decide +kernel
theorem dX8_lay_47 : decode cX8_lay 47 = .ok (.aload_n 0, 1) := by decide +kernel
theorem dX8_lay_48 : decode cX8_lay 48 = .ok (.getfield 121, 3) := by decide +kernel
theorem dX8_lay_51 : decode cX8_lay 51 = .ok (.iload 4, 2) := by decide +kernel
theorem dX8_lay_53 : decode cX8_lay 53 = .ok (.aload_n 0, 1) := by decide +kernel
theorem dX8_lay_54 : decode cX8_lay 54 = .ok (.getfield 103, 3) := by decide +kernel
theorem dX8_lay_57 : decode cX8_lay 57 = .ok (.iload 4, 2) := by decide +kernel
theorem dX8_lay_59 : decode cX8_lay 59 = .ok (.iaload, 1) := by decide +kernel
theorem dX8_lay_60 : decode cX8_lay 60 = .ok (.iconst 2, 1) := by decide +kernel
theorem dX8_lay_61 : decode cX8_lay 61 = .ok (.if_icmp .ne 7, 3) := by decide +kernel
theorem dX8_lay_64 : decode cX8_lay 64 = .ok (.iconst 1, 1) := by decide +kernel
theorem dX8_lay_65 : decode cX8_lay 65 = .ok (.goto 4, 3) := by decide +kernel
theorem dX8_lay_68 : decode cX8_lay 68 = .ok (.iconst 0, 1) := by decide +kernel
theorem dX8_lay_69 : decode cX8_lay 69 = .ok (.iastore, 1) := by decide +kernel
theorem dX8_lay_70 : decode cX8_lay 70 = .ok (.aload_n 0, 1) := by decide +kernel
theorem dX8_lay_71 : decode cX8_lay 71 = .ok (.getfield 124, 3) := by decide +kernel
theorem dX8_lay_74 : decode cX8_lay 74 = .ok (.iload 4, 2) := by decide +kernel
theorem dX8_lay_76 : decode cX8_lay 76 = .ok (.aload_n 0, 1) := by decide +kernel
theorem dX8_lay_77 : decode cX8_lay 77 = .ok (.getfield 103, 3) := by decide +kernel
theorem dX8_lay_80 : decode cX8_lay 80 = .ok (.iload 4, 2) := by decide +kernel
theorem dX8_lay_82 : decode cX8_lay 82 = .ok (.iaload, 1) := by decide +kernel
theorem dX8_lay_83 : decode cX8_lay 83 = .ok (.iconst 2, 1) := by decide +kernel
theorem dX8_lay_84 : decode cX8_lay 84 = .ok (.if_icmp .ne 12, 3) := by decide +kernel
theorem dX8_lay_87 : decode cX8_lay 87 = .ok (.sipush 1500, 3) := by decide +kernel
theorem dX8_lay_90 : decode cX8_lay 90 = .ok (.iload 4, 2) := by decide +kernel
theorem dX8_lay_92 : decode cX8_lay 92 = .ok (.iadd, 1) := by decide +kernel
theorem dX8_lay_93 : decode cX8_lay 93 = .ok (.goto 10, 3) := by decide +kernel
theorem dX8_lay_96 : decode cX8_lay 96 = .ok (.aload_n 0, 1) := by decide +kernel
theorem dX8_lay_97 : decode cX8_lay 97 = .ok (.getfield 106, 3) := by decide +kernel
theorem dX8_lay_100 : decode cX8_lay 100 = .ok (.iload 4, 2) := by decide +kernel
theorem dX8_lay_102 : decode cX8_lay 102 = .ok (.iaload, 1) := by decide +kernel
theorem dX8_lay_103 : decode cX8_lay 103 = .ok (.iastore, 1) := by decide +kernel
theorem dX8_lay_104 : decode cX8_lay 104 = .ok (.iinc 4 1, 3) := by decide +kernel
theorem dX8_lay_107 : decode cX8_lay 107 = .ok (.goto (-97), 3) := by decide +kernel
theorem dX8_lay_110 : decode cX8_lay 110 = .ok (.iload_n 1, 1) := by decide +kernel
theorem dX8_lay_111 : decode cX8_lay 111 = .ok (.istore 4, 2) := by decide +kernel
theorem dX8_lay_113 : decode cX8_lay 113 = .ok (.iload 4, 2) := by decide +kernel
theorem dX8_lay_115 : decode cX8_lay 115 = .ok (.iload_n 3, 1) := by decide +kernel
theorem dX8_lay_116 : decode cX8_lay 116 = .ok (.if_icmp .ge 72, 3) := by decide +kernel
theorem dX8_lay_119 : decode cX8_lay 119 = .ok (.aload_n 0, 1) := by decide +kernel
theorem dX8_lay_120 : decode cX8_lay 120 = .ok (.getfield 103, 3) := by decide +kernel
theorem dX8_lay_123 : decode cX8_lay 123 = .ok (.iload 4, 2) := by decide +kernel
theorem dX8_lay_125 : decode cX8_lay 125 = .ok (.iaload, 1) := by decide +kernel
theorem dX8_lay_126 : decode cX8_lay 126 = .ok (.iconst 2, 1) := by decide +kernel
theorem dX8_lay_127 : decode cX8_lay 127 = .ok (.if_icmp .ne 55, 3) := by decide +kernel
theorem dX8_lay_130 : decode cX8_lay 130 = .ok (.iload 4, 2) := by decide +kernel
theorem dX8_lay_132 : decode cX8_lay 132 = .ok (.iload_n 1, 1) := by decide +kernel
theorem dX8_lay_133 : decode cX8_lay 133 = .ok (.if_icmp .ne 10, 3) := by decide +kernel
theorem dX8_lay_136 : decode cX8_lay 136 = .ok (.iload_n 2, 1) := by decide +kernel
theorem dX8_lay_137 : decode cX8_lay 137 = .ok (.invokestatic 169, 3) := by decide +kernel
theorem dX8_lay_140 : decode cX8_lay 140 = .ok (.goto 4, 3) := by decide +kernel
theorem dX8_lay_143 : decode cX8_lay 143 = .ok (.iconst 0, 1) := by decide +kernel
theorem dX8_lay_144 : decode cX8_lay 144 = .ok (.istore 5, 2) := by decide +kernel
theorem dX8_lay_146 : decode cX8_lay 146 = .ok (.aload_n 0, 1) := by decide +kernel
theorem dX8_lay_147 : decode cX8_lay 147 = .ok (.getfield 130, 3) := by decide +kernel
theorem dX8_lay_150 : decode cX8_lay 150 = .ok (.sipush 1500, 3) := by decide +kernel
theorem dX8_lay_153 : decode cX8_lay 153 = .ok (.iload 4, 2) := by decide +kernel
theorem dX8_lay_155 : decode cX8_lay 155 = .ok (.iadd, 1) := by decide +kernel
theorem dX8_lay_156 : decode cX8_lay 156 = .ok (.iload 4, 2) := by decide +kernel
theorem dX8_lay_158 : decode cX8_lay 158 = .ok (.iconst 1, 1) := by decide +kernel
theorem dX8_lay_159 : decode cX8_lay 159 = .ok (.iadd, 1) := by decide +kernel
theorem dX8_lay_160 : decode cX8_lay 160 = .ok (.iastore, 1) := by decide +kernel
theorem dX8_lay_161 : decode cX8_lay 161 = .ok (.aload_n 0, 1) := by decide +kernel
theorem dX8_lay_162 : decode cX8_lay 162 = .ok (.getfield 133, 3) := by decide +kernel
theorem dX8_lay_165 : decode cX8_lay 165 = .ok (.sipush 1500, 3) := by decide +kernel
theorem dX8_lay_168 : decode cX8_lay 168 = .ok (.iload 4, 2) := by decide +kernel
theorem dX8_lay_170 : decode cX8_lay 170 = .ok (.iadd, 1) := by decide +kernel
theorem dX8_lay_171 : decode cX8_lay 171 = .ok (.aload_n 0, 1) := by decide +kernel
theorem dX8_lay_172 : decode cX8_lay 172 = .ok (.iload 4, 2) := by decide +kernel
theorem dX8_lay_174 : decode cX8_lay 174 = .ok (.iconst 1, 1) := by decide +kernel
theorem dX8_lay_175 : decode cX8_lay 175 = .ok (.iadd, 1) := by decide +kernel
theorem dX8_lay_176 : decode cX8_lay 176 = .ok (.iload 5, 2) := by decide +kernel
theorem dX8_lay_178 : decode cX8_lay 178 = .ok (.invokevirtual 405, 3) := by decide +kernel
theorem dX8_lay_181 : decode cX8_lay 181 = .ok (.iastore, 1) := by decide +kernel
theorem dX8_lay_182 : decode cX8_lay 182 = .ok (.iinc 4 1, 3) := by decide +kernel
theorem dX8_lay_185 : decode cX8_lay 185 = .ok (.goto (-72), 3) := by decide +kernel
theorem dX8_lay_188 : decode cX8_lay 188 = .ok (.iload_n 3, 1) := by decide +kernel
theorem dX8_lay_189 : decode cX8_lay 189 = .ok (.ireturn, 1) := by decide +kernel
abbrev JX8_lay_182 (D : DE) (f : Nat) (Q : Int32 → HI → HL → Prop) (F : Frm) (h : HI) (g : HL) (x1 : Int32) (x2 : Int32) (x3 : Int32) (x4 : Int32) : Prop := ∀ y1 : Int32, y1 = x4 + 1 → V D mX8_lay (f + 1) (qi F Q) 113 [(0, .ref (ad D 115)), (1, .int x1), (2, .int x2), (3, .int x3), (4, .int y1)] [] (F, h, g)
theorem bX8_lay_182 {D : DE} {f : Nat} {Q : Int32 → HI → HL → Prop} {F : Frm} {h : HI} {g : HL} (hF : k_Fix F) (x1 : Int32) (x2 : Int32) (x3 : Int32) (x4 : Int32) (H : JX8_lay_182 D f Q F h g x1 x2 x3 x4) : V D mX8_lay (f + 1) (qi F Q) 182 [(0, .ref (ad D 115)), (1, .int x1), (2, .int x2), (3, .int x3), (4, .int x4)] [] (F, h, g) := by
  obtain ⟨y1, e2⟩ : ∃ y : Int32, y = x4 + 1 := ⟨_, rfl⟩
  have H := H y1 e2
  refine V_iinc (j := 4) (v := y1) (l1 := [(4, .int y1), (0, .ref (ad D 115)), (1, .int x1), (2, .int x2), (3, .int x3)]) dX8_lay_182 rfl (by rw [e2]; rfl) (by decide) rfl ?_
  refine V_goto (tgt := 113) dX8_lay_185 (by decide) ?_
  refine V.sub [1, 2, 3, 4, 0] rfl ?_
  exact H
abbrev JX8_lay_144 (D : DE) (f : Nat) (Q : Int32 → HI → HL → Prop) (F : Frm) (h : HI) (g : HL) (x1 : Int32) (x2 : Int32) (x3 : Int32) (x4 : Int32) (s0 : Int32) : Prop := vp_in (1500 + x4) 1540 ∧ ∀ h2, h2 = up2 h 154 (ix (1500 + x4)) (x4 + 1) → Si D f mX8_behind [.ref (ad D 115), .int (x4 + 1), .int s0] F h2 g (fun y6 h4 g5 => vp_in (1500 + x4) 1540 ∧ ∀ h8, h8 = up2 h4 155 (ix (1500 + x4)) y6 → JX8_lay_182 D f Q F h8 g5 x1 x2 x3 x4)
theorem bX8_lay_144 {D : DE} {f : Nat} {Q : Int32 → HI → HL → Prop} {F : Frm} {h : HI} {g : HL} (hF : k_Fix F) (x1 : Int32) (x2 : Int32) (x3 : Int32) (x4 : Int32) (s0 : Int32) (H : JX8_lay_144 D f Q F h g x1 x2 x3 x4 s0) : V D mX8_lay (f + 1) (qi F Q) 144 [(0, .ref (ad D 115)), (1, .int x1), (2, .int x2), (3, .int x3), (4, .int x4)] [.int s0] (F, h, g) := by
  refine V_istore (l1 := [(5, .int s0), (0, .ref (ad D 115)), (1, .int x1), (2, .int x2), (3, .int x3), (4, .int x4)]) dX8_lay_144 (by decide) rfl ?_
  refine V_aload_n dX8_lay_146 rfl 1 rfl ?_
  refine H_getr ck7 63 (by decide) (fs_115 hF) (by decide) rfl (fr_115_63 hF) q1521 dX8_lay_147 ?_
  refine V_sipush (v := 1500) dX8_lay_150 (by decide) ?_
  refine V_iload dX8_lay_153 5 rfl ?_
  refine V_iadd dX8_lay_155 ?_
  refine V_iload dX8_lay_156 5 rfl ?_
  refine V_iconst (v := 1) dX8_lay_158 (by decide) ?_
  refine V_iadd dX8_lay_159 ?_
  obtain ⟨i1, H⟩ := H
  refine H_iast (fs_154 hF) i1 dX8_lay_160 (fun h2 e3 => ?_)
  have H := H h2 e3
  refine V_aload_n dX8_lay_161 rfl 1 rfl ?_
  refine H_getr ck7 64 (by decide) (fs_115 hF) (by decide) rfl (fr_115_64 hF) q1522 dX8_lay_162 ?_
  refine V_sipush (v := 1500) dX8_lay_165 (by decide) ?_
  refine V_iload dX8_lay_168 5 rfl ?_
  refine V_iadd dX8_lay_170 ?_
  refine V_aload_n dX8_lay_171 rfl 1 rfl ?_
  refine V_iload dX8_lay_172 5 rfl ?_
  refine V_iconst (v := 1) dX8_lay_174 (by decide) ?_
  refine V_iadd dX8_lay_175 ?_
  refine V_iload dX8_lay_176 0 rfl ?_
  refine H_calli (av := [.ref (ad D 115), .int (x4 + 1), .int s0]) (rest := [.int (1500 + x4), .ref (ad D 155)]) H mqX8_behind q88 (by decide) (Nat.le_of_ble_eq_true rfl) (k_resV (ci := 7) (av := [.int (x4 + 1), .int s0]) (rest := [.int (1500 + x4), .ref (ad D 155)]) (fs_115 hF) (by decide) rfl rfl q1965 q1967 qs69 q1968 mhX8_behind mnX8_behind dX8_lay_178) (fun y6 h4 g5 H => ?_)
  obtain ⟨i7, H⟩ := H
  refine H_iast (fs_155 hF) i7 dX8_lay_181 (fun h8 e9 => ?_)
  have H := H h8 e9
  refine V.sub [1, 2, 3, 4, 5] rfl ?_
  exact bX8_lay_182 hF x1 x2 x3 x4 H
abbrev JX8_lay_113 (D : DE) (f : Nat) (Q : Int32 → HI → HL → Prop) (F : Frm) (h : HI) (g : HL) (x1 : Int32) (x2 : Int32) (x3 : Int32) (x4 : Int32) : Prop := ((x3 ≤ x4 → Q x3 h g) ∧ (¬ x3 ≤ x4 → vp_in x4 40 ∧ ((¬ (h 145 (ix x4)) = 2 → JX8_lay_182 D f Q F h g x1 x2 x3 x4) ∧ ((h 145 (ix x4)) = 2 → ((¬ x4 = x1 → JX8_lay_144 D f Q F h g x1 x2 x3 x4 0) ∧ (x4 = x1 → Si D f mX8_firstOf [.int x2] F h g (fun y7 h5 g6 => JX8_lay_144 D f Q F h5 g6 x1 x2 x3 x4 y7)))))))
theorem bX8_lay_113 {D : DE} {f : Nat} {Q : Int32 → HI → HL → Prop} {F : Frm} {h : HI} {g : HL} (hF : k_Fix F) (x1 : Int32) (x2 : Int32) (x3 : Int32) (x4 : Int32) (H : JX8_lay_113 D f Q F h g x1 x2 x3 x4) : V D mX8_lay (f + 1) (qi F Q) 113 [(0, .ref (ad D 115)), (1, .int x1), (2, .int x2), (3, .int x3), (4, .int x4)] [] (F, h, g) := by
  refine V_iload dX8_lay_113 4 rfl ?_
  refine V_iload_n dX8_lay_115 rfl 3 rfl ?_
  refine V_icmp_ge (tgt := 188) dX8_lay_116 (by decide) (fun c1 => ?_) (fun c1 => ?_)
  · have H := H.1 c1
    refine V_iload_n dX8_lay_188 rfl 3 rfl ?_
    exact H_iret rfl dX8_lay_189 H
  · have H := H.2 c1
    refine V_aload_n dX8_lay_119 rfl 0 rfl ?_
    refine H_getr ck7 53 (by decide) (fs_115 hF) (by decide) rfl (fr_115_53 hF) q1511 dX8_lay_120 ?_
    refine V_iload dX8_lay_123 4 rfl ?_
    obtain ⟨i2, H⟩ := H
    refine H_iald (fs_145 hF) i2 dX8_lay_125 ?_
    refine V_iconst (v := 2) dX8_lay_126 (by decide) ?_
    refine V_icmp_ne (tgt := 182) dX8_lay_127 (by decide) (fun c3 => ?_) (fun c3 => ?_)
    · have H := H.1 c3
      exact bX8_lay_182 hF x1 x2 x3 x4 H
    · have H := H.2 c3
      refine V_iload dX8_lay_130 4 rfl ?_
      refine V_iload_n dX8_lay_132 rfl 1 rfl ?_
      refine V_icmp_ne (tgt := 143) dX8_lay_133 (by decide) (fun c4 => ?_) (fun c4 => ?_)
      · have H := H.1 c4
        refine V_iconst (v := 0) dX8_lay_143 (by decide) ?_
        exact bX8_lay_144 hF x1 x2 x3 x4 0 H
      · have H := H.2 c4
        refine V_iload_n dX8_lay_136 rfl 2 rfl ?_
        refine H_calli (av := [.int x2]) (rest := []) H mqX8_firstOf q88 (by decide) (Nat.le_of_ble_eq_true rfl) (k_resS (av := [.int x2]) (rest := []) (M1 := mX8_firstOf) rfl q1853 q1854 q88 mqX8_firstOf (fun _ _ h => mW_named h) mhX8_firstOf mnX8_firstOf dX8_lay_137) (fun y7 h5 g6 H => ?_)
        refine V_goto (tgt := 144) dX8_lay_140 (by decide) ?_
        exact bX8_lay_144 hF x1 x2 x3 x4 y7 H
abbrev JX8_lay_103 (D : DE) (f : Nat) (Q : Int32 → HI → HL → Prop) (F : Frm) (h : HI) (g : HL) (x1 : Int32) (x2 : Int32) (x3 : Int32) (x4 : Int32) (s1 : Int32) (s2 : Int32) : Prop := vp_in s1 1540 ∧ ∀ h2, h2 = up2 h 152 (ix s1) s2 → ∀ y4 : Int32, y4 = x4 + 1 → V D mX8_lay (f + 1) (qi F Q) 10 [(0, .ref (ad D 115)), (1, .int x1), (2, .int x2), (3, .int x3), (4, .int y4)] [] (F, h2, g)
theorem bX8_lay_103 {D : DE} {f : Nat} {Q : Int32 → HI → HL → Prop} {F : Frm} {h : HI} {g : HL} (hF : k_Fix F) (x1 : Int32) (x2 : Int32) (x3 : Int32) (x4 : Int32) (s1 : Int32) (s2 : Int32) (H : JX8_lay_103 D f Q F h g x1 x2 x3 x4 s1 s2) : V D mX8_lay (f + 1) (qi F Q) 103 [(0, .ref (ad D 115)), (1, .int x1), (2, .int x2), (3, .int x3), (4, .int x4)] [.int s2, .int s1, .ref (ad D 152)] (F, h, g) := by
  obtain ⟨i1, H⟩ := H
  refine H_iast (fs_152 hF) i1 dX8_lay_103 (fun h2 e3 => ?_)
  have H := H h2 e3
  obtain ⟨y4, e5⟩ : ∃ y : Int32, y = x4 + 1 := ⟨_, rfl⟩
  have H := H y4 e5
  refine V_iinc (j := 4) (v := y4) (l1 := [(4, .int y4), (0, .ref (ad D 115)), (1, .int x1), (2, .int x2), (3, .int x3)]) dX8_lay_104 rfl (by rw [e5]; rfl) (by decide) rfl ?_
  refine V_goto (tgt := 10) dX8_lay_107 (by decide) ?_
  refine V.sub [1, 2, 3, 4, 0] rfl ?_
  exact H
abbrev JX8_lay_69 (D : DE) (f : Nat) (Q : Int32 → HI → HL → Prop) (F : Frm) (h : HI) (g : HL) (x1 : Int32) (x2 : Int32) (x3 : Int32) (x4 : Int32) (s1 : Int32) (s2 : Int32) : Prop := vp_in s1 1540 ∧ ∀ h2, h2 = up2 h 151 (ix s1) s2 → vp_in x4 40 ∧ ((¬ (h2 145 (ix x4)) = 2 → vp_in x4 40 ∧ JX8_lay_103 D f Q F h2 g x1 x2 x3 x4 x4 (h2 146 (ix x4))) ∧ ((h2 145 (ix x4)) = 2 → JX8_lay_103 D f Q F h2 g x1 x2 x3 x4 x4 (1500 + x4)))
theorem bX8_lay_69 {D : DE} {f : Nat} {Q : Int32 → HI → HL → Prop} {F : Frm} {h : HI} {g : HL} (hF : k_Fix F) (x1 : Int32) (x2 : Int32) (x3 : Int32) (x4 : Int32) (s1 : Int32) (s2 : Int32) (H : JX8_lay_69 D f Q F h g x1 x2 x3 x4 s1 s2) : V D mX8_lay (f + 1) (qi F Q) 69 [(0, .ref (ad D 115)), (1, .int x1), (2, .int x2), (3, .int x3), (4, .int x4)] [.int s2, .int s1, .ref (ad D 151)] (F, h, g) := by
  obtain ⟨i1, H⟩ := H
  refine H_iast (fs_151 hF) i1 dX8_lay_69 (fun h2 e3 => ?_)
  have H := H h2 e3
  refine V_aload_n dX8_lay_70 rfl 0 rfl ?_
  refine H_getr ck7 61 (by decide) (fs_115 hF) (by decide) rfl (fr_115_61 hF) q1519 dX8_lay_71 ?_
  refine V_iload dX8_lay_74 4 rfl ?_
  refine V_aload_n dX8_lay_76 rfl 0 rfl ?_
  refine H_getr ck7 53 (by decide) (fs_115 hF) (by decide) rfl (fr_115_53 hF) q1511 dX8_lay_77 ?_
  refine V_iload dX8_lay_80 4 rfl ?_
  obtain ⟨i4, H⟩ := H
  refine H_iald (fs_145 hF) i4 dX8_lay_82 ?_
  refine V_iconst (v := 2) dX8_lay_83 (by decide) ?_
  refine V_icmp_ne (tgt := 96) dX8_lay_84 (by decide) (fun c5 => ?_) (fun c5 => ?_)
  · have H := H.1 c5
    refine V_aload_n dX8_lay_96 rfl 0 rfl ?_
    refine H_getr ck7 54 (by decide) (fs_115 hF) (by decide) rfl (fr_115_54 hF) q1512 dX8_lay_97 ?_
    refine V_iload dX8_lay_100 4 rfl ?_
    obtain ⟨i6, H⟩ := H
    refine H_iald (fs_146 hF) i6 dX8_lay_102 ?_
    exact bX8_lay_103 hF x1 x2 x3 x4 x4 (h2 146 (ix x4)) H
  · have H := H.2 c5
    refine V_sipush (v := 1500) dX8_lay_87 (by decide) ?_
    refine V_iload dX8_lay_90 4 rfl ?_
    refine V_iadd dX8_lay_92 ?_
    refine V_goto (tgt := 103) dX8_lay_93 (by decide) ?_
    exact bX8_lay_103 hF x1 x2 x3 x4 x4 (1500 + x4) H
abbrev JX8_lay_46 (D : DE) (f : Nat) (Q : Int32 → HI → HL → Prop) (F : Frm) (h : HI) (g : HL) (x1 : Int32) (x2 : Int32) (x3 : Int32) (x4 : Int32) (s1 : Int32) (s2 : Int32) : Prop := vp_in s1 1540 ∧ ∀ h2, h2 = up2 h 150 (ix s1) s2 → vp_in x4 40 ∧ ((¬ (h2 145 (ix x4)) = 2 → JX8_lay_69 D f Q F h2 g x1 x2 x3 x4 x4 0) ∧ ((h2 145 (ix x4)) = 2 → JX8_lay_69 D f Q F h2 g x1 x2 x3 x4 x4 1))
theorem bX8_lay_46 {D : DE} {f : Nat} {Q : Int32 → HI → HL → Prop} {F : Frm} {h : HI} {g : HL} (hF : k_Fix F) (x1 : Int32) (x2 : Int32) (x3 : Int32) (x4 : Int32) (s1 : Int32) (s2 : Int32) (H : JX8_lay_46 D f Q F h g x1 x2 x3 x4 s1 s2) : V D mX8_lay (f + 1) (qi F Q) 46 [(0, .ref (ad D 115)), (1, .int x1), (2, .int x2), (3, .int x3), (4, .int x4)] [.int s2, .int s1, .ref (ad D 150)] (F, h, g) := by
  obtain ⟨i1, H⟩ := H
  refine H_iast (fs_150 hF) i1 dX8_lay_46 (fun h2 e3 => ?_)
  have H := H h2 e3
  refine V_aload_n dX8_lay_47 rfl 0 rfl ?_
  refine H_getr ck7 60 (by decide) (fs_115 hF) (by decide) rfl (fr_115_60 hF) q1518 dX8_lay_48 ?_
  refine V_iload dX8_lay_51 4 rfl ?_
  refine V_aload_n dX8_lay_53 rfl 0 rfl ?_
  refine H_getr ck7 53 (by decide) (fs_115 hF) (by decide) rfl (fr_115_53 hF) q1511 dX8_lay_54 ?_
  refine V_iload dX8_lay_57 4 rfl ?_
  obtain ⟨i4, H⟩ := H
  refine H_iald (fs_145 hF) i4 dX8_lay_59 ?_
  refine V_iconst (v := 2) dX8_lay_60 (by decide) ?_
  refine V_icmp_ne (tgt := 68) dX8_lay_61 (by decide) (fun c5 => ?_) (fun c5 => ?_)
  · have H := H.1 c5
    refine V_iconst (v := 0) dX8_lay_68 (by decide) ?_
    exact bX8_lay_69 hF x1 x2 x3 x4 x4 0 H
  · have H := H.2 c5
    refine V_iconst (v := 1) dX8_lay_64 (by decide) ?_
    refine V_goto (tgt := 69) dX8_lay_65 (by decide) ?_
    exact bX8_lay_69 hF x1 x2 x3 x4 x4 1 H
abbrev JX8_lay_10 (D : DE) (f : Nat) (Q : Int32 → HI → HL → Prop) (F : Frm) (h : HI) (g : HL) (x1 : Int32) (x2 : Int32) (x3 : Int32) (x4 : Int32) : Prop := ((x3 ≤ x4 → V D mX8_lay (f + 1) (qi F Q) 113 [(0, .ref (ad D 115)), (1, .int x1), (2, .int x2), (3, .int x3), (4, .int x1)] [] (F, h, g)) ∧ (¬ x3 ≤ x4 → vp_in x4 1540 ∧ ∀ h3, h3 = up2 h 153 (ix x4) 0 → vp_in x4 40 ∧ ((¬ (h3 145 (ix x4)) = 1 → JX8_lay_46 D f Q F h3 g x1 x2 x3 x4 x4 2) ∧ ((h3 145 (ix x4)) = 1 → JX8_lay_46 D f Q F h3 g x1 x2 x3 x4 x4 3))))
theorem bX8_lay_10 {D : DE} {f : Nat} {Q : Int32 → HI → HL → Prop} {F : Frm} {h : HI} {g : HL} (hF : k_Fix F) (x1 : Int32) (x2 : Int32) (x3 : Int32) (x4 : Int32) (H : JX8_lay_10 D f Q F h g x1 x2 x3 x4) : V D mX8_lay (f + 1) (qi F Q) 10 [(0, .ref (ad D 115)), (1, .int x1), (2, .int x2), (3, .int x3), (4, .int x4)] [] (F, h, g) := by
  refine V_iload dX8_lay_10 4 rfl ?_
  refine V_iload_n dX8_lay_12 rfl 3 rfl ?_
  refine V_icmp_ge (tgt := 110) dX8_lay_13 (by decide) (fun c1 => ?_) (fun c1 => ?_)
  · have H := H.1 c1
    refine V_iload_n dX8_lay_110 rfl 1 rfl ?_
    refine V_istore (l1 := [(4, .int x1), (0, .ref (ad D 115)), (1, .int x1), (2, .int x2), (3, .int x3)]) dX8_lay_111 (by decide) rfl ?_
    refine V.sub [1, 2, 3, 4, 0] rfl ?_
    exact H
  · have H := H.2 c1
    refine V_aload_n dX8_lay_16 rfl 0 rfl ?_
    refine H_getr ck7 62 (by decide) (fs_115 hF) (by decide) rfl (fr_115_62 hF) q1520 dX8_lay_17 ?_
    refine V_iload dX8_lay_20 4 rfl ?_
    refine V_iconst (v := 0) dX8_lay_22 (by decide) ?_
    obtain ⟨i2, H⟩ := H
    refine H_zast (fs_153 hF) i2 isB0 dX8_lay_23 (fun h3 e4 => ?_)
    have H := H h3 e4
    refine V_aload_n dX8_lay_24 rfl 0 rfl ?_
    refine H_getr ck7 59 (by decide) (fs_115 hF) (by decide) rfl (fr_115_59 hF) q1517 dX8_lay_25 ?_
    refine V_iload dX8_lay_28 4 rfl ?_
    refine V_aload_n dX8_lay_30 rfl 0 rfl ?_
    refine H_getr ck7 53 (by decide) (fs_115 hF) (by decide) rfl (fr_115_53 hF) q1511 dX8_lay_31 ?_
    refine V_iload dX8_lay_34 4 rfl ?_
    obtain ⟨i5, H⟩ := H
    refine H_iald (fs_145 hF) i5 dX8_lay_36 ?_
    refine V_iconst (v := 1) dX8_lay_37 (by decide) ?_
    refine V_icmp_ne (tgt := 45) dX8_lay_38 (by decide) (fun c6 => ?_) (fun c6 => ?_)
    · have H := H.1 c6
      refine V_iconst (v := 2) dX8_lay_45 (by decide) ?_
      exact bX8_lay_46 hF x1 x2 x3 x4 x4 2 H
    · have H := H.2 c6
      refine V_iconst (v := 3) dX8_lay_41 (by decide) ?_
      refine V_goto (tgt := 46) dX8_lay_42 (by decide) ?_
      exact bX8_lay_46 hF x1 x2 x3 x4 x4 3 H
abbrev JX8_lay_0 (D : DE) (f : Nat) (Q : Int32 → HI → HL → Prop) (F : Frm) (h : HI) (g : HL) (x1 : Int32) (x2 : Int32) : Prop := Si D f mX8_behind [.ref (ad D 115), .int x1, .int x2] F h g (fun y3 h1 g2 => V D mX8_lay (f + 1) (qi F Q) 10 [(0, .ref (ad D 115)), (1, .int x1), (2, .int x2), (3, .int y3), (4, .int x1)] [] (F, h1, g2))
theorem bX8_lay_0 {D : DE} {f : Nat} {Q : Int32 → HI → HL → Prop} {F : Frm} {h : HI} {g : HL} (hF : k_Fix F) (x1 : Int32) (x2 : Int32) (H : JX8_lay_0 D f Q F h g x1 x2) : V D mX8_lay (f + 1) (qi F Q) 0 [(0, .ref (ad D 115)), (1, .int x1), (2, .int x2)] [] (F, h, g) := by
  refine V_aload_n dX8_lay_0 rfl 0 rfl ?_
  refine V_iload_n dX8_lay_1 rfl 1 rfl ?_
  refine V_iload_n dX8_lay_2 rfl 2 rfl ?_
  refine H_calli (av := [.ref (ad D 115), .int x1, .int x2]) (rest := []) H mqX8_behind q88 (by decide) (Nat.le_of_ble_eq_true rfl) (k_resV (ci := 7) (av := [.int x1, .int x2]) (rest := []) (fs_115 hF) (by decide) rfl rfl q1965 q1967 qs69 q1968 mhX8_behind mnX8_behind dX8_lay_3) (fun y3 h1 g2 H => ?_)
  refine V_istore_n (l1 := [(3, .int y3), (0, .ref (ad D 115)), (1, .int x1), (2, .int x2)]) dX8_lay_6 rfl (by decide) rfl ?_
  refine V_iload_n dX8_lay_7 rfl 2 rfl ?_
  refine V_istore (l1 := [(4, .int x1), (3, .int y3), (0, .ref (ad D 115)), (1, .int x1), (2, .int x2)]) dX8_lay_8 (by decide) rfl ?_
  refine V.sub [2, 3, 4, 1, 0] rfl ?_
  exact H
theorem wX8_lay {D : DE} {f : Nat} {Q : Int32 → HI → HL → Prop} {F : Frm} {h : HI} {g : HL} (hF : k_Fix F) (x1 : Int32) (x2 : Int32) (H : JX8_lay_0 D f Q F h g x1 x2) : Si D (f + 1) mX8_lay [.ref (ad D 115), .int x1, .int x2] F h g Q := Cl.ofV (by decide) (Nat.le_of_ble_eq_true rfl) rfl (bX8_lay_0 hF x1 x2 H)
theorem dX8_thing_0 : decode cX8_thing 0 = .ok (.aload_n 0, 1) := by decide +kernel
theorem dX8_thing_1 : decode cX8_thing 1 = .ok (.getfield 408, 3) := by decide +kernel
theorem dX8_thing_4 : decode cX8_thing 4 = .ok (.ifCond .eq 5, 3) := by decide +kernel
theorem dX8_thing_7 : decode cX8_thing 7 = .ok (.iconst 0, 1) := by decide +kernel
theorem dX8_thing_8 : decode cX8_thing 8 = .ok (.ireturn, 1) := by decide +kernel
theorem dX8_thing_9 : decode cX8_thing 9 = .ok (.aload_n 0, 1) := by decide +kernel
theorem dX8_thing_10 : decode cX8_thing 10 = .ok (.getfield 39, 3) := by decide +kernel
theorem dX8_thing_13 : decode cX8_thing 13 = .ok (.iload_n 1, 1) := by decide +kernel
theorem dX8_thing_14 : decode cX8_thing 14 = .ok (.iaload, 1) := by decide +kernel
theorem dX8_thing_15 : decode cX8_thing 15 = .ok (.bipush 7, 2) := by decide +kernel
theorem dX8_thing_17 : decode cX8_thing 17 = .ok (.if_icmp .ne 20, 3) := by decide +kernel
theorem dX8_thing_20 : decode cX8_thing 20 = .ok (.aload_n 0, 1) := by decide +kernel
theorem dX8_thing_21 : decode cX8_thing 21 = .ok (.getfield 136, 3) := by decide +kernel
theorem dX8_thing_24 : decode cX8_thing 24 = .ok (.bipush 16, 2) := by decide +kernel
theorem dX8_thing_26 : decode cX8_thing 26 = .ok (.iload_n 2, 1) := by decide +kernel
theorem dX8_thing_27 : decode cX8_thing 27 = .ok (.imul, 1) := by decide +kernel
theorem dX8_thing_28 : decode cX8_thing 28 = .ok (.aload_n 0, 1) := by decide +kernel
theorem dX8_thing_29 : decode cX8_thing 29 = .ok (.getfield 42, 3) := by decide +kernel
theorem dX8_thing_32 : decode cX8_thing 32 = .ok (.iload_n 1, 1) := by decide +kernel
theorem dX8_thing_33 : decode cX8_thing 33 = .ok (.iaload, 1) := by decide +kernel
theorem dX8_thing_34 : decode cX8_thing 34 = .ok (.iadd, 1) := by decide +kernel
theorem dX8_thing_35 : decode cX8_thing 35 = .ok (.iaload, 1) := by decide +kernel
theorem dX8_thing_36 : decode cX8_thing 36 = .ok (.ireturn, 1) := by decide +kernel
theorem dX8_thing_37 : decode cX8_thing 37 = .ok (.aload_n 0, 1) := by decide +kernel
theorem dX8_thing_38 : decode cX8_thing 38 = .ok (.getfield 411, 3) := by decide +kernel
theorem dX8_thing_41 : decode cX8_thing 41 = .ok (.sipush 1500, 3) := by decide +kernel
theorem dX8_thing_44 : decode cX8_thing 44 = .ok (.if_icmp .ne 10, 3) := by decide +kernel
theorem dX8_thing_47 : decode cX8_thing 47 = .ok (.aload_n 0, 1) := by decide +kernel
theorem dX8_thing_48 : decode cX8_thing 48 = .ok (.iconst 5, 1) := by decide +kernel
theorem dX8_thing_49 : decode cX8_thing 49 = .ok (.putfield 408, 3) := by decide +kernel
theorem dX8_thing_52 : decode cX8_thing 52 = .ok (.iconst 0, 1) := by decide +kernel
theorem dX8_thing_53 : decode cX8_thing 53 = .ok (.ireturn, 1) := by decide +kernel
theorem dX8_thing_54 : decode cX8_thing 54 = .ok (.bipush 40, 2) := by decide +kernel
theorem dX8_thing_56 : decode cX8_thing 56 = .ok (.aload_n 0, 1) := by decide +kernel
theorem dX8_thing_57 : decode cX8_thing 57 = .ok (.getfield 411, 3) := by decide +kernel
theorem dX8_thing_60 : decode cX8_thing 60 = .ok (.iadd, 1) := by decide +kernel
theorem dX8_thing_61 : decode cX8_thing 61 = .ok (.istore_n 3, 1) := by decide +kernel
theorem dX8_thing_62 : decode cX8_thing 62 = .ok (.aload_n 0, 1) := by decide +kernel
theorem dX8_thing_63 : decode cX8_thing 63 = .ok (.dup, 1) := by decide +kernel
theorem dX8_thing_64 : decode cX8_thing 64 = .ok (.getfield 411, 3) := by decide +kernel
theorem dX8_thing_67 : decode cX8_thing 67 = .ok (.iconst 1, 1) := by decide +kernel
theorem dX8_thing_68 : decode cX8_thing 68 = .ok (.iadd, 1) := by decide +kernel
theorem dX8_thing_69 : decode cX8_thing 69 = .ok (.putfield 411, 3) := by decide +kernel
theorem dX8_thing_72 : decode cX8_thing 72 = .ok (.aload_n 0, 1) := by decide +kernel
theorem dX8_thing_73 : decode cX8_thing 73 = .ok (.getfield 112, 3) := by decide +kernel
theorem dX8_thing_76 : decode cX8_thing 76 = .ok (.iload_n 3, 1) := by decide +kernel
theorem dX8_thing_77 : decode cX8_thing 77 = .ok (.iload_n 1, 1) := by decide +kernel
theorem dX8_thing_78 : decode cX8_thing 78 = .ok (.iastore, 1) := by decide +kernel
theorem dX8_thing_79 : decode cX8_thing 79 = .ok (.aload_n 0, 1) := by decide +kernel
theorem dX8_thing_80 : decode cX8_thing 80 = .ok (.getfield 115, 3) := by decide +kernel
theorem dX8_thing_83 : decode cX8_thing 83 = .ok (.iload_n 3, 1) := by decide +kernel
theorem dX8_thing_84 : decode cX8_thing 84 = .ok (.iload_n 2, 1) := by decide +kernel
theorem dX8_thing_85 : decode cX8_thing 85 = .ok (.iastore, 1) := by decide +kernel
theorem dX8_thing_86 : decode cX8_thing 86 = .ok (.aload_n 0, 1) := by decide +kernel
theorem dX8_thing_87 : decode cX8_thing 87 = .ok (.getfield 118, 3) := by decide +kernel
theorem dX8_thing_90 : decode cX8_thing 90 = .ok (.iload_n 3, 1) := by decide +kernel
theorem dX8_thing_91 : decode cX8_thing 91 = .ok (.iconst 0, 1) := by decide +kernel
theorem dX8_thing_92 : decode cX8_thing 92 = .ok (.iastore, 1) := by decide +kernel
theorem dX8_thing_93 : decode cX8_thing 93 = .ok (.aload_n 0, 1) := by decide +kernel
theorem dX8_thing_94 : decode cX8_thing 94 = .ok (.getfield 127, 3) := by decide +kernel
theorem dX8_thing_97 : decode cX8_thing 97 = .ok (.iload_n 3, 1) := by decide +kernel
theorem dX8_thing_98 : decode cX8_thing 98 = .ok (.iconst 0, 1) := by decide +kernel
theorem dX8_thing_99 : decode cX8_thing 99 = .ok (.bastore, 1) := by decide +kernel
theorem dX8_thing_100 : decode cX8_thing 100 = .ok (.iload_n 3, 1) := by decide +kernel
theorem dX8_thing_101 : decode cX8_thing 101 = .ok (.ireturn, 1) := by decide +kernel
abbrev JX8_thing_0 (D : DE) (f : Nat) (Q : Int32 → HI → HL → Prop) (F : Frm) (h : HI) (g : HL) (x1 : Int32) (x2 : Int32) : Prop := (((h 115 74) = 0 → vp_in x1 2002 ∧ ((¬ (h 124 (ix x1)) = 7 → ((¬ (h 115 67) = 1500 → ∀ y5 : Int32, y5 = 40 + (h 115 67) → ∀ h7, h7 = up2 h 115 67 ((h 115 67) + 1) → vp_in y5 1540 ∧ ∀ h10, h10 = up2 h7 148 (ix y5) x1 → vp_in y5 1540 ∧ ∀ h13, h13 = up2 h10 149 (ix y5) x2 → vp_in y5 1540 ∧ ∀ h16, h16 = up2 h13 150 (ix y5) 0 → vp_in y5 1540 ∧ ∀ h19, h19 = up2 h16 153 (ix y5) 0 → Q y5 h19 g) ∧ ((h 115 67) = 1500 → ∀ h21, h21 = up2 h 115 74 5 → Q 0 h21 g))) ∧ ((h 124 (ix x1)) = 7 → vp_in x1 2002 ∧ vp_in ((16 * x2) + (h 125 (ix x1))) 24032 ∧ Q (h 156 (ix ((16 * x2) + (h 125 (ix x1))))) h g))) ∧ (¬ (h 115 74) = 0 → Q 0 h g))
theorem bX8_thing_0 {D : DE} {f : Nat} {Q : Int32 → HI → HL → Prop} {F : Frm} {h : HI} {g : HL} (hF : k_Fix F) (x1 : Int32) (x2 : Int32) (H : JX8_thing_0 D f Q F h g x1 x2) : V D mX8_thing f (qi F Q) 0 [(0, .ref (ad D 115)), (1, .int x1), (2, .int x2)] [] (F, h, g) := by
  refine V_aload_n dX8_thing_0 rfl 0 rfl ?_
  refine H_geti ck7 74 (by decide) (fs_115 hF) (by decide) rfl q1532 dX8_thing_1 ?_
  refine V_if_eq (tgt := 9) dX8_thing_4 (by decide) (fun c1 => ?_) (fun c1 => ?_)
  · have H := H.1 c1
    refine V_aload_n dX8_thing_9 rfl 0 rfl ?_
    refine H_getr ck7 18 (by decide) (fs_115 hF) (by decide) rfl (fr_115_18 hF) q1476 dX8_thing_10 ?_
    refine V_iload_n dX8_thing_13 rfl 1 rfl ?_
    obtain ⟨i2, H⟩ := H
    refine H_iald (fs_124 hF) i2 dX8_thing_14 ?_
    refine V_bipush (v := 7) dX8_thing_15 (by decide) ?_
    refine V_icmp_ne (tgt := 37) dX8_thing_17 (by decide) (fun c3 => ?_) (fun c3 => ?_)
    · have H := H.1 c3
      refine V_aload_n dX8_thing_37 rfl 0 rfl ?_
      refine H_geti ck7 67 (by decide) (fs_115 hF) (by decide) rfl q1525 dX8_thing_38 ?_
      refine V_sipush (v := 1500) dX8_thing_41 (by decide) ?_
      refine V_icmp_ne (tgt := 54) dX8_thing_44 (by decide) (fun c4 => ?_) (fun c4 => ?_)
      · have H := H.1 c4
        refine V_bipush (v := 40) dX8_thing_54 (by decide) ?_
        refine V_aload_n dX8_thing_56 rfl 0 rfl ?_
        refine H_geti ck7 67 (by decide) (fs_115 hF) (by decide) rfl q1525 dX8_thing_57 ?_
        refine V_iadd dX8_thing_60 ?_
        refine V_topi (fun y5 e6 => ?_)
        have H := H y5 e6
        refine V_istore_n (l1 := [(3, .int y5), (0, .ref (ad D 115)), (1, .int x1), (2, .int x2)]) dX8_thing_61 rfl (by decide) rfl ?_
        refine V_aload_n dX8_thing_62 rfl 1 rfl ?_
        refine V_dup dX8_thing_63 rfl ?_
        refine H_geti ck7 67 (by decide) (fs_115 hF) (by decide) rfl q1525 dX8_thing_64 ?_
        refine V_iconst (v := 1) dX8_thing_67 (by decide) ?_
        refine V_iadd dX8_thing_68 ?_
        refine H_puti ck7 67 (by decide) (fs_115 hF) (by decide) rfl rfl q1525 dX8_thing_69 (fun h7 e8 => ?_)
        have H := H h7 e8
        refine V_aload_n dX8_thing_72 rfl 1 rfl ?_
        refine H_getr ck7 57 (by decide) (fs_115 hF) (by decide) rfl (fr_115_57 hF) q1515 dX8_thing_73 ?_
        refine V_iload_n dX8_thing_76 rfl 0 rfl ?_
        refine V_iload_n dX8_thing_77 rfl 2 rfl ?_
        obtain ⟨i9, H⟩ := H
        refine H_iast (fs_148 hF) i9 dX8_thing_78 (fun h10 e11 => ?_)
        have H := H h10 e11
        refine V_aload_n dX8_thing_79 rfl 1 rfl ?_
        refine H_getr ck7 58 (by decide) (fs_115 hF) (by decide) rfl (fr_115_58 hF) q1516 dX8_thing_80 ?_
        refine V_iload_n dX8_thing_83 rfl 0 rfl ?_
        refine V_iload_n dX8_thing_84 rfl 3 rfl ?_
        obtain ⟨i12, H⟩ := H
        refine H_iast (fs_149 hF) i12 dX8_thing_85 (fun h13 e14 => ?_)
        have H := H h13 e14
        refine V_aload_n dX8_thing_86 rfl 1 rfl ?_
        refine H_getr ck7 59 (by decide) (fs_115 hF) (by decide) rfl (fr_115_59 hF) q1517 dX8_thing_87 ?_
        refine V_iload_n dX8_thing_90 rfl 0 rfl ?_
        refine V_iconst (v := 0) dX8_thing_91 (by decide) ?_
        obtain ⟨i15, H⟩ := H
        refine H_iast (fs_150 hF) i15 dX8_thing_92 (fun h16 e17 => ?_)
        have H := H h16 e17
        refine V_aload_n dX8_thing_93 rfl 1 rfl ?_
        refine H_getr ck7 62 (by decide) (fs_115 hF) (by decide) rfl (fr_115_62 hF) q1520 dX8_thing_94 ?_
        refine V_iload_n dX8_thing_97 rfl 0 rfl ?_
        refine V_iconst (v := 0) dX8_thing_98 (by decide) ?_
        obtain ⟨i18, H⟩ := H
        refine H_zast (fs_153 hF) i18 isB0 dX8_thing_99 (fun h19 e20 => ?_)
        have H := H h19 e20
        refine V_iload_n dX8_thing_100 rfl 0 rfl ?_
        exact H_iret rfl dX8_thing_101 H
      · have H := H.2 c4
        refine V_aload_n dX8_thing_47 rfl 0 rfl ?_
        refine V_iconst (v := 5) dX8_thing_48 (by decide) ?_
        refine H_puti ck7 74 (by decide) (fs_115 hF) (by decide) rfl rfl q1532 dX8_thing_49 (fun h21 e22 => ?_)
        have H := H h21 e22
        refine V_iconst (v := 0) dX8_thing_52 (by decide) ?_
        exact H_iret rfl dX8_thing_53 H
    · have H := H.2 c3
      refine V_aload_n dX8_thing_20 rfl 0 rfl ?_
      refine H_getr ck7 65 (by decide) (fs_115 hF) (by decide) rfl (fr_115_65 hF) q1523 dX8_thing_21 ?_
      refine V_bipush (v := 16) dX8_thing_24 (by decide) ?_
      refine V_iload_n dX8_thing_26 rfl 2 rfl ?_
      refine V_imul dX8_thing_27 ?_
      refine V_aload_n dX8_thing_28 rfl 0 rfl ?_
      refine H_getr ck7 19 (by decide) (fs_115 hF) (by decide) rfl (fr_115_19 hF) q1477 dX8_thing_29 ?_
      refine V_iload_n dX8_thing_32 rfl 1 rfl ?_
      obtain ⟨i23, H⟩ := H
      refine H_iald (fs_125 hF) i23 dX8_thing_33 ?_
      refine V_iadd dX8_thing_34 ?_
      obtain ⟨i24, H⟩ := H
      refine H_iald (fs_156 hF) i24 dX8_thing_35 ?_
      exact H_iret rfl dX8_thing_36 H
  · have H := H.2 c1
    refine V_iconst (v := 0) dX8_thing_7 (by decide) ?_
    exact H_iret rfl dX8_thing_8 H
theorem wX8_thing {D : DE} {f : Nat} {Q : Int32 → HI → HL → Prop} {F : Frm} {h : HI} {g : HL} (hF : k_Fix F) (x1 : Int32) (x2 : Int32) (H : JX8_thing_0 D f Q F h g x1 x2) : Si D f mX8_thing [.ref (ad D 115), .int x1, .int x2] F h g Q := Cl.ofV (by decide) (Nat.le_of_ble_eq_true rfl) rfl (bX8_thing_0 hF x1 x2 H)
theorem dX8_gives_0 : decode cX8_gives 0 = .ok (.aload_n 0, 1) := by decide +kernel
theorem dX8_gives_1 : decode cX8_gives 1 = .ok (.iload_n 1, 1) := by decide +kernel
theorem dX8_gives_2 : decode cX8_gives 2 = .ok (.putfield 414, 3) := by decide +kernel
theorem dX8_gives_5 : decode cX8_gives 5 = .ok (.aload_n 0, 1) := by decide +kernel
theorem dX8_gives_6 : decode cX8_gives 6 = .ok (.iload_n 2, 1) := by decide +kernel
theorem dX8_gives_7 : decode cX8_gives 7 = .ok (.putfield 417, 3) := by decide +kernel
theorem dX8_gives_10 : decode cX8_gives 10 = .ok (.return_, 1) := by decide +kernel
abbrev JX8_gives_0 (D : DE) (f : Nat) (Q : HI → HL → Prop) (F : Frm) (h : HI) (g : HL) (x1 : Int32) (x2 : Int32) : Prop := ∀ h1, h1 = up2 h 115 77 x1 → ∀ h3, h3 = up2 h1 115 78 x2 → Q h3 g
theorem bX8_gives_0 {D : DE} {f : Nat} {Q : HI → HL → Prop} {F : Frm} {h : HI} {g : HL} (hF : k_Fix F) (x1 : Int32) (x2 : Int32) (H : JX8_gives_0 D f Q F h g x1 x2) : V D mX8_gives f (qv F Q) 0 [(0, .ref (ad D 115)), (1, .int x1), (2, .int x2)] [] (F, h, g) := by
  refine V_aload_n dX8_gives_0 rfl 0 rfl ?_
  refine V_iload_n dX8_gives_1 rfl 1 rfl ?_
  refine H_puti ck7 77 (by decide) (fs_115 hF) (by decide) rfl rfl q1535 dX8_gives_2 (fun h1 e2 => ?_)
  have H := H h1 e2
  refine V_aload_n dX8_gives_5 rfl 0 rfl ?_
  refine V_iload_n dX8_gives_6 rfl 2 rfl ?_
  refine H_puti ck7 78 (by decide) (fs_115 hF) (by decide) rfl rfl q1536 dX8_gives_7 (fun h3 e4 => ?_)
  have H := H h3 e4
  exact H_vret rfl dX8_gives_10 H
theorem wX8_gives {D : DE} {f : Nat} {Q : HI → HL → Prop} {F : Frm} {h : HI} {g : HL} (hF : k_Fix F) (x1 : Int32) (x2 : Int32) (H : JX8_gives_0 D f Q F h g x1 x2) : Sv D f mX8_gives [.ref (ad D 115), .int x1, .int x2] F h g Q := Cl.ofV (by decide) (Nat.le_of_ble_eq_true rfl) rfl (bX8_gives_0 hF x1 x2 H)
theorem dX8_need_0 : decode cX8_need 0 = .ok (.aload_n 0, 1) := by decide +kernel
theorem dX8_need_1 : decode cX8_need 1 = .ok (.getfield 127, 3) := by decide +kernel
theorem dX8_need_4 : decode cX8_need 4 = .ok (.iload_n 1, 1) := by decide +kernel
theorem dX8_need_5 : decode cX8_need 5 = .ok (.iconst 1, 1) := by decide +kernel
theorem dX8_need_6 : decode cX8_need 6 = .ok (.bastore, 1) := by decide +kernel
theorem dX8_need_7 : decode cX8_need 7 = .ok (.aload_n 0, 1) := by decide +kernel
theorem dX8_need_8 : decode cX8_need 8 = .ok (.getfield 118, 3) := by decide +kernel
theorem dX8_need_11 : decode cX8_need 11 = .ok (.iload_n 1, 1) := by decide +kernel
theorem dX8_need_12 : decode cX8_need 12 = .ok (.iaload, 1) := by decide +kernel
theorem dX8_need_13 : decode cX8_need 13 = .ok (.ifCond .ne 37, 3) := by decide +kernel
theorem dX8_need_16 : decode cX8_need 16 = .ok (.aload_n 0, 1) := by decide +kernel
theorem dX8_need_17 : decode cX8_need 17 = .ok (.getfield 118, 3) := by decide +kernel
theorem dX8_need_20 : decode cX8_need 20 = .ok (.iload_n 1, 1) := by decide +kernel
theorem dX8_need_21 : decode cX8_need 21 = .ok (.iconst 1, 1) := by decide +kernel
theorem dX8_need_22 : decode cX8_need 22 = .ok (.iastore, 1) := by decide +kernel
theorem dX8_need_23 : decode cX8_need 23 = .ok (.aload_n 0, 1) := by decide +kernel
theorem dX8_need_24 : decode cX8_need 24 = .ok (.iconst 3, 1) := by decide +kernel
theorem dX8_need_25 : decode cX8_need 25 = .ok (.iload_n 1, 1) := by decide +kernel
theorem dX8_need_26 : decode cX8_need 26 = .ok (.iconst 0, 1) := by decide +kernel
theorem dX8_need_27 : decode cX8_need 27 = .ok (.invokevirtual 322, 3) := by decide +kernel
theorem dX8_need_30 : decode cX8_need 30 = .ok (.aload_n 0, 1) := by decide +kernel
theorem dX8_need_31 : decode cX8_need 31 = .ok (.iconst 1, 1) := by decide +kernel
theorem dX8_need_32 : decode cX8_need 32 = .ok (.aload_n 0, 1) := by decide +kernel
theorem dX8_need_33 : decode cX8_need 33 = .ok (.getfield 112, 3) := by decide +kernel
theorem dX8_need_36 : decode cX8_need 36 = .ok (.iload_n 1, 1) := by decide +kernel
theorem dX8_need_37 : decode cX8_need 37 = .ok (.iaload, 1) := by decide +kernel
theorem dX8_need_38 : decode cX8_need 38 = .ok (.aload_n 0, 1) := by decide +kernel
theorem dX8_need_39 : decode cX8_need 39 = .ok (.getfield 115, 3) := by decide +kernel
theorem dX8_need_42 : decode cX8_need 42 = .ok (.iload_n 1, 1) := by decide +kernel
theorem dX8_need_43 : decode cX8_need 43 = .ok (.iaload, 1) := by decide +kernel
theorem dX8_need_44 : decode cX8_need 44 = .ok (.invokevirtual 322, 3) := by decide +kernel
theorem dX8_need_47 : decode cX8_need 47 = .ok (.goto 37, 3) := by decide +kernel
theorem dX8_need_50 : decode cX8_need 50 = .ok (.aload_n 0, 1) := by decide +kernel
theorem dX8_need_51 : decode cX8_need 51 = .ok (.getfield 118, 3) := by decide +kernel
theorem dX8_need_54 : decode cX8_need 54 = .ok (.iload_n 1, 1) := by decide +kernel
theorem dX8_need_55 : decode cX8_need 55 = .ok (.iaload, 1) := by decide +kernel
theorem dX8_need_56 : decode cX8_need 56 = .ok (.iconst 2, 1) := by decide +kernel
theorem dX8_need_57 : decode cX8_need 57 = .ok (.if_icmp .ne 22, 3) := by decide +kernel
theorem dX8_need_60 : decode cX8_need 60 = .ok (.aload_n 0, 1) := by decide +kernel
theorem dX8_need_61 : decode cX8_need 61 = .ok (.aload_n 0, 1) := by decide +kernel
theorem dX8_need_62 : decode cX8_need 62 = .ok (.getfield 121, 3) := by decide +kernel
theorem dX8_need_65 : decode cX8_need 65 = .ok (.iload_n 1, 1) := by decide +kernel
theorem dX8_need_66 : decode cX8_need 66 = .ok (.iaload, 1) := by decide +kernel
theorem dX8_need_67 : decode cX8_need 67 = .ok (.aload_n 0, 1) := by decide +kernel
theorem dX8_need_68 : decode cX8_need 68 = .ok (.getfield 124, 3) := by decide +kernel
theorem dX8_need_71 : decode cX8_need 71 = .ok (.iload_n 1, 1) := by decide +kernel
theorem dX8_need_72 : decode cX8_need 72 = .ok (.iaload, 1) := by decide +kernel
theorem dX8_need_73 : decode cX8_need 73 = .ok (.invokevirtual 420, 3) := by decide +kernel
theorem dX8_need_76 : decode cX8_need 76 = .ok (.goto 8, 3) := by decide +kernel
theorem dX8_need_79 : decode cX8_need 79 = .ok (.aload_n 0, 1) := by decide +kernel
theorem dX8_need_80 : decode cX8_need 80 = .ok (.iconst 2, 1) := by decide +kernel
theorem dX8_need_81 : decode cX8_need 81 = .ok (.putfield 408, 3) := by decide +kernel
theorem dX8_need_84 : decode cX8_need 84 = .ok (.return_, 1) := by decide +kernel
abbrev JX8_need_0 (D : DE) (f : Nat) (Q : HI → HL → Prop) (F : Frm) (h : HI) (g : HL) (x1 : Int32) : Prop := vp_in x1 1540 ∧ ∀ h2, h2 = up2 h 153 (ix x1) 1 → vp_in x1 1540 ∧ ((¬ (h2 150 (ix x1)) = 0 → vp_in x1 1540 ∧ ((¬ (h2 150 (ix x1)) = 2 → ∀ h8, h8 = up2 h2 115 74 2 → Q h8 g) ∧ ((h2 150 (ix x1)) = 2 → vp_in x1 1540 ∧ vp_in x1 1540 ∧ Sv D f mX8_gives [.ref (ad D 115), .int (h2 151 (ix x1)), .int (h2 152 (ix x1))] F h2 g (fun h12 g13 => Q h12 g13)))) ∧ ((h2 150 (ix x1)) = 0 → vp_in x1 1540 ∧ ∀ h15, h15 = up2 h2 150 (ix x1) 1 → Sv D f mX8_task [.ref (ad D 115), .int 3, .int x1, .int 0] F h15 g (fun h17 g18 => vp_in x1 1540 ∧ vp_in x1 1540 ∧ Sv D f mX8_task [.ref (ad D 115), .int 1, .int (h17 148 (ix x1)), .int (h17 149 (ix x1))] F h17 g18 (fun h21 g22 => Q h21 g22))))
theorem bX8_need_0 {D : DE} {f : Nat} {Q : HI → HL → Prop} {F : Frm} {h : HI} {g : HL} (hF : k_Fix F) (x1 : Int32) (H : JX8_need_0 D f Q F h g x1) : V D mX8_need (f + 1) (qv F Q) 0 [(0, .ref (ad D 115)), (1, .int x1)] [] (F, h, g) := by
  refine V_aload_n dX8_need_0 rfl 0 rfl ?_
  refine H_getr ck7 62 (by decide) (fs_115 hF) (by decide) rfl (fr_115_62 hF) q1520 dX8_need_1 ?_
  refine V_iload_n dX8_need_4 rfl 1 rfl ?_
  refine V_iconst (v := 1) dX8_need_5 (by decide) ?_
  obtain ⟨i1, H⟩ := H
  refine H_zast (fs_153 hF) i1 isB1 dX8_need_6 (fun h2 e3 => ?_)
  have H := H h2 e3
  refine V_aload_n dX8_need_7 rfl 0 rfl ?_
  refine H_getr ck7 59 (by decide) (fs_115 hF) (by decide) rfl (fr_115_59 hF) q1517 dX8_need_8 ?_
  refine V_iload_n dX8_need_11 rfl 1 rfl ?_
  obtain ⟨i4, H⟩ := H
  refine H_iald (fs_150 hF) i4 dX8_need_12 ?_
  refine V_if_ne (tgt := 50) dX8_need_13 (by decide) (fun c5 => ?_) (fun c5 => ?_)
  · have H := H.1 c5
    refine V_aload_n dX8_need_50 rfl 0 rfl ?_
    refine H_getr ck7 59 (by decide) (fs_115 hF) (by decide) rfl (fr_115_59 hF) q1517 dX8_need_51 ?_
    refine V_iload_n dX8_need_54 rfl 1 rfl ?_
    obtain ⟨i6, H⟩ := H
    refine H_iald (fs_150 hF) i6 dX8_need_55 ?_
    refine V_iconst (v := 2) dX8_need_56 (by decide) ?_
    refine V_icmp_ne (tgt := 79) dX8_need_57 (by decide) (fun c7 => ?_) (fun c7 => ?_)
    · have H := H.1 c7
      refine V_aload_n dX8_need_79 rfl 0 rfl ?_
      refine V_iconst (v := 2) dX8_need_80 (by decide) ?_
      refine H_puti ck7 74 (by decide) (fs_115 hF) (by decide) rfl rfl q1532 dX8_need_81 (fun h8 e9 => ?_)
      have H := H h8 e9
      exact H_vret rfl dX8_need_84 H
    · have H := H.2 c7
      refine V_aload_n dX8_need_60 rfl 0 rfl ?_
      refine V_aload_n dX8_need_61 rfl 0 rfl ?_
      refine H_getr ck7 60 (by decide) (fs_115 hF) (by decide) rfl (fr_115_60 hF) q1518 dX8_need_62 ?_
      refine V_iload_n dX8_need_65 rfl 1 rfl ?_
      obtain ⟨i10, H⟩ := H
      refine H_iald (fs_151 hF) i10 dX8_need_66 ?_
      refine V_aload_n dX8_need_67 rfl 0 rfl ?_
      refine H_getr ck7 61 (by decide) (fs_115 hF) (by decide) rfl (fr_115_61 hF) q1519 dX8_need_68 ?_
      refine V_iload_n dX8_need_71 rfl 1 rfl ?_
      obtain ⟨i11, H⟩ := H
      refine H_iald (fs_152 hF) i11 dX8_need_72 ?_
      refine H_callv (av := [.ref (ad D 115), .int (h2 151 (ix x1)), .int (h2 152 (ix x1))]) (rest := []) H mqX8_gives q88 (by decide) (Nat.le_of_ble_eq_true rfl) (k_resV (ci := 7) (av := [.int (h2 151 (ix x1)), .int (h2 152 (ix x1))]) (rest := []) (fs_115 hF) (by decide) rfl rfl q1982 q1984 qs73 q1985 mhX8_gives mnX8_gives dX8_need_73) (fun h12 g13 H => ?_)
      refine V_goto (tgt := 84) dX8_need_76 (by decide) ?_
      exact H_vret rfl dX8_need_84 H
  · have H := H.2 c5
    refine V_aload_n dX8_need_16 rfl 0 rfl ?_
    refine H_getr ck7 59 (by decide) (fs_115 hF) (by decide) rfl (fr_115_59 hF) q1517 dX8_need_17 ?_
    refine V_iload_n dX8_need_20 rfl 1 rfl ?_
    refine V_iconst (v := 1) dX8_need_21 (by decide) ?_
    obtain ⟨i14, H⟩ := H
    refine H_iast (fs_150 hF) i14 dX8_need_22 (fun h15 e16 => ?_)
    have H := H h15 e16
    refine V_aload_n dX8_need_23 rfl 0 rfl ?_
    refine V_iconst (v := 3) dX8_need_24 (by decide) ?_
    refine V_iload_n dX8_need_25 rfl 1 rfl ?_
    refine V_iconst (v := 0) dX8_need_26 (by decide) ?_
    refine H_callv (av := [.ref (ad D 115), .int 3, .int x1, .int 0]) (rest := []) H mqX8_task q88 (by decide) (Nat.le_of_ble_eq_true rfl) (k_resV (ci := 7) (av := [.int 3, .int x1, .int 0]) (rest := []) (fs_115 hF) (by decide) rfl rfl q1834 q1836 qs51 q1837 mhX8_task mnX8_task dX8_need_27) (fun h17 g18 H => ?_)
    refine V_aload_n dX8_need_30 rfl 0 rfl ?_
    refine V_iconst (v := 1) dX8_need_31 (by decide) ?_
    refine V_aload_n dX8_need_32 rfl 0 rfl ?_
    refine H_getr ck7 57 (by decide) (fs_115 hF) (by decide) rfl (fr_115_57 hF) q1515 dX8_need_33 ?_
    refine V_iload_n dX8_need_36 rfl 1 rfl ?_
    obtain ⟨i19, H⟩ := H
    refine H_iald (fs_148 hF) i19 dX8_need_37 ?_
    refine V_aload_n dX8_need_38 rfl 0 rfl ?_
    refine H_getr ck7 58 (by decide) (fs_115 hF) (by decide) rfl (fr_115_58 hF) q1516 dX8_need_39 ?_
    refine V_iload_n dX8_need_42 rfl 1 rfl ?_
    obtain ⟨i20, H⟩ := H
    refine H_iald (fs_149 hF) i20 dX8_need_43 ?_
    refine H_callv (av := [.ref (ad D 115), .int 1, .int (h17 148 (ix x1)), .int (h17 149 (ix x1))]) (rest := []) H mqX8_task q88 (by decide) (Nat.le_of_ble_eq_true rfl) (k_resV (ci := 7) (av := [.int 1, .int (h17 148 (ix x1)), .int (h17 149 (ix x1))]) (rest := []) (fs_115 hF) (by decide) rfl rfl q1834 q1836 qs51 q1837 mhX8_task mnX8_task dX8_need_44) (fun h21 g22 H => ?_)
    refine V_goto (tgt := 84) dX8_need_47 (by decide) ?_
    exact H_vret rfl dX8_need_84 H
theorem wX8_need {D : DE} {f : Nat} {Q : HI → HL → Prop} {F : Frm} {h : HI} {g : HL} (hF : k_Fix F) (x1 : Int32) (H : JX8_need_0 D f Q F h g x1) : Sv D (f + 1) mX8_need [.ref (ad D 115), .int x1] F h g Q := Cl.ofV (by decide) (Nat.le_of_ble_eq_true rfl) rfl (bX8_need_0 hF x1 H)
theorem dX8_called_0 : decode cX8_called 0 = .ok (.aload_n 0, 1) := by decide +kernel
theorem dX8_called_1 : decode cX8_called 1 = .ok (.getfield 456, 3) := by decide +kernel
theorem dX8_called_4 : decode cX8_called 4 = .ok (.sipush 1500, 3) := by decide +kernel
theorem dX8_called_7 : decode cX8_called 7 = .ok (.if_icmp .ne 9, 3) := by decide +kernel
theorem dX8_called_10 : decode cX8_called 10 = .ok (.aload_n 0, 1) := by decide +kernel
theorem dX8_called_11 : decode cX8_called 11 = .ok (.iconst 5, 1) := by decide +kernel
theorem dX8_called_12 : decode cX8_called 12 = .ok (.putfield 408, 3) := by decide +kernel
theorem dX8_called_15 : decode cX8_called 15 = .ok (.return_, 1) := by decide +kernel
theorem dX8_called_16 : decode cX8_called 16 = .ok (.aload_n 0, 1) := by decide +kernel
theorem dX8_called_17 : decode cX8_called 17 = .ok (.dup, 1) := by decide +kernel
theorem dX8_called_18 : decode cX8_called 18 = .ok (.getfield 456, 3) := by decide +kernel
theorem dX8_called_21 : decode cX8_called 21 = .ok (.iconst 1, 1) := by decide +kernel
theorem dX8_called_22 : decode cX8_called 22 = .ok (.iadd, 1) := by decide +kernel
theorem dX8_called_23 : decode cX8_called 23 = .ok (.putfield 456, 3) := by decide +kernel
theorem dX8_called_26 : decode cX8_called 26 = .ok (.aload_n 0, 1) := by decide +kernel
theorem dX8_called_27 : decode cX8_called 27 = .ok (.getfield 456, 3) := by decide +kernel
theorem dX8_called_30 : decode cX8_called 30 = .ok (.istore_n 3, 1) := by decide +kernel
theorem dX8_called_31 : decode cX8_called 31 = .ok (.iconst 0, 1) := by decide +kernel
theorem dX8_called_32 : decode cX8_called 32 = .ok (.istore 4, 2) := by decide +kernel
theorem dX8_called_34 : decode cX8_called 34 = .ok (.iload 4, 2) := by decide +kernel
theorem dX8_called_36 : decode cX8_called 36 = .ok (.aload_n 0, 1) := by decide +kernel
theorem dX8_called_37 : decode cX8_called 37 = .ok (.getfield 45, 3) := by decide +kernel
theorem dX8_called_40 : decode cX8_called 40 = .ok (.iload_n 1, 1) := by decide +kernel
theorem dX8_called_41 : decode cX8_called 41 = .ok (.iaload, 1) := by decide +kernel
theorem dX8_called_42 : decode cX8_called 42 = .ok (.if_icmp .ge 40, 3) := by decide +kernel
theorem dX8_called_45 : decode cX8_called 45 = .ok (.aload_n 0, 1) := by decide +kernel
theorem dX8_called_46 : decode cX8_called 46 = .ok (.getfield 136, 3) := by decide +kernel
theorem dX8_called_49 : decode cX8_called 49 = .ok (.bipush 16, 2) := by decide +kernel
theorem dX8_called_51 : decode cX8_called 51 = .ok (.iload_n 3, 1) := by decide +kernel
theorem dX8_called_52 : decode cX8_called 52 = .ok (.imul, 1) := by decide +kernel
theorem dX8_called_53 : decode cX8_called 53 = .ok (.iload 4, 2) := by decide +kernel
theorem dX8_called_55 : decode cX8_called 55 = .ok (.iadd, 1) := by decide +kernel
theorem dX8_called_56 : decode cX8_called 56 = .ok (.aload_n 0, 1) := by decide +kernel
theorem dX8_called_57 : decode cX8_called 57 = .ok (.aload_n 0, 1) := by decide +kernel
theorem dX8_called_58 : decode cX8_called 58 = .ok (.getfield 60, 3) := by decide +kernel
theorem dX8_called_61 : decode cX8_called 61 = .ok (.aload_n 0, 1) := by decide +kernel
theorem dX8_called_62 : decode cX8_called 62 = .ok (.getfield 42, 3) := by decide +kernel
theorem dX8_called_65 : decode cX8_called 65 = .ok (.iload_n 1, 1) := by decide +kernel
theorem dX8_called_66 : decode cX8_called 66 = .ok (.iaload, 1) := by decide +kernel
theorem dX8_called_67 : decode cX8_called 67 = .ok (.iload 4, 2) := by decide +kernel
theorem dX8_called_69 : decode cX8_called 69 = .ok (.iadd, 1) := by decide +kernel
theorem dX8_called_70 : decode cX8_called 70 = .ok (.iaload, 1) := by decide +kernel
theorem dX8_called_71 : decode cX8_called 71 = .ok (.iload_n 2, 1) := by decide +kernel
theorem dX8_called_72 : decode cX8_called 72 = .ok (.invokevirtual 447, 3) := by decide +kernel
theorem dX8_called_75 : decode cX8_called 75 = .ok (.iastore, 1) := by decide +kernel
theorem dX8_called_76 : decode cX8_called 76 = .ok (.iinc 4 1, 3) := by decide +kernel
theorem dX8_called_79 : decode cX8_called 79 = .ok (.goto (-45), 3) := by decide +kernel
theorem dX8_called_82 : decode cX8_called 82 = .ok (.aload_n 0, 1) := by decide +kernel
theorem dX8_called_83 : decode cX8_called 83 = .ok (.iconst 1, 1) := by decide +kernel
theorem dX8_called_84 : decode cX8_called 84 = .ok (.aload_n 0, 1) := by decide +kernel
theorem dX8_called_85 : decode cX8_called 85 = .ok (.getfield 30, 3) := by decide +kernel
theorem dX8_called_88 : decode cX8_called 88 = .ok (.aload_n 0, 1) := by decide +kernel
theorem dX8_called_89 : decode cX8_called 89 = .ok (.getfield 48, 3) := by decide +kernel
theorem dX8_called_92 : decode cX8_called 92 = .ok (.iload_n 1, 1) := by decide +kernel
theorem dX8_called_93 : decode cX8_called 93 = .ok (.iaload, 1) := by decide +kernel
theorem dX8_called_94 : decode cX8_called 94 = .ok (.iaload, 1) := by decide +kernel
theorem dX8_called_95 : decode cX8_called 95 = .ok (.iload_n 3, 1) := by decide +kernel
theorem dX8_called_96 : decode cX8_called 96 = .ok (.invokevirtual 322, 3) := by decide +kernel
theorem dX8_called_99 : decode cX8_called 99 = .ok (.return_, 1) := by decide +kernel
abbrev JX8_called_34 (D : DE) (f : Nat) (Q : HI → HL → Prop) (F : Frm) (h : HI) (g : HL) (x1 : Int32) (x2 : Int32) (x3 : Int32) (x4 : Int32) : Prop := vp_in x1 2002 ∧ (((h 126 (ix x1)) ≤ x4 → vp_in x1 2002 ∧ vp_in (h 127 (ix x1)) 24 ∧ Sv D f mX8_task [.ref (ad D 115), .int 1, .int (h 121 (ix (h 127 (ix x1)))), .int x3] F h g (fun h5 g6 => Q h5 g6)) ∧ (¬ (h 126 (ix x1)) ≤ x4 → vp_in x1 2002 ∧ vp_in ((h 125 (ix x1)) + x4) 2002 ∧ Si D f mX8_thing [.ref (ad D 115), .int (h 131 (ix ((h 125 (ix x1)) + x4))), .int x2] F h g (fun y11 h9 g10 => vp_in ((16 * x3) + x4) 24032 ∧ ∀ h13, h13 = up2 h9 156 (ix ((16 * x3) + x4)) y11 → ∀ y15 : Int32, y15 = x4 + 1 → V D mX8_called (f + 1) (qv F Q) 34 [(0, .ref (ad D 115)), (1, .int x1), (2, .int x2), (3, .int x3), (4, .int y15)] [] (F, h13, g10))))
theorem bX8_called_34 {D : DE} {f : Nat} {Q : HI → HL → Prop} {F : Frm} {h : HI} {g : HL} (hF : k_Fix F) (x1 : Int32) (x2 : Int32) (x3 : Int32) (x4 : Int32) (H : JX8_called_34 D f Q F h g x1 x2 x3 x4) : V D mX8_called (f + 1) (qv F Q) 34 [(0, .ref (ad D 115)), (1, .int x1), (2, .int x2), (3, .int x3), (4, .int x4)] [] (F, h, g) := by
  refine V_iload dX8_called_34 4 rfl ?_
  refine V_aload_n dX8_called_36 rfl 0 rfl ?_
  refine H_getr ck7 20 (by decide) (fs_115 hF) (by decide) rfl (fr_115_20 hF) q1478 dX8_called_37 ?_
  refine V_iload_n dX8_called_40 rfl 1 rfl ?_
  obtain ⟨i1, H⟩ := H
  refine H_iald (fs_126 hF) i1 dX8_called_41 ?_
  refine V_icmp_ge (tgt := 82) dX8_called_42 (by decide) (fun c2 => ?_) (fun c2 => ?_)
  · have H := H.1 c2
    refine V_aload_n dX8_called_82 rfl 0 rfl ?_
    refine V_iconst (v := 1) dX8_called_83 (by decide) ?_
    refine V_aload_n dX8_called_84 rfl 0 rfl ?_
    refine H_getr ck7 15 (by decide) (fs_115 hF) (by decide) rfl (fr_115_15 hF) q1473 dX8_called_85 ?_
    refine V_aload_n dX8_called_88 rfl 0 rfl ?_
    refine H_getr ck7 21 (by decide) (fs_115 hF) (by decide) rfl (fr_115_21 hF) q1479 dX8_called_89 ?_
    refine V_iload_n dX8_called_92 rfl 1 rfl ?_
    obtain ⟨i3, H⟩ := H
    refine H_iald (fs_127 hF) i3 dX8_called_93 ?_
    obtain ⟨i4, H⟩ := H
    refine H_iald (fs_121 hF) i4 dX8_called_94 ?_
    refine V_iload_n dX8_called_95 rfl 3 rfl ?_
    refine H_callv (av := [.ref (ad D 115), .int 1, .int (h 121 (ix (h 127 (ix x1)))), .int x3]) (rest := []) H mqX8_task q88 (by decide) (Nat.le_of_ble_eq_true rfl) (k_resV (ci := 7) (av := [.int 1, .int (h 121 (ix (h 127 (ix x1)))), .int x3]) (rest := []) (fs_115 hF) (by decide) rfl rfl q1834 q1836 qs51 q1837 mhX8_task mnX8_task dX8_called_96) (fun h5 g6 H => ?_)
    exact H_vret rfl dX8_called_99 H
  · have H := H.2 c2
    refine V_aload_n dX8_called_45 rfl 0 rfl ?_
    refine H_getr ck7 65 (by decide) (fs_115 hF) (by decide) rfl (fr_115_65 hF) q1523 dX8_called_46 ?_
    refine V_bipush (v := 16) dX8_called_49 (by decide) ?_
    refine V_iload_n dX8_called_51 rfl 3 rfl ?_
    refine V_imul dX8_called_52 ?_
    refine V_iload dX8_called_53 4 rfl ?_
    refine V_iadd dX8_called_55 ?_
    refine V_aload_n dX8_called_56 rfl 0 rfl ?_
    refine V_aload_n dX8_called_57 rfl 0 rfl ?_
    refine H_getr ck7 25 (by decide) (fs_115 hF) (by decide) rfl (fr_115_25 hF) q1483 dX8_called_58 ?_
    refine V_aload_n dX8_called_61 rfl 0 rfl ?_
    refine H_getr ck7 19 (by decide) (fs_115 hF) (by decide) rfl (fr_115_19 hF) q1477 dX8_called_62 ?_
    refine V_iload_n dX8_called_65 rfl 1 rfl ?_
    obtain ⟨i7, H⟩ := H
    refine H_iald (fs_125 hF) i7 dX8_called_66 ?_
    refine V_iload dX8_called_67 4 rfl ?_
    refine V_iadd dX8_called_69 ?_
    obtain ⟨i8, H⟩ := H
    refine H_iald (fs_131 hF) i8 dX8_called_70 ?_
    refine V_iload_n dX8_called_71 rfl 2 rfl ?_
    refine H_calli (av := [.ref (ad D 115), .int (h 131 (ix ((h 125 (ix x1)) + x4))), .int x2]) (rest := [.int ((16 * x3) + x4), .ref (ad D 156)]) H mqX8_thing q88 (by decide) (Nat.le_of_ble_eq_true rfl) (k_resV (ci := 7) (av := [.int (h 131 (ix ((h 125 (ix x1)) + x4))), .int x2]) (rest := [.int ((16 * x3) + x4), .ref (ad D 156)]) (fs_115 hF) (by decide) rfl rfl q1990 q1992 qs75 q1993 mhX8_thing mnX8_thing dX8_called_72) (fun y11 h9 g10 H => ?_)
    obtain ⟨i12, H⟩ := H
    refine H_iast (fs_156 hF) i12 dX8_called_75 (fun h13 e14 => ?_)
    have H := H h13 e14
    obtain ⟨y15, e16⟩ : ∃ y : Int32, y = x4 + 1 := ⟨_, rfl⟩
    have H := H y15 e16
    refine V_iinc (j := 4) (v := y15) (l1 := [(4, .int y15), (0, .ref (ad D 115)), (1, .int x1), (2, .int x2), (3, .int x3)]) dX8_called_76 rfl (by rw [e16]; rfl) (by decide) rfl ?_
    refine V_goto (tgt := 34) dX8_called_79 (by decide) ?_
    refine V.sub [1, 2, 3, 4, 0] rfl ?_
    exact H
abbrev JX8_called_0 (D : DE) (f : Nat) (Q : HI → HL → Prop) (F : Frm) (h : HI) (g : HL) (x1 : Int32) (x2 : Int32) : Prop := ((¬ (h 115 69) = 1500 → ∀ h2, h2 = up2 h 115 69 ((h 115 69) + 1) → ∀ y4 : Int32, y4 = h2 115 69 → V D mX8_called (f + 1) (qv F Q) 34 [(0, .ref (ad D 115)), (1, .int x1), (2, .int x2), (3, .int y4), (4, .int 0)] [] (F, h2, g)) ∧ ((h 115 69) = 1500 → ∀ h6, h6 = up2 h 115 74 5 → Q h6 g))
theorem bX8_called_0 {D : DE} {f : Nat} {Q : HI → HL → Prop} {F : Frm} {h : HI} {g : HL} (hF : k_Fix F) (x1 : Int32) (x2 : Int32) (H : JX8_called_0 D f Q F h g x1 x2) : V D mX8_called (f + 1) (qv F Q) 0 [(0, .ref (ad D 115)), (1, .int x1), (2, .int x2)] [] (F, h, g) := by
  refine V_aload_n dX8_called_0 rfl 0 rfl ?_
  refine H_geti ck7 69 (by decide) (fs_115 hF) (by decide) rfl q1527 dX8_called_1 ?_
  refine V_sipush (v := 1500) dX8_called_4 (by decide) ?_
  refine V_icmp_ne (tgt := 16) dX8_called_7 (by decide) (fun c1 => ?_) (fun c1 => ?_)
  · have H := H.1 c1
    refine V_aload_n dX8_called_16 rfl 0 rfl ?_
    refine V_dup dX8_called_17 rfl ?_
    refine H_geti ck7 69 (by decide) (fs_115 hF) (by decide) rfl q1527 dX8_called_18 ?_
    refine V_iconst (v := 1) dX8_called_21 (by decide) ?_
    refine V_iadd dX8_called_22 ?_
    refine H_puti ck7 69 (by decide) (fs_115 hF) (by decide) rfl rfl q1527 dX8_called_23 (fun h2 e3 => ?_)
    have H := H h2 e3
    refine V_aload_n dX8_called_26 rfl 0 rfl ?_
    refine H_geti ck7 69 (by decide) (fs_115 hF) (by decide) rfl q1527 dX8_called_27 ?_
    refine V_topi (fun y4 e5 => ?_)
    have H := H y4 e5
    refine V_istore_n (l1 := [(3, .int y4), (0, .ref (ad D 115)), (1, .int x1), (2, .int x2)]) dX8_called_30 rfl (by decide) rfl ?_
    refine V_iconst (v := 0) dX8_called_31 (by decide) ?_
    refine V_istore (l1 := [(4, .int 0), (3, .int y4), (0, .ref (ad D 115)), (1, .int x1), (2, .int x2)]) dX8_called_32 (by decide) rfl ?_
    refine V.sub [2, 3, 4, 1, 0] rfl ?_
    exact H
  · have H := H.2 c1
    refine V_aload_n dX8_called_10 rfl 0 rfl ?_
    refine V_iconst (v := 5) dX8_called_11 (by decide) ?_
    refine H_puti ck7 74 (by decide) (fs_115 hF) (by decide) rfl rfl q1532 dX8_called_12 (fun h6 e7 => ?_)
    have H := H h6 e7
    exact H_vret rfl dX8_called_15 H
theorem wX8_called {D : DE} {f : Nat} {Q : HI → HL → Prop} {F : Frm} {h : HI} {g : HL} (hF : k_Fix F) (x1 : Int32) (x2 : Int32) (H : JX8_called_0 D f Q F h g x1 x2) : Sv D (f + 1) mX8_called [.ref (ad D 115), .int x1, .int x2] F h g Q := Cl.ofV (by decide) (Nat.le_of_ble_eq_true rfl) rfl (bX8_called_0 hF x1 x2 H)
theorem dX8_paired_0 : decode cX8_paired 0 = .ok (.aload_n 0, 1) := by decide +kernel
theorem dX8_paired_1 : decode cX8_paired 1 = .ok (.getfield 459, 3) := by decide +kernel
theorem dX8_paired_4 : decode cX8_paired 4 = .ok (.sipush 1500, 3) := by decide +kernel
theorem dX8_paired_7 : decode cX8_paired 7 = .ok (.if_icmp .ne 9, 3) := by decide +kernel
theorem dX8_paired_10 : decode cX8_paired 10 = .ok (.aload_n 0, 1) := by decide +kernel
theorem dX8_paired_11 : decode cX8_paired 11 = .ok (.iconst 5, 1) := by decide +kernel
theorem dX8_paired_12 : decode cX8_paired 12 = .ok (.putfield 408, 3) := by decide +kernel
theorem dX8_paired_15 : decode cX8_paired 15 = .ok (.return_, 1) := by decide +kernel
theorem dX8_paired_16 : decode cX8_paired 16 = .ok (.aload_n 0, 1) := by decide +kernel
theorem dX8_paired_17 : decode cX8_paired 17 = .ok (.getfield 459, 3) := by decide +kernel
theorem dX8_paired_20 : decode cX8_paired 20 = .ok (.istore_n 3, 1) := by decide +kernel
theorem dX8_paired_21 : decode cX8_paired 21 = .ok (.aload_n 0, 1) := by decide +kernel
theorem dX8_paired_22 : decode cX8_paired 22 = .ok (.dup, 1) := by decide +kernel
theorem dX8_paired_23 : decode cX8_paired 23 = .ok (.getfield 459, 3) := by decide +kernel
theorem dX8_paired_26 : decode cX8_paired 26 = .ok (.iconst 1, 1) := by decide +kernel
theorem dX8_paired_27 : decode cX8_paired 27 = .ok (.iadd, 1) := by decide +kernel
theorem dX8_paired_28 : decode cX8_paired 28 = .ok (.putfield 459, 3) := by decide +kernel
theorem dX8_paired_31 : decode cX8_paired 31 = .ok (.aload_n 0, 1) := by decide +kernel
theorem dX8_paired_32 : decode cX8_paired 32 = .ok (.getfield 130, 3) := by decide +kernel
theorem dX8_paired_35 : decode cX8_paired 35 = .ok (.iload_n 3, 1) := by decide +kernel
theorem dX8_paired_36 : decode cX8_paired 36 = .ok (.aload_n 0, 1) := by decide +kernel
theorem dX8_paired_37 : decode cX8_paired 37 = .ok (.aload_n 0, 1) := by decide +kernel
theorem dX8_paired_38 : decode cX8_paired 38 = .ok (.getfield 42, 3) := by decide +kernel
theorem dX8_paired_41 : decode cX8_paired 41 = .ok (.iload_n 1, 1) := by decide +kernel
theorem dX8_paired_42 : decode cX8_paired 42 = .ok (.iaload, 1) := by decide +kernel
theorem dX8_paired_43 : decode cX8_paired 43 = .ok (.iload_n 2, 1) := by decide +kernel
theorem dX8_paired_44 : decode cX8_paired 44 = .ok (.invokevirtual 447, 3) := by decide +kernel
theorem dX8_paired_47 : decode cX8_paired 47 = .ok (.iastore, 1) := by decide +kernel
theorem dX8_paired_48 : decode cX8_paired 48 = .ok (.aload_n 0, 1) := by decide +kernel
theorem dX8_paired_49 : decode cX8_paired 49 = .ok (.getfield 133, 3) := by decide +kernel
theorem dX8_paired_52 : decode cX8_paired 52 = .ok (.iload_n 3, 1) := by decide +kernel
theorem dX8_paired_53 : decode cX8_paired 53 = .ok (.aload_n 0, 1) := by decide +kernel
theorem dX8_paired_54 : decode cX8_paired 54 = .ok (.aload_n 0, 1) := by decide +kernel
theorem dX8_paired_55 : decode cX8_paired 55 = .ok (.getfield 45, 3) := by decide +kernel
theorem dX8_paired_58 : decode cX8_paired 58 = .ok (.iload_n 1, 1) := by decide +kernel
theorem dX8_paired_59 : decode cX8_paired 59 = .ok (.iaload, 1) := by decide +kernel
theorem dX8_paired_60 : decode cX8_paired 60 = .ok (.iload_n 2, 1) := by decide +kernel
theorem dX8_paired_61 : decode cX8_paired 61 = .ok (.invokevirtual 447, 3) := by decide +kernel
theorem dX8_paired_64 : decode cX8_paired 64 = .ok (.iastore, 1) := by decide +kernel
theorem dX8_paired_65 : decode cX8_paired 65 = .ok (.aload_n 0, 1) := by decide +kernel
theorem dX8_paired_66 : decode cX8_paired 66 = .ok (.iconst 1, 1) := by decide +kernel
theorem dX8_paired_67 : decode cX8_paired 67 = .ok (.iload_n 3, 1) := by decide +kernel
theorem dX8_paired_68 : decode cX8_paired 68 = .ok (.invokevirtual 420, 3) := by decide +kernel
theorem dX8_paired_71 : decode cX8_paired 71 = .ok (.return_, 1) := by decide +kernel
abbrev JX8_paired_0 (D : DE) (f : Nat) (Q : HI → HL → Prop) (F : Frm) (h : HI) (g : HL) (x1 : Int32) (x2 : Int32) : Prop := ((¬ (h 115 68) = 1500 → ∀ y2 : Int32, y2 = h 115 68 → ∀ h4, h4 = up2 h 115 68 ((h 115 68) + 1) → vp_in x1 2002 ∧ Si D f mX8_thing [.ref (ad D 115), .int (h4 125 (ix x1)), .int x2] F h4 g (fun y9 h7 g8 => vp_in y2 1540 ∧ ∀ h11, h11 = up2 h7 154 (ix y2) y9 → vp_in x1 2002 ∧ Si D f mX8_thing [.ref (ad D 115), .int (h11 126 (ix x1)), .int x2] F h11 g8 (fun y16 h14 g15 => vp_in y2 1540 ∧ ∀ h18, h18 = up2 h14 155 (ix y2) y16 → Sv D f mX8_gives [.ref (ad D 115), .int 1, .int y2] F h18 g15 (fun h20 g21 => Q h20 g21)))) ∧ ((h 115 68) = 1500 → ∀ h22, h22 = up2 h 115 74 5 → Q h22 g))
theorem bX8_paired_0 {D : DE} {f : Nat} {Q : HI → HL → Prop} {F : Frm} {h : HI} {g : HL} (hF : k_Fix F) (x1 : Int32) (x2 : Int32) (H : JX8_paired_0 D f Q F h g x1 x2) : V D mX8_paired (f + 1) (qv F Q) 0 [(0, .ref (ad D 115)), (1, .int x1), (2, .int x2)] [] (F, h, g) := by
  refine V_aload_n dX8_paired_0 rfl 0 rfl ?_
  refine H_geti ck7 68 (by decide) (fs_115 hF) (by decide) rfl q1526 dX8_paired_1 ?_
  refine V_sipush (v := 1500) dX8_paired_4 (by decide) ?_
  refine V_icmp_ne (tgt := 16) dX8_paired_7 (by decide) (fun c1 => ?_) (fun c1 => ?_)
  · have H := H.1 c1
    refine V_aload_n dX8_paired_16 rfl 0 rfl ?_
    refine H_geti ck7 68 (by decide) (fs_115 hF) (by decide) rfl q1526 dX8_paired_17 ?_
    refine V_topi (fun y2 e3 => ?_)
    have H := H y2 e3
    refine V_istore_n (l1 := [(3, .int y2), (0, .ref (ad D 115)), (1, .int x1), (2, .int x2)]) dX8_paired_20 rfl (by decide) rfl ?_
    refine V_aload_n dX8_paired_21 rfl 1 rfl ?_
    refine V_dup dX8_paired_22 rfl ?_
    refine H_geti ck7 68 (by decide) (fs_115 hF) (by decide) rfl q1526 dX8_paired_23 ?_
    refine V_iconst (v := 1) dX8_paired_26 (by decide) ?_
    refine V_iadd dX8_paired_27 ?_
    refine H_puti ck7 68 (by decide) (fs_115 hF) (by decide) rfl rfl q1526 dX8_paired_28 (fun h4 e5 => ?_)
    have H := H h4 e5
    refine V_aload_n dX8_paired_31 rfl 1 rfl ?_
    refine H_getr ck7 63 (by decide) (fs_115 hF) (by decide) rfl (fr_115_63 hF) q1521 dX8_paired_32 ?_
    refine V_iload_n dX8_paired_35 rfl 0 rfl ?_
    refine V_aload_n dX8_paired_36 rfl 1 rfl ?_
    refine V_aload_n dX8_paired_37 rfl 1 rfl ?_
    refine H_getr ck7 19 (by decide) (fs_115 hF) (by decide) rfl (fr_115_19 hF) q1477 dX8_paired_38 ?_
    refine V_iload_n dX8_paired_41 rfl 2 rfl ?_
    obtain ⟨i6, H⟩ := H
    refine H_iald (fs_125 hF) i6 dX8_paired_42 ?_
    refine V_iload_n dX8_paired_43 rfl 3 rfl ?_
    refine H_calli (av := [.ref (ad D 115), .int (h4 125 (ix x1)), .int x2]) (rest := [.int y2, .ref (ad D 154)]) H mqX8_thing q88 (by decide) (Nat.le_of_ble_eq_true rfl) (k_resV (ci := 7) (av := [.int (h4 125 (ix x1)), .int x2]) (rest := [.int y2, .ref (ad D 154)]) (fs_115 hF) (by decide) rfl rfl q1990 q1992 qs75 q1993 mhX8_thing mnX8_thing dX8_paired_44) (fun y9 h7 g8 H => ?_)
    obtain ⟨i10, H⟩ := H
    refine H_iast (fs_154 hF) i10 dX8_paired_47 (fun h11 e12 => ?_)
    have H := H h11 e12
    refine V_aload_n dX8_paired_48 rfl 1 rfl ?_
    refine H_getr ck7 64 (by decide) (fs_115 hF) (by decide) rfl (fr_115_64 hF) q1522 dX8_paired_49 ?_
    refine V_iload_n dX8_paired_52 rfl 0 rfl ?_
    refine V_aload_n dX8_paired_53 rfl 1 rfl ?_
    refine V_aload_n dX8_paired_54 rfl 1 rfl ?_
    refine H_getr ck7 20 (by decide) (fs_115 hF) (by decide) rfl (fr_115_20 hF) q1478 dX8_paired_55 ?_
    refine V_iload_n dX8_paired_58 rfl 2 rfl ?_
    obtain ⟨i13, H⟩ := H
    refine H_iald (fs_126 hF) i13 dX8_paired_59 ?_
    refine V_iload_n dX8_paired_60 rfl 3 rfl ?_
    refine H_calli (av := [.ref (ad D 115), .int (h11 126 (ix x1)), .int x2]) (rest := [.int y2, .ref (ad D 155)]) H mqX8_thing q88 (by decide) (Nat.le_of_ble_eq_true rfl) (k_resV (ci := 7) (av := [.int (h11 126 (ix x1)), .int x2]) (rest := [.int y2, .ref (ad D 155)]) (fs_115 hF) (by decide) rfl rfl q1990 q1992 qs75 q1993 mhX8_thing mnX8_thing dX8_paired_61) (fun y16 h14 g15 H => ?_)
    obtain ⟨i17, H⟩ := H
    refine H_iast (fs_155 hF) i17 dX8_paired_64 (fun h18 e19 => ?_)
    have H := H h18 e19
    refine V_aload_n dX8_paired_65 rfl 1 rfl ?_
    refine V_iconst (v := 1) dX8_paired_66 (by decide) ?_
    refine V_iload_n dX8_paired_67 rfl 0 rfl ?_
    refine H_callv (av := [.ref (ad D 115), .int 1, .int y2]) (rest := []) H mqX8_gives q88 (by decide) (Nat.le_of_ble_eq_true rfl) (k_resV (ci := 7) (av := [.int 1, .int y2]) (rest := []) (fs_115 hF) (by decide) rfl rfl q1982 q1984 qs73 q1985 mhX8_gives mnX8_gives dX8_paired_68) (fun h20 g21 H => ?_)
    exact H_vret rfl dX8_paired_71 H
  · have H := H.2 c1
    refine V_aload_n dX8_paired_10 rfl 0 rfl ?_
    refine V_iconst (v := 5) dX8_paired_11 (by decide) ?_
    refine H_puti ck7 74 (by decide) (fs_115 hF) (by decide) rfl rfl q1532 dX8_paired_12 (fun h22 e23 => ?_)
    have H := H h22 e23
    exact H_vret rfl dX8_paired_15 H
theorem wX8_paired {D : DE} {f : Nat} {Q : HI → HL → Prop} {F : Frm} {h : HI} {g : HL} (hF : k_Fix F) (x1 : Int32) (x2 : Int32) (H : JX8_paired_0 D f Q F h g x1 x2) : Sv D (f + 1) mX8_paired [.ref (ad D 115), .int x1, .int x2] F h g Q := Cl.ofV (by decide) (Nat.le_of_ble_eq_true rfl) rfl (bX8_paired_0 hF x1 x2 H)
theorem dX8_work_0 : decode cX8_work 0 = .ok (.aload_n 0, 1) := by decide +kernel
theorem dX8_work_1 : decode cX8_work 1 = .ok (.aload_n 0, 1) := by decide +kernel
theorem dX8_work_2 : decode cX8_work 2 = .ok (.getfield 438, 3) := by decide +kernel
theorem dX8_work_5 : decode cX8_work 5 = .ok (.aload_n 0, 1) := by decide +kernel
theorem dX8_work_6 : decode cX8_work 6 = .ok (.getfield 441, 3) := by decide +kernel
theorem dX8_work_9 : decode cX8_work 9 = .ok (.if_icmp .ne 7, 3) := by decide +kernel
theorem dX8_work_12 : decode cX8_work 12 = .ok (.iconst 3, 1) := by decide +kernel
theorem dX8_work_13 : decode cX8_work 13 = .ok (.goto 18, 3) := by decide +kernel
theorem dX8_work_16 : decode cX8_work 16 = .ok (.aload_n 0, 1) := by decide +kernel
theorem dX8_work_17 : decode cX8_work 17 = .ok (.getfield 426, 3) := by decide +kernel
theorem dX8_work_20 : decode cX8_work 20 = .ok (.sipush 150, 3) := by decide +kernel
theorem dX8_work_23 : decode cX8_work 23 = .ok (.if_icmp .ne 7, 3) := by decide +kernel
theorem dX8_work_26 : decode cX8_work 26 = .ok (.iconst 4, 1) := by decide +kernel
theorem dX8_work_27 : decode cX8_work 27 = .ok (.goto 4, 3) := by decide +kernel
theorem dX8_work_30 : decode cX8_work 30 = .ok (.iconst 0, 1) := by decide +kernel
theorem dX8_work_31 : decode cX8_work 31 = .ok (.putfield 408, 3) := by decide +kernel
theorem dX8_work_34 : decode cX8_work 34 = .ok (.aload_n 0, 1) := by decide +kernel
theorem dX8_work_35 : decode cX8_work 35 = .ok (.getfield 408, 3) := by decide +kernel
theorem dX8_work_38 : decode cX8_work 38 = .ok (.ifCond .eq 4, 3) := by decide +kernel
theorem dX8_work_41 : decode cX8_work 41 = .ok (.return_, 1) := by decide +kernel
theorem dX8_work_42 : decode cX8_work 42 = .ok (.aload_n 0, 1) := by decide +kernel
theorem dX8_work_43 : decode cX8_work 43 = .ok (.dup, 1) := by decide +kernel
theorem dX8_work_44 : decode cX8_work 44 = .ok (.getfield 438, 3) := by decide +kernel
theorem dX8_work_47 : decode cX8_work 47 = .ok (.iconst 1, 1) := by decide +kernel
theorem dX8_work_48 : decode cX8_work 48 = .ok (.iadd, 1) := by decide +kernel
theorem dX8_work_49 : decode cX8_work 49 = .ok (.putfield 438, 3) := by decide +kernel
theorem dX8_work_52 : decode cX8_work 52 = .ok (.aload_n 0, 1) := by decide +kernel
theorem dX8_work_53 : decode cX8_work 53 = .ok (.dup, 1) := by decide +kernel
theorem dX8_work_54 : decode cX8_work 54 = .ok (.getfield 426, 3) := by decide +kernel
theorem dX8_work_57 : decode cX8_work 57 = .ok (.iconst 1, 1) := by decide +kernel
theorem dX8_work_58 : decode cX8_work 58 = .ok (.iadd, 1) := by decide +kernel
theorem dX8_work_59 : decode cX8_work 59 = .ok (.putfield 426, 3) := by decide +kernel
theorem dX8_work_62 : decode cX8_work 62 = .ok (.aload_n 0, 1) := by decide +kernel
theorem dX8_work_63 : decode cX8_work 63 = .ok (.aload_n 0, 1) := by decide +kernel
theorem dX8_work_64 : decode cX8_work 64 = .ok (.getfield 426, 3) := by decide +kernel
theorem dX8_work_67 : decode cX8_work 67 = .ok (.aload_n 0, 1) := by decide +kernel
theorem dX8_work_68 : decode cX8_work 68 = .ok (.getfield 444, 3) := by decide +kernel
theorem dX8_work_71 : decode cX8_work 71 = .ok (.if_icmp .le 10, 3) := by decide +kernel
theorem dX8_work_74 : decode cX8_work 74 = .ok (.aload_n 0, 1) := by decide +kernel
theorem dX8_work_75 : decode cX8_work 75 = .ok (.getfield 426, 3) := by decide +kernel
theorem dX8_work_78 : decode cX8_work 78 = .ok (.goto 7, 3) := by decide +kernel
theorem dX8_work_81 : decode cX8_work 81 = .ok (.aload_n 0, 1) := by decide +kernel
theorem dX8_work_82 : decode cX8_work 82 = .ok (.getfield 444, 3) := by decide +kernel
theorem dX8_work_85 : decode cX8_work 85 = .ok (.putfield 444, 3) := by decide +kernel
theorem dX8_work_88 : decode cX8_work 88 = .ok (.aload_n 0, 1) := by decide +kernel
theorem dX8_work_89 : decode cX8_work 89 = .ok (.iconst 2, 1) := by decide +kernel
theorem dX8_work_90 : decode cX8_work 90 = .ok (.iconst 0, 1) := by decide +kernel
theorem dX8_work_91 : decode cX8_work 91 = .ok (.iconst 0, 1) := by decide +kernel
theorem dX8_work_92 : decode cX8_work 92 = .ok (.invokevirtual 322, 3) := by decide +kernel
theorem dX8_work_95 : decode cX8_work 95 = .ok (.aload_n 0, 1) := by decide +kernel
theorem dX8_work_96 : decode cX8_work 96 = .ok (.getfield 39, 3) := by decide +kernel
theorem dX8_work_99 : decode cX8_work 99 = .ok (.iload_n 1, 1) := by decide +kernel
theorem dX8_work_100 : decode cX8_work 100 = .ok (.iaload, 1) := by decide +kernel
theorem dX8_work_101 : decode cX8_work 101 = .ok (.tableswitch 235 1 8 #[92, 138, 161, 203, 47, 61, 69, 226], 47) := by decide +kernel
theorem dX8_work_148 : decode cX8_work 148 = .ok (.aload_n 0, 1) := by decide +kernel
theorem dX8_work_149 : decode cX8_work 149 = .ok (.iconst 0, 1) := by decide +kernel
theorem dX8_work_150 : decode cX8_work 150 = .ok (.aload_n 0, 1) := by decide +kernel
theorem dX8_work_151 : decode cX8_work 151 = .ok (.getfield 42, 3) := by decide +kernel
theorem dX8_work_154 : decode cX8_work 154 = .ok (.iload_n 1, 1) := by decide +kernel
theorem dX8_work_155 : decode cX8_work 155 = .ok (.iaload, 1) := by decide +kernel
theorem dX8_work_156 : decode cX8_work 156 = .ok (.invokevirtual 420, 3) := by decide +kernel
theorem dX8_work_159 : decode cX8_work 159 = .ok (.goto 183, 3) := by decide +kernel
theorem dX8_work_162 : decode cX8_work 162 = .ok (.aload_n 0, 1) := by decide +kernel
theorem dX8_work_163 : decode cX8_work 163 = .ok (.iconst 2, 1) := by decide +kernel
theorem dX8_work_164 : decode cX8_work 164 = .ok (.putfield 408, 3) := by decide +kernel
theorem dX8_work_167 : decode cX8_work 167 = .ok (.goto 175, 3) := by decide +kernel
theorem dX8_work_170 : decode cX8_work 170 = .ok (.aload_n 0, 1) := by decide +kernel
theorem dX8_work_171 : decode cX8_work 171 = .ok (.aload_n 0, 1) := by decide +kernel
theorem dX8_work_172 : decode cX8_work 172 = .ok (.getfield 136, 3) := by decide +kernel
theorem dX8_work_175 : decode cX8_work 175 = .ok (.bipush 16, 2) := by decide +kernel
theorem dX8_work_177 : decode cX8_work 177 = .ok (.iload_n 2, 1) := by decide +kernel
theorem dX8_work_178 : decode cX8_work 178 = .ok (.imul, 1) := by decide +kernel
theorem dX8_work_179 : decode cX8_work 179 = .ok (.aload_n 0, 1) := by decide +kernel
theorem dX8_work_180 : decode cX8_work 180 = .ok (.getfield 42, 3) := by decide +kernel
theorem dX8_work_183 : decode cX8_work 183 = .ok (.iload_n 1, 1) := by decide +kernel
theorem dX8_work_184 : decode cX8_work 184 = .ok (.iaload, 1) := by decide +kernel
theorem dX8_work_185 : decode cX8_work 185 = .ok (.iadd, 1) := by decide +kernel
theorem dX8_work_186 : decode cX8_work 186 = .ok (.iaload, 1) := by decide +kernel
theorem dX8_work_187 : decode cX8_work 187 = .ok (.invokevirtual 432, 3) := by decide +kernel
theorem dX8_work_190 : decode cX8_work 190 = .ok (.goto 152, 3) := by decide +kernel
theorem dX8_work_193 : decode cX8_work 193 = .ok (.aload_n 0, 1) := by decide +kernel
theorem dX8_work_194 : decode cX8_work 194 = .ok (.iconst 5, 1) := by decide +kernel
theorem dX8_work_195 : decode cX8_work 195 = .ok (.aload_n 0, 1) := by decide +kernel
theorem dX8_work_196 : decode cX8_work 196 = .ok (.getfield 48, 3) := by decide +kernel
theorem dX8_work_199 : decode cX8_work 199 = .ok (.iload_n 1, 1) := by decide +kernel
theorem dX8_work_200 : decode cX8_work 200 = .ok (.iaload, 1) := by decide +kernel
theorem dX8_work_201 : decode cX8_work 201 = .ok (.iconst 0, 1) := by decide +kernel
theorem dX8_work_202 : decode cX8_work 202 = .ok (.invokevirtual 322, 3) := by decide +kernel
theorem dX8_work_205 : decode cX8_work 205 = .ok (.aload_n 0, 1) := by decide +kernel
theorem dX8_work_206 : decode cX8_work 206 = .ok (.iconst 1, 1) := by decide +kernel
theorem dX8_work_207 : decode cX8_work 207 = .ok (.aload_n 0, 1) := by decide +kernel
theorem dX8_work_208 : decode cX8_work 208 = .ok (.getfield 45, 3) := by decide +kernel
theorem dX8_work_211 : decode cX8_work 211 = .ok (.iload_n 1, 1) := by decide +kernel
theorem dX8_work_212 : decode cX8_work 212 = .ok (.iaload, 1) := by decide +kernel
theorem dX8_work_213 : decode cX8_work 213 = .ok (.iload_n 2, 1) := by decide +kernel
theorem dX8_work_214 : decode cX8_work 214 = .ok (.invokevirtual 322, 3) := by decide +kernel
theorem dX8_work_217 : decode cX8_work 217 = .ok (.aload_n 0, 1) := by decide +kernel
theorem dX8_work_218 : decode cX8_work 218 = .ok (.iconst 4, 1) := by decide +kernel
theorem dX8_work_219 : decode cX8_work 219 = .ok (.iconst 0, 1) := by decide +kernel
theorem dX8_work_220 : decode cX8_work 220 = .ok (.iconst 0, 1) := by decide +kernel
theorem dX8_work_221 : decode cX8_work 221 = .ok (.invokevirtual 322, 3) := by decide +kernel
theorem dX8_work_224 : decode cX8_work 224 = .ok (.aload_n 0, 1) := by decide +kernel
theorem dX8_work_225 : decode cX8_work 225 = .ok (.iconst 1, 1) := by decide +kernel
theorem dX8_work_226 : decode cX8_work 226 = .ok (.aload_n 0, 1) := by decide +kernel
theorem dX8_work_227 : decode cX8_work 227 = .ok (.getfield 42, 3) := by decide +kernel
theorem dX8_work_230 : decode cX8_work 230 = .ok (.iload_n 1, 1) := by decide +kernel
theorem dX8_work_231 : decode cX8_work 231 = .ok (.iaload, 1) := by decide +kernel
theorem dX8_work_232 : decode cX8_work 232 = .ok (.iload_n 2, 1) := by decide +kernel
theorem dX8_work_233 : decode cX8_work 233 = .ok (.invokevirtual 322, 3) := by decide +kernel
theorem dX8_work_236 : decode cX8_work 236 = .ok (.goto 106, 3) := by decide +kernel
theorem dX8_work_239 : decode cX8_work 239 = .ok (.aload_n 0, 1) := by decide +kernel
theorem dX8_work_240 : decode cX8_work 240 = .ok (.bipush 6, 2) := by decide +kernel
theorem dX8_work_242 : decode cX8_work 242 = .ok (.iload_n 1, 1) := by decide +kernel
theorem dX8_work_243 : decode cX8_work 243 = .ok (.iload_n 2, 1) := by decide +kernel
theorem dX8_work_244 : decode cX8_work 244 = .ok (.invokevirtual 322, 3) := by decide +kernel
theorem dX8_work_247 : decode cX8_work 247 = .ok (.aload_n 0, 1) := by decide +kernel
theorem dX8_work_248 : decode cX8_work 248 = .ok (.iconst 1, 1) := by decide +kernel
theorem dX8_work_249 : decode cX8_work 249 = .ok (.aload_n 0, 1) := by decide +kernel
theorem dX8_work_250 : decode cX8_work 250 = .ok (.getfield 42, 3) := by decide +kernel
theorem dX8_work_253 : decode cX8_work 253 = .ok (.iload_n 1, 1) := by decide +kernel
theorem dX8_work_254 : decode cX8_work 254 = .ok (.iaload, 1) := by decide +kernel
theorem dX8_work_255 : decode cX8_work 255 = .ok (.iload_n 2, 1) := by decide +kernel
theorem dX8_work_256 : decode cX8_work 256 = .ok (.invokevirtual 322, 3) := by decide +kernel
theorem dX8_work_259 : decode cX8_work 259 = .ok (.goto 83, 3) := by decide +kernel
theorem dX8_work_262 : decode cX8_work 262 = .ok (.aload_n 0, 1) := by decide +kernel
theorem dX8_work_263 : decode cX8_work 263 = .ok (.getfield 136, 3) := by decide +kernel
theorem dX8_work_266 : decode cX8_work 266 = .ok (.bipush 16, 2) := by decide +kernel
theorem dX8_work_268 : decode cX8_work 268 = .ok (.iload_n 2, 1) := by decide +kernel
theorem dX8_work_269 : decode cX8_work 269 = .ok (.imul, 1) := by decide +kernel
theorem dX8_work_270 : decode cX8_work 270 = .ok (.aload_n 0, 1) := by decide +kernel
theorem dX8_work_271 : decode cX8_work 271 = .ok (.getfield 48, 3) := by decide +kernel
theorem dX8_work_274 : decode cX8_work 274 = .ok (.iload_n 1, 1) := by decide +kernel
theorem dX8_work_275 : decode cX8_work 275 = .ok (.iaload, 1) := by decide +kernel
theorem dX8_work_276 : decode cX8_work 276 = .ok (.iadd, 1) := by decide +kernel
theorem dX8_work_277 : decode cX8_work 277 = .ok (.aload_n 0, 1) := by decide +kernel
theorem dX8_work_278 : decode cX8_work 278 = .ok (.aload_n 0, 1) := by decide +kernel
theorem dX8_work_279 : decode cX8_work 279 = .ok (.getfield 42, 3) := by decide +kernel
theorem dX8_work_282 : decode cX8_work 282 = .ok (.iload_n 1, 1) := by decide +kernel
theorem dX8_work_283 : decode cX8_work 283 = .ok (.iaload, 1) := by decide +kernel
theorem dX8_work_284 : decode cX8_work 284 = .ok (.iload_n 2, 1) := by decide +kernel
theorem dX8_work_285 : decode cX8_work 285 = .ok (.invokevirtual 447, 3) := by decide +kernel
theorem dX8_work_288 : decode cX8_work 288 = .ok (.iastore, 1) := by decide +kernel
theorem dX8_work_289 : decode cX8_work 289 = .ok (.aload_n 0, 1) := by decide +kernel
theorem dX8_work_290 : decode cX8_work 290 = .ok (.iconst 1, 1) := by decide +kernel
theorem dX8_work_291 : decode cX8_work 291 = .ok (.aload_n 0, 1) := by decide +kernel
theorem dX8_work_292 : decode cX8_work 292 = .ok (.getfield 45, 3) := by decide +kernel
theorem dX8_work_295 : decode cX8_work 295 = .ok (.iload_n 1, 1) := by decide +kernel
theorem dX8_work_296 : decode cX8_work 296 = .ok (.iaload, 1) := by decide +kernel
theorem dX8_work_297 : decode cX8_work 297 = .ok (.iload_n 2, 1) := by decide +kernel
theorem dX8_work_298 : decode cX8_work 298 = .ok (.invokevirtual 322, 3) := by decide +kernel
theorem dX8_work_301 : decode cX8_work 301 = .ok (.goto 41, 3) := by decide +kernel
theorem dX8_work_304 : decode cX8_work 304 = .ok (.aload_n 0, 1) := by decide +kernel
theorem dX8_work_305 : decode cX8_work 305 = .ok (.bipush 7, 2) := by decide +kernel
theorem dX8_work_307 : decode cX8_work 307 = .ok (.iload_n 1, 1) := by decide +kernel
theorem dX8_work_308 : decode cX8_work 308 = .ok (.iload_n 2, 1) := by decide +kernel
theorem dX8_work_309 : decode cX8_work 309 = .ok (.invokevirtual 322, 3) := by decide +kernel
theorem dX8_work_312 : decode cX8_work 312 = .ok (.aload_n 0, 1) := by decide +kernel
theorem dX8_work_313 : decode cX8_work 313 = .ok (.iconst 1, 1) := by decide +kernel
theorem dX8_work_314 : decode cX8_work 314 = .ok (.aload_n 0, 1) := by decide +kernel
theorem dX8_work_315 : decode cX8_work 315 = .ok (.getfield 42, 3) := by decide +kernel
theorem dX8_work_318 : decode cX8_work 318 = .ok (.iload_n 1, 1) := by decide +kernel
theorem dX8_work_319 : decode cX8_work 319 = .ok (.iaload, 1) := by decide +kernel
theorem dX8_work_320 : decode cX8_work 320 = .ok (.iload_n 2, 1) := by decide +kernel
theorem dX8_work_321 : decode cX8_work 321 = .ok (.invokevirtual 322, 3) := by decide +kernel
theorem dX8_work_324 : decode cX8_work 324 = .ok (.goto 18, 3) := by decide +kernel
theorem dX8_work_327 : decode cX8_work 327 = .ok (.aload_n 0, 1) := by decide +kernel
theorem dX8_work_328 : decode cX8_work 328 = .ok (.iload_n 1, 1) := by decide +kernel
theorem dX8_work_329 : decode cX8_work 329 = .ok (.iload_n 2, 1) := by decide +kernel
theorem dX8_work_330 : decode cX8_work 330 = .ok (.invokevirtual 450, 3) := by decide +kernel
theorem dX8_work_333 : decode cX8_work 333 = .ok (.goto 9, 3) := by decide +kernel
theorem dX8_work_336 : decode cX8_work 336 = .ok (.aload_n 0, 1) := by decide +kernel
theorem dX8_work_337 : decode cX8_work 337 = .ok (.iload_n 1, 1) := by decide +kernel
theorem dX8_work_338 : decode cX8_work 338 = .ok (.iload_n 2, 1) := by decide +kernel
theorem dX8_work_339 : decode cX8_work 339 = .ok (.invokevirtual 453, 3) := by decide +kernel
theorem dX8_work_342 : decode cX8_work 342 = .ok (.return_, 1) := by decide +kernel
abbrev JX8_work_85 (D : DE) (f : Nat) (Q : HI → HL → Prop) (F : Frm) (h : HI) (g : HL) (x1 : Int32) (x2 : Int32) (s1 : Int32) : Prop := ∀ h1, h1 = up2 h 115 73 s1 → Sv D f mX8_task [.ref (ad D 115), .int 2, .int 0, .int 0] F h1 g (fun h3 g4 => vp_in x1 2002 ∧ ∀ y6 : Int32, y6 = h3 124 (ix x1) → ((y6.toInt < 1 ∨ 8 < y6.toInt → Sv D f mX8_paired [.ref (ad D 115), .int x1, .int x2] F h3 g4 (fun h9 g10 => Q h9 g10)) ∧ (y6 = 1 → vp_in x1 2002 ∧ Sv D f mX8_task [.ref (ad D 115), .int 5, .int (h3 127 (ix x1)), .int 0] F h3 g4 (fun h12 g13 => vp_in x1 2002 ∧ Sv D f mX8_task [.ref (ad D 115), .int 1, .int (h12 126 (ix x1)), .int x2] F h12 g13 (fun h15 g16 => Sv D f mX8_task [.ref (ad D 115), .int 4, .int 0, .int 0] F h15 g16 (fun h17 g18 => vp_in x1 2002 ∧ Sv D f mX8_task [.ref (ad D 115), .int 1, .int (h17 125 (ix x1)), .int x2] F h17 g18 (fun h20 g21 => Q h20 g21))))) ∧ (y6 = 2 → Sv D f mX8_task [.ref (ad D 115), .int 6, .int x1, .int x2] F h3 g4 (fun h22 g23 => vp_in x1 2002 ∧ Sv D f mX8_task [.ref (ad D 115), .int 1, .int (h22 125 (ix x1)), .int x2] F h22 g23 (fun h25 g26 => Q h25 g26))) ∧ (y6 = 3 → vp_in x1 2002 ∧ vp_in x1 2002 ∧ Si D f mX8_thing [.ref (ad D 115), .int (h3 125 (ix x1)), .int x2] F h3 g4 (fun y31 h29 g30 => vp_in ((16 * x2) + (h3 127 (ix x1))) 24032 ∧ ∀ h33, h33 = up2 h29 156 (ix ((16 * x2) + (h3 127 (ix x1)))) y31 → vp_in x1 2002 ∧ Sv D f mX8_task [.ref (ad D 115), .int 1, .int (h33 126 (ix x1)), .int x2] F h33 g30 (fun h36 g37 => Q h36 g37))) ∧ (y6 = 4 → Sv D f mX8_task [.ref (ad D 115), .int 7, .int x1, .int x2] F h3 g4 (fun h38 g39 => vp_in x1 2002 ∧ Sv D f mX8_task [.ref (ad D 115), .int 1, .int (h38 125 (ix x1)), .int x2] F h38 g39 (fun h41 g42 => Q h41 g42))) ∧ (y6 = 5 → vp_in x1 2002 ∧ Sv D f mX8_gives [.ref (ad D 115), .int 0, .int (h3 125 (ix x1))] F h3 g4 (fun h44 g45 => Q h44 g45)) ∧ (y6 = 6 → ∀ h46, h46 = up2 h3 115 74 2 → Q h46 g4) ∧ (y6 = 7 → vp_in x1 2002 ∧ vp_in ((16 * x2) + (h3 125 (ix x1))) 24032 ∧ Sv D f mX8_need [.ref (ad D 115), .int (h3 156 (ix ((16 * x2) + (h3 125 (ix x1)))))] F h3 g4 (fun h50 g51 => Q h50 g51)) ∧ (y6 = 8 → Sv D f mX8_called [.ref (ad D 115), .int x1, .int x2] F h3 g4 (fun h52 g53 => Q h52 g53))))
theorem bX8_work_85 {D : DE} {f : Nat} {Q : HI → HL → Prop} {F : Frm} {h : HI} {g : HL} (hF : k_Fix F) (x1 : Int32) (x2 : Int32) (s1 : Int32) (H : JX8_work_85 D f Q F h g x1 x2 s1) : V D mX8_work (f + 1) (qv F Q) 85 [(0, .ref (ad D 115)), (1, .int x1), (2, .int x2)] [.int s1, .ref (ad D 115)] (F, h, g) := by
  refine H_puti ck7 73 (by decide) (fs_115 hF) (by decide) rfl rfl q1531 dX8_work_85 (fun h1 e2 => ?_)
  have H := H h1 e2
  refine V_aload_n dX8_work_88 rfl 0 rfl ?_
  refine V_iconst (v := 2) dX8_work_89 (by decide) ?_
  refine V_iconst (v := 0) dX8_work_90 (by decide) ?_
  refine V_iconst (v := 0) dX8_work_91 (by decide) ?_
  refine H_callv (av := [.ref (ad D 115), .int 2, .int 0, .int 0]) (rest := []) H mqX8_task q88 (by decide) (Nat.le_of_ble_eq_true rfl) (k_resV (ci := 7) (av := [.int 2, .int 0, .int 0]) (rest := []) (fs_115 hF) (by decide) rfl rfl q1834 q1836 qs51 q1837 mhX8_task mnX8_task dX8_work_92) (fun h3 g4 H => ?_)
  refine V_aload_n dX8_work_95 rfl 0 rfl ?_
  refine H_getr ck7 18 (by decide) (fs_115 hF) (by decide) rfl (fr_115_18 hF) q1476 dX8_work_96 ?_
  refine V_iload_n dX8_work_99 rfl 1 rfl ?_
  obtain ⟨i5, H⟩ := H
  refine H_iald (fs_124 hF) i5 dX8_work_100 ?_
  refine V_topi (fun y6 e7 => ?_)
  have H := H y6 e7
  by_cases c8 : y6.toInt < 1 ∨ 8 < y6.toInt
  · have H := H.1 c8
    refine V_tableOut (tgt := 336) dX8_work_101 c8 (by decide) ?_
    refine V_aload_n dX8_work_336 rfl 0 rfl ?_
    refine V_iload_n dX8_work_337 rfl 1 rfl ?_
    refine V_iload_n dX8_work_338 rfl 2 rfl ?_
    refine H_callv (av := [.ref (ad D 115), .int x1, .int x2]) (rest := []) H mqX8_paired q88 (by decide) (Nat.le_of_ble_eq_true rfl) (k_resV (ci := 7) (av := [.int x1, .int x2]) (rest := []) (fs_115 hF) (by decide) rfl rfl q1998 q2000 qs77 q2001 mhX8_paired mnX8_paired dX8_work_339) (fun h9 g10 H => ?_)
    exact H_vret rfl dX8_work_342 H
  · rcases tsw_1_8 c8 with c8 | c8 | c8 | c8 | c8 | c8 | c8 | c8
    · have H := H.2.1 c8
      refine V_tableIn (tgt := 193) dX8_work_101 (by rw [c8]; decide) (by rw [c8]; decide) (by rw [c8]; rfl) (by decide) ?_
      refine V_aload_n dX8_work_193 rfl 0 rfl ?_
      refine V_iconst (v := 5) dX8_work_194 (by decide) ?_
      refine V_aload_n dX8_work_195 rfl 0 rfl ?_
      refine H_getr ck7 21 (by decide) (fs_115 hF) (by decide) rfl (fr_115_21 hF) q1479 dX8_work_196 ?_
      refine V_iload_n dX8_work_199 rfl 1 rfl ?_
      obtain ⟨i11, H⟩ := H
      refine H_iald (fs_127 hF) i11 dX8_work_200 ?_
      refine V_iconst (v := 0) dX8_work_201 (by decide) ?_
      refine H_callv (av := [.ref (ad D 115), .int 5, .int (h3 127 (ix x1)), .int 0]) (rest := []) H mqX8_task q88 (by decide) (Nat.le_of_ble_eq_true rfl) (k_resV (ci := 7) (av := [.int 5, .int (h3 127 (ix x1)), .int 0]) (rest := []) (fs_115 hF) (by decide) rfl rfl q1834 q1836 qs51 q1837 mhX8_task mnX8_task dX8_work_202) (fun h12 g13 H => ?_)
      refine V_aload_n dX8_work_205 rfl 0 rfl ?_
      refine V_iconst (v := 1) dX8_work_206 (by decide) ?_
      refine V_aload_n dX8_work_207 rfl 0 rfl ?_
      refine H_getr ck7 20 (by decide) (fs_115 hF) (by decide) rfl (fr_115_20 hF) q1478 dX8_work_208 ?_
      refine V_iload_n dX8_work_211 rfl 1 rfl ?_
      obtain ⟨i14, H⟩ := H
      refine H_iald (fs_126 hF) i14 dX8_work_212 ?_
      refine V_iload_n dX8_work_213 rfl 2 rfl ?_
      refine H_callv (av := [.ref (ad D 115), .int 1, .int (h12 126 (ix x1)), .int x2]) (rest := []) H mqX8_task q88 (by decide) (Nat.le_of_ble_eq_true rfl) (k_resV (ci := 7) (av := [.int 1, .int (h12 126 (ix x1)), .int x2]) (rest := []) (fs_115 hF) (by decide) rfl rfl q1834 q1836 qs51 q1837 mhX8_task mnX8_task dX8_work_214) (fun h15 g16 H => ?_)
      refine V_aload_n dX8_work_217 rfl 0 rfl ?_
      refine V_iconst (v := 4) dX8_work_218 (by decide) ?_
      refine V_iconst (v := 0) dX8_work_219 (by decide) ?_
      refine V_iconst (v := 0) dX8_work_220 (by decide) ?_
      refine H_callv (av := [.ref (ad D 115), .int 4, .int 0, .int 0]) (rest := []) H mqX8_task q88 (by decide) (Nat.le_of_ble_eq_true rfl) (k_resV (ci := 7) (av := [.int 4, .int 0, .int 0]) (rest := []) (fs_115 hF) (by decide) rfl rfl q1834 q1836 qs51 q1837 mhX8_task mnX8_task dX8_work_221) (fun h17 g18 H => ?_)
      refine V_aload_n dX8_work_224 rfl 0 rfl ?_
      refine V_iconst (v := 1) dX8_work_225 (by decide) ?_
      refine V_aload_n dX8_work_226 rfl 0 rfl ?_
      refine H_getr ck7 19 (by decide) (fs_115 hF) (by decide) rfl (fr_115_19 hF) q1477 dX8_work_227 ?_
      refine V_iload_n dX8_work_230 rfl 1 rfl ?_
      obtain ⟨i19, H⟩ := H
      refine H_iald (fs_125 hF) i19 dX8_work_231 ?_
      refine V_iload_n dX8_work_232 rfl 2 rfl ?_
      refine H_callv (av := [.ref (ad D 115), .int 1, .int (h17 125 (ix x1)), .int x2]) (rest := []) H mqX8_task q88 (by decide) (Nat.le_of_ble_eq_true rfl) (k_resV (ci := 7) (av := [.int 1, .int (h17 125 (ix x1)), .int x2]) (rest := []) (fs_115 hF) (by decide) rfl rfl q1834 q1836 qs51 q1837 mhX8_task mnX8_task dX8_work_233) (fun h20 g21 H => ?_)
      refine V_goto (tgt := 342) dX8_work_236 (by decide) ?_
      exact H_vret rfl dX8_work_342 H
    · have H := H.2.2.1 c8
      refine V_tableIn (tgt := 239) dX8_work_101 (by rw [c8]; decide) (by rw [c8]; decide) (by rw [c8]; rfl) (by decide) ?_
      refine V_aload_n dX8_work_239 rfl 0 rfl ?_
      refine V_bipush (v := 6) dX8_work_240 (by decide) ?_
      refine V_iload_n dX8_work_242 rfl 1 rfl ?_
      refine V_iload_n dX8_work_243 rfl 2 rfl ?_
      refine H_callv (av := [.ref (ad D 115), .int 6, .int x1, .int x2]) (rest := []) H mqX8_task q88 (by decide) (Nat.le_of_ble_eq_true rfl) (k_resV (ci := 7) (av := [.int 6, .int x1, .int x2]) (rest := []) (fs_115 hF) (by decide) rfl rfl q1834 q1836 qs51 q1837 mhX8_task mnX8_task dX8_work_244) (fun h22 g23 H => ?_)
      refine V_aload_n dX8_work_247 rfl 0 rfl ?_
      refine V_iconst (v := 1) dX8_work_248 (by decide) ?_
      refine V_aload_n dX8_work_249 rfl 0 rfl ?_
      refine H_getr ck7 19 (by decide) (fs_115 hF) (by decide) rfl (fr_115_19 hF) q1477 dX8_work_250 ?_
      refine V_iload_n dX8_work_253 rfl 1 rfl ?_
      obtain ⟨i24, H⟩ := H
      refine H_iald (fs_125 hF) i24 dX8_work_254 ?_
      refine V_iload_n dX8_work_255 rfl 2 rfl ?_
      refine H_callv (av := [.ref (ad D 115), .int 1, .int (h22 125 (ix x1)), .int x2]) (rest := []) H mqX8_task q88 (by decide) (Nat.le_of_ble_eq_true rfl) (k_resV (ci := 7) (av := [.int 1, .int (h22 125 (ix x1)), .int x2]) (rest := []) (fs_115 hF) (by decide) rfl rfl q1834 q1836 qs51 q1837 mhX8_task mnX8_task dX8_work_256) (fun h25 g26 H => ?_)
      refine V_goto (tgt := 342) dX8_work_259 (by decide) ?_
      exact H_vret rfl dX8_work_342 H
    · have H := H.2.2.2.1 c8
      refine V_tableIn (tgt := 262) dX8_work_101 (by rw [c8]; decide) (by rw [c8]; decide) (by rw [c8]; rfl) (by decide) ?_
      refine V_aload_n dX8_work_262 rfl 0 rfl ?_
      refine H_getr ck7 65 (by decide) (fs_115 hF) (by decide) rfl (fr_115_65 hF) q1523 dX8_work_263 ?_
      refine V_bipush (v := 16) dX8_work_266 (by decide) ?_
      refine V_iload_n dX8_work_268 rfl 2 rfl ?_
      refine V_imul dX8_work_269 ?_
      refine V_aload_n dX8_work_270 rfl 0 rfl ?_
      refine H_getr ck7 21 (by decide) (fs_115 hF) (by decide) rfl (fr_115_21 hF) q1479 dX8_work_271 ?_
      refine V_iload_n dX8_work_274 rfl 1 rfl ?_
      obtain ⟨i27, H⟩ := H
      refine H_iald (fs_127 hF) i27 dX8_work_275 ?_
      refine V_iadd dX8_work_276 ?_
      refine V_aload_n dX8_work_277 rfl 0 rfl ?_
      refine V_aload_n dX8_work_278 rfl 0 rfl ?_
      refine H_getr ck7 19 (by decide) (fs_115 hF) (by decide) rfl (fr_115_19 hF) q1477 dX8_work_279 ?_
      refine V_iload_n dX8_work_282 rfl 1 rfl ?_
      obtain ⟨i28, H⟩ := H
      refine H_iald (fs_125 hF) i28 dX8_work_283 ?_
      refine V_iload_n dX8_work_284 rfl 2 rfl ?_
      refine H_calli (av := [.ref (ad D 115), .int (h3 125 (ix x1)), .int x2]) (rest := [.int ((16 * x2) + (h3 127 (ix x1))), .ref (ad D 156)]) H mqX8_thing q88 (by decide) (Nat.le_of_ble_eq_true rfl) (k_resV (ci := 7) (av := [.int (h3 125 (ix x1)), .int x2]) (rest := [.int ((16 * x2) + (h3 127 (ix x1))), .ref (ad D 156)]) (fs_115 hF) (by decide) rfl rfl q1990 q1992 qs75 q1993 mhX8_thing mnX8_thing dX8_work_285) (fun y31 h29 g30 H => ?_)
      obtain ⟨i32, H⟩ := H
      refine H_iast (fs_156 hF) i32 dX8_work_288 (fun h33 e34 => ?_)
      have H := H h33 e34
      refine V_aload_n dX8_work_289 rfl 0 rfl ?_
      refine V_iconst (v := 1) dX8_work_290 (by decide) ?_
      refine V_aload_n dX8_work_291 rfl 0 rfl ?_
      refine H_getr ck7 20 (by decide) (fs_115 hF) (by decide) rfl (fr_115_20 hF) q1478 dX8_work_292 ?_
      refine V_iload_n dX8_work_295 rfl 1 rfl ?_
      obtain ⟨i35, H⟩ := H
      refine H_iald (fs_126 hF) i35 dX8_work_296 ?_
      refine V_iload_n dX8_work_297 rfl 2 rfl ?_
      refine H_callv (av := [.ref (ad D 115), .int 1, .int (h33 126 (ix x1)), .int x2]) (rest := []) H mqX8_task q88 (by decide) (Nat.le_of_ble_eq_true rfl) (k_resV (ci := 7) (av := [.int 1, .int (h33 126 (ix x1)), .int x2]) (rest := []) (fs_115 hF) (by decide) rfl rfl q1834 q1836 qs51 q1837 mhX8_task mnX8_task dX8_work_298) (fun h36 g37 H => ?_)
      refine V_goto (tgt := 342) dX8_work_301 (by decide) ?_
      exact H_vret rfl dX8_work_342 H
    · have H := H.2.2.2.2.1 c8
      refine V_tableIn (tgt := 304) dX8_work_101 (by rw [c8]; decide) (by rw [c8]; decide) (by rw [c8]; rfl) (by decide) ?_
      refine V_aload_n dX8_work_304 rfl 0 rfl ?_
      refine V_bipush (v := 7) dX8_work_305 (by decide) ?_
      refine V_iload_n dX8_work_307 rfl 1 rfl ?_
      refine V_iload_n dX8_work_308 rfl 2 rfl ?_
      refine H_callv (av := [.ref (ad D 115), .int 7, .int x1, .int x2]) (rest := []) H mqX8_task q88 (by decide) (Nat.le_of_ble_eq_true rfl) (k_resV (ci := 7) (av := [.int 7, .int x1, .int x2]) (rest := []) (fs_115 hF) (by decide) rfl rfl q1834 q1836 qs51 q1837 mhX8_task mnX8_task dX8_work_309) (fun h38 g39 H => ?_)
      refine V_aload_n dX8_work_312 rfl 0 rfl ?_
      refine V_iconst (v := 1) dX8_work_313 (by decide) ?_
      refine V_aload_n dX8_work_314 rfl 0 rfl ?_
      refine H_getr ck7 19 (by decide) (fs_115 hF) (by decide) rfl (fr_115_19 hF) q1477 dX8_work_315 ?_
      refine V_iload_n dX8_work_318 rfl 1 rfl ?_
      obtain ⟨i40, H⟩ := H
      refine H_iald (fs_125 hF) i40 dX8_work_319 ?_
      refine V_iload_n dX8_work_320 rfl 2 rfl ?_
      refine H_callv (av := [.ref (ad D 115), .int 1, .int (h38 125 (ix x1)), .int x2]) (rest := []) H mqX8_task q88 (by decide) (Nat.le_of_ble_eq_true rfl) (k_resV (ci := 7) (av := [.int 1, .int (h38 125 (ix x1)), .int x2]) (rest := []) (fs_115 hF) (by decide) rfl rfl q1834 q1836 qs51 q1837 mhX8_task mnX8_task dX8_work_321) (fun h41 g42 H => ?_)
      refine V_goto (tgt := 342) dX8_work_324 (by decide) ?_
      exact H_vret rfl dX8_work_342 H
    · have H := H.2.2.2.2.2.1 c8
      refine V_tableIn (tgt := 148) dX8_work_101 (by rw [c8]; decide) (by rw [c8]; decide) (by rw [c8]; rfl) (by decide) ?_
      refine V_aload_n dX8_work_148 rfl 0 rfl ?_
      refine V_iconst (v := 0) dX8_work_149 (by decide) ?_
      refine V_aload_n dX8_work_150 rfl 0 rfl ?_
      refine H_getr ck7 19 (by decide) (fs_115 hF) (by decide) rfl (fr_115_19 hF) q1477 dX8_work_151 ?_
      refine V_iload_n dX8_work_154 rfl 1 rfl ?_
      obtain ⟨i43, H⟩ := H
      refine H_iald (fs_125 hF) i43 dX8_work_155 ?_
      refine H_callv (av := [.ref (ad D 115), .int 0, .int (h3 125 (ix x1))]) (rest := []) H mqX8_gives q88 (by decide) (Nat.le_of_ble_eq_true rfl) (k_resV (ci := 7) (av := [.int 0, .int (h3 125 (ix x1))]) (rest := []) (fs_115 hF) (by decide) rfl rfl q1982 q1984 qs73 q1985 mhX8_gives mnX8_gives dX8_work_156) (fun h44 g45 H => ?_)
      refine V_goto (tgt := 342) dX8_work_159 (by decide) ?_
      exact H_vret rfl dX8_work_342 H
    · have H := H.2.2.2.2.2.2.1 c8
      refine V_tableIn (tgt := 162) dX8_work_101 (by rw [c8]; decide) (by rw [c8]; decide) (by rw [c8]; rfl) (by decide) ?_
      refine V_aload_n dX8_work_162 rfl 0 rfl ?_
      refine V_iconst (v := 2) dX8_work_163 (by decide) ?_
      refine H_puti ck7 74 (by decide) (fs_115 hF) (by decide) rfl rfl q1532 dX8_work_164 (fun h46 e47 => ?_)
      have H := H h46 e47
      refine V_goto (tgt := 342) dX8_work_167 (by decide) ?_
      exact H_vret rfl dX8_work_342 H
    · have H := H.2.2.2.2.2.2.2.1 c8
      refine V_tableIn (tgt := 170) dX8_work_101 (by rw [c8]; decide) (by rw [c8]; decide) (by rw [c8]; rfl) (by decide) ?_
      refine V_aload_n dX8_work_170 rfl 0 rfl ?_
      refine V_aload_n dX8_work_171 rfl 0 rfl ?_
      refine H_getr ck7 65 (by decide) (fs_115 hF) (by decide) rfl (fr_115_65 hF) q1523 dX8_work_172 ?_
      refine V_bipush (v := 16) dX8_work_175 (by decide) ?_
      refine V_iload_n dX8_work_177 rfl 2 rfl ?_
      refine V_imul dX8_work_178 ?_
      refine V_aload_n dX8_work_179 rfl 0 rfl ?_
      refine H_getr ck7 19 (by decide) (fs_115 hF) (by decide) rfl (fr_115_19 hF) q1477 dX8_work_180 ?_
      refine V_iload_n dX8_work_183 rfl 1 rfl ?_
      obtain ⟨i48, H⟩ := H
      refine H_iald (fs_125 hF) i48 dX8_work_184 ?_
      refine V_iadd dX8_work_185 ?_
      obtain ⟨i49, H⟩ := H
      refine H_iald (fs_156 hF) i49 dX8_work_186 ?_
      refine H_callv (av := [.ref (ad D 115), .int (h3 156 (ix ((16 * x2) + (h3 125 (ix x1)))))]) (rest := []) H mqX8_need q88 (by decide) (Nat.le_of_ble_eq_true rfl) (k_resV (ci := 7) (av := [.int (h3 156 (ix ((16 * x2) + (h3 125 (ix x1)))))]) (rest := []) (fs_115 hF) (by decide) rfl rfl q1986 q1988 qs74 q1989 mhX8_need mnX8_need dX8_work_187) (fun h50 g51 H => ?_)
      refine V_goto (tgt := 342) dX8_work_190 (by decide) ?_
      exact H_vret rfl dX8_work_342 H
    · have H := H.2.2.2.2.2.2.2.2 c8
      refine V_tableIn (tgt := 327) dX8_work_101 (by rw [c8]; decide) (by rw [c8]; decide) (by rw [c8]; rfl) (by decide) ?_
      refine V_aload_n dX8_work_327 rfl 0 rfl ?_
      refine V_iload_n dX8_work_328 rfl 1 rfl ?_
      refine V_iload_n dX8_work_329 rfl 2 rfl ?_
      refine H_callv (av := [.ref (ad D 115), .int x1, .int x2]) (rest := []) H mqX8_called q88 (by decide) (Nat.le_of_ble_eq_true rfl) (k_resV (ci := 7) (av := [.int x1, .int x2]) (rest := []) (fs_115 hF) (by decide) rfl rfl q1994 q1996 qs76 q1997 mhX8_called mnX8_called dX8_work_330) (fun h52 g53 H => ?_)
      refine V_goto (tgt := 342) dX8_work_333 (by decide) ?_
      exact H_vret rfl dX8_work_342 H
abbrev JX8_work_31 (D : DE) (f : Nat) (Q : HI → HL → Prop) (F : Frm) (h : HI) (g : HL) (x1 : Int32) (x2 : Int32) (s1 : Int32) : Prop := ∀ h1, h1 = up2 h 115 74 s1 → (((h1 115 74) = 0 → ∀ h4, h4 = up2 h1 115 70 ((h1 115 70) + 1) → ∀ h6, h6 = up2 h4 115 72 ((h4 115 72) + 1) → (((h6 115 72) ≤ (h6 115 73) → JX8_work_85 D f Q F h6 g x1 x2 (h6 115 73)) ∧ (¬ (h6 115 72) ≤ (h6 115 73) → JX8_work_85 D f Q F h6 g x1 x2 (h6 115 72)))) ∧ (¬ (h1 115 74) = 0 → Q h1 g))
theorem bX8_work_31 {D : DE} {f : Nat} {Q : HI → HL → Prop} {F : Frm} {h : HI} {g : HL} (hF : k_Fix F) (x1 : Int32) (x2 : Int32) (s1 : Int32) (H : JX8_work_31 D f Q F h g x1 x2 s1) : V D mX8_work (f + 1) (qv F Q) 31 [(0, .ref (ad D 115)), (1, .int x1), (2, .int x2)] [.int s1, .ref (ad D 115)] (F, h, g) := by
  refine H_puti ck7 74 (by decide) (fs_115 hF) (by decide) rfl rfl q1532 dX8_work_31 (fun h1 e2 => ?_)
  have H := H h1 e2
  refine V_aload_n dX8_work_34 rfl 0 rfl ?_
  refine H_geti ck7 74 (by decide) (fs_115 hF) (by decide) rfl q1532 dX8_work_35 ?_
  refine V_if_eq (tgt := 42) dX8_work_38 (by decide) (fun c3 => ?_) (fun c3 => ?_)
  · have H := H.1 c3
    refine V_aload_n dX8_work_42 rfl 0 rfl ?_
    refine V_dup dX8_work_43 rfl ?_
    refine H_geti ck7 70 (by decide) (fs_115 hF) (by decide) rfl q1528 dX8_work_44 ?_
    refine V_iconst (v := 1) dX8_work_47 (by decide) ?_
    refine V_iadd dX8_work_48 ?_
    refine H_puti ck7 70 (by decide) (fs_115 hF) (by decide) rfl rfl q1528 dX8_work_49 (fun h4 e5 => ?_)
    have H := H h4 e5
    refine V_aload_n dX8_work_52 rfl 0 rfl ?_
    refine V_dup dX8_work_53 rfl ?_
    refine H_geti ck7 72 (by decide) (fs_115 hF) (by decide) rfl q1530 dX8_work_54 ?_
    refine V_iconst (v := 1) dX8_work_57 (by decide) ?_
    refine V_iadd dX8_work_58 ?_
    refine H_puti ck7 72 (by decide) (fs_115 hF) (by decide) rfl rfl q1530 dX8_work_59 (fun h6 e7 => ?_)
    have H := H h6 e7
    refine V_aload_n dX8_work_62 rfl 0 rfl ?_
    refine V_aload_n dX8_work_63 rfl 0 rfl ?_
    refine H_geti ck7 72 (by decide) (fs_115 hF) (by decide) rfl q1530 dX8_work_64 ?_
    refine V_aload_n dX8_work_67 rfl 0 rfl ?_
    refine H_geti ck7 73 (by decide) (fs_115 hF) (by decide) rfl q1531 dX8_work_68 ?_
    refine V_icmp_le (tgt := 81) dX8_work_71 (by decide) (fun c8 => ?_) (fun c8 => ?_)
    · have H := H.1 c8
      refine V_aload_n dX8_work_81 rfl 0 rfl ?_
      refine H_geti ck7 73 (by decide) (fs_115 hF) (by decide) rfl q1531 dX8_work_82 ?_
      exact bX8_work_85 hF x1 x2 (h6 115 73) H
    · have H := H.2 c8
      refine V_aload_n dX8_work_74 rfl 0 rfl ?_
      refine H_geti ck7 72 (by decide) (fs_115 hF) (by decide) rfl q1530 dX8_work_75 ?_
      refine V_goto (tgt := 85) dX8_work_78 (by decide) ?_
      exact bX8_work_85 hF x1 x2 (h6 115 72) H
  · have H := H.2 c3
    exact H_vret rfl dX8_work_41 H
abbrev JX8_work_0 (D : DE) (f : Nat) (Q : HI → HL → Prop) (F : Frm) (h : HI) (g : HL) (x1 : Int32) (x2 : Int32) : Prop := ((¬ (h 115 70) = (h 115 71) → ((¬ (h 115 72) = 150 → JX8_work_31 D f Q F h g x1 x2 0) ∧ ((h 115 72) = 150 → JX8_work_31 D f Q F h g x1 x2 4))) ∧ ((h 115 70) = (h 115 71) → JX8_work_31 D f Q F h g x1 x2 3))
theorem bX8_work_0 {D : DE} {f : Nat} {Q : HI → HL → Prop} {F : Frm} {h : HI} {g : HL} (hF : k_Fix F) (x1 : Int32) (x2 : Int32) (H : JX8_work_0 D f Q F h g x1 x2) : V D mX8_work (f + 1) (qv F Q) 0 [(0, .ref (ad D 115)), (1, .int x1), (2, .int x2)] [] (F, h, g) := by
  refine V_aload_n dX8_work_0 rfl 0 rfl ?_
  refine V_aload_n dX8_work_1 rfl 0 rfl ?_
  refine H_geti ck7 70 (by decide) (fs_115 hF) (by decide) rfl q1528 dX8_work_2 ?_
  refine V_aload_n dX8_work_5 rfl 0 rfl ?_
  refine H_geti ck7 71 (by decide) (fs_115 hF) (by decide) rfl q1529 dX8_work_6 ?_
  refine V_icmp_ne (tgt := 16) dX8_work_9 (by decide) (fun c1 => ?_) (fun c1 => ?_)
  · have H := H.1 c1
    refine V_aload_n dX8_work_16 rfl 0 rfl ?_
    refine H_geti ck7 72 (by decide) (fs_115 hF) (by decide) rfl q1530 dX8_work_17 ?_
    refine V_sipush (v := 150) dX8_work_20 (by decide) ?_
    refine V_icmp_ne (tgt := 30) dX8_work_23 (by decide) (fun c2 => ?_) (fun c2 => ?_)
    · have H := H.1 c2
      refine V_iconst (v := 0) dX8_work_30 (by decide) ?_
      exact bX8_work_31 hF x1 x2 0 H
    · have H := H.2 c2
      refine V_iconst (v := 4) dX8_work_26 (by decide) ?_
      refine V_goto (tgt := 31) dX8_work_27 (by decide) ?_
      exact bX8_work_31 hF x1 x2 4 H
  · have H := H.2 c1
    refine V_iconst (v := 3) dX8_work_12 (by decide) ?_
    refine V_goto (tgt := 31) dX8_work_13 (by decide) ?_
    exact bX8_work_31 hF x1 x2 3 H
theorem wX8_work {D : DE} {f : Nat} {Q : HI → HL → Prop} {F : Frm} {h : HI} {g : HL} (hF : k_Fix F) (x1 : Int32) (x2 : Int32) (H : JX8_work_0 D f Q F h g x1 x2) : Sv D (f + 1) mX8_work [.ref (ad D 115), .int x1, .int x2] F h g Q := Cl.ofV (by decide) (Nat.le_of_ble_eq_true rfl) rfl (bX8_work_0 hF x1 x2 H)
theorem dX8_demand_0 : decode cX8_demand 0 = .ok (.iload_n 1, 1) := by decide +kernel
theorem dX8_demand_1 : decode cX8_demand 1 = .ok (.ifCond .eq 7, 3) := by decide +kernel
theorem dX8_demand_4 : decode cX8_demand 4 = .ok (.iload_n 2, 1) := by decide +kernel
theorem dX8_demand_5 : decode cX8_demand 5 = .ok (.ifCond .ne 4, 3) := by decide +kernel
theorem dX8_demand_8 : decode cX8_demand 8 = .ok (.return_, 1) := by decide +kernel
theorem dX8_demand_9 : decode cX8_demand 9 = .ok (.aload_n 0, 1) := by decide +kernel
theorem dX8_demand_10 : decode cX8_demand 10 = .ok (.getfield 417, 3) := by decide +kernel
theorem dX8_demand_13 : decode cX8_demand 13 = .ok (.istore_n 3, 1) := by decide +kernel
theorem dX8_demand_14 : decode cX8_demand 14 = .ok (.iload_n 1, 1) := by decide +kernel
theorem dX8_demand_15 : decode cX8_demand 15 = .ok (.invokestatic 162, 3) := by decide +kernel
theorem dX8_demand_18 : decode cX8_demand 18 = .ok (.invokestatic 166, 3) := by decide +kernel
theorem dX8_demand_21 : decode cX8_demand 21 = .ok (.istore 4, 2) := by decide +kernel
theorem dX8_demand_23 : decode cX8_demand 23 = .ok (.iload_n 2, 1) := by decide +kernel
theorem dX8_demand_24 : decode cX8_demand 24 = .ok (.iconst 1, 1) := by decide +kernel
theorem dX8_demand_25 : decode cX8_demand 25 = .ok (.isub, 1) := by decide +kernel
theorem dX8_demand_26 : decode cX8_demand 26 = .ok (.iload 4, 2) := by decide +kernel
theorem dX8_demand_28 : decode cX8_demand 28 = .ok (.irem, 1) := by decide +kernel
theorem dX8_demand_29 : decode cX8_demand 29 = .ok (.ifCond .le 32, 3) := by decide +kernel
theorem dX8_demand_32 : decode cX8_demand 32 = .ok (.aload_n 0, 1) := by decide +kernel
theorem dX8_demand_33 : decode cX8_demand 33 = .ok (.bipush 9, 2) := by decide +kernel
theorem dX8_demand_35 : decode cX8_demand 35 = .ok (.iload_n 1, 1) := by decide +kernel
theorem dX8_demand_36 : decode cX8_demand 36 = .ok (.invokestatic 162, 3) := by decide +kernel
theorem dX8_demand_39 : decode cX8_demand 39 = .ok (.iload_n 2, 1) := by decide +kernel
theorem dX8_demand_40 : decode cX8_demand 40 = .ok (.iconst 1, 1) := by decide +kernel
theorem dX8_demand_41 : decode cX8_demand 41 = .ok (.isub, 1) := by decide +kernel
theorem dX8_demand_42 : decode cX8_demand 42 = .ok (.iload 4, 2) := by decide +kernel
theorem dX8_demand_44 : decode cX8_demand 44 = .ok (.irem, 1) := by decide +kernel
theorem dX8_demand_45 : decode cX8_demand 45 = .ok (.invokevirtual 322, 3) := by decide +kernel
theorem dX8_demand_48 : decode cX8_demand 48 = .ok (.aload_n 0, 1) := by decide +kernel
theorem dX8_demand_49 : decode cX8_demand 49 = .ok (.bipush 8, 2) := by decide +kernel
theorem dX8_demand_51 : decode cX8_demand 51 = .ok (.aload_n 0, 1) := by decide +kernel
theorem dX8_demand_52 : decode cX8_demand 52 = .ok (.getfield 133, 3) := by decide +kernel
theorem dX8_demand_55 : decode cX8_demand 55 = .ok (.iload_n 3, 1) := by decide +kernel
theorem dX8_demand_56 : decode cX8_demand 56 = .ok (.iaload, 1) := by decide +kernel
theorem dX8_demand_57 : decode cX8_demand 57 = .ok (.iconst 0, 1) := by decide +kernel
theorem dX8_demand_58 : decode cX8_demand 58 = .ok (.invokevirtual 322, 3) := by decide +kernel
theorem dX8_demand_61 : decode cX8_demand 61 = .ok (.iload_n 2, 1) := by decide +kernel
theorem dX8_demand_62 : decode cX8_demand 62 = .ok (.iconst 1, 1) := by decide +kernel
theorem dX8_demand_63 : decode cX8_demand 63 = .ok (.isub, 1) := by decide +kernel
theorem dX8_demand_64 : decode cX8_demand 64 = .ok (.iload 4, 2) := by decide +kernel
theorem dX8_demand_66 : decode cX8_demand 66 = .ok (.idiv, 1) := by decide +kernel
theorem dX8_demand_67 : decode cX8_demand 67 = .ok (.ifCond .le 32, 3) := by decide +kernel
theorem dX8_demand_70 : decode cX8_demand 70 = .ok (.aload_n 0, 1) := by decide +kernel
theorem dX8_demand_71 : decode cX8_demand 71 = .ok (.bipush 9, 2) := by decide +kernel
theorem dX8_demand_73 : decode cX8_demand 73 = .ok (.iload_n 1, 1) := by decide +kernel
theorem dX8_demand_74 : decode cX8_demand 74 = .ok (.invokestatic 169, 3) := by decide +kernel
theorem dX8_demand_77 : decode cX8_demand 77 = .ok (.iload_n 2, 1) := by decide +kernel
theorem dX8_demand_78 : decode cX8_demand 78 = .ok (.iconst 1, 1) := by decide +kernel
theorem dX8_demand_79 : decode cX8_demand 79 = .ok (.isub, 1) := by decide +kernel
theorem dX8_demand_80 : decode cX8_demand 80 = .ok (.iload 4, 2) := by decide +kernel
theorem dX8_demand_82 : decode cX8_demand 82 = .ok (.idiv, 1) := by decide +kernel
theorem dX8_demand_83 : decode cX8_demand 83 = .ok (.invokevirtual 322, 3) := by decide +kernel
theorem dX8_demand_86 : decode cX8_demand 86 = .ok (.aload_n 0, 1) := by decide +kernel
theorem dX8_demand_87 : decode cX8_demand 87 = .ok (.bipush 8, 2) := by decide +kernel
theorem dX8_demand_89 : decode cX8_demand 89 = .ok (.aload_n 0, 1) := by decide +kernel
theorem dX8_demand_90 : decode cX8_demand 90 = .ok (.getfield 130, 3) := by decide +kernel
theorem dX8_demand_93 : decode cX8_demand 93 = .ok (.iload_n 3, 1) := by decide +kernel
theorem dX8_demand_94 : decode cX8_demand 94 = .ok (.iaload, 1) := by decide +kernel
theorem dX8_demand_95 : decode cX8_demand 95 = .ok (.iconst 0, 1) := by decide +kernel
theorem dX8_demand_96 : decode cX8_demand 96 = .ok (.invokevirtual 322, 3) := by decide +kernel
theorem dX8_demand_99 : decode cX8_demand 99 = .ok (.return_, 1) := by decide +kernel
abbrev JX8_demand_61 (D : DE) (f : Nat) (Q : HI → HL → Prop) (F : Frm) (h : HI) (g : HL) (x1 : Int32) (x2 : Int32) (x3 : Int32) (x4 : Int32) : Prop := (¬ x4 = 0) ∧ ((((x2 - 1) / x4) ≤ 0 → Q h g) ∧ (¬ ((x2 - 1) / x4) ≤ 0 → Si D f mX8_firstOf [.int x1] F h g (fun y5 h3 g4 => (¬ x4 = 0) ∧ Sv D f mX8_task [.ref (ad D 115), .int 9, .int y5, .int ((x2 - 1) / x4)] F h3 g4 (fun h7 g8 => vp_in x3 1540 ∧ Sv D f mX8_task [.ref (ad D 115), .int 8, .int (h7 154 (ix x3)), .int 0] F h7 g8 (fun h10 g11 => Q h10 g11)))))
theorem bX8_demand_61 {D : DE} {f : Nat} {Q : HI → HL → Prop} {F : Frm} {h : HI} {g : HL} (hF : k_Fix F) (x1 : Int32) (x2 : Int32) (x3 : Int32) (x4 : Int32) (H : JX8_demand_61 D f Q F h g x1 x2 x3 x4) : V D mX8_demand (f + 1) (qv F Q) 61 [(0, .ref (ad D 115)), (1, .int x1), (2, .int x2), (3, .int x3), (4, .int x4)] [] (F, h, g) := by
  refine V_iload_n dX8_demand_61 rfl 2 rfl ?_
  refine V_iconst (v := 1) dX8_demand_62 (by decide) ?_
  refine V_isub dX8_demand_63 ?_
  refine V_iload dX8_demand_64 4 rfl ?_
  obtain ⟨z1, H⟩ := H
  refine V_idiv dX8_demand_66 z1 ?_
  refine V_if_le (tgt := 99) dX8_demand_67 (by decide) (fun c2 => ?_) (fun c2 => ?_)
  · have H := H.1 c2
    exact H_vret rfl dX8_demand_99 H
  · have H := H.2 c2
    refine V_aload_n dX8_demand_70 rfl 0 rfl ?_
    refine V_bipush (v := 9) dX8_demand_71 (by decide) ?_
    refine V_iload_n dX8_demand_73 rfl 1 rfl ?_
    refine H_calli (av := [.int x1]) (rest := [.int 9, .ref (ad D 115)]) H mqX8_firstOf q88 (by decide) (Nat.le_of_ble_eq_true rfl) (k_resS (av := [.int x1]) (rest := [.int 9, .ref (ad D 115)]) (M1 := mX8_firstOf) rfl q1853 q1854 q88 mqX8_firstOf (fun _ _ h => mW_named h) mhX8_firstOf mnX8_firstOf dX8_demand_74) (fun y5 h3 g4 H => ?_)
    refine V_iload_n dX8_demand_77 rfl 2 rfl ?_
    refine V_iconst (v := 1) dX8_demand_78 (by decide) ?_
    refine V_isub dX8_demand_79 ?_
    refine V_iload dX8_demand_80 4 rfl ?_
    obtain ⟨z6, H⟩ := H
    refine V_idiv dX8_demand_82 z6 ?_
    refine H_callv (av := [.ref (ad D 115), .int 9, .int y5, .int ((x2 - 1) / x4)]) (rest := []) H mqX8_task q88 (by decide) (Nat.le_of_ble_eq_true rfl) (k_resV (ci := 7) (av := [.int 9, .int y5, .int ((x2 - 1) / x4)]) (rest := []) (fs_115 hF) (by decide) rfl rfl q1834 q1836 qs51 q1837 mhX8_task mnX8_task dX8_demand_83) (fun h7 g8 H => ?_)
    refine V_aload_n dX8_demand_86 rfl 0 rfl ?_
    refine V_bipush (v := 8) dX8_demand_87 (by decide) ?_
    refine V_aload_n dX8_demand_89 rfl 0 rfl ?_
    refine H_getr ck7 63 (by decide) (fs_115 hF) (by decide) rfl (fr_115_63 hF) q1521 dX8_demand_90 ?_
    refine V_iload_n dX8_demand_93 rfl 3 rfl ?_
    obtain ⟨i9, H⟩ := H
    refine H_iald (fs_154 hF) i9 dX8_demand_94 ?_
    refine V_iconst (v := 0) dX8_demand_95 (by decide) ?_
    refine H_callv (av := [.ref (ad D 115), .int 8, .int (h7 154 (ix x3)), .int 0]) (rest := []) H mqX8_task q88 (by decide) (Nat.le_of_ble_eq_true rfl) (k_resV (ci := 7) (av := [.int 8, .int (h7 154 (ix x3)), .int 0]) (rest := []) (fs_115 hF) (by decide) rfl rfl q1834 q1836 qs51 q1837 mhX8_task mnX8_task dX8_demand_96) (fun h10 g11 H => ?_)
    exact H_vret rfl dX8_demand_99 H
abbrev JX8_demand_0 (D : DE) (f : Nat) (Q : HI → HL → Prop) (F : Frm) (h : HI) (g : HL) (x1 : Int32) (x2 : Int32) : Prop := ((x1 = 0 → Q h g) ∧ (¬ x1 = 0 → ((¬ x2 = 0 → ∀ y3 : Int32, y3 = h 115 78 → Si D f mX8_secondOf [.int x1] F h g (fun y7 h5 g6 => Si D f mX8_demands [.int y7] F h5 g6 (fun y10 h8 g9 => (¬ y10 = 0) ∧ ((((x2 - 1) - (x2 - 1) / y10 * y10) ≤ 0 → JX8_demand_61 D f Q F h8 g9 x1 x2 y3 y10) ∧ (¬ ((x2 - 1) - (x2 - 1) / y10 * y10) ≤ 0 → Si D f mX8_secondOf [.int x1] F h8 g9 (fun y15 h13 g14 => (¬ y10 = 0) ∧ Sv D f mX8_task [.ref (ad D 115), .int 9, .int y15, .int ((x2 - 1) - (x2 - 1) / y10 * y10)] F h13 g14 (fun h17 g18 => vp_in y3 1540 ∧ Sv D f mX8_task [.ref (ad D 115), .int 8, .int (h17 155 (ix y3)), .int 0] F h17 g18 (fun h20 g21 => JX8_demand_61 D f Q F h20 g21 x1 x2 y3 y10)))))))) ∧ (x2 = 0 → Q h g))))
theorem bX8_demand_0 {D : DE} {f : Nat} {Q : HI → HL → Prop} {F : Frm} {h : HI} {g : HL} (hF : k_Fix F) (x1 : Int32) (x2 : Int32) (H : JX8_demand_0 D f Q F h g x1 x2) : V D mX8_demand (f + 1) (qv F Q) 0 [(0, .ref (ad D 115)), (1, .int x1), (2, .int x2)] [] (F, h, g) := by
  refine V_iload_n dX8_demand_0 rfl 1 rfl ?_
  refine V_if_eq (tgt := 8) dX8_demand_1 (by decide) (fun c1 => ?_) (fun c1 => ?_)
  · have H := H.1 c1
    exact H_vret rfl dX8_demand_8 H
  · have H := H.2 c1
    refine V_iload_n dX8_demand_4 rfl 2 rfl ?_
    refine V_if_ne (tgt := 9) dX8_demand_5 (by decide) (fun c2 => ?_) (fun c2 => ?_)
    · have H := H.1 c2
      refine V_aload_n dX8_demand_9 rfl 0 rfl ?_
      refine H_geti ck7 78 (by decide) (fs_115 hF) (by decide) rfl q1536 dX8_demand_10 ?_
      refine V_topi (fun y3 e4 => ?_)
      have H := H y3 e4
      refine V_istore_n (l1 := [(3, .int y3), (0, .ref (ad D 115)), (1, .int x1), (2, .int x2)]) dX8_demand_13 rfl (by decide) rfl ?_
      refine V_iload_n dX8_demand_14 rfl 2 rfl ?_
      refine H_calli (av := [.int x1]) (rest := []) H mqX8_secondOf q88 (by decide) (Nat.le_of_ble_eq_true rfl) (k_resS (av := [.int x1]) (rest := []) (M1 := mX8_secondOf) rfl q1850 q1851 q88 mqX8_secondOf (fun _ _ h => mW_named h) mhX8_secondOf mnX8_secondOf dX8_demand_15) (fun y7 h5 g6 H => ?_)
      refine H_calli (av := [.int y7]) (rest := []) H mqX8_demands q88 (by decide) (Nat.le_of_ble_eq_true rfl) (k_resS (av := [.int y7]) (rest := []) (M1 := mX8_demands) rfl q1876 q1877 q88 mqX8_demands (fun _ _ h => mW_named h) mhX8_demands mnX8_demands dX8_demand_18) (fun y10 h8 g9 H => ?_)
      refine V_istore (l1 := [(4, .int y10), (3, .int y3), (0, .ref (ad D 115)), (1, .int x1), (2, .int x2)]) dX8_demand_21 (by decide) rfl ?_
      refine V_iload_n dX8_demand_23 rfl 4 rfl ?_
      refine V_iconst (v := 1) dX8_demand_24 (by decide) ?_
      refine V_isub dX8_demand_25 ?_
      refine V_iload dX8_demand_26 0 rfl ?_
      obtain ⟨z11, H⟩ := H
      refine V_irem dX8_demand_28 z11 ?_
      refine V_if_le (tgt := 61) dX8_demand_29 (by decide) (fun c12 => ?_) (fun c12 => ?_)
      · have H := H.1 c12
        refine V.sub [2, 3, 4, 1, 0] rfl ?_
        exact bX8_demand_61 hF x1 x2 y3 y10 H
      · have H := H.2 c12
        refine V_aload_n dX8_demand_32 rfl 2 rfl ?_
        refine V_bipush (v := 9) dX8_demand_33 (by decide) ?_
        refine V_iload_n dX8_demand_35 rfl 3 rfl ?_
        refine H_calli (av := [.int x1]) (rest := [.int 9, .ref (ad D 115)]) H mqX8_secondOf q88 (by decide) (Nat.le_of_ble_eq_true rfl) (k_resS (av := [.int x1]) (rest := [.int 9, .ref (ad D 115)]) (M1 := mX8_secondOf) rfl q1850 q1851 q88 mqX8_secondOf (fun _ _ h => mW_named h) mhX8_secondOf mnX8_secondOf dX8_demand_36) (fun y15 h13 g14 H => ?_)
        refine V_iload_n dX8_demand_39 rfl 4 rfl ?_
        refine V_iconst (v := 1) dX8_demand_40 (by decide) ?_
        refine V_isub dX8_demand_41 ?_
        refine V_iload dX8_demand_42 0 rfl ?_
        obtain ⟨z16, H⟩ := H
        refine V_irem dX8_demand_44 z16 ?_
        refine H_callv (av := [.ref (ad D 115), .int 9, .int y15, .int ((x2 - 1) - (x2 - 1) / y10 * y10)]) (rest := []) H mqX8_task q88 (by decide) (Nat.le_of_ble_eq_true rfl) (k_resV (ci := 7) (av := [.int 9, .int y15, .int ((x2 - 1) - (x2 - 1) / y10 * y10)]) (rest := []) (fs_115 hF) (by decide) rfl rfl q1834 q1836 qs51 q1837 mhX8_task mnX8_task dX8_demand_45) (fun h17 g18 H => ?_)
        refine V_aload_n dX8_demand_48 rfl 2 rfl ?_
        refine V_bipush (v := 8) dX8_demand_49 (by decide) ?_
        refine V_aload_n dX8_demand_51 rfl 2 rfl ?_
        refine H_getr ck7 64 (by decide) (fs_115 hF) (by decide) rfl (fr_115_64 hF) q1522 dX8_demand_52 ?_
        refine V_iload_n dX8_demand_55 rfl 1 rfl ?_
        obtain ⟨i19, H⟩ := H
        refine H_iald (fs_155 hF) i19 dX8_demand_56 ?_
        refine V_iconst (v := 0) dX8_demand_57 (by decide) ?_
        refine H_callv (av := [.ref (ad D 115), .int 8, .int (h17 155 (ix y3)), .int 0]) (rest := []) H mqX8_task q88 (by decide) (Nat.le_of_ble_eq_true rfl) (k_resV (ci := 7) (av := [.int 8, .int (h17 155 (ix y3)), .int 0]) (rest := []) (fs_115 hF) (by decide) rfl rfl q1834 q1836 qs51 q1837 mhX8_task mnX8_task dX8_demand_58) (fun h20 g21 H => ?_)
        refine V.sub [2, 3, 4, 1, 0] rfl ?_
        exact bX8_demand_61 hF x1 x2 y3 y10 H
    · have H := H.2 c2
      exact H_vret rfl dX8_demand_8 H
theorem wX8_demand {D : DE} {f : Nat} {Q : HI → HL → Prop} {F : Frm} {h : HI} {g : HL} (hF : k_Fix F) (x1 : Int32) (x2 : Int32) (H : JX8_demand_0 D f Q F h g x1 x2) : Sv D (f + 1) mX8_demand [.ref (ad D 115), .int x1, .int x2] F h g Q := Cl.ofV (by decide) (Nat.le_of_ble_eq_true rfl) rfl (bX8_demand_0 hF x1 x2 H)
theorem dX8_goes_0 : decode cX8_goes 0 = .ok (.aload_n 0, 1) := by decide +kernel
theorem dX8_goes_1 : decode cX8_goes 1 = .ok (.getfield 242, 3) := by decide +kernel
theorem dX8_goes_4 : decode cX8_goes 4 = .ok (.ifCond .le 393, 3) := by decide +kernel
theorem dX8_goes_7 : decode cX8_goes 7 = .ok (.aload_n 0, 1) := by decide +kernel
theorem dX8_goes_8 : decode cX8_goes 8 = .ok (.getfield 408, 3) := by decide +kernel
theorem dX8_goes_11 : decode cX8_goes 11 = .ok (.ifCond .ne 386, 3) := by decide +kernel
theorem dX8_goes_14 : decode cX8_goes 14 = .ok (.aload_n 0, 1) := by decide +kernel
theorem dX8_goes_15 : decode cX8_goes 15 = .ok (.dup, 1) := by decide +kernel
theorem dX8_goes_16 : decode cX8_goes 16 = .ok (.getfield 242, 3) := by decide +kernel
theorem dX8_goes_19 : decode cX8_goes 19 = .ok (.iconst 1, 1) := by decide +kernel
theorem dX8_goes_20 : decode cX8_goes 20 = .ok (.isub, 1) := by decide +kernel
theorem dX8_goes_21 : decode cX8_goes 21 = .ok (.putfield 242, 3) := by decide +kernel
theorem dX8_goes_24 : decode cX8_goes 24 = .ok (.aload_n 0, 1) := by decide +kernel
theorem dX8_goes_25 : decode cX8_goes 25 = .ok (.getfield 72, 3) := by decide +kernel
theorem dX8_goes_28 : decode cX8_goes 28 = .ok (.aload_n 0, 1) := by decide +kernel
theorem dX8_goes_29 : decode cX8_goes 29 = .ok (.getfield 242, 3) := by decide +kernel
theorem dX8_goes_32 : decode cX8_goes 32 = .ok (.iaload, 1) := by decide +kernel
theorem dX8_goes_33 : decode cX8_goes 33 = .ok (.istore_n 1, 1) := by decide +kernel
theorem dX8_goes_34 : decode cX8_goes 34 = .ok (.aload_n 0, 1) := by decide +kernel
theorem dX8_goes_35 : decode cX8_goes 35 = .ok (.getfield 81, 3) := by decide +kernel
theorem dX8_goes_38 : decode cX8_goes 38 = .ok (.aload_n 0, 1) := by decide +kernel
theorem dX8_goes_39 : decode cX8_goes 39 = .ok (.getfield 242, 3) := by decide +kernel
theorem dX8_goes_42 : decode cX8_goes 42 = .ok (.iaload, 1) := by decide +kernel
theorem dX8_goes_43 : decode cX8_goes 43 = .ok (.istore_n 2, 1) := by decide +kernel
theorem dX8_goes_44 : decode cX8_goes 44 = .ok (.aload_n 0, 1) := by decide +kernel
theorem dX8_goes_45 : decode cX8_goes 45 = .ok (.getfield 69, 3) := by decide +kernel
theorem dX8_goes_48 : decode cX8_goes 48 = .ok (.aload_n 0, 1) := by decide +kernel
theorem dX8_goes_49 : decode cX8_goes 49 = .ok (.getfield 242, 3) := by decide +kernel
theorem dX8_goes_52 : decode cX8_goes 52 = .ok (.iaload, 1) := by decide +kernel
theorem dX8_goes_53 : decode cX8_goes 53 = .ok (.tableswitch 335 1 8 #[47, 56, 69, 99, 125, 229, 260, 327], 47) := by decide +kernel
theorem dX8_goes_100 : decode cX8_goes 100 = .ok (.aload_n 0, 1) := by decide +kernel
theorem dX8_goes_101 : decode cX8_goes 101 = .ok (.iload_n 1, 1) := by decide +kernel
theorem dX8_goes_102 : decode cX8_goes 102 = .ok (.iload_n 2, 1) := by decide +kernel
theorem dX8_goes_103 : decode cX8_goes 103 = .ok (.invokevirtual 423, 3) := by decide +kernel
theorem dX8_goes_106 : decode cX8_goes 106 = .ok (.goto 288, 3) := by decide +kernel
theorem dX8_goes_109 : decode cX8_goes 109 = .ok (.aload_n 0, 1) := by decide +kernel
theorem dX8_goes_110 : decode cX8_goes 110 = .ok (.dup, 1) := by decide +kernel
theorem dX8_goes_111 : decode cX8_goes 111 = .ok (.getfield 426, 3) := by decide +kernel
theorem dX8_goes_114 : decode cX8_goes 114 = .ok (.iconst 1, 1) := by decide +kernel
theorem dX8_goes_115 : decode cX8_goes 115 = .ok (.isub, 1) := by decide +kernel
theorem dX8_goes_116 : decode cX8_goes 116 = .ok (.putfield 426, 3) := by decide +kernel
theorem dX8_goes_119 : decode cX8_goes 119 = .ok (.goto 275, 3) := by decide +kernel
theorem dX8_goes_122 : decode cX8_goes 122 = .ok (.aload_n 0, 1) := by decide +kernel
theorem dX8_goes_123 : decode cX8_goes 123 = .ok (.getfield 118, 3) := by decide +kernel
theorem dX8_goes_126 : decode cX8_goes 126 = .ok (.iload_n 1, 1) := by decide +kernel
theorem dX8_goes_127 : decode cX8_goes 127 = .ok (.iconst 2, 1) := by decide +kernel
theorem dX8_goes_128 : decode cX8_goes 128 = .ok (.iastore, 1) := by decide +kernel
theorem dX8_goes_129 : decode cX8_goes 129 = .ok (.aload_n 0, 1) := by decide +kernel
theorem dX8_goes_130 : decode cX8_goes 130 = .ok (.getfield 121, 3) := by decide +kernel
theorem dX8_goes_133 : decode cX8_goes 133 = .ok (.iload_n 1, 1) := by decide +kernel
theorem dX8_goes_134 : decode cX8_goes 134 = .ok (.aload_n 0, 1) := by decide +kernel
theorem dX8_goes_135 : decode cX8_goes 135 = .ok (.getfield 414, 3) := by decide +kernel
theorem dX8_goes_138 : decode cX8_goes 138 = .ok (.iastore, 1) := by decide +kernel
theorem dX8_goes_139 : decode cX8_goes 139 = .ok (.aload_n 0, 1) := by decide +kernel
theorem dX8_goes_140 : decode cX8_goes 140 = .ok (.getfield 124, 3) := by decide +kernel
theorem dX8_goes_143 : decode cX8_goes 143 = .ok (.iload_n 1, 1) := by decide +kernel
theorem dX8_goes_144 : decode cX8_goes 144 = .ok (.aload_n 0, 1) := by decide +kernel
theorem dX8_goes_145 : decode cX8_goes 145 = .ok (.getfield 417, 3) := by decide +kernel
theorem dX8_goes_148 : decode cX8_goes 148 = .ok (.iastore, 1) := by decide +kernel
theorem dX8_goes_149 : decode cX8_goes 149 = .ok (.goto 245, 3) := by decide +kernel
theorem dX8_goes_152 : decode cX8_goes 152 = .ok (.aload_n 0, 1) := by decide +kernel
theorem dX8_goes_153 : decode cX8_goes 153 = .ok (.getfield 145, 3) := by decide +kernel
theorem dX8_goes_156 : decode cX8_goes 156 = .ok (.aload_n 0, 1) := by decide +kernel
theorem dX8_goes_157 : decode cX8_goes 157 = .ok (.getfield 429, 3) := by decide +kernel
theorem dX8_goes_160 : decode cX8_goes 160 = .ok (.aload_n 0, 1) := by decide +kernel
theorem dX8_goes_161 : decode cX8_goes 161 = .ok (.getfield 417, 3) := by decide +kernel
theorem dX8_goes_164 : decode cX8_goes 164 = .ok (.iastore, 1) := by decide +kernel
theorem dX8_goes_165 : decode cX8_goes 165 = .ok (.aload_n 0, 1) := by decide +kernel
theorem dX8_goes_166 : decode cX8_goes 166 = .ok (.dup, 1) := by decide +kernel
theorem dX8_goes_167 : decode cX8_goes 167 = .ok (.getfield 429, 3) := by decide +kernel
theorem dX8_goes_170 : decode cX8_goes 170 = .ok (.iconst 1, 1) := by decide +kernel
theorem dX8_goes_171 : decode cX8_goes 171 = .ok (.iadd, 1) := by decide +kernel
theorem dX8_goes_172 : decode cX8_goes 172 = .ok (.putfield 429, 3) := by decide +kernel
theorem dX8_goes_175 : decode cX8_goes 175 = .ok (.goto 219, 3) := by decide +kernel
theorem dX8_goes_178 : decode cX8_goes 178 = .ok (.aload_n 0, 1) := by decide +kernel
theorem dX8_goes_179 : decode cX8_goes 179 = .ok (.dup, 1) := by decide +kernel
theorem dX8_goes_180 : decode cX8_goes 180 = .ok (.getfield 429, 3) := by decide +kernel
theorem dX8_goes_183 : decode cX8_goes 183 = .ok (.iconst 1, 1) := by decide +kernel
theorem dX8_goes_184 : decode cX8_goes 184 = .ok (.isub, 1) := by decide +kernel
theorem dX8_goes_185 : decode cX8_goes 185 = .ok (.putfield 429, 3) := by decide +kernel
theorem dX8_goes_188 : decode cX8_goes 188 = .ok (.aload_n 0, 1) := by decide +kernel
theorem dX8_goes_189 : decode cX8_goes 189 = .ok (.getfield 145, 3) := by decide +kernel
theorem dX8_goes_192 : decode cX8_goes 192 = .ok (.aload_n 0, 1) := by decide +kernel
theorem dX8_goes_193 : decode cX8_goes 193 = .ok (.getfield 429, 3) := by decide +kernel
theorem dX8_goes_196 : decode cX8_goes 196 = .ok (.iaload, 1) := by decide +kernel
theorem dX8_goes_197 : decode cX8_goes 197 = .ok (.istore_n 3, 1) := by decide +kernel
theorem dX8_goes_198 : decode cX8_goes 198 = .ok (.aload_n 0, 1) := by decide +kernel
theorem dX8_goes_199 : decode cX8_goes 199 = .ok (.getfield 417, 3) := by decide +kernel
theorem dX8_goes_202 : decode cX8_goes 202 = .ok (.istore 4, 2) := by decide +kernel
theorem dX8_goes_204 : decode cX8_goes 204 = .ok (.aload_n 0, 1) := by decide +kernel
theorem dX8_goes_205 : decode cX8_goes 205 = .ok (.iconst 0, 1) := by decide +kernel
theorem dX8_goes_206 : decode cX8_goes 206 = .ok (.iload_n 1, 1) := by decide +kernel
theorem dX8_goes_207 : decode cX8_goes 207 = .ok (.bipush 19, 2) := by decide +kernel
theorem dX8_goes_209 : decode cX8_goes 209 = .ok (.if_icmp .ne 10, 3) := by decide +kernel
theorem dX8_goes_212 : decode cX8_goes 212 = .ok (.iload_n 3, 1) := by decide +kernel
theorem dX8_goes_213 : decode cX8_goes 213 = .ok (.iload 4, 2) := by decide +kernel
theorem dX8_goes_215 : decode cX8_goes 215 = .ok (.iadd, 1) := by decide +kernel
theorem dX8_goes_216 : decode cX8_goes 216 = .ok (.goto 60, 3) := by decide +kernel
theorem dX8_goes_219 : decode cX8_goes 219 = .ok (.iload_n 1, 1) := by decide +kernel
theorem dX8_goes_220 : decode cX8_goes 220 = .ok (.bipush 20, 2) := by decide +kernel
theorem dX8_goes_222 : decode cX8_goes 222 = .ok (.if_icmp .ne 10, 3) := by decide +kernel
theorem dX8_goes_225 : decode cX8_goes 225 = .ok (.iload_n 3, 1) := by decide +kernel
theorem dX8_goes_226 : decode cX8_goes 226 = .ok (.iload 4, 2) := by decide +kernel
theorem dX8_goes_228 : decode cX8_goes 228 = .ok (.isub, 1) := by decide +kernel
theorem dX8_goes_229 : decode cX8_goes 229 = .ok (.goto 47, 3) := by decide +kernel
theorem dX8_goes_232 : decode cX8_goes 232 = .ok (.iload_n 1, 1) := by decide +kernel
theorem dX8_goes_233 : decode cX8_goes 233 = .ok (.bipush 21, 2) := by decide +kernel
theorem dX8_goes_235 : decode cX8_goes 235 = .ok (.if_icmp .ne 10, 3) := by decide +kernel
theorem dX8_goes_238 : decode cX8_goes 238 = .ok (.iload_n 3, 1) := by decide +kernel
theorem dX8_goes_239 : decode cX8_goes 239 = .ok (.iload 4, 2) := by decide +kernel
theorem dX8_goes_241 : decode cX8_goes 241 = .ok (.imul, 1) := by decide +kernel
theorem dX8_goes_242 : decode cX8_goes 242 = .ok (.goto 34, 3) := by decide +kernel
theorem dX8_goes_245 : decode cX8_goes 245 = .ok (.iload_n 1, 1) := by decide +kernel
theorem dX8_goes_246 : decode cX8_goes 246 = .ok (.bipush 22, 2) := by decide +kernel
theorem dX8_goes_248 : decode cX8_goes 248 = .ok (.if_icmp .ne 17, 3) := by decide +kernel
theorem dX8_goes_251 : decode cX8_goes 251 = .ok (.iload_n 3, 1) := by decide +kernel
theorem dX8_goes_252 : decode cX8_goes 252 = .ok (.iload 4, 2) := by decide +kernel
theorem dX8_goes_254 : decode cX8_goes 254 = .ok (.if_icmp .ge 7, 3) := by decide +kernel
theorem dX8_goes_257 : decode cX8_goes 257 = .ok (.iconst 1, 1) := by decide +kernel
theorem dX8_goes_258 : decode cX8_goes 258 = .ok (.goto 18, 3) := by decide +kernel
theorem dX8_goes_261 : decode cX8_goes 261 = .ok (.iconst 0, 1) := by decide +kernel
theorem dX8_goes_262 : decode cX8_goes 262 = .ok (.goto 14, 3) := by decide +kernel
theorem dX8_goes_265 : decode cX8_goes 265 = .ok (.iload_n 3, 1) := by decide +kernel
theorem dX8_goes_266 : decode cX8_goes 266 = .ok (.iload 4, 2) := by decide +kernel
theorem dX8_goes_268 : decode cX8_goes 268 = .ok (.if_icmp .ne 7, 3) := by decide +kernel
theorem dX8_goes_271 : decode cX8_goes 271 = .ok (.iconst 1, 1) := by decide +kernel
theorem dX8_goes_272 : decode cX8_goes 272 = .ok (.goto 4, 3) := by decide +kernel
theorem dX8_goes_275 : decode cX8_goes 275 = .ok (.iconst 0, 1) := by decide +kernel
theorem dX8_goes_276 : decode cX8_goes 276 = .ok (.invokevirtual 420, 3) := by decide +kernel
theorem dX8_goes_279 : decode cX8_goes 279 = .ok (.goto 115, 3) := by decide +kernel
theorem dX8_goes_282 : decode cX8_goes 282 = .ok (.aload_n 0, 1) := by decide +kernel
theorem dX8_goes_283 : decode cX8_goes 283 = .ok (.iconst 1, 1) := by decide +kernel
theorem dX8_goes_284 : decode cX8_goes 284 = .ok (.aload_n 0, 1) := by decide +kernel
theorem dX8_goes_285 : decode cX8_goes 285 = .ok (.getfield 417, 3) := by decide +kernel
theorem dX8_goes_288 : decode cX8_goes 288 = .ok (.ifCond .ne 12, 3) := by decide +kernel
theorem dX8_goes_291 : decode cX8_goes 291 = .ok (.aload_n 0, 1) := by decide +kernel
theorem dX8_goes_292 : decode cX8_goes 292 = .ok (.getfield 48, 3) := by decide +kernel
theorem dX8_goes_295 : decode cX8_goes 295 = .ok (.iload_n 1, 1) := by decide +kernel
theorem dX8_goes_296 : decode cX8_goes 296 = .ok (.iaload, 1) := by decide +kernel
theorem dX8_goes_297 : decode cX8_goes 297 = .ok (.goto 9, 3) := by decide +kernel
theorem dX8_goes_300 : decode cX8_goes 300 = .ok (.aload_n 0, 1) := by decide +kernel
theorem dX8_goes_301 : decode cX8_goes 301 = .ok (.getfield 45, 3) := by decide +kernel
theorem dX8_goes_304 : decode cX8_goes 304 = .ok (.iload_n 1, 1) := by decide +kernel
theorem dX8_goes_305 : decode cX8_goes 305 = .ok (.iaload, 1) := by decide +kernel
theorem dX8_goes_306 : decode cX8_goes 306 = .ok (.iload_n 2, 1) := by decide +kernel
theorem dX8_goes_307 : decode cX8_goes 307 = .ok (.invokevirtual 322, 3) := by decide +kernel
theorem dX8_goes_310 : decode cX8_goes 310 = .ok (.goto 84, 3) := by decide +kernel
theorem dX8_goes_313 : decode cX8_goes 313 = .ok (.aload_n 0, 1) := by decide +kernel
theorem dX8_goes_314 : decode cX8_goes 314 = .ok (.getfield 136, 3) := by decide +kernel
theorem dX8_goes_317 : decode cX8_goes 317 = .ok (.bipush 16, 2) := by decide +kernel
theorem dX8_goes_319 : decode cX8_goes 319 = .ok (.iload_n 2, 1) := by decide +kernel
theorem dX8_goes_320 : decode cX8_goes 320 = .ok (.imul, 1) := by decide +kernel
theorem dX8_goes_321 : decode cX8_goes 321 = .ok (.aload_n 0, 1) := by decide +kernel
theorem dX8_goes_322 : decode cX8_goes 322 = .ok (.getfield 48, 3) := by decide +kernel
theorem dX8_goes_325 : decode cX8_goes 325 = .ok (.iload_n 1, 1) := by decide +kernel
theorem dX8_goes_326 : decode cX8_goes 326 = .ok (.iaload, 1) := by decide +kernel
theorem dX8_goes_327 : decode cX8_goes 327 = .ok (.iadd, 1) := by decide +kernel
theorem dX8_goes_328 : decode cX8_goes 328 = .ok (.aload_n 0, 1) := by decide +kernel
theorem dX8_goes_329 : decode cX8_goes 329 = .ok (.getfield 130, 3) := by decide +kernel
theorem dX8_goes_332 : decode cX8_goes 332 = .ok (.aload_n 0, 1) := by decide +kernel
theorem dX8_goes_333 : decode cX8_goes 333 = .ok (.getfield 417, 3) := by decide +kernel
theorem dX8_goes_336 : decode cX8_goes 336 = .ok (.iaload, 1) := by decide +kernel
theorem dX8_goes_337 : decode cX8_goes 337 = .ok (.iastore, 1) := by decide +kernel
theorem dX8_goes_338 : decode cX8_goes 338 = .ok (.aload_n 0, 1) := by decide +kernel
theorem dX8_goes_339 : decode cX8_goes 339 = .ok (.getfield 136, 3) := by decide +kernel
theorem dX8_goes_342 : decode cX8_goes 342 = .ok (.bipush 16, 2) := by decide +kernel
theorem dX8_goes_344 : decode cX8_goes 344 = .ok (.iload_n 2, 1) := by decide +kernel
theorem dX8_goes_345 : decode cX8_goes 345 = .ok (.imul, 1) := by decide +kernel
theorem dX8_goes_346 : decode cX8_goes 346 = .ok (.aload_n 0, 1) := by decide +kernel
theorem dX8_goes_347 : decode cX8_goes 347 = .ok (.getfield 48, 3) := by decide +kernel
theorem dX8_goes_350 : decode cX8_goes 350 = .ok (.iload_n 1, 1) := by decide +kernel
theorem dX8_goes_351 : decode cX8_goes 351 = .ok (.iaload, 1) := by decide +kernel
theorem dX8_goes_352 : decode cX8_goes 352 = .ok (.iadd, 1) := by decide +kernel
theorem dX8_goes_353 : decode cX8_goes 353 = .ok (.iconst 1, 1) := by decide +kernel
theorem dX8_goes_354 : decode cX8_goes 354 = .ok (.iadd, 1) := by decide +kernel
theorem dX8_goes_355 : decode cX8_goes 355 = .ok (.aload_n 0, 1) := by decide +kernel
theorem dX8_goes_356 : decode cX8_goes 356 = .ok (.getfield 133, 3) := by decide +kernel
theorem dX8_goes_359 : decode cX8_goes 359 = .ok (.aload_n 0, 1) := by decide +kernel
theorem dX8_goes_360 : decode cX8_goes 360 = .ok (.getfield 417, 3) := by decide +kernel
theorem dX8_goes_363 : decode cX8_goes 363 = .ok (.iaload, 1) := by decide +kernel
theorem dX8_goes_364 : decode cX8_goes 364 = .ok (.iastore, 1) := by decide +kernel
theorem dX8_goes_365 : decode cX8_goes 365 = .ok (.aload_n 0, 1) := by decide +kernel
theorem dX8_goes_366 : decode cX8_goes 366 = .ok (.iconst 1, 1) := by decide +kernel
theorem dX8_goes_367 : decode cX8_goes 367 = .ok (.aload_n 0, 1) := by decide +kernel
theorem dX8_goes_368 : decode cX8_goes 368 = .ok (.getfield 45, 3) := by decide +kernel
theorem dX8_goes_371 : decode cX8_goes 371 = .ok (.iload_n 1, 1) := by decide +kernel
theorem dX8_goes_372 : decode cX8_goes 372 = .ok (.iaload, 1) := by decide +kernel
theorem dX8_goes_373 : decode cX8_goes 373 = .ok (.iload_n 2, 1) := by decide +kernel
theorem dX8_goes_374 : decode cX8_goes 374 = .ok (.invokevirtual 322, 3) := by decide +kernel
theorem dX8_goes_377 : decode cX8_goes 377 = .ok (.goto 17, 3) := by decide +kernel
theorem dX8_goes_380 : decode cX8_goes 380 = .ok (.aload_n 0, 1) := by decide +kernel
theorem dX8_goes_381 : decode cX8_goes 381 = .ok (.iload_n 1, 1) := by decide +kernel
theorem dX8_goes_382 : decode cX8_goes 382 = .ok (.invokevirtual 432, 3) := by decide +kernel
theorem dX8_goes_385 : decode cX8_goes 385 = .ok (.goto 9, 3) := by decide +kernel
theorem dX8_goes_388 : decode cX8_goes 388 = .ok (.aload_n 0, 1) := by decide +kernel
theorem dX8_goes_389 : decode cX8_goes 389 = .ok (.iload_n 1, 1) := by decide +kernel
theorem dX8_goes_390 : decode cX8_goes 390 = .ok (.iload_n 2, 1) := by decide +kernel
theorem dX8_goes_391 : decode cX8_goes 391 = .ok (.invokevirtual 435, 3) := by decide +kernel
theorem dX8_goes_394 : decode cX8_goes 394 = .ok (.goto (-394), 3) := by decide +kernel
theorem dX8_goes_397 : decode cX8_goes 397 = .ok (.return_, 1) := by decide +kernel
abbrev JX8_goes_394 (D : DE) (f : Nat) (Q : HI → HL → Prop) (F : Frm) (h : HI) (g : HL) : Prop := V D mX8_goes (f + 1) (qv F Q) 0 [(0, .ref (ad D 115))] [] (F, h, g)
theorem bX8_goes_394 {D : DE} {f : Nat} {Q : HI → HL → Prop} {F : Frm} {h : HI} {g : HL} (hF : k_Fix F)  (H : JX8_goes_394 D f Q F h g ) : V D mX8_goes (f + 1) (qv F Q) 394 [(0, .ref (ad D 115))] [] (F, h, g) := by
  refine V_goto (tgt := 0) dX8_goes_394 (by decide) ?_
  exact H
abbrev JX8_goes_306 (D : DE) (f : Nat) (Q : HI → HL → Prop) (F : Frm) (h : HI) (g : HL) (x2 : Int32) (s1 : Int32) (s2 : Int32) : Prop := Sv D f mX8_task [.ref (ad D 115), .int s1, .int s2, .int x2] F h g (fun h1 g2 => JX8_goes_394 D f Q F h1 g2)
theorem bX8_goes_306 {D : DE} {f : Nat} {Q : HI → HL → Prop} {F : Frm} {h : HI} {g : HL} (hF : k_Fix F) (x2 : Int32) (s1 : Int32) (s2 : Int32) (H : JX8_goes_306 D f Q F h g x2 s1 s2) : V D mX8_goes (f + 1) (qv F Q) 306 [(0, .ref (ad D 115)), (2, .int x2)] [.int s2, .int s1, .ref (ad D 115)] (F, h, g) := by
  refine V_iload_n dX8_goes_306 rfl 1 rfl ?_
  refine H_callv (av := [.ref (ad D 115), .int s1, .int s2, .int x2]) (rest := []) H mqX8_task q88 (by decide) (Nat.le_of_ble_eq_true rfl) (k_resV (ci := 7) (av := [.int s1, .int s2, .int x2]) (rest := []) (fs_115 hF) (by decide) rfl rfl q1834 q1836 qs51 q1837 mhX8_task mnX8_task dX8_goes_307) (fun h1 g2 H => ?_)
  refine V_goto (tgt := 394) dX8_goes_310 (by decide) ?_
  refine V.sub [0] rfl ?_
  exact bX8_goes_394 hF  H
abbrev JX8_goes_276 (D : DE) (f : Nat) (Q : HI → HL → Prop) (F : Frm) (h : HI) (g : HL) (s1 : Int32) (s2 : Int32) : Prop := Sv D f mX8_gives [.ref (ad D 115), .int s1, .int s2] F h g (fun h1 g2 => JX8_goes_394 D f Q F h1 g2)
theorem bX8_goes_276 {D : DE} {f : Nat} {Q : HI → HL → Prop} {F : Frm} {h : HI} {g : HL} (hF : k_Fix F) (s1 : Int32) (s2 : Int32) (H : JX8_goes_276 D f Q F h g s1 s2) : V D mX8_goes (f + 1) (qv F Q) 276 [(0, .ref (ad D 115))] [.int s2, .int s1, .ref (ad D 115)] (F, h, g) := by
  refine H_callv (av := [.ref (ad D 115), .int s1, .int s2]) (rest := []) H mqX8_gives q88 (by decide) (Nat.le_of_ble_eq_true rfl) (k_resV (ci := 7) (av := [.int s1, .int s2]) (rest := []) (fs_115 hF) (by decide) rfl rfl q1982 q1984 qs73 q1985 mhX8_gives mnX8_gives dX8_goes_276) (fun h1 g2 H => ?_)
  refine V_goto (tgt := 394) dX8_goes_279 (by decide) ?_
  exact bX8_goes_394 hF  H
abbrev JX8_goes_0 (D : DE) (f : Nat) (Q : HI → HL → Prop) (F : Frm) (h : HI) (g : HL) : Prop := (((h 115 36) ≤ 0 → Q h g) ∧ (¬ (h 115 36) ≤ 0 → ((¬ (h 115 74) = 0 → Q h g) ∧ ((h 115 74) = 0 → ∀ h3, h3 = up2 h 115 36 ((h 115 36) - 1) → vp_in (h3 115 36) 3000 ∧ ∀ y6 : Int32, y6 = h3 135 (ix (h3 115 36)) → vp_in (h3 115 36) 3000 ∧ ∀ y9 : Int32, y9 = h3 138 (ix (h3 115 36)) → vp_in (h3 115 36) 3000 ∧ ∀ y12 : Int32, y12 = h3 134 (ix (h3 115 36)) → ((y12.toInt < 1 ∨ 8 < y12.toInt → Sv D f mX8_demand [.ref (ad D 115), .int y6, .int y9] F h3 g (fun h15 g16 => JX8_goes_394 D f Q F h15 g16)) ∧ (y12 = 1 → Sv D f mX8_work [.ref (ad D 115), .int y6, .int y9] F h3 g (fun h17 g18 => JX8_goes_394 D f Q F h17 g18)) ∧ (y12 = 2 → ∀ h19, h19 = up2 h3 115 72 ((h3 115 72) - 1) → JX8_goes_394 D f Q F h19 g) ∧ (y12 = 3 → vp_in y6 1540 ∧ ∀ h22, h22 = up2 h3 150 (ix y6) 2 → vp_in y6 1540 ∧ ∀ h25, h25 = up2 h22 151 (ix y6) (h22 115 77) → vp_in y6 1540 ∧ ∀ h28, h28 = up2 h25 152 (ix y6) (h25 115 78) → JX8_goes_394 D f Q F h28 g) ∧ (y12 = 4 → vp_in (h3 115 82) 3000 ∧ ∀ h31, h31 = up2 h3 158 (ix (h3 115 82)) (h3 115 78) → ∀ h33, h33 = up2 h31 115 82 ((h31 115 82) + 1) → JX8_goes_394 D f Q F h33 g) ∧ (y12 = 5 → ∀ h35, h35 = up2 h3 115 82 ((h3 115 82) - 1) → vp_in (h35 115 82) 3000 ∧ ∀ y38 : Int32, y38 = h35 158 (ix (h35 115 82)) → ∀ y40 : Int32, y40 = h35 115 78 → ((¬ y6 = 19 → ((¬ y6 = 20 → ((¬ y6 = 21 → ((¬ y6 = 22 → ((¬ y38 = y40 → JX8_goes_276 D f Q F h35 g 0 0) ∧ (y38 = y40 → JX8_goes_276 D f Q F h35 g 0 1))) ∧ (y6 = 22 → ((y40 ≤ y38 → JX8_goes_276 D f Q F h35 g 0 0) ∧ (¬ y40 ≤ y38 → JX8_goes_276 D f Q F h35 g 0 1))))) ∧ (y6 = 21 → JX8_goes_276 D f Q F h35 g 0 (y38 * y40)))) ∧ (y6 = 20 → JX8_goes_276 D f Q F h35 g 0 (y38 - y40)))) ∧ (y6 = 19 → JX8_goes_276 D f Q F h35 g 0 (y38 + y40)))) ∧ (y12 = 6 → ((¬ (h3 115 78) = 0 → vp_in y6 2002 ∧ JX8_goes_306 D f Q F h3 g y9 1 (h3 126 (ix y6))) ∧ ((h3 115 78) = 0 → vp_in y6 2002 ∧ JX8_goes_306 D f Q F h3 g y9 1 (h3 127 (ix y6))))) ∧ (y12 = 7 → vp_in y6 2002 ∧ vp_in (h3 115 78) 1540 ∧ vp_in ((16 * y9) + (h3 127 (ix y6))) 24032 ∧ ∀ h54, h54 = up2 h3 156 (ix ((16 * y9) + (h3 127 (ix y6)))) (h3 154 (ix (h3 115 78))) → vp_in y6 2002 ∧ vp_in (h54 115 78) 1540 ∧ vp_in (((16 * y9) + (h54 127 (ix y6))) + 1) 24032 ∧ ∀ h59, h59 = up2 h54 156 (ix (((16 * y9) + (h54 127 (ix y6))) + 1)) (h54 155 (ix (h54 115 78))) → vp_in y6 2002 ∧ Sv D f mX8_task [.ref (ad D 115), .int 1, .int (h59 126 (ix y6)), .int y9] F h59 g (fun h62 g63 => JX8_goes_394 D f Q F h62 g63)) ∧ (y12 = 8 → Sv D f mX8_need [.ref (ad D 115), .int y6] F h3 g (fun h64 g65 => JX8_goes_394 D f Q F h64 g65)))))))
theorem bX8_goes_0 {D : DE} {f : Nat} {Q : HI → HL → Prop} {F : Frm} {h : HI} {g : HL} (hF : k_Fix F)  (H : JX8_goes_0 D f Q F h g ) : V D mX8_goes (f + 1) (qv F Q) 0 [(0, .ref (ad D 115))] [] (F, h, g) := by
  refine V_aload_n dX8_goes_0 rfl 0 rfl ?_
  refine H_geti ck7 36 (by decide) (fs_115 hF) (by decide) rfl q1494 dX8_goes_1 ?_
  refine V_if_le (tgt := 397) dX8_goes_4 (by decide) (fun c1 => ?_) (fun c1 => ?_)
  · have H := H.1 c1
    exact H_vret rfl dX8_goes_397 H
  · have H := H.2 c1
    refine V_aload_n dX8_goes_7 rfl 0 rfl ?_
    refine H_geti ck7 74 (by decide) (fs_115 hF) (by decide) rfl q1532 dX8_goes_8 ?_
    refine V_if_ne (tgt := 397) dX8_goes_11 (by decide) (fun c2 => ?_) (fun c2 => ?_)
    · have H := H.1 c2
      exact H_vret rfl dX8_goes_397 H
    · have H := H.2 c2
      refine V_aload_n dX8_goes_14 rfl 0 rfl ?_
      refine V_dup dX8_goes_15 rfl ?_
      refine H_geti ck7 36 (by decide) (fs_115 hF) (by decide) rfl q1494 dX8_goes_16 ?_
      refine V_iconst (v := 1) dX8_goes_19 (by decide) ?_
      refine V_isub dX8_goes_20 ?_
      refine H_puti ck7 36 (by decide) (fs_115 hF) (by decide) rfl rfl q1494 dX8_goes_21 (fun h3 e4 => ?_)
      have H := H h3 e4
      refine V_aload_n dX8_goes_24 rfl 0 rfl ?_
      refine H_getr ck7 35 (by decide) (fs_115 hF) (by decide) rfl (fr_115_35 hF) q1493 dX8_goes_25 ?_
      refine V_aload_n dX8_goes_28 rfl 0 rfl ?_
      refine H_geti ck7 36 (by decide) (fs_115 hF) (by decide) rfl q1494 dX8_goes_29 ?_
      obtain ⟨i5, H⟩ := H
      refine H_iald (fs_135 hF) i5 dX8_goes_32 ?_
      refine V_topi (fun y6 e7 => ?_)
      have H := H y6 e7
      refine V_istore_n (l1 := [(1, .int y6), (0, .ref (ad D 115))]) dX8_goes_33 rfl (by decide) rfl ?_
      refine V_aload_n dX8_goes_34 rfl 1 rfl ?_
      refine H_getr ck7 42 (by decide) (fs_115 hF) (by decide) rfl (fr_115_42 hF) q1500 dX8_goes_35 ?_
      refine V_aload_n dX8_goes_38 rfl 1 rfl ?_
      refine H_geti ck7 36 (by decide) (fs_115 hF) (by decide) rfl q1494 dX8_goes_39 ?_
      obtain ⟨i8, H⟩ := H
      refine H_iald (fs_138 hF) i8 dX8_goes_42 ?_
      refine V_topi (fun y9 e10 => ?_)
      have H := H y9 e10
      refine V_istore_n (l1 := [(2, .int y9), (1, .int y6), (0, .ref (ad D 115))]) dX8_goes_43 rfl (by decide) rfl ?_
      refine V_aload_n dX8_goes_44 rfl 2 rfl ?_
      refine H_getr ck7 34 (by decide) (fs_115 hF) (by decide) rfl (fr_115_34 hF) q1492 dX8_goes_45 ?_
      refine V_aload_n dX8_goes_48 rfl 2 rfl ?_
      refine H_geti ck7 36 (by decide) (fs_115 hF) (by decide) rfl q1494 dX8_goes_49 ?_
      obtain ⟨i11, H⟩ := H
      refine H_iald (fs_134 hF) i11 dX8_goes_52 ?_
      refine V_topi (fun y12 e13 => ?_)
      have H := H y12 e13
      by_cases c14 : y12.toInt < 1 ∨ 8 < y12.toInt
      · have H := H.1 c14
        refine V_tableOut (tgt := 388) dX8_goes_53 c14 (by decide) ?_
        refine V_aload_n dX8_goes_388 rfl 2 rfl ?_
        refine V_iload_n dX8_goes_389 rfl 1 rfl ?_
        refine V_iload_n dX8_goes_390 rfl 0 rfl ?_
        refine H_callv (av := [.ref (ad D 115), .int y6, .int y9]) (rest := []) H mqX8_demand q88 (by decide) (Nat.le_of_ble_eq_true rfl) (k_resV (ci := 7) (av := [.int y6, .int y9]) (rest := []) (fs_115 hF) (by decide) rfl rfl q2002 q2004 qs78 q2005 mhX8_demand mnX8_demand dX8_goes_391) (fun h15 g16 H => ?_)
        refine V.sub [2] rfl ?_
        exact bX8_goes_394 hF  H
      · rcases tsw_1_8 c14 with c14 | c14 | c14 | c14 | c14 | c14 | c14 | c14
        · have H := H.2.1 c14
          refine V_tableIn (tgt := 100) dX8_goes_53 (by rw [c14]; decide) (by rw [c14]; decide) (by rw [c14]; rfl) (by decide) ?_
          refine V_aload_n dX8_goes_100 rfl 2 rfl ?_
          refine V_iload_n dX8_goes_101 rfl 1 rfl ?_
          refine V_iload_n dX8_goes_102 rfl 0 rfl ?_
          refine H_callv (av := [.ref (ad D 115), .int y6, .int y9]) (rest := []) H mqX8_work q88 (by decide) (Nat.le_of_ble_eq_true rfl) (k_resV (ci := 7) (av := [.int y6, .int y9]) (rest := []) (fs_115 hF) (by decide) rfl rfl q1978 q1980 qs72 q1981 mhX8_work mnX8_work dX8_goes_103) (fun h17 g18 H => ?_)
          refine V_goto (tgt := 394) dX8_goes_106 (by decide) ?_
          refine V.sub [2] rfl ?_
          exact bX8_goes_394 hF  H
        · have H := H.2.2.1 c14
          refine V_tableIn (tgt := 109) dX8_goes_53 (by rw [c14]; decide) (by rw [c14]; decide) (by rw [c14]; rfl) (by decide) ?_
          refine V_aload_n dX8_goes_109 rfl 2 rfl ?_
          refine V_dup dX8_goes_110 rfl ?_
          refine H_geti ck7 72 (by decide) (fs_115 hF) (by decide) rfl q1530 dX8_goes_111 ?_
          refine V_iconst (v := 1) dX8_goes_114 (by decide) ?_
          refine V_isub dX8_goes_115 ?_
          refine H_puti ck7 72 (by decide) (fs_115 hF) (by decide) rfl rfl q1530 dX8_goes_116 (fun h19 e20 => ?_)
          have H := H h19 e20
          refine V_goto (tgt := 394) dX8_goes_119 (by decide) ?_
          refine V.sub [2] rfl ?_
          exact bX8_goes_394 hF  H
        · have H := H.2.2.2.1 c14
          refine V_tableIn (tgt := 122) dX8_goes_53 (by rw [c14]; decide) (by rw [c14]; decide) (by rw [c14]; rfl) (by decide) ?_
          refine V_aload_n dX8_goes_122 rfl 2 rfl ?_
          refine H_getr ck7 59 (by decide) (fs_115 hF) (by decide) rfl (fr_115_59 hF) q1517 dX8_goes_123 ?_
          refine V_iload_n dX8_goes_126 rfl 1 rfl ?_
          refine V_iconst (v := 2) dX8_goes_127 (by decide) ?_
          obtain ⟨i21, H⟩ := H
          refine H_iast (fs_150 hF) i21 dX8_goes_128 (fun h22 e23 => ?_)
          have H := H h22 e23
          refine V_aload_n dX8_goes_129 rfl 2 rfl ?_
          refine H_getr ck7 60 (by decide) (fs_115 hF) (by decide) rfl (fr_115_60 hF) q1518 dX8_goes_130 ?_
          refine V_iload_n dX8_goes_133 rfl 1 rfl ?_
          refine V_aload_n dX8_goes_134 rfl 2 rfl ?_
          refine H_geti ck7 77 (by decide) (fs_115 hF) (by decide) rfl q1535 dX8_goes_135 ?_
          obtain ⟨i24, H⟩ := H
          refine H_iast (fs_151 hF) i24 dX8_goes_138 (fun h25 e26 => ?_)
          have H := H h25 e26
          refine V_aload_n dX8_goes_139 rfl 2 rfl ?_
          refine H_getr ck7 61 (by decide) (fs_115 hF) (by decide) rfl (fr_115_61 hF) q1519 dX8_goes_140 ?_
          refine V_iload_n dX8_goes_143 rfl 1 rfl ?_
          refine V_aload_n dX8_goes_144 rfl 2 rfl ?_
          refine H_geti ck7 78 (by decide) (fs_115 hF) (by decide) rfl q1536 dX8_goes_145 ?_
          obtain ⟨i27, H⟩ := H
          refine H_iast (fs_152 hF) i27 dX8_goes_148 (fun h28 e29 => ?_)
          have H := H h28 e29
          refine V_goto (tgt := 394) dX8_goes_149 (by decide) ?_
          refine V.sub [2] rfl ?_
          exact bX8_goes_394 hF  H
        · have H := H.2.2.2.2.1 c14
          refine V_tableIn (tgt := 152) dX8_goes_53 (by rw [c14]; decide) (by rw [c14]; decide) (by rw [c14]; rfl) (by decide) ?_
          refine V_aload_n dX8_goes_152 rfl 2 rfl ?_
          refine H_getr ck7 81 (by decide) (fs_115 hF) (by decide) rfl (fr_115_81 hF) q1539 dX8_goes_153 ?_
          refine V_aload_n dX8_goes_156 rfl 2 rfl ?_
          refine H_geti ck7 82 (by decide) (fs_115 hF) (by decide) rfl q1540 dX8_goes_157 ?_
          refine V_aload_n dX8_goes_160 rfl 2 rfl ?_
          refine H_geti ck7 78 (by decide) (fs_115 hF) (by decide) rfl q1536 dX8_goes_161 ?_
          obtain ⟨i30, H⟩ := H
          refine H_iast (fs_158 hF) i30 dX8_goes_164 (fun h31 e32 => ?_)
          have H := H h31 e32
          refine V_aload_n dX8_goes_165 rfl 2 rfl ?_
          refine V_dup dX8_goes_166 rfl ?_
          refine H_geti ck7 82 (by decide) (fs_115 hF) (by decide) rfl q1540 dX8_goes_167 ?_
          refine V_iconst (v := 1) dX8_goes_170 (by decide) ?_
          refine V_iadd dX8_goes_171 ?_
          refine H_puti ck7 82 (by decide) (fs_115 hF) (by decide) rfl rfl q1540 dX8_goes_172 (fun h33 e34 => ?_)
          have H := H h33 e34
          refine V_goto (tgt := 394) dX8_goes_175 (by decide) ?_
          refine V.sub [2] rfl ?_
          exact bX8_goes_394 hF  H
        · have H := H.2.2.2.2.2.1 c14
          refine V_tableIn (tgt := 178) dX8_goes_53 (by rw [c14]; decide) (by rw [c14]; decide) (by rw [c14]; rfl) (by decide) ?_
          refine V_aload_n dX8_goes_178 rfl 2 rfl ?_
          refine V_dup dX8_goes_179 rfl ?_
          refine H_geti ck7 82 (by decide) (fs_115 hF) (by decide) rfl q1540 dX8_goes_180 ?_
          refine V_iconst (v := 1) dX8_goes_183 (by decide) ?_
          refine V_isub dX8_goes_184 ?_
          refine H_puti ck7 82 (by decide) (fs_115 hF) (by decide) rfl rfl q1540 dX8_goes_185 (fun h35 e36 => ?_)
          have H := H h35 e36
          refine V_aload_n dX8_goes_188 rfl 2 rfl ?_
          refine H_getr ck7 81 (by decide) (fs_115 hF) (by decide) rfl (fr_115_81 hF) q1539 dX8_goes_189 ?_
          refine V_aload_n dX8_goes_192 rfl 2 rfl ?_
          refine H_geti ck7 82 (by decide) (fs_115 hF) (by decide) rfl q1540 dX8_goes_193 ?_
          obtain ⟨i37, H⟩ := H
          refine H_iald (fs_158 hF) i37 dX8_goes_196 ?_
          refine V_topi (fun y38 e39 => ?_)
          have H := H y38 e39
          refine V_istore_n (l1 := [(3, .int y38), (2, .int y9), (1, .int y6), (0, .ref (ad D 115))]) dX8_goes_197 rfl (by decide) rfl ?_
          refine V_aload_n dX8_goes_198 rfl 3 rfl ?_
          refine H_geti ck7 78 (by decide) (fs_115 hF) (by decide) rfl q1536 dX8_goes_199 ?_
          refine V_topi (fun y40 e41 => ?_)
          have H := H y40 e41
          refine V_istore (l1 := [(4, .int y40), (3, .int y38), (2, .int y9), (1, .int y6), (0, .ref (ad D 115))]) dX8_goes_202 (by decide) rfl ?_
          refine V_aload_n dX8_goes_204 rfl 4 rfl ?_
          refine V_iconst (v := 0) dX8_goes_205 (by decide) ?_
          refine V_iload_n dX8_goes_206 rfl 3 rfl ?_
          refine V_bipush (v := 19) dX8_goes_207 (by decide) ?_
          refine V_icmp_ne (tgt := 219) dX8_goes_209 (by decide) (fun c42 => ?_) (fun c42 => ?_)
          · have H := H.1 c42
            refine V_iload_n dX8_goes_219 rfl 3 rfl ?_
            refine V_bipush (v := 20) dX8_goes_220 (by decide) ?_
            refine V_icmp_ne (tgt := 232) dX8_goes_222 (by decide) (fun c43 => ?_) (fun c43 => ?_)
            · have H := H.1 c43
              refine V_iload_n dX8_goes_232 rfl 3 rfl ?_
              refine V_bipush (v := 21) dX8_goes_233 (by decide) ?_
              refine V_icmp_ne (tgt := 245) dX8_goes_235 (by decide) (fun c44 => ?_) (fun c44 => ?_)
              · have H := H.1 c44
                refine V_iload_n dX8_goes_245 rfl 3 rfl ?_
                refine V_bipush (v := 22) dX8_goes_246 (by decide) ?_
                refine V_icmp_ne (tgt := 265) dX8_goes_248 (by decide) (fun c45 => ?_) (fun c45 => ?_)
                · have H := H.1 c45
                  refine V_iload_n dX8_goes_265 rfl 1 rfl ?_
                  refine V_iload dX8_goes_266 0 rfl ?_
                  refine V_icmp_ne (tgt := 275) dX8_goes_268 (by decide) (fun c46 => ?_) (fun c46 => ?_)
                  · have H := H.1 c46
                    refine V_iconst (v := 0) dX8_goes_275 (by decide) ?_
                    refine V.sub [4] rfl ?_
                    exact bX8_goes_276 hF 0 0 H
                  · have H := H.2 c46
                    refine V_iconst (v := 1) dX8_goes_271 (by decide) ?_
                    refine V_goto (tgt := 276) dX8_goes_272 (by decide) ?_
                    refine V.sub [4] rfl ?_
                    exact bX8_goes_276 hF 0 1 H
                · have H := H.2 c45
                  refine V_iload_n dX8_goes_251 rfl 1 rfl ?_
                  refine V_iload dX8_goes_252 0 rfl ?_
                  refine V_icmp_ge (tgt := 261) dX8_goes_254 (by decide) (fun c47 => ?_) (fun c47 => ?_)
                  · have H := H.1 c47
                    refine V_iconst (v := 0) dX8_goes_261 (by decide) ?_
                    refine V_goto (tgt := 276) dX8_goes_262 (by decide) ?_
                    refine V.sub [4] rfl ?_
                    exact bX8_goes_276 hF 0 0 H
                  · have H := H.2 c47
                    refine V_iconst (v := 1) dX8_goes_257 (by decide) ?_
                    refine V_goto (tgt := 276) dX8_goes_258 (by decide) ?_
                    refine V.sub [4] rfl ?_
                    exact bX8_goes_276 hF 0 1 H
              · have H := H.2 c44
                refine V_iload_n dX8_goes_238 rfl 1 rfl ?_
                refine V_iload dX8_goes_239 0 rfl ?_
                refine V_imul dX8_goes_241 ?_
                refine V_goto (tgt := 276) dX8_goes_242 (by decide) ?_
                refine V.sub [4] rfl ?_
                exact bX8_goes_276 hF 0 (y38 * y40) H
            · have H := H.2 c43
              refine V_iload_n dX8_goes_225 rfl 1 rfl ?_
              refine V_iload dX8_goes_226 0 rfl ?_
              refine V_isub dX8_goes_228 ?_
              refine V_goto (tgt := 276) dX8_goes_229 (by decide) ?_
              refine V.sub [4] rfl ?_
              exact bX8_goes_276 hF 0 (y38 - y40) H
          · have H := H.2 c42
            refine V_iload_n dX8_goes_212 rfl 1 rfl ?_
            refine V_iload dX8_goes_213 0 rfl ?_
            refine V_iadd dX8_goes_215 ?_
            refine V_goto (tgt := 276) dX8_goes_216 (by decide) ?_
            refine V.sub [4] rfl ?_
            exact bX8_goes_276 hF 0 (y38 + y40) H
        · have H := H.2.2.2.2.2.2.1 c14
          refine V_tableIn (tgt := 282) dX8_goes_53 (by rw [c14]; decide) (by rw [c14]; decide) (by rw [c14]; rfl) (by decide) ?_
          refine V_aload_n dX8_goes_282 rfl 2 rfl ?_
          refine V_iconst (v := 1) dX8_goes_283 (by decide) ?_
          refine V_aload_n dX8_goes_284 rfl 2 rfl ?_
          refine H_geti ck7 78 (by decide) (fs_115 hF) (by decide) rfl q1536 dX8_goes_285 ?_
          refine V_if_ne (tgt := 300) dX8_goes_288 (by decide) (fun c48 => ?_) (fun c48 => ?_)
          · have H := H.1 c48
            refine V_aload_n dX8_goes_300 rfl 2 rfl ?_
            refine H_getr ck7 20 (by decide) (fs_115 hF) (by decide) rfl (fr_115_20 hF) q1478 dX8_goes_301 ?_
            refine V_iload_n dX8_goes_304 rfl 1 rfl ?_
            obtain ⟨i49, H⟩ := H
            refine H_iald (fs_126 hF) i49 dX8_goes_305 ?_
            refine V.sub [2, 0] rfl ?_
            exact bX8_goes_306 hF y9 1 (h3 126 (ix y6)) H
          · have H := H.2 c48
            refine V_aload_n dX8_goes_291 rfl 2 rfl ?_
            refine H_getr ck7 21 (by decide) (fs_115 hF) (by decide) rfl (fr_115_21 hF) q1479 dX8_goes_292 ?_
            refine V_iload_n dX8_goes_295 rfl 1 rfl ?_
            obtain ⟨i50, H⟩ := H
            refine H_iald (fs_127 hF) i50 dX8_goes_296 ?_
            refine V_goto (tgt := 306) dX8_goes_297 (by decide) ?_
            refine V.sub [2, 0] rfl ?_
            exact bX8_goes_306 hF y9 1 (h3 127 (ix y6)) H
        · have H := H.2.2.2.2.2.2.2.1 c14
          refine V_tableIn (tgt := 313) dX8_goes_53 (by rw [c14]; decide) (by rw [c14]; decide) (by rw [c14]; rfl) (by decide) ?_
          refine V_aload_n dX8_goes_313 rfl 2 rfl ?_
          refine H_getr ck7 65 (by decide) (fs_115 hF) (by decide) rfl (fr_115_65 hF) q1523 dX8_goes_314 ?_
          refine V_bipush (v := 16) dX8_goes_317 (by decide) ?_
          refine V_iload_n dX8_goes_319 rfl 0 rfl ?_
          refine V_imul dX8_goes_320 ?_
          refine V_aload_n dX8_goes_321 rfl 2 rfl ?_
          refine H_getr ck7 21 (by decide) (fs_115 hF) (by decide) rfl (fr_115_21 hF) q1479 dX8_goes_322 ?_
          refine V_iload_n dX8_goes_325 rfl 1 rfl ?_
          obtain ⟨i51, H⟩ := H
          refine H_iald (fs_127 hF) i51 dX8_goes_326 ?_
          refine V_iadd dX8_goes_327 ?_
          refine V_aload_n dX8_goes_328 rfl 2 rfl ?_
          refine H_getr ck7 63 (by decide) (fs_115 hF) (by decide) rfl (fr_115_63 hF) q1521 dX8_goes_329 ?_
          refine V_aload_n dX8_goes_332 rfl 2 rfl ?_
          refine H_geti ck7 78 (by decide) (fs_115 hF) (by decide) rfl q1536 dX8_goes_333 ?_
          obtain ⟨i52, H⟩ := H
          refine H_iald (fs_154 hF) i52 dX8_goes_336 ?_
          obtain ⟨i53, H⟩ := H
          refine H_iast (fs_156 hF) i53 dX8_goes_337 (fun h54 e55 => ?_)
          have H := H h54 e55
          refine V_aload_n dX8_goes_338 rfl 2 rfl ?_
          refine H_getr ck7 65 (by decide) (fs_115 hF) (by decide) rfl (fr_115_65 hF) q1523 dX8_goes_339 ?_
          refine V_bipush (v := 16) dX8_goes_342 (by decide) ?_
          refine V_iload_n dX8_goes_344 rfl 0 rfl ?_
          refine V_imul dX8_goes_345 ?_
          refine V_aload_n dX8_goes_346 rfl 2 rfl ?_
          refine H_getr ck7 21 (by decide) (fs_115 hF) (by decide) rfl (fr_115_21 hF) q1479 dX8_goes_347 ?_
          refine V_iload_n dX8_goes_350 rfl 1 rfl ?_
          obtain ⟨i56, H⟩ := H
          refine H_iald (fs_127 hF) i56 dX8_goes_351 ?_
          refine V_iadd dX8_goes_352 ?_
          refine V_iconst (v := 1) dX8_goes_353 (by decide) ?_
          refine V_iadd dX8_goes_354 ?_
          refine V_aload_n dX8_goes_355 rfl 2 rfl ?_
          refine H_getr ck7 64 (by decide) (fs_115 hF) (by decide) rfl (fr_115_64 hF) q1522 dX8_goes_356 ?_
          refine V_aload_n dX8_goes_359 rfl 2 rfl ?_
          refine H_geti ck7 78 (by decide) (fs_115 hF) (by decide) rfl q1536 dX8_goes_360 ?_
          obtain ⟨i57, H⟩ := H
          refine H_iald (fs_155 hF) i57 dX8_goes_363 ?_
          obtain ⟨i58, H⟩ := H
          refine H_iast (fs_156 hF) i58 dX8_goes_364 (fun h59 e60 => ?_)
          have H := H h59 e60
          refine V_aload_n dX8_goes_365 rfl 2 rfl ?_
          refine V_iconst (v := 1) dX8_goes_366 (by decide) ?_
          refine V_aload_n dX8_goes_367 rfl 2 rfl ?_
          refine H_getr ck7 20 (by decide) (fs_115 hF) (by decide) rfl (fr_115_20 hF) q1478 dX8_goes_368 ?_
          refine V_iload_n dX8_goes_371 rfl 1 rfl ?_
          obtain ⟨i61, H⟩ := H
          refine H_iald (fs_126 hF) i61 dX8_goes_372 ?_
          refine V_iload_n dX8_goes_373 rfl 0 rfl ?_
          refine H_callv (av := [.ref (ad D 115), .int 1, .int (h59 126 (ix y6)), .int y9]) (rest := []) H mqX8_task q88 (by decide) (Nat.le_of_ble_eq_true rfl) (k_resV (ci := 7) (av := [.int 1, .int (h59 126 (ix y6)), .int y9]) (rest := []) (fs_115 hF) (by decide) rfl rfl q1834 q1836 qs51 q1837 mhX8_task mnX8_task dX8_goes_374) (fun h62 g63 H => ?_)
          refine V_goto (tgt := 394) dX8_goes_377 (by decide) ?_
          refine V.sub [2] rfl ?_
          exact bX8_goes_394 hF  H
        · have H := H.2.2.2.2.2.2.2.2 c14
          refine V_tableIn (tgt := 380) dX8_goes_53 (by rw [c14]; decide) (by rw [c14]; decide) (by rw [c14]; rfl) (by decide) ?_
          refine V_aload_n dX8_goes_380 rfl 2 rfl ?_
          refine V_iload_n dX8_goes_381 rfl 1 rfl ?_
          refine H_callv (av := [.ref (ad D 115), .int y6]) (rest := []) H mqX8_need q88 (by decide) (Nat.le_of_ble_eq_true rfl) (k_resV (ci := 7) (av := [.int y6]) (rest := []) (fs_115 hF) (by decide) rfl rfl q1986 q1988 qs74 q1989 mhX8_need mnX8_need dX8_goes_382) (fun h64 g65 H => ?_)
          refine V_goto (tgt := 394) dX8_goes_385 (by decide) ?_
          refine V.sub [2] rfl ?_
          exact bX8_goes_394 hF  H
theorem wX8_goes {D : DE} {f : Nat} {Q : HI → HL → Prop} {F : Frm} {h : HI} {g : HL} (hF : k_Fix F)  (H : JX8_goes_0 D f Q F h g ) : Sv D (f + 1) mX8_goes [.ref (ad D 115)] F h g Q := Cl.ofV (by decide) (Nat.le_of_ble_eq_true rfl) rfl (bX8_goes_0 hF  H)
theorem dX8_run_0 : decode cX8_run 0 = .ok (.bipush 12, 2) := by decide +kernel
theorem dX8_run_2 : decode cX8_run 2 = .ok (.aload_n 0, 1) := by decide +kernel
theorem dX8_run_3 : decode cX8_run 3 = .ok (.getfield 345, 3) := by decide +kernel
theorem dX8_run_6 : decode cX8_run 6 = .ok (.imul, 1) := by decide +kernel
theorem dX8_run_7 : decode cX8_run 7 = .ok (.aload_n 0, 1) := by decide +kernel
theorem dX8_run_8 : decode cX8_run 8 = .ok (.iload_n 1, 1) := by decide +kernel
theorem dX8_run_9 : decode cX8_run 9 = .ok (.invokevirtual 357, 3) := by decide +kernel
theorem dX8_run_12 : decode cX8_run 12 = .ok (.ifCond .eq 7, 3) := by decide +kernel
theorem dX8_run_15 : decode cX8_run 15 = .ok (.iload_n 1, 1) := by decide +kernel
theorem dX8_run_16 : decode cX8_run 16 = .ok (.goto 4, 3) := by decide +kernel
theorem dX8_run_19 : decode cX8_run 19 = .ok (.iconst 0, 1) := by decide +kernel
theorem dX8_run_20 : decode cX8_run 20 = .ok (.iadd, 1) := by decide +kernel
theorem dX8_run_21 : decode cX8_run 21 = .ok (.istore 4, 2) := by decide +kernel
theorem dX8_run_23 : decode cX8_run 23 = .ok (.iconst 0, 1) := by decide +kernel
theorem dX8_run_24 : decode cX8_run 24 = .ok (.istore 5, 2) := by decide +kernel
theorem dX8_run_26 : decode cX8_run 26 = .ok (.iconst 0, 1) := by decide +kernel
theorem dX8_run_27 : decode cX8_run 27 = .ok (.istore 6, 2) := by decide +kernel
theorem dX8_run_29 : decode cX8_run 29 = .ok (.aload_n 0, 1) := by decide +kernel
theorem dX8_run_30 : decode cX8_run 30 = .ok (.getfield 341, 3) := by decide +kernel
theorem dX8_run_33 : decode cX8_run 33 = .ok (.ifCond .eq 42, 3) := by decide +kernel
theorem dX8_run_36 : decode cX8_run 36 = .ok (.iload 6, 2) := by decide +kernel
theorem dX8_run_38 : decode cX8_run 38 = .ok (.aload_n 0, 1) := by decide +kernel
theorem dX8_run_39 : decode cX8_run 39 = .ok (.getfield 24, 3) := by decide +kernel
theorem dX8_run_42 : decode cX8_run 42 = .ok (.iload 4, 2) := by decide +kernel
theorem dX8_run_44 : decode cX8_run 44 = .ok (.iaload, 1) := by decide +kernel
theorem dX8_run_45 : decode cX8_run 45 = .ok (.if_icmp .ge 30, 3) := by decide +kernel
theorem dX8_run_48 : decode cX8_run 48 = .ok (.aload_n 0, 1) := by decide +kernel
theorem dX8_run_49 : decode cX8_run 49 = .ok (.iload 5, 2) := by decide +kernel
theorem dX8_run_51 : decode cX8_run 51 = .ok (.aload_n 0, 1) := by decide +kernel
theorem dX8_run_52 : decode cX8_run 52 = .ok (.getfield 36, 3) := by decide +kernel
theorem dX8_run_55 : decode cX8_run 55 = .ok (.bipush 16, 2) := by decide +kernel
theorem dX8_run_57 : decode cX8_run 57 = .ok (.iload 4, 2) := by decide +kernel
theorem dX8_run_59 : decode cX8_run 59 = .ok (.imul, 1) := by decide +kernel
theorem dX8_run_60 : decode cX8_run 60 = .ok (.iload 6, 2) := by decide +kernel
theorem dX8_run_62 : decode cX8_run 62 = .ok (.iadd, 1) := by decide +kernel
theorem dX8_run_63 : decode cX8_run 63 = .ok (.iaload, 1) := by decide +kernel
theorem dX8_run_64 : decode cX8_run 64 = .ok (.invokevirtual 405, 3) := by decide +kernel
theorem dX8_run_67 : decode cX8_run 67 = .ok (.istore 5, 2) := by decide +kernel
theorem dX8_run_69 : decode cX8_run 69 = .ok (.iinc 6 1, 3) := by decide +kernel
theorem dX8_run_72 : decode cX8_run 72 = .ok (.goto (-43), 3) := by decide +kernel
theorem dX8_run_75 : decode cX8_run 75 = .ok (.aload_n 0, 1) := by decide +kernel
theorem dX8_run_76 : decode cX8_run 76 = .ok (.aload_n 0, 1) := by decide +kernel
theorem dX8_run_77 : decode cX8_run 77 = .ok (.getfield 341, 3) := by decide +kernel
theorem dX8_run_80 : decode cX8_run 80 = .ok (.ifCond .ne 7, 3) := by decide +kernel
theorem dX8_run_83 : decode cX8_run 83 = .ok (.iconst 1, 1) := by decide +kernel
theorem dX8_run_84 : decode cX8_run 84 = .ok (.goto 42, 3) := by decide +kernel
theorem dX8_run_87 : decode cX8_run 87 = .ok (.aload_n 0, 1) := by decide +kernel
theorem dX8_run_88 : decode cX8_run 88 = .ok (.iload_n 1, 1) := by decide +kernel
theorem dX8_run_89 : decode cX8_run 89 = .ok (.iload_n 2, 1) := by decide +kernel
theorem dX8_run_90 : decode cX8_run 90 = .ok (.invokevirtual 387, 3) := by decide +kernel
theorem dX8_run_93 : decode cX8_run 93 = .ok (.ifCond .ne 7, 3) := by decide +kernel
theorem dX8_run_96 : decode cX8_run 96 = .ok (.iconst 2, 1) := by decide +kernel
theorem dX8_run_97 : decode cX8_run 97 = .ok (.goto 29, 3) := by decide +kernel
theorem dX8_run_100 : decode cX8_run 100 = .ok (.iload_n 3, 1) := by decide +kernel
theorem dX8_run_101 : decode cX8_run 101 = .ok (.i2l, 1) := by decide +kernel
theorem dX8_run_102 : decode cX8_run 102 = .ok (.lconst 0, 1) := by decide +kernel
theorem dX8_run_103 : decode cX8_run 103 = .ok (.ldc2_w 462, 3) := by decide +kernel
theorem dX8_run_106 : decode cX8_run 106 = .ok (.invokestatic 154, 3) := by decide +kernel
theorem dX8_run_109 : decode cX8_run 109 = .ok (.ifCond .eq 12, 3) := by decide +kernel
theorem dX8_run_112 : decode cX8_run 112 = .ok (.iload 5, 2) := by decide +kernel
theorem dX8_run_114 : decode cX8_run 114 = .ok (.aload_n 0, 1) := by decide +kernel
theorem dX8_run_115 : decode cX8_run 115 = .ok (.getfield 402, 3) := by decide +kernel
theorem dX8_run_118 : decode cX8_run 118 = .ok (.if_icmp .eq 7, 3) := by decide +kernel
theorem dX8_run_121 : decode cX8_run 121 = .ok (.iconst 3, 1) := by decide +kernel
theorem dX8_run_122 : decode cX8_run 122 = .ok (.goto 4, 3) := by decide +kernel
theorem dX8_run_125 : decode cX8_run 125 = .ok (.iconst 0, 1) := by decide +kernel
theorem dX8_run_126 : decode cX8_run 126 = .ok (.putfield 148, 3) := by decide +kernel
theorem dX8_run_129 : decode cX8_run 129 = .ok (.aload_n 0, 1) := by decide +kernel
theorem dX8_run_130 : decode cX8_run 130 = .ok (.getfield 148, 3) := by decide +kernel
theorem dX8_run_133 : decode cX8_run 133 = .ok (.ifCond .le 5, 3) := by decide +kernel
theorem dX8_run_136 : decode cX8_run 136 = .ok (.iconst 0, 1) := by decide +kernel
theorem dX8_run_137 : decode cX8_run 137 = .ok (.ireturn, 1) := by decide +kernel
theorem dX8_run_138 : decode cX8_run 138 = .ok (.iconst 0, 1) := by decide +kernel
theorem dX8_run_139 : decode cX8_run 139 = .ok (.istore 5, 2) := by decide +kernel
theorem dX8_run_141 : decode cX8_run 141 = .ok (.iconst 0, 1) := by decide +kernel
theorem dX8_run_142 : decode cX8_run 142 = .ok (.istore 6, 2) := by decide +kernel
theorem dX8_run_144 : decode cX8_run 144 = .ok (.iload 6, 2) := by decide +kernel
theorem dX8_run_146 : decode cX8_run 146 = .ok (.aload_n 0, 1) := by decide +kernel
theorem dX8_run_147 : decode cX8_run 147 = .ok (.getfield 24, 3) := by decide +kernel
theorem dX8_run_150 : decode cX8_run 150 = .ok (.iload 4, 2) := by decide +kernel
theorem dX8_run_152 : decode cX8_run 152 = .ok (.iaload, 1) := by decide +kernel
theorem dX8_run_153 : decode cX8_run 153 = .ok (.if_icmp .ge 48, 3) := by decide +kernel
theorem dX8_run_156 : decode cX8_run 156 = .ok (.aload_n 0, 1) := by decide +kernel
theorem dX8_run_157 : decode cX8_run 157 = .ok (.getfield 139, 3) := by decide +kernel
theorem dX8_run_160 : decode cX8_run 160 = .ok (.iload 6, 2) := by decide +kernel
theorem dX8_run_162 : decode cX8_run 162 = .ok (.iload 5, 2) := by decide +kernel
theorem dX8_run_164 : decode cX8_run 164 = .ok (.iastore, 1) := by decide +kernel
theorem dX8_run_165 : decode cX8_run 165 = .ok (.aload_n 0, 1) := by decide +kernel
theorem dX8_run_166 : decode cX8_run 166 = .ok (.getfield 136, 3) := by decide +kernel
theorem dX8_run_169 : decode cX8_run 169 = .ok (.iload 6, 2) := by decide +kernel
theorem dX8_run_171 : decode cX8_run 171 = .ok (.iload 5, 2) := by decide +kernel
theorem dX8_run_173 : decode cX8_run 173 = .ok (.iastore, 1) := by decide +kernel
theorem dX8_run_174 : decode cX8_run 174 = .ok (.aload_n 0, 1) := by decide +kernel
theorem dX8_run_175 : decode cX8_run 175 = .ok (.iload 5, 2) := by decide +kernel
theorem dX8_run_177 : decode cX8_run 177 = .ok (.aload_n 0, 1) := by decide +kernel
theorem dX8_run_178 : decode cX8_run 178 = .ok (.getfield 36, 3) := by decide +kernel
theorem dX8_run_181 : decode cX8_run 181 = .ok (.bipush 16, 2) := by decide +kernel
theorem dX8_run_183 : decode cX8_run 183 = .ok (.iload 4, 2) := by decide +kernel
theorem dX8_run_185 : decode cX8_run 185 = .ok (.imul, 1) := by decide +kernel
theorem dX8_run_186 : decode cX8_run 186 = .ok (.iload 6, 2) := by decide +kernel
theorem dX8_run_188 : decode cX8_run 188 = .ok (.iadd, 1) := by decide +kernel
theorem dX8_run_189 : decode cX8_run 189 = .ok (.iaload, 1) := by decide +kernel
theorem dX8_run_190 : decode cX8_run 190 = .ok (.invokevirtual 464, 3) := by decide +kernel
theorem dX8_run_193 : decode cX8_run 193 = .ok (.istore 5, 2) := by decide +kernel
theorem dX8_run_195 : decode cX8_run 195 = .ok (.iinc 6 1, 3) := by decide +kernel
theorem dX8_run_198 : decode cX8_run 198 = .ok (.goto (-54), 3) := by decide +kernel
theorem dX8_run_201 : decode cX8_run 201 = .ok (.aload_n 0, 1) := by decide +kernel
theorem dX8_run_202 : decode cX8_run 202 = .ok (.iconst 0, 1) := by decide +kernel
theorem dX8_run_203 : decode cX8_run 203 = .ok (.putfield 402, 3) := by decide +kernel
theorem dX8_run_206 : decode cX8_run 206 = .ok (.aload_n 0, 1) := by decide +kernel
theorem dX8_run_207 : decode cX8_run 207 = .ok (.iconst 0, 1) := by decide +kernel
theorem dX8_run_208 : decode cX8_run 208 = .ok (.putfield 411, 3) := by decide +kernel
theorem dX8_run_211 : decode cX8_run 211 = .ok (.aload_n 0, 1) := by decide +kernel
theorem dX8_run_212 : decode cX8_run 212 = .ok (.iconst 0, 1) := by decide +kernel
theorem dX8_run_213 : decode cX8_run 213 = .ok (.putfield 459, 3) := by decide +kernel
theorem dX8_run_216 : decode cX8_run 216 = .ok (.aload_n 0, 1) := by decide +kernel
theorem dX8_run_217 : decode cX8_run 217 = .ok (.iconst 0, 1) := by decide +kernel
theorem dX8_run_218 : decode cX8_run 218 = .ok (.putfield 456, 3) := by decide +kernel
theorem dX8_run_221 : decode cX8_run 221 = .ok (.aload_n 0, 1) := by decide +kernel
theorem dX8_run_222 : decode cX8_run 222 = .ok (.iconst 0, 1) := by decide +kernel
theorem dX8_run_223 : decode cX8_run 223 = .ok (.putfield 438, 3) := by decide +kernel
theorem dX8_run_226 : decode cX8_run 226 = .ok (.aload_n 0, 1) := by decide +kernel
theorem dX8_run_227 : decode cX8_run 227 = .ok (.iload_n 3, 1) := by decide +kernel
theorem dX8_run_228 : decode cX8_run 228 = .ok (.putfield 441, 3) := by decide +kernel
theorem dX8_run_231 : decode cX8_run 231 = .ok (.aload_n 0, 1) := by decide +kernel
theorem dX8_run_232 : decode cX8_run 232 = .ok (.iconst 0, 1) := by decide +kernel
theorem dX8_run_233 : decode cX8_run 233 = .ok (.putfield 426, 3) := by decide +kernel
theorem dX8_run_236 : decode cX8_run 236 = .ok (.aload_n 0, 1) := by decide +kernel
theorem dX8_run_237 : decode cX8_run 237 = .ok (.iconst 0, 1) := by decide +kernel
theorem dX8_run_238 : decode cX8_run 238 = .ok (.putfield 444, 3) := by decide +kernel
theorem dX8_run_241 : decode cX8_run 241 = .ok (.aload_n 0, 1) := by decide +kernel
theorem dX8_run_242 : decode cX8_run 242 = .ok (.iconst 0, 1) := by decide +kernel
theorem dX8_run_243 : decode cX8_run 243 = .ok (.putfield 408, 3) := by decide +kernel
theorem dX8_run_246 : decode cX8_run 246 = .ok (.aload_n 0, 1) := by decide +kernel
theorem dX8_run_247 : decode cX8_run 247 = .ok (.iload_n 1, 1) := by decide +kernel
theorem dX8_run_248 : decode cX8_run 248 = .ok (.putfield 142, 3) := by decide +kernel
theorem dX8_run_251 : decode cX8_run 251 = .ok (.aload_n 0, 1) := by decide +kernel
theorem dX8_run_252 : decode cX8_run 252 = .ok (.iconst 0, 1) := by decide +kernel
theorem dX8_run_253 : decode cX8_run 253 = .ok (.putfield 429, 3) := by decide +kernel
theorem dX8_run_256 : decode cX8_run 256 = .ok (.aload_n 0, 1) := by decide +kernel
theorem dX8_run_257 : decode cX8_run 257 = .ok (.iconst 0, 1) := by decide +kernel
theorem dX8_run_258 : decode cX8_run 258 = .ok (.putfield 242, 3) := by decide +kernel
theorem dX8_run_261 : decode cX8_run 261 = .ok (.aload_n 0, 1) := by decide +kernel
theorem dX8_run_262 : decode cX8_run 262 = .ok (.iconst 1, 1) := by decide +kernel
theorem dX8_run_263 : decode cX8_run 263 = .ok (.aload_n 0, 1) := by decide +kernel
theorem dX8_run_264 : decode cX8_run 264 = .ok (.getfield 30, 3) := by decide +kernel
theorem dX8_run_267 : decode cX8_run 267 = .ok (.iload 4, 2) := by decide +kernel
theorem dX8_run_269 : decode cX8_run 269 = .ok (.iaload, 1) := by decide +kernel
theorem dX8_run_270 : decode cX8_run 270 = .ok (.iconst 0, 1) := by decide +kernel
theorem dX8_run_271 : decode cX8_run 271 = .ok (.invokevirtual 322, 3) := by decide +kernel
theorem dX8_run_274 : decode cX8_run 274 = .ok (.aload_n 0, 1) := by decide +kernel
theorem dX8_run_275 : decode cX8_run 275 = .ok (.invokevirtual 467, 3) := by decide +kernel
theorem dX8_run_278 : decode cX8_run 278 = .ok (.aload_n 0, 1) := by decide +kernel
theorem dX8_run_279 : decode cX8_run 279 = .ok (.aload_n 0, 1) := by decide +kernel
theorem dX8_run_280 : decode cX8_run 280 = .ok (.getfield 414, 3) := by decide +kernel
theorem dX8_run_283 : decode cX8_run 283 = .ok (.putfield 470, 3) := by decide +kernel
theorem dX8_run_286 : decode cX8_run 286 = .ok (.aload_n 0, 1) := by decide +kernel
theorem dX8_run_287 : decode cX8_run 287 = .ok (.aload_n 0, 1) := by decide +kernel
theorem dX8_run_288 : decode cX8_run 288 = .ok (.getfield 417, 3) := by decide +kernel
theorem dX8_run_291 : decode cX8_run 291 = .ok (.putfield 473, 3) := by decide +kernel
theorem dX8_run_294 : decode cX8_run 294 = .ok (.aload_n 0, 1) := by decide +kernel
theorem dX8_run_295 : decode cX8_run 295 = .ok (.getfield 408, 3) := by decide +kernel
theorem dX8_run_298 : decode cX8_run 298 = .ok (.ifCond .ne 19, 3) := by decide +kernel
theorem dX8_run_301 : decode cX8_run 301 = .ok (.aload_n 0, 1) := by decide +kernel
theorem dX8_run_302 : decode cX8_run 302 = .ok (.aload_n 0, 1) := by decide +kernel
theorem dX8_run_303 : decode cX8_run 303 = .ok (.getfield 21, 3) := by decide +kernel
theorem dX8_run_306 : decode cX8_run 306 = .ok (.iload 4, 2) := by decide +kernel
theorem dX8_run_308 : decode cX8_run 308 = .ok (.iaload, 1) := by decide +kernel
theorem dX8_run_309 : decode cX8_run 309 = .ok (.iload_n 2, 1) := by decide +kernel
theorem dX8_run_310 : decode cX8_run 310 = .ok (.invokevirtual 435, 3) := by decide +kernel
theorem dX8_run_313 : decode cX8_run 313 = .ok (.aload_n 0, 1) := by decide +kernel
theorem dX8_run_314 : decode cX8_run 314 = .ok (.invokevirtual 467, 3) := by decide +kernel
theorem dX8_run_317 : decode cX8_run 317 = .ok (.aload_n 0, 1) := by decide +kernel
theorem dX8_run_318 : decode cX8_run 318 = .ok (.aload_n 0, 1) := by decide +kernel
theorem dX8_run_319 : decode cX8_run 319 = .ok (.getfield 408, 3) := by decide +kernel
theorem dX8_run_322 : decode cX8_run 322 = .ok (.ifCond .ne 7, 3) := by decide +kernel
theorem dX8_run_325 : decode cX8_run 325 = .ok (.iconst 1, 1) := by decide +kernel
theorem dX8_run_326 : decode cX8_run 326 = .ok (.goto 7, 3) := by decide +kernel
theorem dX8_run_329 : decode cX8_run 329 = .ok (.aload_n 0, 1) := by decide +kernel
theorem dX8_run_330 : decode cX8_run 330 = .ok (.getfield 408, 3) := by decide +kernel
theorem dX8_run_333 : decode cX8_run 333 = .ok (.putfield 476, 3) := by decide +kernel
theorem dX8_run_336 : decode cX8_run 336 = .ok (.aload_n 0, 1) := by decide +kernel
theorem dX8_run_337 : decode cX8_run 337 = .ok (.getfield 476, 3) := by decide +kernel
theorem dX8_run_340 : decode cX8_run 340 = .ok (.ireturn, 1) := by decide +kernel
abbrev JX8_run_317 (D : DE) (f : Nat) (Q : Int32 → HI → HL → Prop) (F : Frm) (h : HI) (g : HL) : Prop := ((¬ (h 115 74) = 0 → ∀ h2, h2 = up2 h 115 76 (h 115 74) → Q (h2 115 76) h2 g) ∧ ((h 115 74) = 0 → ∀ h4, h4 = up2 h 115 76 1 → Q (h4 115 76) h4 g))
theorem bX8_run_317 {D : DE} {f : Nat} {Q : Int32 → HI → HL → Prop} {F : Frm} {h : HI} {g : HL} (hF : k_Fix F)  (H : JX8_run_317 D f Q F h g ) : V D mX8_run (f + 1) (qi F Q) 317 [(0, .ref (ad D 115))] [] (F, h, g) := by
  refine V_aload_n dX8_run_317 rfl 0 rfl ?_
  refine V_aload_n dX8_run_318 rfl 0 rfl ?_
  refine H_geti ck7 74 (by decide) (fs_115 hF) (by decide) rfl q1532 dX8_run_319 ?_
  refine V_if_ne (tgt := 329) dX8_run_322 (by decide) (fun c1 => ?_) (fun c1 => ?_)
  · have H := H.1 c1
    refine V_aload_n dX8_run_329 rfl 0 rfl ?_
    refine H_geti ck7 74 (by decide) (fs_115 hF) (by decide) rfl q1532 dX8_run_330 ?_
    refine H_puti ck7 76 (by decide) (fs_115 hF) (by decide) rfl rfl q1534 dX8_run_333 (fun h2 e3 => ?_)
    have H := H h2 e3
    refine V_aload_n dX8_run_336 rfl 0 rfl ?_
    refine H_geti ck7 76 (by decide) (fs_115 hF) (by decide) rfl q1534 dX8_run_337 ?_
    exact H_iret rfl dX8_run_340 H
  · have H := H.2 c1
    refine V_iconst (v := 1) dX8_run_325 (by decide) ?_
    refine V_goto (tgt := 333) dX8_run_326 (by decide) ?_
    refine H_puti ck7 76 (by decide) (fs_115 hF) (by decide) rfl rfl q1534 dX8_run_333 (fun h4 e5 => ?_)
    have H := H h4 e5
    refine V_aload_n dX8_run_336 rfl 0 rfl ?_
    refine H_geti ck7 76 (by decide) (fs_115 hF) (by decide) rfl q1534 dX8_run_337 ?_
    exact H_iret rfl dX8_run_340 H
abbrev JX8_run_144 (D : DE) (f : Nat) (Q : Int32 → HI → HL → Prop) (F : Frm) (h : HI) (g : HL) (x1 : Int32) (x2 : Int32) (x3 : Int32) (x4 : Int32) (x5 : Int32) (x6 : Int32) : Prop := vp_in x4 24 ∧ (((h 119 (ix x4)) ≤ x6 → ∀ h3, h3 = up2 h 115 55 0 → ∀ h5, h5 = up2 h3 115 67 0 → ∀ h7, h7 = up2 h5 115 68 0 → ∀ h9, h9 = up2 h7 115 69 0 → ∀ h11, h11 = up2 h9 115 70 0 → ∀ h13, h13 = up2 h11 115 71 x3 → ∀ h15, h15 = up2 h13 115 72 0 → ∀ h17, h17 = up2 h15 115 73 0 → ∀ h19, h19 = up2 h17 115 74 0 → ∀ h21, h21 = up2 h19 115 75 x1 → ∀ h23, h23 = up2 h21 115 82 0 → ∀ h25, h25 = up2 h23 115 36 0 → vp_in x4 24 ∧ Sv D f mX8_task [.ref (ad D 115), .int 1, .int (h25 121 (ix x4)), .int 0] F h25 g (fun h28 g29 => Sv D f mX8_goes [.ref (ad D 115)] F h28 g29 (fun h30 g31 => ∀ h32, h32 = up2 h30 115 79 (h30 115 77) → ∀ h34, h34 = up2 h32 115 80 (h32 115 78) → ((¬ (h34 115 74) = 0 → JX8_run_317 D f Q F h34 g31) ∧ ((h34 115 74) = 0 → vp_in x4 24 ∧ Sv D f mX8_demand [.ref (ad D 115), .int (h34 118 (ix x4)), .int x2] F h34 g31 (fun h38 g39 => Sv D f mX8_goes [.ref (ad D 115)] F h38 g39 (fun h40 g41 => JX8_run_317 D f Q F h40 g41))))))) ∧ (¬ (h 119 (ix x4)) ≤ x6 → vp_in x6 4 ∧ ∀ h43, h43 = up2 h 157 (ix x6) x5 → vp_in x6 24032 ∧ ∀ h46, h46 = up2 h43 156 (ix x6) x5 → vp_in ((16 * x4) + x6) 384 ∧ Si D f mX8_lay [.ref (ad D 115), .int x5, .int (h46 123 (ix ((16 * x4) + x6)))] F h46 g (fun y51 h49 g50 => ∀ y52 : Int32, y52 = x6 + 1 → V D mX8_run (f + 1) (qi F Q) 144 [(0, .ref (ad D 115)), (1, .int x1), (2, .int x2), (3, .int x3), (4, .int x4), (5, .int y51), (6, .int y52)] [] (F, h49, g50))))
theorem bX8_run_144 {D : DE} {f : Nat} {Q : Int32 → HI → HL → Prop} {F : Frm} {h : HI} {g : HL} (hF : k_Fix F) (x1 : Int32) (x2 : Int32) (x3 : Int32) (x4 : Int32) (x5 : Int32) (x6 : Int32) (H : JX8_run_144 D f Q F h g x1 x2 x3 x4 x5 x6) : V D mX8_run (f + 1) (qi F Q) 144 [(0, .ref (ad D 115)), (1, .int x1), (2, .int x2), (3, .int x3), (4, .int x4), (5, .int x5), (6, .int x6)] [] (F, h, g) := by
  refine V_iload dX8_run_144 6 rfl ?_
  refine V_aload_n dX8_run_146 rfl 0 rfl ?_
  refine H_getr ck7 13 (by decide) (fs_115 hF) (by decide) rfl (fr_115_13 hF) q1471 dX8_run_147 ?_
  refine V_iload dX8_run_150 4 rfl ?_
  obtain ⟨i1, H⟩ := H
  refine H_iald (fs_119 hF) i1 dX8_run_152 ?_
  refine V_icmp_ge (tgt := 201) dX8_run_153 (by decide) (fun c2 => ?_) (fun c2 => ?_)
  · have H := H.1 c2
    refine V_aload_n dX8_run_201 rfl 0 rfl ?_
    refine V_iconst (v := 0) dX8_run_202 (by decide) ?_
    refine H_puti ck7 55 (by decide) (fs_115 hF) (by decide) rfl rfl q1513 dX8_run_203 (fun h3 e4 => ?_)
    have H := H h3 e4
    refine V_aload_n dX8_run_206 rfl 0 rfl ?_
    refine V_iconst (v := 0) dX8_run_207 (by decide) ?_
    refine H_puti ck7 67 (by decide) (fs_115 hF) (by decide) rfl rfl q1525 dX8_run_208 (fun h5 e6 => ?_)
    have H := H h5 e6
    refine V_aload_n dX8_run_211 rfl 0 rfl ?_
    refine V_iconst (v := 0) dX8_run_212 (by decide) ?_
    refine H_puti ck7 68 (by decide) (fs_115 hF) (by decide) rfl rfl q1526 dX8_run_213 (fun h7 e8 => ?_)
    have H := H h7 e8
    refine V_aload_n dX8_run_216 rfl 0 rfl ?_
    refine V_iconst (v := 0) dX8_run_217 (by decide) ?_
    refine H_puti ck7 69 (by decide) (fs_115 hF) (by decide) rfl rfl q1527 dX8_run_218 (fun h9 e10 => ?_)
    have H := H h9 e10
    refine V_aload_n dX8_run_221 rfl 0 rfl ?_
    refine V_iconst (v := 0) dX8_run_222 (by decide) ?_
    refine H_puti ck7 70 (by decide) (fs_115 hF) (by decide) rfl rfl q1528 dX8_run_223 (fun h11 e12 => ?_)
    have H := H h11 e12
    refine V_aload_n dX8_run_226 rfl 0 rfl ?_
    refine V_iload_n dX8_run_227 rfl 3 rfl ?_
    refine H_puti ck7 71 (by decide) (fs_115 hF) (by decide) rfl rfl q1529 dX8_run_228 (fun h13 e14 => ?_)
    have H := H h13 e14
    refine V_aload_n dX8_run_231 rfl 0 rfl ?_
    refine V_iconst (v := 0) dX8_run_232 (by decide) ?_
    refine H_puti ck7 72 (by decide) (fs_115 hF) (by decide) rfl rfl q1530 dX8_run_233 (fun h15 e16 => ?_)
    have H := H h15 e16
    refine V_aload_n dX8_run_236 rfl 0 rfl ?_
    refine V_iconst (v := 0) dX8_run_237 (by decide) ?_
    refine H_puti ck7 73 (by decide) (fs_115 hF) (by decide) rfl rfl q1531 dX8_run_238 (fun h17 e18 => ?_)
    have H := H h17 e18
    refine V_aload_n dX8_run_241 rfl 0 rfl ?_
    refine V_iconst (v := 0) dX8_run_242 (by decide) ?_
    refine H_puti ck7 74 (by decide) (fs_115 hF) (by decide) rfl rfl q1532 dX8_run_243 (fun h19 e20 => ?_)
    have H := H h19 e20
    refine V_aload_n dX8_run_246 rfl 0 rfl ?_
    refine V_iload_n dX8_run_247 rfl 1 rfl ?_
    refine H_puti ck7 75 (by decide) (fs_115 hF) (by decide) rfl rfl q1533 dX8_run_248 (fun h21 e22 => ?_)
    have H := H h21 e22
    refine V_aload_n dX8_run_251 rfl 0 rfl ?_
    refine V_iconst (v := 0) dX8_run_252 (by decide) ?_
    refine H_puti ck7 82 (by decide) (fs_115 hF) (by decide) rfl rfl q1540 dX8_run_253 (fun h23 e24 => ?_)
    have H := H h23 e24
    refine V_aload_n dX8_run_256 rfl 0 rfl ?_
    refine V_iconst (v := 0) dX8_run_257 (by decide) ?_
    refine H_puti ck7 36 (by decide) (fs_115 hF) (by decide) rfl rfl q1494 dX8_run_258 (fun h25 e26 => ?_)
    have H := H h25 e26
    refine V_aload_n dX8_run_261 rfl 0 rfl ?_
    refine V_iconst (v := 1) dX8_run_262 (by decide) ?_
    refine V_aload_n dX8_run_263 rfl 0 rfl ?_
    refine H_getr ck7 15 (by decide) (fs_115 hF) (by decide) rfl (fr_115_15 hF) q1473 dX8_run_264 ?_
    refine V_iload dX8_run_267 4 rfl ?_
    obtain ⟨i27, H⟩ := H
    refine H_iald (fs_121 hF) i27 dX8_run_269 ?_
    refine V_iconst (v := 0) dX8_run_270 (by decide) ?_
    refine H_callv (av := [.ref (ad D 115), .int 1, .int (h25 121 (ix x4)), .int 0]) (rest := []) H mqX8_task q88 (by decide) (Nat.le_of_ble_eq_true rfl) (k_resV (ci := 7) (av := [.int 1, .int (h25 121 (ix x4)), .int 0]) (rest := []) (fs_115 hF) (by decide) rfl rfl q1834 q1836 qs51 q1837 mhX8_task mnX8_task dX8_run_271) (fun h28 g29 H => ?_)
    refine V_aload_n dX8_run_274 rfl 0 rfl ?_
    refine H_callv (av := [.ref (ad D 115)]) (rest := []) H mqX8_goes q88 (by decide) (Nat.le_of_ble_eq_true rfl) (k_resV (ci := 7) (av := []) (rest := []) (fs_115 hF) (by decide) rfl rfl q1974 q1976 qs71 q1977 mhX8_goes mnX8_goes dX8_run_275) (fun h30 g31 H => ?_)
    refine V_aload_n dX8_run_278 rfl 0 rfl ?_
    refine V_aload_n dX8_run_279 rfl 0 rfl ?_
    refine H_geti ck7 77 (by decide) (fs_115 hF) (by decide) rfl q1535 dX8_run_280 ?_
    refine H_puti ck7 79 (by decide) (fs_115 hF) (by decide) rfl rfl q1537 dX8_run_283 (fun h32 e33 => ?_)
    have H := H h32 e33
    refine V_aload_n dX8_run_286 rfl 0 rfl ?_
    refine V_aload_n dX8_run_287 rfl 0 rfl ?_
    refine H_geti ck7 78 (by decide) (fs_115 hF) (by decide) rfl q1536 dX8_run_288 ?_
    refine H_puti ck7 80 (by decide) (fs_115 hF) (by decide) rfl rfl q1538 dX8_run_291 (fun h34 e35 => ?_)
    have H := H h34 e35
    refine V_aload_n dX8_run_294 rfl 0 rfl ?_
    refine H_geti ck7 74 (by decide) (fs_115 hF) (by decide) rfl q1532 dX8_run_295 ?_
    refine V_if_ne (tgt := 317) dX8_run_298 (by decide) (fun c36 => ?_) (fun c36 => ?_)
    · have H := H.1 c36
      refine V.sub [0] rfl ?_
      exact bX8_run_317 hF  H
    · have H := H.2 c36
      refine V_aload_n dX8_run_301 rfl 0 rfl ?_
      refine V_aload_n dX8_run_302 rfl 0 rfl ?_
      refine H_getr ck7 12 (by decide) (fs_115 hF) (by decide) rfl (fr_115_12 hF) q1470 dX8_run_303 ?_
      refine V_iload dX8_run_306 4 rfl ?_
      obtain ⟨i37, H⟩ := H
      refine H_iald (fs_118 hF) i37 dX8_run_308 ?_
      refine V_iload_n dX8_run_309 rfl 2 rfl ?_
      refine H_callv (av := [.ref (ad D 115), .int (h34 118 (ix x4)), .int x2]) (rest := []) H mqX8_demand q88 (by decide) (Nat.le_of_ble_eq_true rfl) (k_resV (ci := 7) (av := [.int (h34 118 (ix x4)), .int x2]) (rest := []) (fs_115 hF) (by decide) rfl rfl q2002 q2004 qs78 q2005 mhX8_demand mnX8_demand dX8_run_310) (fun h38 g39 H => ?_)
      refine V_aload_n dX8_run_313 rfl 0 rfl ?_
      refine H_callv (av := [.ref (ad D 115)]) (rest := []) H mqX8_goes q88 (by decide) (Nat.le_of_ble_eq_true rfl) (k_resV (ci := 7) (av := []) (rest := []) (fs_115 hF) (by decide) rfl rfl q1974 q1976 qs71 q1977 mhX8_goes mnX8_goes dX8_run_314) (fun h40 g41 H => ?_)
      refine V.sub [0] rfl ?_
      exact bX8_run_317 hF  H
  · have H := H.2 c2
    refine V_aload_n dX8_run_156 rfl 0 rfl ?_
    refine H_getr ck7 66 (by decide) (fs_115 hF) (by decide) rfl (fr_115_66 hF) q1524 dX8_run_157 ?_
    refine V_iload dX8_run_160 6 rfl ?_
    refine V_iload dX8_run_162 5 rfl ?_
    obtain ⟨i42, H⟩ := H
    refine H_iast (fs_157 hF) i42 dX8_run_164 (fun h43 e44 => ?_)
    have H := H h43 e44
    refine V_aload_n dX8_run_165 rfl 0 rfl ?_
    refine H_getr ck7 65 (by decide) (fs_115 hF) (by decide) rfl (fr_115_65 hF) q1523 dX8_run_166 ?_
    refine V_iload dX8_run_169 6 rfl ?_
    refine V_iload dX8_run_171 5 rfl ?_
    obtain ⟨i45, H⟩ := H
    refine H_iast (fs_156 hF) i45 dX8_run_173 (fun h46 e47 => ?_)
    have H := H h46 e47
    refine V_aload_n dX8_run_174 rfl 0 rfl ?_
    refine V_iload dX8_run_175 5 rfl ?_
    refine V_aload_n dX8_run_177 rfl 0 rfl ?_
    refine H_getr ck7 17 (by decide) (fs_115 hF) (by decide) rfl (fr_115_17 hF) q1475 dX8_run_178 ?_
    refine V_bipush (v := 16) dX8_run_181 (by decide) ?_
    refine V_iload dX8_run_183 4 rfl ?_
    refine V_imul dX8_run_185 ?_
    refine V_iload dX8_run_186 6 rfl ?_
    refine V_iadd dX8_run_188 ?_
    obtain ⟨i48, H⟩ := H
    refine H_iald (fs_123 hF) i48 dX8_run_189 ?_
    refine H_calli (av := [.ref (ad D 115), .int x5, .int (h46 123 (ix ((16 * x4) + x6)))]) (rest := []) H mqX8_lay q88 (by decide) (Nat.le_of_ble_eq_true rfl) (k_resV (ci := 7) (av := [.int x5, .int (h46 123 (ix ((16 * x4) + x6)))]) (rest := []) (fs_115 hF) (by decide) rfl rfl q1970 q1972 qs70 q1973 mhX8_lay mnX8_lay dX8_run_190) (fun y51 h49 g50 H => ?_)
    refine V_istore (l1 := [(5, .int y51), (0, .ref (ad D 115)), (1, .int x1), (2, .int x2), (3, .int x3), (4, .int x4), (6, .int x6)]) dX8_run_193 (by decide) rfl ?_
    obtain ⟨y52, e53⟩ : ∃ y : Int32, y = x6 + 1 := ⟨_, rfl⟩
    have H := H y52 e53
    refine V_iinc (j := 6) (v := y52) (l1 := [(6, .int y52), (5, .int y51), (0, .ref (ad D 115)), (1, .int x1), (2, .int x2), (3, .int x3), (4, .int x4)]) dX8_run_195 rfl (by rw [e53]; rfl) (by decide) rfl ?_
    refine V_goto (tgt := 144) dX8_run_198 (by decide) ?_
    refine V.sub [2, 3, 4, 5, 6, 1, 0] rfl ?_
    exact H
abbrev JX8_run_126 (D : DE) (f : Nat) (Q : Int32 → HI → HL → Prop) (F : Frm) (h : HI) (g : HL) (x1 : Int32) (x2 : Int32) (x3 : Int32) (x4 : Int32) (s1 : Int32) : Prop := ∀ h1, h1 = up2 h 115 0 s1 → (((h1 115 0) ≤ 0 → V D mX8_run (f + 1) (qi F Q) 144 [(0, .ref (ad D 115)), (1, .int x1), (2, .int x2), (3, .int x3), (4, .int x4), (5, .int 0), (6, .int 0)] [] (F, h1, g)) ∧ (¬ (h1 115 0) ≤ 0 → Q 0 h1 g))
theorem bX8_run_126 {D : DE} {f : Nat} {Q : Int32 → HI → HL → Prop} {F : Frm} {h : HI} {g : HL} (hF : k_Fix F) (x1 : Int32) (x2 : Int32) (x3 : Int32) (x4 : Int32) (s1 : Int32) (H : JX8_run_126 D f Q F h g x1 x2 x3 x4 s1) : V D mX8_run (f + 1) (qi F Q) 126 [(0, .ref (ad D 115)), (1, .int x1), (2, .int x2), (3, .int x3), (4, .int x4)] [.int s1, .ref (ad D 115)] (F, h, g) := by
  refine H_puti ck7 0 (by decide) (fs_115 hF) (by decide) rfl rfl q1458 dX8_run_126 (fun h1 e2 => ?_)
  have H := H h1 e2
  refine V_aload_n dX8_run_129 rfl 0 rfl ?_
  refine H_geti ck7 0 (by decide) (fs_115 hF) (by decide) rfl q1458 dX8_run_130 ?_
  refine V_if_le (tgt := 138) dX8_run_133 (by decide) (fun c3 => ?_) (fun c3 => ?_)
  · have H := H.1 c3
    refine V_iconst (v := 0) dX8_run_138 (by decide) ?_
    refine V_istore (l1 := [(5, .int 0), (0, .ref (ad D 115)), (1, .int x1), (2, .int x2), (3, .int x3), (4, .int x4)]) dX8_run_139 (by decide) rfl ?_
    refine V_iconst (v := 0) dX8_run_141 (by decide) ?_
    refine V_istore (l1 := [(6, .int 0), (5, .int 0), (0, .ref (ad D 115)), (1, .int x1), (2, .int x2), (3, .int x3), (4, .int x4)]) dX8_run_142 (by decide) rfl ?_
    refine V.sub [2, 3, 4, 5, 6, 1, 0] rfl ?_
    exact H
  · have H := H.2 c3
    refine V_iconst (v := 0) dX8_run_136 (by decide) ?_
    exact H_iret rfl dX8_run_137 H
abbrev JX8_run_121 (D : DE) (f : Nat) (Q : Int32 → HI → HL → Prop) (F : Frm) (h : HI) (g : HL) (x1 : Int32) (x2 : Int32) (x3 : Int32) (x4 : Int32) : Prop := JX8_run_126 D f Q F h g x1 x2 x3 x4 3
theorem bX8_run_121 {D : DE} {f : Nat} {Q : Int32 → HI → HL → Prop} {F : Frm} {h : HI} {g : HL} (hF : k_Fix F) (x1 : Int32) (x2 : Int32) (x3 : Int32) (x4 : Int32) (H : JX8_run_121 D f Q F h g x1 x2 x3 x4) : V D mX8_run (f + 1) (qi F Q) 121 [(0, .ref (ad D 115)), (1, .int x1), (2, .int x2), (3, .int x3), (4, .int x4)] [.ref (ad D 115)] (F, h, g) := by
  refine V_iconst (v := 3) dX8_run_121 (by decide) ?_
  refine V_goto (tgt := 126) dX8_run_122 (by decide) ?_
  exact bX8_run_126 hF x1 x2 x3 x4 3 H
abbrev JX8_run_75 (D : DE) (f : Nat) (Q : Int32 → HI → HL → Prop) (F : Frm) (h : HI) (g : HL) (x1 : Int32) (x2 : Int32) (x3 : Int32) (x4 : Int32) (x5 : Int32) : Prop := ((¬ (h 115 45) = 0 → Si D f mX8_isRowThere [.ref (ad D 115), .int x1, .int x2] F h g (fun y4 h2 g3 => ((¬ y4 = 0 → Si D f mX8_within [.long x3.toInt64, .long 0, .long 20000] F h2 g3 (fun y8 h6 g7 => ((y8 = 0 → JX8_run_121 D f Q F h6 g7 x1 x2 x3 x4) ∧ (¬ y8 = 0 → ((x5 = (h6 115 55) → JX8_run_126 D f Q F h6 g7 x1 x2 x3 x4 0) ∧ (¬ x5 = (h6 115 55) → JX8_run_121 D f Q F h6 g7 x1 x2 x3 x4)))))) ∧ (y4 = 0 → JX8_run_126 D f Q F h2 g3 x1 x2 x3 x4 2)))) ∧ ((h 115 45) = 0 → JX8_run_126 D f Q F h g x1 x2 x3 x4 1))
theorem bX8_run_75 {D : DE} {f : Nat} {Q : Int32 → HI → HL → Prop} {F : Frm} {h : HI} {g : HL} (hF : k_Fix F) (x1 : Int32) (x2 : Int32) (x3 : Int32) (x4 : Int32) (x5 : Int32) (H : JX8_run_75 D f Q F h g x1 x2 x3 x4 x5) : V D mX8_run (f + 1) (qi F Q) 75 [(0, .ref (ad D 115)), (1, .int x1), (2, .int x2), (3, .int x3), (4, .int x4), (5, .int x5)] [] (F, h, g) := by
  refine V_aload_n dX8_run_75 rfl 0 rfl ?_
  refine V_aload_n dX8_run_76 rfl 0 rfl ?_
  refine H_geti ck7 45 (by decide) (fs_115 hF) (by decide) rfl q1503 dX8_run_77 ?_
  refine V_if_ne (tgt := 87) dX8_run_80 (by decide) (fun c1 => ?_) (fun c1 => ?_)
  · have H := H.1 c1
    refine V_aload_n dX8_run_87 rfl 0 rfl ?_
    refine V_iload_n dX8_run_88 rfl 1 rfl ?_
    refine V_iload_n dX8_run_89 rfl 2 rfl ?_
    refine H_calli (av := [.ref (ad D 115), .int x1, .int x2]) (rest := [.ref (ad D 115)]) H mqX8_isRowThere q88 (by decide) (Nat.le_of_ble_eq_true rfl) (k_resV (ci := 7) (av := [.int x1, .int x2]) (rest := [.ref (ad D 115)]) (fs_115 hF) (by decide) rfl rfl q1920 q1922 qs64 q1923 mhX8_isRowThere mnX8_isRowThere dX8_run_90) (fun y4 h2 g3 H => ?_)
    refine V_if_ne (tgt := 100) dX8_run_93 (by decide) (fun c5 => ?_) (fun c5 => ?_)
    · have H := H.1 c5
      refine V_iload_n dX8_run_100 rfl 3 rfl ?_
      refine V_i2l dX8_run_101 ?_
      refine V_lconst (v := 0) dX8_run_102 (by decide) ?_
      refine V_ldc2 (v := 20000) dX8_run_103 q1969 ?_
      refine H_calli (av := [.long x3.toInt64, .long 0, .long 20000]) (rest := [.ref (ad D 115)]) H mqX8_within q88 (by decide) (Nat.le_of_ble_eq_true rfl) (k_resS (av := [.long x3.toInt64, .long 0, .long 20000]) (rest := [.ref (ad D 115)]) (M1 := mX8_within) rfl q1721 q1722 q88 mqX8_within (fun _ _ h => mW_named h) mhX8_within mnX8_within dX8_run_106) (fun y8 h6 g7 H => ?_)
      refine V_if_eq (tgt := 121) dX8_run_109 (by decide) (fun c9 => ?_) (fun c9 => ?_)
      · have H := H.1 c9
        refine V.sub [0, 1, 2, 3, 4] rfl ?_
        exact bX8_run_121 hF x1 x2 x3 x4 H
      · have H := H.2 c9
        refine V_iload dX8_run_112 5 rfl ?_
        refine V_aload_n dX8_run_114 rfl 0 rfl ?_
        refine H_geti ck7 55 (by decide) (fs_115 hF) (by decide) rfl q1513 dX8_run_115 ?_
        refine V_icmp_eq (tgt := 125) dX8_run_118 (by decide) (fun c10 => ?_) (fun c10 => ?_)
        · have H := H.1 c10
          refine V_iconst (v := 0) dX8_run_125 (by decide) ?_
          refine V.sub [0, 1, 2, 3, 4] rfl ?_
          exact bX8_run_126 hF x1 x2 x3 x4 0 H
        · have H := H.2 c10
          refine V.sub [0, 1, 2, 3, 4] rfl ?_
          exact bX8_run_121 hF x1 x2 x3 x4 H
    · have H := H.2 c5
      refine V_iconst (v := 2) dX8_run_96 (by decide) ?_
      refine V_goto (tgt := 126) dX8_run_97 (by decide) ?_
      refine V.sub [0, 1, 2, 3, 4] rfl ?_
      exact bX8_run_126 hF x1 x2 x3 x4 2 H
  · have H := H.2 c1
    refine V_iconst (v := 1) dX8_run_83 (by decide) ?_
    refine V_goto (tgt := 126) dX8_run_84 (by decide) ?_
    refine V.sub [0, 1, 2, 3, 4] rfl ?_
    exact bX8_run_126 hF x1 x2 x3 x4 1 H
abbrev JX8_run_29 (D : DE) (f : Nat) (Q : Int32 → HI → HL → Prop) (F : Frm) (h : HI) (g : HL) (x1 : Int32) (x2 : Int32) (x3 : Int32) (x4 : Int32) (x5 : Int32) (x6 : Int32) : Prop := (((h 115 45) = 0 → JX8_run_75 D f Q F h g x1 x2 x3 x4 x5) ∧ (¬ (h 115 45) = 0 → vp_in x4 24 ∧ (((h 119 (ix x4)) ≤ x6 → JX8_run_75 D f Q F h g x1 x2 x3 x4 x5) ∧ (¬ (h 119 (ix x4)) ≤ x6 → vp_in ((16 * x4) + x6) 384 ∧ Si D f mX8_behind [.ref (ad D 115), .int x5, .int (h 123 (ix ((16 * x4) + x6)))] F h g (fun y7 h5 g6 => ∀ y8 : Int32, y8 = x6 + 1 → V D mX8_run (f + 1) (qi F Q) 29 [(0, .ref (ad D 115)), (1, .int x1), (2, .int x2), (3, .int x3), (4, .int x4), (5, .int y7), (6, .int y8)] [] (F, h5, g6))))))
theorem bX8_run_29 {D : DE} {f : Nat} {Q : Int32 → HI → HL → Prop} {F : Frm} {h : HI} {g : HL} (hF : k_Fix F) (x1 : Int32) (x2 : Int32) (x3 : Int32) (x4 : Int32) (x5 : Int32) (x6 : Int32) (H : JX8_run_29 D f Q F h g x1 x2 x3 x4 x5 x6) : V D mX8_run (f + 1) (qi F Q) 29 [(0, .ref (ad D 115)), (1, .int x1), (2, .int x2), (3, .int x3), (4, .int x4), (5, .int x5), (6, .int x6)] [] (F, h, g) := by
  refine V_aload_n dX8_run_29 rfl 0 rfl ?_
  refine H_geti ck7 45 (by decide) (fs_115 hF) (by decide) rfl q1503 dX8_run_30 ?_
  refine V_if_eq (tgt := 75) dX8_run_33 (by decide) (fun c1 => ?_) (fun c1 => ?_)
  · have H := H.1 c1
    refine V.sub [0, 1, 2, 3, 4, 5] rfl ?_
    exact bX8_run_75 hF x1 x2 x3 x4 x5 H
  · have H := H.2 c1
    refine V_iload dX8_run_36 6 rfl ?_
    refine V_aload_n dX8_run_38 rfl 0 rfl ?_
    refine H_getr ck7 13 (by decide) (fs_115 hF) (by decide) rfl (fr_115_13 hF) q1471 dX8_run_39 ?_
    refine V_iload dX8_run_42 4 rfl ?_
    obtain ⟨i2, H⟩ := H
    refine H_iald (fs_119 hF) i2 dX8_run_44 ?_
    refine V_icmp_ge (tgt := 75) dX8_run_45 (by decide) (fun c3 => ?_) (fun c3 => ?_)
    · have H := H.1 c3
      refine V.sub [0, 1, 2, 3, 4, 5] rfl ?_
      exact bX8_run_75 hF x1 x2 x3 x4 x5 H
    · have H := H.2 c3
      refine V_aload_n dX8_run_48 rfl 0 rfl ?_
      refine V_iload dX8_run_49 5 rfl ?_
      refine V_aload_n dX8_run_51 rfl 0 rfl ?_
      refine H_getr ck7 17 (by decide) (fs_115 hF) (by decide) rfl (fr_115_17 hF) q1475 dX8_run_52 ?_
      refine V_bipush (v := 16) dX8_run_55 (by decide) ?_
      refine V_iload dX8_run_57 4 rfl ?_
      refine V_imul dX8_run_59 ?_
      refine V_iload dX8_run_60 6 rfl ?_
      refine V_iadd dX8_run_62 ?_
      obtain ⟨i4, H⟩ := H
      refine H_iald (fs_123 hF) i4 dX8_run_63 ?_
      refine H_calli (av := [.ref (ad D 115), .int x5, .int (h 123 (ix ((16 * x4) + x6)))]) (rest := []) H mqX8_behind q88 (by decide) (Nat.le_of_ble_eq_true rfl) (k_resV (ci := 7) (av := [.int x5, .int (h 123 (ix ((16 * x4) + x6)))]) (rest := []) (fs_115 hF) (by decide) rfl rfl q1965 q1967 qs69 q1968 mhX8_behind mnX8_behind dX8_run_64) (fun y7 h5 g6 H => ?_)
      refine V_istore (l1 := [(5, .int y7), (0, .ref (ad D 115)), (1, .int x1), (2, .int x2), (3, .int x3), (4, .int x4), (6, .int x6)]) dX8_run_67 (by decide) rfl ?_
      obtain ⟨y8, e9⟩ : ∃ y : Int32, y = x6 + 1 := ⟨_, rfl⟩
      have H := H y8 e9
      refine V_iinc (j := 6) (v := y8) (l1 := [(6, .int y8), (5, .int y7), (0, .ref (ad D 115)), (1, .int x1), (2, .int x2), (3, .int x3), (4, .int x4)]) dX8_run_69 rfl (by rw [e9]; rfl) (by decide) rfl ?_
      refine V_goto (tgt := 29) dX8_run_72 (by decide) ?_
      refine V.sub [2, 3, 4, 5, 6, 1, 0] rfl ?_
      exact H
abbrev JX8_run_20 (D : DE) (f : Nat) (Q : Int32 → HI → HL → Prop) (F : Frm) (h : HI) (g : HL) (x1 : Int32) (x2 : Int32) (x3 : Int32) (s0 : Int32) (s1 : Int32) : Prop := ∀ y1 : Int32, y1 = s0 + s1 → V D mX8_run (f + 1) (qi F Q) 29 [(0, .ref (ad D 115)), (1, .int x1), (2, .int x2), (3, .int x3), (4, .int y1), (5, .int 0), (6, .int 0)] [] (F, h, g)
theorem bX8_run_20 {D : DE} {f : Nat} {Q : Int32 → HI → HL → Prop} {F : Frm} {h : HI} {g : HL} (hF : k_Fix F) (x1 : Int32) (x2 : Int32) (x3 : Int32) (s0 : Int32) (s1 : Int32) (H : JX8_run_20 D f Q F h g x1 x2 x3 s0 s1) : V D mX8_run (f + 1) (qi F Q) 20 [(0, .ref (ad D 115)), (1, .int x1), (2, .int x2), (3, .int x3)] [.int s1, .int s0] (F, h, g) := by
  refine V_iadd dX8_run_20 ?_
  refine V_topi (fun y1 e2 => ?_)
  have H := H y1 e2
  refine V_istore (l1 := [(4, .int y1), (0, .ref (ad D 115)), (1, .int x1), (2, .int x2), (3, .int x3)]) dX8_run_21 (by decide) rfl ?_
  refine V_iconst (v := 0) dX8_run_23 (by decide) ?_
  refine V_istore (l1 := [(5, .int 0), (4, .int y1), (0, .ref (ad D 115)), (1, .int x1), (2, .int x2), (3, .int x3)]) dX8_run_24 (by decide) rfl ?_
  refine V_iconst (v := 0) dX8_run_26 (by decide) ?_
  refine V_istore (l1 := [(6, .int 0), (5, .int 0), (4, .int y1), (0, .ref (ad D 115)), (1, .int x1), (2, .int x2), (3, .int x3)]) dX8_run_27 (by decide) rfl ?_
  refine V.sub [3, 4, 5, 6, 2, 1, 0] rfl ?_
  exact H
abbrev JX8_run_0 (D : DE) (f : Nat) (Q : Int32 → HI → HL → Prop) (F : Frm) (h : HI) (g : HL) (x1 : Int32) (x2 : Int32) (x3 : Int32) : Prop := Si D f mX8_isFn [.ref (ad D 115), .int x1] F h g (fun y3 h1 g2 => ((y3 = 0 → JX8_run_20 D f Q F h1 g2 x1 x2 x3 (12 * (h 115 47)) 0) ∧ (¬ y3 = 0 → JX8_run_20 D f Q F h1 g2 x1 x2 x3 (12 * (h 115 47)) x1)))
theorem bX8_run_0 {D : DE} {f : Nat} {Q : Int32 → HI → HL → Prop} {F : Frm} {h : HI} {g : HL} (hF : k_Fix F) (x1 : Int32) (x2 : Int32) (x3 : Int32) (H : JX8_run_0 D f Q F h g x1 x2 x3) : V D mX8_run (f + 1) (qi F Q) 0 [(0, .ref (ad D 115)), (1, .int x1), (2, .int x2), (3, .int x3)] [] (F, h, g) := by
  refine V_bipush (v := 12) dX8_run_0 (by decide) ?_
  refine V_aload_n dX8_run_2 rfl 0 rfl ?_
  refine H_geti ck7 47 (by decide) (fs_115 hF) (by decide) rfl q1505 dX8_run_3 ?_
  refine V_imul dX8_run_6 ?_
  refine V_aload_n dX8_run_7 rfl 0 rfl ?_
  refine V_iload_n dX8_run_8 rfl 1 rfl ?_
  refine H_calli (av := [.ref (ad D 115), .int x1]) (rest := [.int (12 * (h 115 47))]) H mqX8_isFn q88 (by decide) (Nat.le_of_ble_eq_true rfl) (k_resV (ci := 7) (av := [.int x1]) (rest := [.int (12 * (h 115 47))]) (fs_115 hF) (by decide) rfl rfl q1872 q1874 qs57 q1875 mhX8_isFn mnX8_isFn dX8_run_9) (fun y3 h1 g2 H => ?_)
  refine V_if_eq (tgt := 19) dX8_run_12 (by decide) (fun c4 => ?_) (fun c4 => ?_)
  · have H := H.1 c4
    refine V_iconst (v := 0) dX8_run_19 (by decide) ?_
    exact bX8_run_20 hF x1 x2 x3 (12 * (h 115 47)) 0 H
  · have H := H.2 c4
    refine V_iload_n dX8_run_15 rfl 1 rfl ?_
    refine V_goto (tgt := 20) dX8_run_16 (by decide) ?_
    exact bX8_run_20 hF x1 x2 x3 (12 * (h 115 47)) x1 H
theorem wX8_run {D : DE} {f : Nat} {Q : Int32 → HI → HL → Prop} {F : Frm} {h : HI} {g : HL} (hF : k_Fix F) (x1 : Int32) (x2 : Int32) (x3 : Int32) (H : JX8_run_0 D f Q F h g x1 x2 x3) : Si D (f + 1) mX8_run [.ref (ad D 115), .int x1, .int x2, .int x3] F h g Q := Cl.ofV (by decide) (Nat.le_of_ble_eq_true rfl) rfl (bX8_run_0 hF x1 x2 x3 H)
theorem dX8_told_0 : decode cX8_told 0 = .ok (.aload_n 0, 1) := by decide +kernel
theorem dX8_told_1 : decode cX8_told 1 = .ok (.iload_n 1, 1) := by decide +kernel
theorem dX8_told_2 : decode cX8_told 2 = .ok (.i2l, 1) := by decide +kernel
theorem dX8_told_3 : decode cX8_told 3 = .ok (.lconst 0, 1) := by decide +kernel
theorem dX8_told_4 : decode cX8_told 4 = .ok (.ldc2_w 479, 3) := by decide +kernel
theorem dX8_told_7 : decode cX8_told 7 = .ok (.invokestatic 154, 3) := by decide +kernel
theorem dX8_told_10 : decode cX8_told 10 = .ok (.ifCond .eq 7, 3) := by decide +kernel
theorem dX8_told_13 : decode cX8_told 13 = .ok (.iconst 0, 1) := by decide +kernel
theorem dX8_told_14 : decode cX8_told 14 = .ok (.goto 4, 3) := by decide +kernel
theorem dX8_told_17 : decode cX8_told 17 = .ok (.iconst 1, 1) := by decide +kernel
theorem dX8_told_18 : decode cX8_told 18 = .ok (.putfield 148, 3) := by decide +kernel
theorem dX8_told_21 : decode cX8_told 21 = .ok (.aload_n 0, 1) := by decide +kernel
theorem dX8_told_22 : decode cX8_told 22 = .ok (.getfield 148, 3) := by decide +kernel
theorem dX8_told_25 : decode cX8_told 25 = .ok (.ifCond .gt 17, 3) := by decide +kernel
theorem dX8_told_28 : decode cX8_told 28 = .ok (.iload_n 1, 1) := by decide +kernel
theorem dX8_told_29 : decode cX8_told 29 = .ok (.bipush 6, 2) := by decide +kernel
theorem dX8_told_31 : decode cX8_told 31 = .ok (.if_icmp .ge 13, 3) := by decide +kernel
theorem dX8_told_34 : decode cX8_told 34 = .ok (.aload_n 0, 1) := by decide +kernel
theorem dX8_told_35 : decode cX8_told 35 = .ok (.getfield 142, 3) := by decide +kernel
theorem dX8_told_38 : decode cX8_told 38 = .ok (.iconst (-1), 1) := by decide +kernel
theorem dX8_told_39 : decode cX8_told 39 = .ok (.if_icmp .ne 5, 3) := by decide +kernel
theorem dX8_told_42 : decode cX8_told 42 = .ok (.iconst 0, 1) := by decide +kernel
theorem dX8_told_43 : decode cX8_told 43 = .ok (.ireturn, 1) := by decide +kernel
theorem dX8_told_44 : decode cX8_told 44 = .ok (.iconst 0, 1) := by decide +kernel
theorem dX8_told_45 : decode cX8_told 45 = .ok (.istore_n 2, 1) := by decide +kernel
theorem dX8_told_46 : decode cX8_told 46 = .ok (.bipush 40, 2) := by decide +kernel
theorem dX8_told_48 : decode cX8_told 48 = .ok (.istore_n 3, 1) := by decide +kernel
theorem dX8_told_49 : decode cX8_told 49 = .ok (.iload_n 3, 1) := by decide +kernel
theorem dX8_told_50 : decode cX8_told 50 = .ok (.bipush 40, 2) := by decide +kernel
theorem dX8_told_52 : decode cX8_told 52 = .ok (.aload_n 0, 1) := by decide +kernel
theorem dX8_told_53 : decode cX8_told 53 = .ok (.getfield 411, 3) := by decide +kernel
theorem dX8_told_56 : decode cX8_told 56 = .ok (.iadd, 1) := by decide +kernel
theorem dX8_told_57 : decode cX8_told 57 = .ok (.if_icmp .ge 34, 3) := by decide +kernel
theorem dX8_told_60 : decode cX8_told 60 = .ok (.aload_n 0, 1) := by decide +kernel
theorem dX8_told_61 : decode cX8_told 61 = .ok (.getfield 142, 3) := by decide +kernel
theorem dX8_told_64 : decode cX8_told 64 = .ok (.iconst (-1), 1) := by decide +kernel
theorem dX8_told_65 : decode cX8_told 65 = .ok (.if_icmp .eq 26, 3) := by decide +kernel
theorem dX8_told_68 : decode cX8_told 68 = .ok (.iload_n 2, 1) := by decide +kernel
theorem dX8_told_69 : decode cX8_told 69 = .ok (.aload_n 0, 1) := by decide +kernel
theorem dX8_told_70 : decode cX8_told 70 = .ok (.getfield 127, 3) := by decide +kernel
theorem dX8_told_73 : decode cX8_told 73 = .ok (.iload_n 3, 1) := by decide +kernel
theorem dX8_told_74 : decode cX8_told 74 = .ok (.baload, 1) := by decide +kernel
theorem dX8_told_75 : decode cX8_told 75 = .ok (.ifCond .eq 7, 3) := by decide +kernel
theorem dX8_told_78 : decode cX8_told 78 = .ok (.iconst 0, 1) := by decide +kernel
theorem dX8_told_79 : decode cX8_told 79 = .ok (.goto 4, 3) := by decide +kernel
theorem dX8_told_82 : decode cX8_told 82 = .ok (.iconst 1, 1) := by decide +kernel
theorem dX8_told_83 : decode cX8_told 83 = .ok (.iadd, 1) := by decide +kernel
theorem dX8_told_84 : decode cX8_told 84 = .ok (.istore_n 2, 1) := by decide +kernel
theorem dX8_told_85 : decode cX8_told 85 = .ok (.iinc 3 1, 3) := by decide +kernel
theorem dX8_told_88 : decode cX8_told 88 = .ok (.goto (-39), 3) := by decide +kernel
theorem dX8_told_91 : decode cX8_told 91 = .ok (.iload_n 1, 1) := by decide +kernel
theorem dX8_told_92 : decode cX8_told 92 = .ok (.ifCond .ne 10, 3) := by decide +kernel
theorem dX8_told_95 : decode cX8_told 95 = .ok (.aload_n 0, 1) := by decide +kernel
theorem dX8_told_96 : decode cX8_told 96 = .ok (.getfield 438, 3) := by decide +kernel
theorem dX8_told_99 : decode cX8_told 99 = .ok (.goto 64, 3) := by decide +kernel
theorem dX8_told_102 : decode cX8_told 102 = .ok (.iload_n 1, 1) := by decide +kernel
theorem dX8_told_103 : decode cX8_told 103 = .ok (.iconst 1, 1) := by decide +kernel
theorem dX8_told_104 : decode cX8_told 104 = .ok (.if_icmp .ne 10, 3) := by decide +kernel
theorem dX8_told_107 : decode cX8_told 107 = .ok (.aload_n 0, 1) := by decide +kernel
theorem dX8_told_108 : decode cX8_told 108 = .ok (.getfield 411, 3) := by decide +kernel
theorem dX8_told_111 : decode cX8_told 111 = .ok (.goto 52, 3) := by decide +kernel
theorem dX8_told_114 : decode cX8_told 114 = .ok (.iload_n 1, 1) := by decide +kernel
theorem dX8_told_115 : decode cX8_told 115 = .ok (.iconst 2, 1) := by decide +kernel
theorem dX8_told_116 : decode cX8_told 116 = .ok (.if_icmp .ne 10, 3) := by decide +kernel
theorem dX8_told_119 : decode cX8_told 119 = .ok (.aload_n 0, 1) := by decide +kernel
theorem dX8_told_120 : decode cX8_told 120 = .ok (.getfield 459, 3) := by decide +kernel
theorem dX8_told_123 : decode cX8_told 123 = .ok (.goto 40, 3) := by decide +kernel
theorem dX8_told_126 : decode cX8_told 126 = .ok (.iload_n 1, 1) := by decide +kernel
theorem dX8_told_127 : decode cX8_told 127 = .ok (.iconst 3, 1) := by decide +kernel
theorem dX8_told_128 : decode cX8_told 128 = .ok (.if_icmp .ne 10, 3) := by decide +kernel
theorem dX8_told_131 : decode cX8_told 131 = .ok (.aload_n 0, 1) := by decide +kernel
theorem dX8_told_132 : decode cX8_told 132 = .ok (.getfield 456, 3) := by decide +kernel
theorem dX8_told_135 : decode cX8_told 135 = .ok (.goto 28, 3) := by decide +kernel
theorem dX8_told_138 : decode cX8_told 138 = .ok (.iload_n 1, 1) := by decide +kernel
theorem dX8_told_139 : decode cX8_told 139 = .ok (.iconst 4, 1) := by decide +kernel
theorem dX8_told_140 : decode cX8_told 140 = .ok (.if_icmp .ne 10, 3) := by decide +kernel
theorem dX8_told_143 : decode cX8_told 143 = .ok (.aload_n 0, 1) := by decide +kernel
theorem dX8_told_144 : decode cX8_told 144 = .ok (.getfield 444, 3) := by decide +kernel
theorem dX8_told_147 : decode cX8_told 147 = .ok (.goto 16, 3) := by decide +kernel
theorem dX8_told_150 : decode cX8_told 150 = .ok (.iload_n 1, 1) := by decide +kernel
theorem dX8_told_151 : decode cX8_told 151 = .ok (.iconst 5, 1) := by decide +kernel
theorem dX8_told_152 : decode cX8_told 152 = .ok (.if_icmp .ne 7, 3) := by decide +kernel
theorem dX8_told_155 : decode cX8_told 155 = .ok (.iload_n 2, 1) := by decide +kernel
theorem dX8_told_156 : decode cX8_told 156 = .ok (.goto 7, 3) := by decide +kernel
theorem dX8_told_159 : decode cX8_told 159 = .ok (.aload_n 0, 1) := by decide +kernel
theorem dX8_told_160 : decode cX8_told 160 = .ok (.getfield 402, 3) := by decide +kernel
theorem dX8_told_163 : decode cX8_told 163 = .ok (.ireturn, 1) := by decide +kernel
abbrev JX8_told_91 (D : DE) (f : Nat) (Q : Int32 → HI → HL → Prop) (F : Frm) (h : HI) (g : HL) (x1 : Int32) (x2 : Int32) : Prop := ((¬ x1 = 0 → ((¬ x1 = 1 → ((¬ x1 = 2 → ((¬ x1 = 3 → ((¬ x1 = 4 → ((¬ x1 = 5 → Q (h 115 55) h g) ∧ (x1 = 5 → Q x2 h g))) ∧ (x1 = 4 → Q (h 115 73) h g))) ∧ (x1 = 3 → Q (h 115 69) h g))) ∧ (x1 = 2 → Q (h 115 68) h g))) ∧ (x1 = 1 → Q (h 115 67) h g))) ∧ (x1 = 0 → Q (h 115 70) h g))
theorem bX8_told_91 {D : DE} {f : Nat} {Q : Int32 → HI → HL → Prop} {F : Frm} {h : HI} {g : HL} (hF : k_Fix F) (x1 : Int32) (x2 : Int32) (H : JX8_told_91 D f Q F h g x1 x2) : V D mX8_told (f + 1) (qi F Q) 91 [(0, .ref (ad D 115)), (1, .int x1), (2, .int x2)] [] (F, h, g) := by
  refine V_iload_n dX8_told_91 rfl 1 rfl ?_
  refine V_if_ne (tgt := 102) dX8_told_92 (by decide) (fun c1 => ?_) (fun c1 => ?_)
  · have H := H.1 c1
    refine V_iload_n dX8_told_102 rfl 1 rfl ?_
    refine V_iconst (v := 1) dX8_told_103 (by decide) ?_
    refine V_icmp_ne (tgt := 114) dX8_told_104 (by decide) (fun c2 => ?_) (fun c2 => ?_)
    · have H := H.1 c2
      refine V_iload_n dX8_told_114 rfl 1 rfl ?_
      refine V_iconst (v := 2) dX8_told_115 (by decide) ?_
      refine V_icmp_ne (tgt := 126) dX8_told_116 (by decide) (fun c3 => ?_) (fun c3 => ?_)
      · have H := H.1 c3
        refine V_iload_n dX8_told_126 rfl 1 rfl ?_
        refine V_iconst (v := 3) dX8_told_127 (by decide) ?_
        refine V_icmp_ne (tgt := 138) dX8_told_128 (by decide) (fun c4 => ?_) (fun c4 => ?_)
        · have H := H.1 c4
          refine V_iload_n dX8_told_138 rfl 1 rfl ?_
          refine V_iconst (v := 4) dX8_told_139 (by decide) ?_
          refine V_icmp_ne (tgt := 150) dX8_told_140 (by decide) (fun c5 => ?_) (fun c5 => ?_)
          · have H := H.1 c5
            refine V_iload_n dX8_told_150 rfl 1 rfl ?_
            refine V_iconst (v := 5) dX8_told_151 (by decide) ?_
            refine V_icmp_ne (tgt := 159) dX8_told_152 (by decide) (fun c6 => ?_) (fun c6 => ?_)
            · have H := H.1 c6
              refine V_aload_n dX8_told_159 rfl 0 rfl ?_
              refine H_geti ck7 55 (by decide) (fs_115 hF) (by decide) rfl q1513 dX8_told_160 ?_
              exact H_iret rfl dX8_told_163 H
            · have H := H.2 c6
              refine V_iload_n dX8_told_155 rfl 2 rfl ?_
              refine V_goto (tgt := 163) dX8_told_156 (by decide) ?_
              exact H_iret rfl dX8_told_163 H
          · have H := H.2 c5
            refine V_aload_n dX8_told_143 rfl 0 rfl ?_
            refine H_geti ck7 73 (by decide) (fs_115 hF) (by decide) rfl q1531 dX8_told_144 ?_
            refine V_goto (tgt := 163) dX8_told_147 (by decide) ?_
            exact H_iret rfl dX8_told_163 H
        · have H := H.2 c4
          refine V_aload_n dX8_told_131 rfl 0 rfl ?_
          refine H_geti ck7 69 (by decide) (fs_115 hF) (by decide) rfl q1527 dX8_told_132 ?_
          refine V_goto (tgt := 163) dX8_told_135 (by decide) ?_
          exact H_iret rfl dX8_told_163 H
      · have H := H.2 c3
        refine V_aload_n dX8_told_119 rfl 0 rfl ?_
        refine H_geti ck7 68 (by decide) (fs_115 hF) (by decide) rfl q1526 dX8_told_120 ?_
        refine V_goto (tgt := 163) dX8_told_123 (by decide) ?_
        exact H_iret rfl dX8_told_163 H
    · have H := H.2 c2
      refine V_aload_n dX8_told_107 rfl 0 rfl ?_
      refine H_geti ck7 67 (by decide) (fs_115 hF) (by decide) rfl q1525 dX8_told_108 ?_
      refine V_goto (tgt := 163) dX8_told_111 (by decide) ?_
      exact H_iret rfl dX8_told_163 H
  · have H := H.2 c1
    refine V_aload_n dX8_told_95 rfl 0 rfl ?_
    refine H_geti ck7 70 (by decide) (fs_115 hF) (by decide) rfl q1528 dX8_told_96 ?_
    refine V_goto (tgt := 163) dX8_told_99 (by decide) ?_
    exact H_iret rfl dX8_told_163 H
abbrev JX8_told_83 (D : DE) (f : Nat) (Q : Int32 → HI → HL → Prop) (F : Frm) (h : HI) (g : HL) (x1 : Int32) (x3 : Int32) (s0 : Int32) (s1 : Int32) : Prop := ∀ y1 : Int32, y1 = s0 + s1 → ∀ y3 : Int32, y3 = x3 + 1 → V D mX8_told (f + 1) (qi F Q) 49 [(0, .ref (ad D 115)), (1, .int x1), (2, .int y1), (3, .int y3)] [] (F, h, g)
theorem bX8_told_83 {D : DE} {f : Nat} {Q : Int32 → HI → HL → Prop} {F : Frm} {h : HI} {g : HL} (hF : k_Fix F) (x1 : Int32) (x3 : Int32) (s0 : Int32) (s1 : Int32) (H : JX8_told_83 D f Q F h g x1 x3 s0 s1) : V D mX8_told (f + 1) (qi F Q) 83 [(0, .ref (ad D 115)), (1, .int x1), (3, .int x3)] [.int s1, .int s0] (F, h, g) := by
  refine V_iadd dX8_told_83 ?_
  refine V_topi (fun y1 e2 => ?_)
  have H := H y1 e2
  refine V_istore_n (l1 := [(2, .int y1), (0, .ref (ad D 115)), (1, .int x1), (3, .int x3)]) dX8_told_84 rfl (by decide) rfl ?_
  obtain ⟨y3, e4⟩ : ∃ y : Int32, y = x3 + 1 := ⟨_, rfl⟩
  have H := H y3 e4
  refine V_iinc (j := 3) (v := y3) (l1 := [(3, .int y3), (2, .int y1), (0, .ref (ad D 115)), (1, .int x1)]) dX8_told_85 rfl (by rw [e4]; rfl) (by decide) rfl ?_
  refine V_goto (tgt := 49) dX8_told_88 (by decide) ?_
  refine V.sub [2, 3, 1, 0] rfl ?_
  exact H
abbrev JX8_told_49 (D : DE) (f : Nat) (Q : Int32 → HI → HL → Prop) (F : Frm) (h : HI) (g : HL) (x1 : Int32) (x2 : Int32) (x3 : Int32) : Prop := (((40 + (h 115 67)) ≤ x3 → JX8_told_91 D f Q F h g x1 x2) ∧ (¬ (40 + (h 115 67)) ≤ x3 → (((h 115 75) = (-1) → JX8_told_91 D f Q F h g x1 x2) ∧ (¬ (h 115 75) = (-1) → vp_in x3 1540 ∧ (((h 153 (ix x3)) = 0 → JX8_told_83 D f Q F h g x1 x3 x2 1) ∧ (¬ (h 153 (ix x3)) = 0 → JX8_told_83 D f Q F h g x1 x3 x2 0))))))
theorem bX8_told_49 {D : DE} {f : Nat} {Q : Int32 → HI → HL → Prop} {F : Frm} {h : HI} {g : HL} (hF : k_Fix F) (x1 : Int32) (x2 : Int32) (x3 : Int32) (H : JX8_told_49 D f Q F h g x1 x2 x3) : V D mX8_told (f + 1) (qi F Q) 49 [(0, .ref (ad D 115)), (1, .int x1), (2, .int x2), (3, .int x3)] [] (F, h, g) := by
  refine V_iload_n dX8_told_49 rfl 3 rfl ?_
  refine V_bipush (v := 40) dX8_told_50 (by decide) ?_
  refine V_aload_n dX8_told_52 rfl 0 rfl ?_
  refine H_geti ck7 67 (by decide) (fs_115 hF) (by decide) rfl q1525 dX8_told_53 ?_
  refine V_iadd dX8_told_56 ?_
  refine V_icmp_ge (tgt := 91) dX8_told_57 (by decide) (fun c1 => ?_) (fun c1 => ?_)
  · have H := H.1 c1
    refine V.sub [0, 1, 2] rfl ?_
    exact bX8_told_91 hF x1 x2 H
  · have H := H.2 c1
    refine V_aload_n dX8_told_60 rfl 0 rfl ?_
    refine H_geti ck7 75 (by decide) (fs_115 hF) (by decide) rfl q1533 dX8_told_61 ?_
    refine V_iconst (v := (-1)) dX8_told_64 (by decide) ?_
    refine V_icmp_eq (tgt := 91) dX8_told_65 (by decide) (fun c2 => ?_) (fun c2 => ?_)
    · have H := H.1 c2
      refine V.sub [0, 1, 2] rfl ?_
      exact bX8_told_91 hF x1 x2 H
    · have H := H.2 c2
      refine V_iload_n dX8_told_68 rfl 2 rfl ?_
      refine V_aload_n dX8_told_69 rfl 0 rfl ?_
      refine H_getr ck7 62 (by decide) (fs_115 hF) (by decide) rfl (fr_115_62 hF) q1520 dX8_told_70 ?_
      refine V_iload_n dX8_told_73 rfl 3 rfl ?_
      obtain ⟨i3, H⟩ := H
      refine H_zald (fs_153 hF) i3 dX8_told_74 ?_
      refine V_if_eq (tgt := 82) dX8_told_75 (by decide) (fun c4 => ?_) (fun c4 => ?_)
      · have H := H.1 c4
        refine V_iconst (v := 1) dX8_told_82 (by decide) ?_
        refine V.sub [0, 1, 3] rfl ?_
        exact bX8_told_83 hF x1 x3 x2 1 H
      · have H := H.2 c4
        refine V_iconst (v := 0) dX8_told_78 (by decide) ?_
        refine V_goto (tgt := 83) dX8_told_79 (by decide) ?_
        refine V.sub [0, 1, 3] rfl ?_
        exact bX8_told_83 hF x1 x3 x2 0 H
abbrev JX8_told_44 (D : DE) (f : Nat) (Q : Int32 → HI → HL → Prop) (F : Frm) (h : HI) (g : HL) (x1 : Int32) : Prop := V D mX8_told (f + 1) (qi F Q) 49 [(0, .ref (ad D 115)), (1, .int x1), (2, .int 0), (3, .int 40)] [] (F, h, g)
theorem bX8_told_44 {D : DE} {f : Nat} {Q : Int32 → HI → HL → Prop} {F : Frm} {h : HI} {g : HL} (hF : k_Fix F) (x1 : Int32) (H : JX8_told_44 D f Q F h g x1) : V D mX8_told (f + 1) (qi F Q) 44 [(0, .ref (ad D 115)), (1, .int x1)] [] (F, h, g) := by
  refine V_iconst (v := 0) dX8_told_44 (by decide) ?_
  refine V_istore_n (l1 := [(2, .int 0), (0, .ref (ad D 115)), (1, .int x1)]) dX8_told_45 rfl (by decide) rfl ?_
  refine V_bipush (v := 40) dX8_told_46 (by decide) ?_
  refine V_istore_n (l1 := [(3, .int 40), (2, .int 0), (0, .ref (ad D 115)), (1, .int x1)]) dX8_told_48 rfl (by decide) rfl ?_
  refine V.sub [2, 3, 1, 0] rfl ?_
  exact H
abbrev JX8_told_18 (D : DE) (f : Nat) (Q : Int32 → HI → HL → Prop) (F : Frm) (h : HI) (g : HL) (x1 : Int32) (s1 : Int32) : Prop := ∀ h1, h1 = up2 h 115 0 s1 → ((0 < (h1 115 0) → Q 0 h1 g) ∧ (¬ 0 < (h1 115 0) → ((6 ≤ x1 → JX8_told_44 D f Q F h1 g x1) ∧ (¬ 6 ≤ x1 → ((¬ (h1 115 75) = (-1) → JX8_told_44 D f Q F h1 g x1) ∧ ((h1 115 75) = (-1) → Q 0 h1 g))))))
theorem bX8_told_18 {D : DE} {f : Nat} {Q : Int32 → HI → HL → Prop} {F : Frm} {h : HI} {g : HL} (hF : k_Fix F) (x1 : Int32) (s1 : Int32) (H : JX8_told_18 D f Q F h g x1 s1) : V D mX8_told (f + 1) (qi F Q) 18 [(0, .ref (ad D 115)), (1, .int x1)] [.int s1, .ref (ad D 115)] (F, h, g) := by
  refine H_puti ck7 0 (by decide) (fs_115 hF) (by decide) rfl rfl q1458 dX8_told_18 (fun h1 e2 => ?_)
  have H := H h1 e2
  refine V_aload_n dX8_told_21 rfl 0 rfl ?_
  refine H_geti ck7 0 (by decide) (fs_115 hF) (by decide) rfl q1458 dX8_told_22 ?_
  refine V_if_gt (tgt := 42) dX8_told_25 (by decide) (fun c3 => ?_) (fun c3 => ?_)
  · have H := H.1 c3
    refine V_iconst (v := 0) dX8_told_42 (by decide) ?_
    exact H_iret rfl dX8_told_43 H
  · have H := H.2 c3
    refine V_iload_n dX8_told_28 rfl 1 rfl ?_
    refine V_bipush (v := 6) dX8_told_29 (by decide) ?_
    refine V_icmp_ge (tgt := 44) dX8_told_31 (by decide) (fun c4 => ?_) (fun c4 => ?_)
    · have H := H.1 c4
      exact bX8_told_44 hF x1 H
    · have H := H.2 c4
      refine V_aload_n dX8_told_34 rfl 0 rfl ?_
      refine H_geti ck7 75 (by decide) (fs_115 hF) (by decide) rfl q1533 dX8_told_35 ?_
      refine V_iconst (v := (-1)) dX8_told_38 (by decide) ?_
      refine V_icmp_ne (tgt := 44) dX8_told_39 (by decide) (fun c5 => ?_) (fun c5 => ?_)
      · have H := H.1 c5
        exact bX8_told_44 hF x1 H
      · have H := H.2 c5
        refine V_iconst (v := 0) dX8_told_42 (by decide) ?_
        exact H_iret rfl dX8_told_43 H
abbrev JX8_told_0 (D : DE) (f : Nat) (Q : Int32 → HI → HL → Prop) (F : Frm) (h : HI) (g : HL) (x1 : Int32) : Prop := Si D f mX8_within [.long x1.toInt64, .long 0, .long 6] F h g (fun y3 h1 g2 => ((y3 = 0 → JX8_told_18 D f Q F h1 g2 x1 1) ∧ (¬ y3 = 0 → JX8_told_18 D f Q F h1 g2 x1 0)))
theorem bX8_told_0 {D : DE} {f : Nat} {Q : Int32 → HI → HL → Prop} {F : Frm} {h : HI} {g : HL} (hF : k_Fix F) (x1 : Int32) (H : JX8_told_0 D f Q F h g x1) : V D mX8_told (f + 1) (qi F Q) 0 [(0, .ref (ad D 115)), (1, .int x1)] [] (F, h, g) := by
  refine V_aload_n dX8_told_0 rfl 0 rfl ?_
  refine V_iload_n dX8_told_1 rfl 1 rfl ?_
  refine V_i2l dX8_told_2 ?_
  refine V_lconst (v := 0) dX8_told_3 (by decide) ?_
  refine V_ldc2 (v := 6) dX8_told_4 q2010 ?_
  refine H_calli (av := [.long x1.toInt64, .long 0, .long 6]) (rest := [.ref (ad D 115)]) H mqX8_within q88 (by decide) (Nat.le_of_ble_eq_true rfl) (k_resS (av := [.long x1.toInt64, .long 0, .long 6]) (rest := [.ref (ad D 115)]) (M1 := mX8_within) rfl q1721 q1722 q88 mqX8_within (fun _ _ h => mW_named h) mhX8_within mnX8_within dX8_told_7) (fun y3 h1 g2 H => ?_)
  refine V_if_eq (tgt := 17) dX8_told_10 (by decide) (fun c4 => ?_) (fun c4 => ?_)
  · have H := H.1 c4
    refine V_iconst (v := 1) dX8_told_17 (by decide) ?_
    exact bX8_told_18 hF x1 1 H
  · have H := H.2 c4
    refine V_iconst (v := 0) dX8_told_13 (by decide) ?_
    refine V_goto (tgt := 18) dX8_told_14 (by decide) ?_
    exact bX8_told_18 hF x1 0 H
theorem wX8_told {D : DE} {f : Nat} {Q : Int32 → HI → HL → Prop} {F : Frm} {h : HI} {g : HL} (hF : k_Fix F) (x1 : Int32) (H : JX8_told_0 D f Q F h g x1) : Si D (f + 1) mX8_told [.ref (ad D 115), .int x1] F h g Q := Cl.ofV (by decide) (Nat.le_of_ble_eq_true rfl) rfl (bX8_told_0 hF x1 H)
theorem dX8_parted_0 : decode cX8_parted 0 = .ok (.iload_n 1, 1) := by decide +kernel
theorem dX8_parted_1 : decode cX8_parted 1 = .ok (.ifCond .eq 11, 3) := by decide +kernel
theorem dX8_parted_4 : decode cX8_parted 4 = .ok (.aload_n 0, 1) := by decide +kernel
theorem dX8_parted_5 : decode cX8_parted 5 = .ok (.getfield 414, 3) := by decide +kernel
theorem dX8_parted_8 : decode cX8_parted 8 = .ok (.iconst 1, 1) := by decide +kernel
theorem dX8_parted_9 : decode cX8_parted 9 = .ok (.if_icmp .eq 5, 3) := by decide +kernel
theorem dX8_parted_12 : decode cX8_parted 12 = .ok (.iconst 0, 1) := by decide +kernel
theorem dX8_parted_13 : decode cX8_parted 13 = .ok (.ireturn, 1) := by decide +kernel
theorem dX8_parted_14 : decode cX8_parted 14 = .ok (.iload_n 2, 1) := by decide +kernel
theorem dX8_parted_15 : decode cX8_parted 15 = .ok (.ifCond .eq 15, 3) := by decide +kernel
theorem dX8_parted_18 : decode cX8_parted 18 = .ok (.aload_n 0, 1) := by decide +kernel
theorem dX8_parted_19 : decode cX8_parted 19 = .ok (.getfield 133, 3) := by decide +kernel
theorem dX8_parted_22 : decode cX8_parted 22 = .ok (.aload_n 0, 1) := by decide +kernel
theorem dX8_parted_23 : decode cX8_parted 23 = .ok (.getfield 417, 3) := by decide +kernel
theorem dX8_parted_26 : decode cX8_parted 26 = .ok (.iaload, 1) := by decide +kernel
theorem dX8_parted_27 : decode cX8_parted 27 = .ok (.goto 12, 3) := by decide +kernel
theorem dX8_parted_30 : decode cX8_parted 30 = .ok (.aload_n 0, 1) := by decide +kernel
theorem dX8_parted_31 : decode cX8_parted 31 = .ok (.getfield 130, 3) := by decide +kernel
theorem dX8_parted_34 : decode cX8_parted 34 = .ok (.aload_n 0, 1) := by decide +kernel
theorem dX8_parted_35 : decode cX8_parted 35 = .ok (.getfield 417, 3) := by decide +kernel
theorem dX8_parted_38 : decode cX8_parted 38 = .ok (.iaload, 1) := by decide +kernel
theorem dX8_parted_39 : decode cX8_parted 39 = .ok (.istore_n 3, 1) := by decide +kernel
theorem dX8_parted_40 : decode cX8_parted 40 = .ok (.aload_n 0, 1) := by decide +kernel
theorem dX8_parted_41 : decode cX8_parted 41 = .ok (.getfield 118, 3) := by decide +kernel
theorem dX8_parted_44 : decode cX8_parted 44 = .ok (.iload_n 3, 1) := by decide +kernel
theorem dX8_parted_45 : decode cX8_parted 45 = .ok (.iaload, 1) := by decide +kernel
theorem dX8_parted_46 : decode cX8_parted 46 = .ok (.iconst 2, 1) := by decide +kernel
theorem dX8_parted_47 : decode cX8_parted 47 = .ok (.if_icmp .eq 5, 3) := by decide +kernel
theorem dX8_parted_50 : decode cX8_parted 50 = .ok (.iconst 0, 1) := by decide +kernel
theorem dX8_parted_51 : decode cX8_parted 51 = .ok (.ireturn, 1) := by decide +kernel
theorem dX8_parted_52 : decode cX8_parted 52 = .ok (.aload_n 0, 1) := by decide +kernel
theorem dX8_parted_53 : decode cX8_parted 53 = .ok (.aload_n 0, 1) := by decide +kernel
theorem dX8_parted_54 : decode cX8_parted 54 = .ok (.getfield 121, 3) := by decide +kernel
theorem dX8_parted_57 : decode cX8_parted 57 = .ok (.iload_n 3, 1) := by decide +kernel
theorem dX8_parted_58 : decode cX8_parted 58 = .ok (.iaload, 1) := by decide +kernel
theorem dX8_parted_59 : decode cX8_parted 59 = .ok (.putfield 414, 3) := by decide +kernel
theorem dX8_parted_62 : decode cX8_parted 62 = .ok (.aload_n 0, 1) := by decide +kernel
theorem dX8_parted_63 : decode cX8_parted 63 = .ok (.aload_n 0, 1) := by decide +kernel
theorem dX8_parted_64 : decode cX8_parted 64 = .ok (.getfield 124, 3) := by decide +kernel
theorem dX8_parted_67 : decode cX8_parted 67 = .ok (.iload_n 3, 1) := by decide +kernel
theorem dX8_parted_68 : decode cX8_parted 68 = .ok (.iaload, 1) := by decide +kernel
theorem dX8_parted_69 : decode cX8_parted 69 = .ok (.putfield 417, 3) := by decide +kernel
theorem dX8_parted_72 : decode cX8_parted 72 = .ok (.iconst 1, 1) := by decide +kernel
theorem dX8_parted_73 : decode cX8_parted 73 = .ok (.ireturn, 1) := by decide +kernel
abbrev JX8_parted_39 (D : DE) (f : Nat) (Q : Int32 → HI → HL → Prop) (F : Frm) (h : HI) (g : HL) (s0 : Int32) : Prop := vp_in s0 1540 ∧ (((h 150 (ix s0)) = 2 → vp_in s0 1540 ∧ ∀ h4, h4 = up2 h 115 77 (h 151 (ix s0)) → vp_in s0 1540 ∧ ∀ h7, h7 = up2 h4 115 78 (h4 152 (ix s0)) → Q 1 h7 g) ∧ (¬ (h 150 (ix s0)) = 2 → Q 0 h g))
theorem bX8_parted_39 {D : DE} {f : Nat} {Q : Int32 → HI → HL → Prop} {F : Frm} {h : HI} {g : HL} (hF : k_Fix F) (s0 : Int32) (H : JX8_parted_39 D f Q F h g s0) : V D mX8_parted f (qi F Q) 39 [(0, .ref (ad D 115))] [.int s0] (F, h, g) := by
  refine V_istore_n (l1 := [(3, .int s0), (0, .ref (ad D 115))]) dX8_parted_39 rfl (by decide) rfl ?_
  refine V_aload_n dX8_parted_40 rfl 1 rfl ?_
  refine H_getr ck7 59 (by decide) (fs_115 hF) (by decide) rfl (fr_115_59 hF) q1517 dX8_parted_41 ?_
  refine V_iload_n dX8_parted_44 rfl 0 rfl ?_
  obtain ⟨i1, H⟩ := H
  refine H_iald (fs_150 hF) i1 dX8_parted_45 ?_
  refine V_iconst (v := 2) dX8_parted_46 (by decide) ?_
  refine V_icmp_eq (tgt := 52) dX8_parted_47 (by decide) (fun c2 => ?_) (fun c2 => ?_)
  · have H := H.1 c2
    refine V_aload_n dX8_parted_52 rfl 1 rfl ?_
    refine V_aload_n dX8_parted_53 rfl 1 rfl ?_
    refine H_getr ck7 60 (by decide) (fs_115 hF) (by decide) rfl (fr_115_60 hF) q1518 dX8_parted_54 ?_
    refine V_iload_n dX8_parted_57 rfl 0 rfl ?_
    obtain ⟨i3, H⟩ := H
    refine H_iald (fs_151 hF) i3 dX8_parted_58 ?_
    refine H_puti ck7 77 (by decide) (fs_115 hF) (by decide) rfl rfl q1535 dX8_parted_59 (fun h4 e5 => ?_)
    have H := H h4 e5
    refine V_aload_n dX8_parted_62 rfl 1 rfl ?_
    refine V_aload_n dX8_parted_63 rfl 1 rfl ?_
    refine H_getr ck7 61 (by decide) (fs_115 hF) (by decide) rfl (fr_115_61 hF) q1519 dX8_parted_64 ?_
    refine V_iload_n dX8_parted_67 rfl 0 rfl ?_
    obtain ⟨i6, H⟩ := H
    refine H_iald (fs_152 hF) i6 dX8_parted_68 ?_
    refine H_puti ck7 78 (by decide) (fs_115 hF) (by decide) rfl rfl q1536 dX8_parted_69 (fun h7 e8 => ?_)
    have H := H h7 e8
    refine V_iconst (v := 1) dX8_parted_72 (by decide) ?_
    exact H_zret rfl isB1 dX8_parted_73 H
  · have H := H.2 c2
    refine V_iconst (v := 0) dX8_parted_50 (by decide) ?_
    exact H_zret rfl isB0 dX8_parted_51 H
abbrev JX8_parted_0 (D : DE) (f : Nat) (Q : Int32 → HI → HL → Prop) (F : Frm) (h : HI) (g : HL) (x1 : Int32) (x2 : Int32) : Prop := ((x1 = 0 → Q 0 h g) ∧ (¬ x1 = 0 → (((h 115 77) = 1 → ((x2 = 0 → vp_in (h 115 78) 1540 ∧ JX8_parted_39 D f Q F h g (h 154 (ix (h 115 78)))) ∧ (¬ x2 = 0 → vp_in (h 115 78) 1540 ∧ JX8_parted_39 D f Q F h g (h 155 (ix (h 115 78)))))) ∧ (¬ (h 115 77) = 1 → Q 0 h g))))
theorem bX8_parted_0 {D : DE} {f : Nat} {Q : Int32 → HI → HL → Prop} {F : Frm} {h : HI} {g : HL} (hF : k_Fix F) (x1 : Int32) (x2 : Int32) (H : JX8_parted_0 D f Q F h g x1 x2) : V D mX8_parted f (qi F Q) 0 [(0, .ref (ad D 115)), (1, .int x1), (2, .int x2)] [] (F, h, g) := by
  refine V_iload_n dX8_parted_0 rfl 1 rfl ?_
  refine V_if_eq (tgt := 12) dX8_parted_1 (by decide) (fun c1 => ?_) (fun c1 => ?_)
  · have H := H.1 c1
    refine V_iconst (v := 0) dX8_parted_12 (by decide) ?_
    exact H_zret rfl isB0 dX8_parted_13 H
  · have H := H.2 c1
    refine V_aload_n dX8_parted_4 rfl 0 rfl ?_
    refine H_geti ck7 77 (by decide) (fs_115 hF) (by decide) rfl q1535 dX8_parted_5 ?_
    refine V_iconst (v := 1) dX8_parted_8 (by decide) ?_
    refine V_icmp_eq (tgt := 14) dX8_parted_9 (by decide) (fun c2 => ?_) (fun c2 => ?_)
    · have H := H.1 c2
      refine V_iload_n dX8_parted_14 rfl 2 rfl ?_
      refine V_if_eq (tgt := 30) dX8_parted_15 (by decide) (fun c3 => ?_) (fun c3 => ?_)
      · have H := H.1 c3
        refine V_aload_n dX8_parted_30 rfl 0 rfl ?_
        refine H_getr ck7 63 (by decide) (fs_115 hF) (by decide) rfl (fr_115_63 hF) q1521 dX8_parted_31 ?_
        refine V_aload_n dX8_parted_34 rfl 0 rfl ?_
        refine H_geti ck7 78 (by decide) (fs_115 hF) (by decide) rfl q1536 dX8_parted_35 ?_
        obtain ⟨i4, H⟩ := H
        refine H_iald (fs_154 hF) i4 dX8_parted_38 ?_
        refine V.sub [0] rfl ?_
        exact bX8_parted_39 hF (h 154 (ix (h 115 78))) H
      · have H := H.2 c3
        refine V_aload_n dX8_parted_18 rfl 0 rfl ?_
        refine H_getr ck7 64 (by decide) (fs_115 hF) (by decide) rfl (fr_115_64 hF) q1522 dX8_parted_19 ?_
        refine V_aload_n dX8_parted_22 rfl 0 rfl ?_
        refine H_geti ck7 78 (by decide) (fs_115 hF) (by decide) rfl q1536 dX8_parted_23 ?_
        obtain ⟨i5, H⟩ := H
        refine H_iald (fs_155 hF) i5 dX8_parted_26 ?_
        refine V_goto (tgt := 39) dX8_parted_27 (by decide) ?_
        refine V.sub [0] rfl ?_
        exact bX8_parted_39 hF (h 155 (ix (h 115 78))) H
    · have H := H.2 c2
      refine V_iconst (v := 0) dX8_parted_12 (by decide) ?_
      exact H_zret rfl isB0 dX8_parted_13 H
theorem wX8_parted {D : DE} {f : Nat} {Q : Int32 → HI → HL → Prop} {F : Frm} {h : HI} {g : HL} (hF : k_Fix F) (x1 : Int32) (x2 : Int32) (H : JX8_parted_0 D f Q F h g x1 x2) : Si D f mX8_parted [.ref (ad D 115), .int x1, .int x2] F h g Q := Cl.ofV (by decide) (Nat.le_of_ble_eq_true rfl) rfl (bX8_parted_0 hF x1 x2 H)
theorem dX8_result_0 : decode cX8_result 0 = .ok (.aload_n 0, 1) := by decide +kernel
theorem dX8_result_1 : decode cX8_result 1 = .ok (.getfield 142, 3) := by decide +kernel
theorem dX8_result_4 : decode cX8_result 4 = .ok (.iconst (-1), 1) := by decide +kernel
theorem dX8_result_5 : decode cX8_result 5 = .ok (.if_icmp .eq 27, 3) := by decide +kernel
theorem dX8_result_8 : decode cX8_result 8 = .ok (.aload_n 0, 1) := by decide +kernel
theorem dX8_result_9 : decode cX8_result 9 = .ok (.getfield 476, 3) := by decide +kernel
theorem dX8_result_12 : decode cX8_result 12 = .ok (.iconst 1, 1) := by decide +kernel
theorem dX8_result_13 : decode cX8_result 13 = .ok (.if_icmp .ne 19, 3) := by decide +kernel
theorem dX8_result_16 : decode cX8_result 16 = .ok (.iload_n 1, 1) := by decide +kernel
theorem dX8_result_17 : decode cX8_result 17 = .ok (.i2l, 1) := by decide +kernel
theorem dX8_result_18 : decode cX8_result 18 = .ok (.lconst 0, 1) := by decide +kernel
theorem dX8_result_19 : decode cX8_result 19 = .ok (.ldc2_w 479, 3) := by decide +kernel
theorem dX8_result_22 : decode cX8_result 22 = .ok (.invokestatic 154, 3) := by decide +kernel
theorem dX8_result_25 : decode cX8_result 25 = .ok (.ifCond .eq 7, 3) := by decide +kernel
theorem dX8_result_28 : decode cX8_result 28 = .ok (.iconst 1, 1) := by decide +kernel
theorem dX8_result_29 : decode cX8_result 29 = .ok (.goto 4, 3) := by decide +kernel
theorem dX8_result_32 : decode cX8_result 32 = .ok (.iconst 0, 1) := by decide +kernel
theorem dX8_result_33 : decode cX8_result 33 = .ok (.istore_n 2, 1) := by decide +kernel
theorem dX8_result_34 : decode cX8_result 34 = .ok (.aload_n 0, 1) := by decide +kernel
theorem dX8_result_35 : decode cX8_result 35 = .ok (.aload_n 0, 1) := by decide +kernel
theorem dX8_result_36 : decode cX8_result 36 = .ok (.getfield 470, 3) := by decide +kernel
theorem dX8_result_39 : decode cX8_result 39 = .ok (.putfield 414, 3) := by decide +kernel
theorem dX8_result_42 : decode cX8_result 42 = .ok (.aload_n 0, 1) := by decide +kernel
theorem dX8_result_43 : decode cX8_result 43 = .ok (.aload_n 0, 1) := by decide +kernel
theorem dX8_result_44 : decode cX8_result 44 = .ok (.getfield 473, 3) := by decide +kernel
theorem dX8_result_47 : decode cX8_result 47 = .ok (.putfield 417, 3) := by decide +kernel
theorem dX8_result_50 : decode cX8_result 50 = .ok (.iload_n 1, 1) := by decide +kernel
theorem dX8_result_51 : decode cX8_result 51 = .ok (.ifCond .le 24, 3) := by decide +kernel
theorem dX8_result_54 : decode cX8_result 54 = .ok (.aload_n 0, 1) := by decide +kernel
theorem dX8_result_55 : decode cX8_result 55 = .ok (.iload_n 2, 1) := by decide +kernel
theorem dX8_result_56 : decode cX8_result 56 = .ok (.iload_n 1, 1) := by decide +kernel
theorem dX8_result_57 : decode cX8_result 57 = .ok (.iconst 2, 1) := by decide +kernel
theorem dX8_result_58 : decode cX8_result 58 = .ok (.if_icmp .eq 8, 3) := by decide +kernel
theorem dX8_result_61 : decode cX8_result 61 = .ok (.iload_n 1, 1) := by decide +kernel
theorem dX8_result_62 : decode cX8_result 62 = .ok (.iconst 5, 1) := by decide +kernel
theorem dX8_result_63 : decode cX8_result 63 = .ok (.if_icmp .lt 7, 3) := by decide +kernel
theorem dX8_result_66 : decode cX8_result 66 = .ok (.iconst 1, 1) := by decide +kernel
theorem dX8_result_67 : decode cX8_result 67 = .ok (.goto 4, 3) := by decide +kernel
theorem dX8_result_70 : decode cX8_result 70 = .ok (.iconst 0, 1) := by decide +kernel
theorem dX8_result_71 : decode cX8_result 71 = .ok (.invokevirtual 481, 3) := by decide +kernel
theorem dX8_result_74 : decode cX8_result 74 = .ok (.istore_n 2, 1) := by decide +kernel
theorem dX8_result_75 : decode cX8_result 75 = .ok (.iload_n 1, 1) := by decide +kernel
theorem dX8_result_76 : decode cX8_result 76 = .ok (.iconst 2, 1) := by decide +kernel
theorem dX8_result_77 : decode cX8_result 77 = .ok (.if_icmp .le 20, 3) := by decide +kernel
theorem dX8_result_80 : decode cX8_result 80 = .ok (.aload_n 0, 1) := by decide +kernel
theorem dX8_result_81 : decode cX8_result 81 = .ok (.iload_n 2, 1) := by decide +kernel
theorem dX8_result_82 : decode cX8_result 82 = .ok (.iload_n 1, 1) := by decide +kernel
theorem dX8_result_83 : decode cX8_result 83 = .ok (.iconst 2, 1) := by decide +kernel
theorem dX8_result_84 : decode cX8_result 84 = .ok (.irem, 1) := by decide +kernel
theorem dX8_result_85 : decode cX8_result 85 = .ok (.ifCond .ne 7, 3) := by decide +kernel
theorem dX8_result_88 : decode cX8_result 88 = .ok (.iconst 1, 1) := by decide +kernel
theorem dX8_result_89 : decode cX8_result 89 = .ok (.goto 4, 3) := by decide +kernel
theorem dX8_result_92 : decode cX8_result 92 = .ok (.iconst 0, 1) := by decide +kernel
theorem dX8_result_93 : decode cX8_result 93 = .ok (.invokevirtual 481, 3) := by decide +kernel
theorem dX8_result_96 : decode cX8_result 96 = .ok (.istore_n 2, 1) := by decide +kernel
theorem dX8_result_97 : decode cX8_result 97 = .ok (.aload_n 0, 1) := by decide +kernel
theorem dX8_result_98 : decode cX8_result 98 = .ok (.iload_n 2, 1) := by decide +kernel
theorem dX8_result_99 : decode cX8_result 99 = .ok (.ifCond .eq 14, 3) := by decide +kernel
theorem dX8_result_102 : decode cX8_result 102 = .ok (.aload_n 0, 1) := by decide +kernel
theorem dX8_result_103 : decode cX8_result 103 = .ok (.getfield 414, 3) := by decide +kernel
theorem dX8_result_106 : decode cX8_result 106 = .ok (.ifCond .ne 7, 3) := by decide +kernel
theorem dX8_result_109 : decode cX8_result 109 = .ok (.iconst 0, 1) := by decide +kernel
theorem dX8_result_110 : decode cX8_result 110 = .ok (.goto 4, 3) := by decide +kernel
theorem dX8_result_113 : decode cX8_result 113 = .ok (.iconst 1, 1) := by decide +kernel
theorem dX8_result_114 : decode cX8_result 114 = .ok (.putfield 148, 3) := by decide +kernel
theorem dX8_result_117 : decode cX8_result 117 = .ok (.aload_n 0, 1) := by decide +kernel
theorem dX8_result_118 : decode cX8_result 118 = .ok (.getfield 148, 3) := by decide +kernel
theorem dX8_result_121 : decode cX8_result 121 = .ok (.ifCond .le 7, 3) := by decide +kernel
theorem dX8_result_124 : decode cX8_result 124 = .ok (.iconst 0, 1) := by decide +kernel
theorem dX8_result_125 : decode cX8_result 125 = .ok (.goto 7, 3) := by decide +kernel
theorem dX8_result_128 : decode cX8_result 128 = .ok (.aload_n 0, 1) := by decide +kernel
theorem dX8_result_129 : decode cX8_result 129 = .ok (.getfield 417, 3) := by decide +kernel
theorem dX8_result_132 : decode cX8_result 132 = .ok (.ireturn, 1) := by decide +kernel
abbrev JX8_result_114 (D : DE) (f : Nat) (Q : Int32 → HI → HL → Prop) (F : Frm) (h : HI) (g : HL) (s1 : Int32) : Prop := ∀ h1, h1 = up2 h 115 0 s1 → (((h1 115 0) ≤ 0 → Q (h1 115 78) h1 g) ∧ (¬ (h1 115 0) ≤ 0 → Q 0 h1 g))
theorem bX8_result_114 {D : DE} {f : Nat} {Q : Int32 → HI → HL → Prop} {F : Frm} {h : HI} {g : HL} (hF : k_Fix F) (s1 : Int32) (H : JX8_result_114 D f Q F h g s1) : V D mX8_result (f + 1) (qi F Q) 114 [(0, .ref (ad D 115))] [.int s1, .ref (ad D 115)] (F, h, g) := by
  refine H_puti ck7 0 (by decide) (fs_115 hF) (by decide) rfl rfl q1458 dX8_result_114 (fun h1 e2 => ?_)
  have H := H h1 e2
  refine V_aload_n dX8_result_117 rfl 0 rfl ?_
  refine H_geti ck7 0 (by decide) (fs_115 hF) (by decide) rfl q1458 dX8_result_118 ?_
  refine V_if_le (tgt := 128) dX8_result_121 (by decide) (fun c3 => ?_) (fun c3 => ?_)
  · have H := H.1 c3
    refine V_aload_n dX8_result_128 rfl 0 rfl ?_
    refine H_geti ck7 78 (by decide) (fs_115 hF) (by decide) rfl q1536 dX8_result_129 ?_
    exact H_iret rfl dX8_result_132 H
  · have H := H.2 c3
    refine V_iconst (v := 0) dX8_result_124 (by decide) ?_
    refine V_goto (tgt := 132) dX8_result_125 (by decide) ?_
    exact H_iret rfl dX8_result_132 H
abbrev JX8_result_113 (D : DE) (f : Nat) (Q : Int32 → HI → HL → Prop) (F : Frm) (h : HI) (g : HL) : Prop := JX8_result_114 D f Q F h g 1
theorem bX8_result_113 {D : DE} {f : Nat} {Q : Int32 → HI → HL → Prop} {F : Frm} {h : HI} {g : HL} (hF : k_Fix F)  (H : JX8_result_113 D f Q F h g ) : V D mX8_result (f + 1) (qi F Q) 113 [(0, .ref (ad D 115))] [.ref (ad D 115)] (F, h, g) := by
  refine V_iconst (v := 1) dX8_result_113 (by decide) ?_
  exact bX8_result_114 hF 1 H
abbrev JX8_result_97 (D : DE) (f : Nat) (Q : Int32 → HI → HL → Prop) (F : Frm) (h : HI) (g : HL) (x2 : Int32) : Prop := ((x2 = 0 → JX8_result_113 D f Q F h g) ∧ (¬ x2 = 0 → ((¬ (h 115 77) = 0 → JX8_result_113 D f Q F h g) ∧ ((h 115 77) = 0 → JX8_result_114 D f Q F h g 0))))
theorem bX8_result_97 {D : DE} {f : Nat} {Q : Int32 → HI → HL → Prop} {F : Frm} {h : HI} {g : HL} (hF : k_Fix F) (x2 : Int32) (H : JX8_result_97 D f Q F h g x2) : V D mX8_result (f + 1) (qi F Q) 97 [(0, .ref (ad D 115)), (2, .int x2)] [] (F, h, g) := by
  refine V_aload_n dX8_result_97 rfl 0 rfl ?_
  refine V_iload_n dX8_result_98 rfl 1 rfl ?_
  refine V_if_eq (tgt := 113) dX8_result_99 (by decide) (fun c1 => ?_) (fun c1 => ?_)
  · have H := H.1 c1
    refine V.sub [0] rfl ?_
    exact bX8_result_113 hF  H
  · have H := H.2 c1
    refine V_aload_n dX8_result_102 rfl 0 rfl ?_
    refine H_geti ck7 77 (by decide) (fs_115 hF) (by decide) rfl q1535 dX8_result_103 ?_
    refine V_if_ne (tgt := 113) dX8_result_106 (by decide) (fun c2 => ?_) (fun c2 => ?_)
    · have H := H.1 c2
      refine V.sub [0] rfl ?_
      exact bX8_result_113 hF  H
    · have H := H.2 c2
      refine V_iconst (v := 0) dX8_result_109 (by decide) ?_
      refine V_goto (tgt := 114) dX8_result_110 (by decide) ?_
      refine V.sub [0] rfl ?_
      exact bX8_result_114 hF 0 H
abbrev JX8_result_93 (D : DE) (f : Nat) (Q : Int32 → HI → HL → Prop) (F : Frm) (h : HI) (g : HL) (s1 : Int32) (s2 : Int32) : Prop := Si D f mX8_parted [.ref (ad D 115), .int s1, .int s2] F h g (fun y3 h1 g2 => JX8_result_97 D f Q F h1 g2 y3)
theorem bX8_result_93 {D : DE} {f : Nat} {Q : Int32 → HI → HL → Prop} {F : Frm} {h : HI} {g : HL} (hF : k_Fix F) (s1 : Int32) (s2 : Int32) (H : JX8_result_93 D f Q F h g s1 s2) : V D mX8_result (f + 1) (qi F Q) 93 [(0, .ref (ad D 115))] [.int s2, .int s1, .ref (ad D 115)] (F, h, g) := by
  refine H_calli (av := [.ref (ad D 115), .int s1, .int s2]) (rest := []) H mqX8_parted q88 (by decide) (Nat.le_of_ble_eq_true rfl) (k_resV (ci := 7) (av := [.int s1, .int s2]) (rest := []) (fs_115 hF) (by decide) rfl rfl q2015 q2017 qs79 q2018 mhX8_parted mnX8_parted dX8_result_93) (fun y3 h1 g2 H => ?_)
  refine V_istore_n (l1 := [(2, .int y3), (0, .ref (ad D 115))]) dX8_result_96 rfl (by decide) rfl ?_
  refine V.sub [1, 0] rfl ?_
  exact bX8_result_97 hF y3 H
abbrev JX8_result_75 (D : DE) (f : Nat) (Q : Int32 → HI → HL → Prop) (F : Frm) (h : HI) (g : HL) (x1 : Int32) (x2 : Int32) : Prop := ((x1 ≤ 2 → JX8_result_97 D f Q F h g x2) ∧ (¬ x1 ≤ 2 → ((¬ (x1 - x1 / 2 * 2) = 0 → JX8_result_93 D f Q F h g x2 0) ∧ ((x1 - x1 / 2 * 2) = 0 → JX8_result_93 D f Q F h g x2 1))))
theorem bX8_result_75 {D : DE} {f : Nat} {Q : Int32 → HI → HL → Prop} {F : Frm} {h : HI} {g : HL} (hF : k_Fix F) (x1 : Int32) (x2 : Int32) (H : JX8_result_75 D f Q F h g x1 x2) : V D mX8_result (f + 1) (qi F Q) 75 [(0, .ref (ad D 115)), (1, .int x1), (2, .int x2)] [] (F, h, g) := by
  refine V_iload_n dX8_result_75 rfl 1 rfl ?_
  refine V_iconst (v := 2) dX8_result_76 (by decide) ?_
  refine V_icmp_le (tgt := 97) dX8_result_77 (by decide) (fun c1 => ?_) (fun c1 => ?_)
  · have H := H.1 c1
    refine V.sub [0, 2] rfl ?_
    exact bX8_result_97 hF x2 H
  · have H := H.2 c1
    refine V_aload_n dX8_result_80 rfl 0 rfl ?_
    refine V_iload_n dX8_result_81 rfl 2 rfl ?_
    refine V_iload_n dX8_result_82 rfl 1 rfl ?_
    refine V_iconst (v := 2) dX8_result_83 (by decide) ?_
    refine V_irem dX8_result_84 (by decide) ?_
    refine V_if_ne (tgt := 92) dX8_result_85 (by decide) (fun c2 => ?_) (fun c2 => ?_)
    · have H := H.1 c2
      refine V_iconst (v := 0) dX8_result_92 (by decide) ?_
      refine V.sub [0] rfl ?_
      exact bX8_result_93 hF x2 0 H
    · have H := H.2 c2
      refine V_iconst (v := 1) dX8_result_88 (by decide) ?_
      refine V_goto (tgt := 93) dX8_result_89 (by decide) ?_
      refine V.sub [0] rfl ?_
      exact bX8_result_93 hF x2 1 H
abbrev JX8_result_71 (D : DE) (f : Nat) (Q : Int32 → HI → HL → Prop) (F : Frm) (h : HI) (g : HL) (x1 : Int32) (s1 : Int32) (s2 : Int32) : Prop := Si D f mX8_parted [.ref (ad D 115), .int s1, .int s2] F h g (fun y3 h1 g2 => JX8_result_75 D f Q F h1 g2 x1 y3)
theorem bX8_result_71 {D : DE} {f : Nat} {Q : Int32 → HI → HL → Prop} {F : Frm} {h : HI} {g : HL} (hF : k_Fix F) (x1 : Int32) (s1 : Int32) (s2 : Int32) (H : JX8_result_71 D f Q F h g x1 s1 s2) : V D mX8_result (f + 1) (qi F Q) 71 [(0, .ref (ad D 115)), (1, .int x1)] [.int s2, .int s1, .ref (ad D 115)] (F, h, g) := by
  refine H_calli (av := [.ref (ad D 115), .int s1, .int s2]) (rest := []) H mqX8_parted q88 (by decide) (Nat.le_of_ble_eq_true rfl) (k_resV (ci := 7) (av := [.int s1, .int s2]) (rest := []) (fs_115 hF) (by decide) rfl rfl q2015 q2017 qs79 q2018 mhX8_parted mnX8_parted dX8_result_71) (fun y3 h1 g2 H => ?_)
  refine V_istore_n (l1 := [(2, .int y3), (0, .ref (ad D 115)), (1, .int x1)]) dX8_result_74 rfl (by decide) rfl ?_
  refine V.sub [1, 2, 0] rfl ?_
  exact bX8_result_75 hF x1 y3 H
abbrev JX8_result_66 (D : DE) (f : Nat) (Q : Int32 → HI → HL → Prop) (F : Frm) (h : HI) (g : HL) (x1 : Int32) (s1 : Int32) : Prop := JX8_result_71 D f Q F h g x1 s1 1
theorem bX8_result_66 {D : DE} {f : Nat} {Q : Int32 → HI → HL → Prop} {F : Frm} {h : HI} {g : HL} (hF : k_Fix F) (x1 : Int32) (s1 : Int32) (H : JX8_result_66 D f Q F h g x1 s1) : V D mX8_result (f + 1) (qi F Q) 66 [(0, .ref (ad D 115)), (1, .int x1)] [.int s1, .ref (ad D 115)] (F, h, g) := by
  refine V_iconst (v := 1) dX8_result_66 (by decide) ?_
  refine V_goto (tgt := 71) dX8_result_67 (by decide) ?_
  exact bX8_result_71 hF x1 s1 1 H
abbrev JX8_result_33 (D : DE) (f : Nat) (Q : Int32 → HI → HL → Prop) (F : Frm) (h : HI) (g : HL) (x1 : Int32) (s0 : Int32) : Prop := ∀ h1, h1 = up2 h 115 77 (h 115 79) → ∀ h3, h3 = up2 h1 115 78 (h1 115 80) → ((x1 ≤ 0 → JX8_result_75 D f Q F h3 g x1 s0) ∧ (¬ x1 ≤ 0 → ((x1 = 2 → JX8_result_66 D f Q F h3 g x1 s0) ∧ (¬ x1 = 2 → ((x1 < 5 → JX8_result_71 D f Q F h3 g x1 s0 0) ∧ (¬ x1 < 5 → JX8_result_66 D f Q F h3 g x1 s0))))))
theorem bX8_result_33 {D : DE} {f : Nat} {Q : Int32 → HI → HL → Prop} {F : Frm} {h : HI} {g : HL} (hF : k_Fix F) (x1 : Int32) (s0 : Int32) (H : JX8_result_33 D f Q F h g x1 s0) : V D mX8_result (f + 1) (qi F Q) 33 [(0, .ref (ad D 115)), (1, .int x1)] [.int s0] (F, h, g) := by
  refine V_istore_n (l1 := [(2, .int s0), (0, .ref (ad D 115)), (1, .int x1)]) dX8_result_33 rfl (by decide) rfl ?_
  refine V_aload_n dX8_result_34 rfl 1 rfl ?_
  refine V_aload_n dX8_result_35 rfl 1 rfl ?_
  refine H_geti ck7 79 (by decide) (fs_115 hF) (by decide) rfl q1537 dX8_result_36 ?_
  refine H_puti ck7 77 (by decide) (fs_115 hF) (by decide) rfl rfl q1535 dX8_result_39 (fun h1 e2 => ?_)
  have H := H h1 e2
  refine V_aload_n dX8_result_42 rfl 1 rfl ?_
  refine V_aload_n dX8_result_43 rfl 1 rfl ?_
  refine H_geti ck7 80 (by decide) (fs_115 hF) (by decide) rfl q1538 dX8_result_44 ?_
  refine H_puti ck7 78 (by decide) (fs_115 hF) (by decide) rfl rfl q1536 dX8_result_47 (fun h3 e4 => ?_)
  have H := H h3 e4
  refine V_iload_n dX8_result_50 rfl 2 rfl ?_
  refine V_if_le (tgt := 75) dX8_result_51 (by decide) (fun c5 => ?_) (fun c5 => ?_)
  · have H := H.1 c5
    refine V.sub [1, 2, 0] rfl ?_
    exact bX8_result_75 hF x1 s0 H
  · have H := H.2 c5
    refine V_aload_n dX8_result_54 rfl 1 rfl ?_
    refine V_iload_n dX8_result_55 rfl 0 rfl ?_
    refine V_iload_n dX8_result_56 rfl 2 rfl ?_
    refine V_iconst (v := 2) dX8_result_57 (by decide) ?_
    refine V_icmp_eq (tgt := 66) dX8_result_58 (by decide) (fun c6 => ?_) (fun c6 => ?_)
    · have H := H.1 c6
      refine V.sub [1, 2] rfl ?_
      exact bX8_result_66 hF x1 s0 H
    · have H := H.2 c6
      refine V_iload_n dX8_result_61 rfl 2 rfl ?_
      refine V_iconst (v := 5) dX8_result_62 (by decide) ?_
      refine V_icmp_lt (tgt := 70) dX8_result_63 (by decide) (fun c7 => ?_) (fun c7 => ?_)
      · have H := H.1 c7
        refine V_iconst (v := 0) dX8_result_70 (by decide) ?_
        refine V.sub [1, 2] rfl ?_
        exact bX8_result_71 hF x1 s0 0 H
      · have H := H.2 c7
        refine V.sub [1, 2] rfl ?_
        exact bX8_result_66 hF x1 s0 H
abbrev JX8_result_32 (D : DE) (f : Nat) (Q : Int32 → HI → HL → Prop) (F : Frm) (h : HI) (g : HL) (x1 : Int32) : Prop := JX8_result_33 D f Q F h g x1 0
theorem bX8_result_32 {D : DE} {f : Nat} {Q : Int32 → HI → HL → Prop} {F : Frm} {h : HI} {g : HL} (hF : k_Fix F) (x1 : Int32) (H : JX8_result_32 D f Q F h g x1) : V D mX8_result (f + 1) (qi F Q) 32 [(0, .ref (ad D 115)), (1, .int x1)] [] (F, h, g) := by
  refine V_iconst (v := 0) dX8_result_32 (by decide) ?_
  exact bX8_result_33 hF x1 0 H
abbrev JX8_result_0 (D : DE) (f : Nat) (Q : Int32 → HI → HL → Prop) (F : Frm) (h : HI) (g : HL) (x1 : Int32) : Prop := (((h 115 75) = (-1) → JX8_result_32 D f Q F h g x1) ∧ (¬ (h 115 75) = (-1) → ((¬ (h 115 76) = 1 → JX8_result_32 D f Q F h g x1) ∧ ((h 115 76) = 1 → Si D f mX8_within [.long x1.toInt64, .long 0, .long 6] F h g (fun y5 h3 g4 => ((y5 = 0 → JX8_result_32 D f Q F h3 g4 x1) ∧ (¬ y5 = 0 → JX8_result_33 D f Q F h3 g4 x1 1)))))))
theorem bX8_result_0 {D : DE} {f : Nat} {Q : Int32 → HI → HL → Prop} {F : Frm} {h : HI} {g : HL} (hF : k_Fix F) (x1 : Int32) (H : JX8_result_0 D f Q F h g x1) : V D mX8_result (f + 1) (qi F Q) 0 [(0, .ref (ad D 115)), (1, .int x1)] [] (F, h, g) := by
  refine V_aload_n dX8_result_0 rfl 0 rfl ?_
  refine H_geti ck7 75 (by decide) (fs_115 hF) (by decide) rfl q1533 dX8_result_1 ?_
  refine V_iconst (v := (-1)) dX8_result_4 (by decide) ?_
  refine V_icmp_eq (tgt := 32) dX8_result_5 (by decide) (fun c1 => ?_) (fun c1 => ?_)
  · have H := H.1 c1
    exact bX8_result_32 hF x1 H
  · have H := H.2 c1
    refine V_aload_n dX8_result_8 rfl 0 rfl ?_
    refine H_geti ck7 76 (by decide) (fs_115 hF) (by decide) rfl q1534 dX8_result_9 ?_
    refine V_iconst (v := 1) dX8_result_12 (by decide) ?_
    refine V_icmp_ne (tgt := 32) dX8_result_13 (by decide) (fun c2 => ?_) (fun c2 => ?_)
    · have H := H.1 c2
      exact bX8_result_32 hF x1 H
    · have H := H.2 c2
      refine V_iload_n dX8_result_16 rfl 1 rfl ?_
      refine V_i2l dX8_result_17 ?_
      refine V_lconst (v := 0) dX8_result_18 (by decide) ?_
      refine V_ldc2 (v := 6) dX8_result_19 q2010 ?_
      refine H_calli (av := [.long x1.toInt64, .long 0, .long 6]) (rest := []) H mqX8_within q88 (by decide) (Nat.le_of_ble_eq_true rfl) (k_resS (av := [.long x1.toInt64, .long 0, .long 6]) (rest := []) (M1 := mX8_within) rfl q1721 q1722 q88 mqX8_within (fun _ _ h => mW_named h) mhX8_within mnX8_within dX8_result_22) (fun y5 h3 g4 H => ?_)
      refine V_if_eq (tgt := 32) dX8_result_25 (by decide) (fun c6 => ?_) (fun c6 => ?_)
      · have H := H.1 c6
        exact bX8_result_32 hF x1 H
      · have H := H.2 c6
        refine V_iconst (v := 1) dX8_result_28 (by decide) ?_
        refine V_goto (tgt := 33) dX8_result_29 (by decide) ?_
        exact bX8_result_33 hF x1 1 H
theorem wX8_result {D : DE} {f : Nat} {Q : Int32 → HI → HL → Prop} {F : Frm} {h : HI} {g : HL} (hF : k_Fix F) (x1 : Int32) (H : JX8_result_0 D f Q F h g x1) : Si D (f + 1) mX8_result [.ref (ad D 115), .int x1] F h g Q := Cl.ofV (by decide) (Nat.le_of_ble_eq_true rfl) rfl (bX8_result_0 hF x1 H)
theorem dX8_needed_0 : decode cX8_needed 0 = .ok (.aload_n 0, 1) := by decide +kernel
theorem dX8_needed_1 : decode cX8_needed 1 = .ok (.aload_n 0, 1) := by decide +kernel
theorem dX8_needed_2 : decode cX8_needed 2 = .ok (.getfield 142, 3) := by decide +kernel
theorem dX8_needed_5 : decode cX8_needed 5 = .ok (.iconst (-1), 1) := by decide +kernel
theorem dX8_needed_6 : decode cX8_needed 6 = .ok (.if_icmp .eq 19, 3) := by decide +kernel
theorem dX8_needed_9 : decode cX8_needed 9 = .ok (.aload_n 0, 1) := by decide +kernel
theorem dX8_needed_10 : decode cX8_needed 10 = .ok (.aload_n 0, 1) := by decide +kernel
theorem dX8_needed_11 : decode cX8_needed 11 = .ok (.getfield 142, 3) := by decide +kernel
theorem dX8_needed_14 : decode cX8_needed 14 = .ok (.iload_n 1, 1) := by decide +kernel
theorem dX8_needed_15 : decode cX8_needed 15 = .ok (.invokevirtual 390, 3) := by decide +kernel
theorem dX8_needed_18 : decode cX8_needed 18 = .ok (.ifCond .eq 7, 3) := by decide +kernel
theorem dX8_needed_21 : decode cX8_needed 21 = .ok (.iconst 0, 1) := by decide +kernel
theorem dX8_needed_22 : decode cX8_needed 22 = .ok (.goto 4, 3) := by decide +kernel
theorem dX8_needed_25 : decode cX8_needed 25 = .ok (.iconst 1, 1) := by decide +kernel
theorem dX8_needed_26 : decode cX8_needed 26 = .ok (.putfield 148, 3) := by decide +kernel
theorem dX8_needed_29 : decode cX8_needed 29 = .ok (.aload_n 0, 1) := by decide +kernel
theorem dX8_needed_30 : decode cX8_needed 30 = .ok (.getfield 148, 3) := by decide +kernel
theorem dX8_needed_33 : decode cX8_needed 33 = .ok (.ifCond .ne 21, 3) := by decide +kernel
theorem dX8_needed_36 : decode cX8_needed 36 = .ok (.aload_n 0, 1) := by decide +kernel
theorem dX8_needed_37 : decode cX8_needed 37 = .ok (.getfield 127, 3) := by decide +kernel
theorem dX8_needed_40 : decode cX8_needed 40 = .ok (.aload_n 0, 1) := by decide +kernel
theorem dX8_needed_41 : decode cX8_needed 41 = .ok (.getfield 139, 3) := by decide +kernel
theorem dX8_needed_44 : decode cX8_needed 44 = .ok (.iload_n 1, 1) := by decide +kernel
theorem dX8_needed_45 : decode cX8_needed 45 = .ok (.iaload, 1) := by decide +kernel
theorem dX8_needed_46 : decode cX8_needed 46 = .ok (.baload, 1) := by decide +kernel
theorem dX8_needed_47 : decode cX8_needed 47 = .ok (.ifCond .eq 7, 3) := by decide +kernel
theorem dX8_needed_50 : decode cX8_needed 50 = .ok (.iconst 1, 1) := by decide +kernel
theorem dX8_needed_51 : decode cX8_needed 51 = .ok (.goto 4, 3) := by decide +kernel
theorem dX8_needed_54 : decode cX8_needed 54 = .ok (.iconst 0, 1) := by decide +kernel
theorem dX8_needed_55 : decode cX8_needed 55 = .ok (.ireturn, 1) := by decide +kernel
abbrev JX8_needed_26 (D : DE) (f : Nat) (Q : Int32 → HI → HL → Prop) (F : Frm) (h : HI) (g : HL) (x1 : Int32) (s1 : Int32) : Prop := ∀ h1, h1 = up2 h 115 0 s1 → ((¬ (h1 115 0) = 0 → Q 0 h1 g) ∧ ((h1 115 0) = 0 → vp_in x1 4 ∧ vp_in (h1 157 (ix x1)) 1540 ∧ (((h1 153 (ix (h1 157 (ix x1)))) = 0 → Q 0 h1 g) ∧ (¬ (h1 153 (ix (h1 157 (ix x1)))) = 0 → Q 1 h1 g))))
theorem bX8_needed_26 {D : DE} {f : Nat} {Q : Int32 → HI → HL → Prop} {F : Frm} {h : HI} {g : HL} (hF : k_Fix F) (x1 : Int32) (s1 : Int32) (H : JX8_needed_26 D f Q F h g x1 s1) : V D mX8_needed (f + 1) (qi F Q) 26 [(0, .ref (ad D 115)), (1, .int x1)] [.int s1, .ref (ad D 115)] (F, h, g) := by
  refine H_puti ck7 0 (by decide) (fs_115 hF) (by decide) rfl rfl q1458 dX8_needed_26 (fun h1 e2 => ?_)
  have H := H h1 e2
  refine V_aload_n dX8_needed_29 rfl 0 rfl ?_
  refine H_geti ck7 0 (by decide) (fs_115 hF) (by decide) rfl q1458 dX8_needed_30 ?_
  refine V_if_ne (tgt := 54) dX8_needed_33 (by decide) (fun c3 => ?_) (fun c3 => ?_)
  · have H := H.1 c3
    refine V_iconst (v := 0) dX8_needed_54 (by decide) ?_
    exact H_zret rfl isB0 dX8_needed_55 H
  · have H := H.2 c3
    refine V_aload_n dX8_needed_36 rfl 0 rfl ?_
    refine H_getr ck7 62 (by decide) (fs_115 hF) (by decide) rfl (fr_115_62 hF) q1520 dX8_needed_37 ?_
    refine V_aload_n dX8_needed_40 rfl 0 rfl ?_
    refine H_getr ck7 66 (by decide) (fs_115 hF) (by decide) rfl (fr_115_66 hF) q1524 dX8_needed_41 ?_
    refine V_iload_n dX8_needed_44 rfl 1 rfl ?_
    obtain ⟨i4, H⟩ := H
    refine H_iald (fs_157 hF) i4 dX8_needed_45 ?_
    obtain ⟨i5, H⟩ := H
    refine H_zald (fs_153 hF) i5 dX8_needed_46 ?_
    refine V_if_eq (tgt := 54) dX8_needed_47 (by decide) (fun c6 => ?_) (fun c6 => ?_)
    · have H := H.1 c6
      refine V_iconst (v := 0) dX8_needed_54 (by decide) ?_
      exact H_zret rfl isB0 dX8_needed_55 H
    · have H := H.2 c6
      refine V_iconst (v := 1) dX8_needed_50 (by decide) ?_
      refine V_goto (tgt := 55) dX8_needed_51 (by decide) ?_
      exact H_zret rfl isB1 dX8_needed_55 H
abbrev JX8_needed_25 (D : DE) (f : Nat) (Q : Int32 → HI → HL → Prop) (F : Frm) (h : HI) (g : HL) (x1 : Int32) : Prop := JX8_needed_26 D f Q F h g x1 1
theorem bX8_needed_25 {D : DE} {f : Nat} {Q : Int32 → HI → HL → Prop} {F : Frm} {h : HI} {g : HL} (hF : k_Fix F) (x1 : Int32) (H : JX8_needed_25 D f Q F h g x1) : V D mX8_needed (f + 1) (qi F Q) 25 [(0, .ref (ad D 115)), (1, .int x1)] [.ref (ad D 115)] (F, h, g) := by
  refine V_iconst (v := 1) dX8_needed_25 (by decide) ?_
  exact bX8_needed_26 hF x1 1 H
abbrev JX8_needed_0 (D : DE) (f : Nat) (Q : Int32 → HI → HL → Prop) (F : Frm) (h : HI) (g : HL) (x1 : Int32) : Prop := (((h 115 75) = (-1) → JX8_needed_25 D f Q F h g x1) ∧ (¬ (h 115 75) = (-1) → Si D f mX8_isParamOf [.ref (ad D 115), .int (h 115 75), .int x1] F h g (fun y4 h2 g3 => ((y4 = 0 → JX8_needed_25 D f Q F h2 g3 x1) ∧ (¬ y4 = 0 → JX8_needed_26 D f Q F h2 g3 x1 0)))))
theorem bX8_needed_0 {D : DE} {f : Nat} {Q : Int32 → HI → HL → Prop} {F : Frm} {h : HI} {g : HL} (hF : k_Fix F) (x1 : Int32) (H : JX8_needed_0 D f Q F h g x1) : V D mX8_needed (f + 1) (qi F Q) 0 [(0, .ref (ad D 115)), (1, .int x1)] [] (F, h, g) := by
  refine V_aload_n dX8_needed_0 rfl 0 rfl ?_
  refine V_aload_n dX8_needed_1 rfl 0 rfl ?_
  refine H_geti ck7 75 (by decide) (fs_115 hF) (by decide) rfl q1533 dX8_needed_2 ?_
  refine V_iconst (v := (-1)) dX8_needed_5 (by decide) ?_
  refine V_icmp_eq (tgt := 25) dX8_needed_6 (by decide) (fun c1 => ?_) (fun c1 => ?_)
  · have H := H.1 c1
    exact bX8_needed_25 hF x1 H
  · have H := H.2 c1
    refine V_aload_n dX8_needed_9 rfl 0 rfl ?_
    refine V_aload_n dX8_needed_10 rfl 0 rfl ?_
    refine H_geti ck7 75 (by decide) (fs_115 hF) (by decide) rfl q1533 dX8_needed_11 ?_
    refine V_iload_n dX8_needed_14 rfl 1 rfl ?_
    refine H_calli (av := [.ref (ad D 115), .int (h 115 75), .int x1]) (rest := [.ref (ad D 115)]) H mqX8_isParamOf q88 (by decide) (Nat.le_of_ble_eq_true rfl) (k_resV (ci := 7) (av := [.int (h 115 75), .int x1]) (rest := [.ref (ad D 115)]) (fs_115 hF) (by decide) rfl rfl q1928 q1930 qs65 q1931 mhX8_isParamOf mnX8_isParamOf dX8_needed_15) (fun y4 h2 g3 H => ?_)
    refine V_if_eq (tgt := 25) dX8_needed_18 (by decide) (fun c5 => ?_) (fun c5 => ?_)
    · have H := H.1 c5
      exact bX8_needed_25 hF x1 H
    · have H := H.2 c5
      refine V_iconst (v := 0) dX8_needed_21 (by decide) ?_
      refine V_goto (tgt := 26) dX8_needed_22 (by decide) ?_
      exact bX8_needed_26 hF x1 0 H
theorem wX8_needed {D : DE} {f : Nat} {Q : Int32 → HI → HL → Prop} {F : Frm} {h : HI} {g : HL} (hF : k_Fix F) (x1 : Int32) (H : JX8_needed_0 D f Q F h g x1) : Si D (f + 1) mX8_needed [.ref (ad D 115), .int x1] F h g Q := Cl.ofV (by decide) (Nat.le_of_ble_eq_true rfl) rfl (bX8_needed_0 hF x1 H)
