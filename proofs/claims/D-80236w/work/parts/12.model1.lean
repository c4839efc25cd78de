/-! walks of StrictProofsModel, printed by gen/mkmodel.py -/
set_option maxRecDepth 100000
theorem tsw_1_8 {x : Int32} (h : ¬ (x.toInt < 1 ∨ 8 < x.toInt)) : x = 1 ∨ x = 2 ∨ x = 3 ∨ x = 4 ∨ x = 5 ∨ x = 6 ∨ x = 7 ∨ x = 8 := by
  have h1 : ∀ v : Int32, x.toInt = v.toInt → x = v := fun v e => Int32.toInt_inj.mp e
  have h2 : x.toInt = 1 ∨ x.toInt = 2 ∨ x.toInt = 3 ∨ x.toInt = 4 ∨ x.toInt = 5 ∨ x.toInt = 6 ∨ x.toInt = 7 ∨ x.toInt = 8 := by omega
  rcases h2 with h2 | h2 | h2 | h2 | h2 | h2 | h2 | h2
  · exact Or.inl (h1 1 h2)
  · exact Or.inr (Or.inl (h1 2 h2))
  · exact Or.inr (Or.inr (Or.inl (h1 3 h2)))
  · exact Or.inr (Or.inr (Or.inr (Or.inl (h1 4 h2))))
  · exact Or.inr (Or.inr (Or.inr (Or.inr (Or.inl (h1 5 h2)))))
  · exact Or.inr (Or.inr (Or.inr (Or.inr (Or.inr (Or.inl (h1 6 h2))))))
  · exact Or.inr (Or.inr (Or.inr (Or.inr (Or.inr (Or.inr (Or.inl (h1 7 h2)))))))
  · exact Or.inr (Or.inr (Or.inr (Or.inr (Or.inr (Or.inr (Or.inr (h1 8 h2)))))))
theorem tsw_1_9 {x : Int32} (h : ¬ (x.toInt < 1 ∨ 9 < x.toInt)) : x = 1 ∨ x = 2 ∨ x = 3 ∨ x = 4 ∨ x = 5 ∨ x = 6 ∨ x = 7 ∨ x = 8 ∨ x = 9 := by
  have h1 : ∀ v : Int32, x.toInt = v.toInt → x = v := fun v e => Int32.toInt_inj.mp e
  have h2 : x.toInt = 1 ∨ x.toInt = 2 ∨ x.toInt = 3 ∨ x.toInt = 4 ∨ x.toInt = 5 ∨ x.toInt = 6 ∨ x.toInt = 7 ∨ x.toInt = 8 ∨ x.toInt = 9 := by omega
  rcases h2 with h2 | h2 | h2 | h2 | h2 | h2 | h2 | h2 | h2
  · exact Or.inl (h1 1 h2)
  · exact Or.inr (Or.inl (h1 2 h2))
  · exact Or.inr (Or.inr (Or.inl (h1 3 h2)))
  · exact Or.inr (Or.inr (Or.inr (Or.inl (h1 4 h2))))
  · exact Or.inr (Or.inr (Or.inr (Or.inr (Or.inl (h1 5 h2)))))
  · exact Or.inr (Or.inr (Or.inr (Or.inr (Or.inr (Or.inl (h1 6 h2))))))
  · exact Or.inr (Or.inr (Or.inr (Or.inr (Or.inr (Or.inr (Or.inl (h1 7 h2)))))))
  · exact Or.inr (Or.inr (Or.inr (Or.inr (Or.inr (Or.inr (Or.inr (Or.inl (h1 8 h2))))))))
  · exact Or.inr (Or.inr (Or.inr (Or.inr (Or.inr (Or.inr (Or.inr (Or.inr (h1 9 h2))))))))
theorem tsw_13_21 {x : Int32} (h : ¬ (x.toInt < 13 ∨ 21 < x.toInt)) : x = 13 ∨ x = 14 ∨ x = 15 ∨ x = 16 ∨ x = 17 ∨ x = 18 ∨ x = 19 ∨ x = 20 ∨ x = 21 := by
  have h1 : ∀ v : Int32, x.toInt = v.toInt → x = v := fun v e => Int32.toInt_inj.mp e
  have h2 : x.toInt = 13 ∨ x.toInt = 14 ∨ x.toInt = 15 ∨ x.toInt = 16 ∨ x.toInt = 17 ∨ x.toInt = 18 ∨ x.toInt = 19 ∨ x.toInt = 20 ∨ x.toInt = 21 := by omega
  rcases h2 with h2 | h2 | h2 | h2 | h2 | h2 | h2 | h2 | h2
  · exact Or.inl (h1 13 h2)
  · exact Or.inr (Or.inl (h1 14 h2))
  · exact Or.inr (Or.inr (Or.inl (h1 15 h2)))
  · exact Or.inr (Or.inr (Or.inr (Or.inl (h1 16 h2))))
  · exact Or.inr (Or.inr (Or.inr (Or.inr (Or.inl (h1 17 h2)))))
  · exact Or.inr (Or.inr (Or.inr (Or.inr (Or.inr (Or.inl (h1 18 h2))))))
  · exact Or.inr (Or.inr (Or.inr (Or.inr (Or.inr (Or.inr (Or.inl (h1 19 h2)))))))
  · exact Or.inr (Or.inr (Or.inr (Or.inr (Or.inr (Or.inr (Or.inr (Or.inl (h1 20 h2))))))))
  · exact Or.inr (Or.inr (Or.inr (Or.inr (Or.inr (Or.inr (Or.inr (Or.inr (h1 21 h2))))))))
theorem dX8_thrown_0 : decode cX8_thrown 0 = .ok (.aload_n 0, 1) := by decide +kernel
theorem dX8_thrown_1 : decode cX8_thrown 1 = .ok (.getfield 148, 3) := by decide +kernel
theorem dX8_thrown_4 : decode cX8_thrown 4 = .ok (.ireturn, 1) := by decide +kernel
abbrev JX8_thrown_0 (D : DE) (f : Nat) (Q : Int32 → HI → HL → Prop) (F : Frm) (h : HI) (g : HL) : Prop := Q (h 115 0) h g
theorem bX8_thrown_0 {D : DE} {f : Nat} {Q : Int32 → HI → HL → Prop} {F : Frm} {h : HI} {g : HL} (hF : k_Fix F)  (H : JX8_thrown_0 D f Q F h g ) : V D mX8_thrown f (qi F Q) 0 [(0, .ref (ad D 115))] [] (F, h, g) := by
  refine V_aload_n dX8_thrown_0 rfl 0 rfl ?_
  refine H_geti ck7 0 (by decide) (fs_115 hF) (by decide) rfl q1458 dX8_thrown_1 ?_
  exact H_iret rfl dX8_thrown_4 H
theorem wX8_thrown {D : DE} {f : Nat} {Q : Int32 → HI → HL → Prop} {F : Frm} {h : HI} {g : HL} (hF : k_Fix F)  (H : JX8_thrown_0 D f Q F h g ) : Si D f mX8_thrown [.ref (ad D 115)] F h g Q := Cl.ofV (by decide) (Nat.le_of_ble_eq_true rfl) rfl (bX8_thrown_0 hF  H)
theorem dX8_within_0 : decode cX8_within 0 = .ok (.lload_n 0, 1) := by decide +kernel
theorem dX8_within_1 : decode cX8_within 1 = .ok (.lload_n 2, 1) := by decide +kernel
theorem dX8_within_2 : decode cX8_within 2 = .ok (.lcmp, 1) := by decide +kernel
theorem dX8_within_3 : decode cX8_within 3 = .ok (.ifCond .lt 14, 3) := by decide +kernel
theorem dX8_within_6 : decode cX8_within 6 = .ok (.lload_n 0, 1) := by decide +kernel
theorem dX8_within_7 : decode cX8_within 7 = .ok (.lload 4, 2) := by decide +kernel
theorem dX8_within_9 : decode cX8_within 9 = .ok (.lcmp, 1) := by decide +kernel
theorem dX8_within_10 : decode cX8_within 10 = .ok (.ifCond .gt 7, 3) := by decide +kernel
theorem dX8_within_13 : decode cX8_within 13 = .ok (.iconst 1, 1) := by decide +kernel
theorem dX8_within_14 : decode cX8_within 14 = .ok (.goto 4, 3) := by decide +kernel
theorem dX8_within_17 : decode cX8_within 17 = .ok (.iconst 0, 1) := by decide +kernel
theorem dX8_within_18 : decode cX8_within 18 = .ok (.ireturn, 1) := by decide +kernel
abbrev JX8_within_0 (D : DE) (f : Nat) (Q : Int32 → HI → HL → Prop) (F : Frm) (h : HI) (g : HL) (x0 : Int64) (x2 : Int64) (x4 : Int64) : Prop := (((lg_cmp x0 x2) < 0 → Q 0 h g) ∧ (¬ (lg_cmp x0 x2) < 0 → ((0 < (lg_cmp x0 x4) → Q 0 h g) ∧ (¬ 0 < (lg_cmp x0 x4) → Q 1 h g))))
theorem bX8_within_0 {D : DE} {f : Nat} {Q : Int32 → HI → HL → Prop} {F : Frm} {h : HI} {g : HL} (hF : k_Fix F) (x0 : Int64) (x2 : Int64) (x4 : Int64) (H : JX8_within_0 D f Q F h g x0 x2 x4) : V D mX8_within f (qi F Q) 0 [(0, .long x0), (2, .long x2), (4, .long x4)] [] (F, h, g) := by
  refine V_lload_n dX8_within_0 rfl 0 rfl ?_
  refine V_lload_n dX8_within_1 rfl 1 rfl ?_
  refine V_lcmp dX8_within_2 ?_
  refine V_if_lt (tgt := 17) dX8_within_3 (by decide) (fun c1 => ?_) (fun c1 => ?_)
  · have H := H.1 c1
    refine V_iconst (v := 0) dX8_within_17 (by decide) ?_
    exact H_zret rfl isB0 dX8_within_18 H
  · have H := H.2 c1
    refine V_lload_n dX8_within_6 rfl 0 rfl ?_
    refine V_lload dX8_within_7 2 rfl ?_
    refine V_lcmp dX8_within_9 ?_
    refine V_if_gt (tgt := 17) dX8_within_10 (by decide) (fun c2 => ?_) (fun c2 => ?_)
    · have H := H.1 c2
      refine V_iconst (v := 0) dX8_within_17 (by decide) ?_
      exact H_zret rfl isB0 dX8_within_18 H
    · have H := H.2 c2
      refine V_iconst (v := 1) dX8_within_13 (by decide) ?_
      refine V_goto (tgt := 18) dX8_within_14 (by decide) ?_
      exact H_zret rfl isB1 dX8_within_18 H
theorem wX8_within {D : DE} {f : Nat} {Q : Int32 → HI → HL → Prop} {F : Frm} {h : HI} {g : HL} (hF : k_Fix F) (x0 : Int64) (x2 : Int64) (x4 : Int64) (H : JX8_within_0 D f Q F h g x0 x2 x4) : Si D f mX8_within [.long x0, .long x2, .long x4] F h g Q := Cl.ofV (by decide) (Nat.le_of_ble_eq_true rfl) rfl (bX8_within_0 hF x0 x2 x4 H)
theorem dX8_feed_0 : decode cX8_feed 0 = .ok (.aload_n 0, 1) := by decide +kernel
theorem dX8_feed_1 : decode cX8_feed 1 = .ok (.aload_n 0, 1) := by decide +kernel
theorem dX8_feed_2 : decode cX8_feed 2 = .ok (.getfield 151, 3) := by decide +kernel
theorem dX8_feed_5 : decode cX8_feed 5 = .ok (.bipush 20, 2) := by decide +kernel
theorem dX8_feed_7 : decode cX8_feed 7 = .ok (.iadd, 1) := by decide +kernel
theorem dX8_feed_8 : decode cX8_feed 8 = .ok (.sipush 4000, 3) := by decide +kernel
theorem dX8_feed_11 : decode cX8_feed 11 = .ok (.if_icmp .le 7, 3) := by decide +kernel
theorem dX8_feed_14 : decode cX8_feed 14 = .ok (.iconst 1, 1) := by decide +kernel
theorem dX8_feed_15 : decode cX8_feed 15 = .ok (.goto 4, 3) := by decide +kernel
theorem dX8_feed_18 : decode cX8_feed 18 = .ok (.iconst 0, 1) := by decide +kernel
theorem dX8_feed_19 : decode cX8_feed 19 = .ok (.putfield 148, 3) := by decide +kernel
theorem dX8_feed_22 : decode cX8_feed 22 = .ok (.aload_n 0, 1) := by decide +kernel
theorem dX8_feed_23 : decode cX8_feed 23 = .ok (.getfield 148, 3) := by decide +kernel
theorem dX8_feed_26 : decode cX8_feed 26 = .ok (.ifCond .le 5, 3) := by decide +kernel
theorem dX8_feed_29 : decode cX8_feed 29 = .ok (.iconst 0, 1) := by decide +kernel
theorem dX8_feed_30 : decode cX8_feed 30 = .ok (.ireturn, 1) := by decide +kernel
theorem dX8_feed_31 : decode cX8_feed 31 = .ok (.iconst 0, 1) := by decide +kernel
theorem dX8_feed_32 : decode cX8_feed 32 = .ok (.istore 6, 2) := by decide +kernel
theorem dX8_feed_34 : decode cX8_feed 34 = .ok (.iload 6, 2) := by decide +kernel
theorem dX8_feed_36 : decode cX8_feed 36 = .ok (.bipush 20, 2) := by decide +kernel
theorem dX8_feed_38 : decode cX8_feed 38 = .ok (.if_icmp .ge 93, 3) := by decide +kernel
theorem dX8_feed_41 : decode cX8_feed 41 = .ok (.iload 6, 2) := by decide +kernel
theorem dX8_feed_43 : decode cX8_feed 43 = .ok (.iconst 4, 1) := by decide +kernel
theorem dX8_feed_44 : decode cX8_feed 44 = .ok (.if_icmp .ge 7, 3) := by decide +kernel
theorem dX8_feed_47 : decode cX8_feed 47 = .ok (.iload_n 1, 1) := by decide +kernel
theorem dX8_feed_48 : decode cX8_feed 48 = .ok (.goto 39, 3) := by decide +kernel
theorem dX8_feed_51 : decode cX8_feed 51 = .ok (.iload 6, 2) := by decide +kernel
theorem dX8_feed_53 : decode cX8_feed 53 = .ok (.bipush 8, 2) := by decide +kernel
theorem dX8_feed_55 : decode cX8_feed 55 = .ok (.if_icmp .ge 7, 3) := by decide +kernel
theorem dX8_feed_58 : decode cX8_feed 58 = .ok (.iload_n 2, 1) := by decide +kernel
theorem dX8_feed_59 : decode cX8_feed 59 = .ok (.goto 28, 3) := by decide +kernel
theorem dX8_feed_62 : decode cX8_feed 62 = .ok (.iload 6, 2) := by decide +kernel
theorem dX8_feed_64 : decode cX8_feed 64 = .ok (.bipush 12, 2) := by decide +kernel
theorem dX8_feed_66 : decode cX8_feed 66 = .ok (.if_icmp .ge 7, 3) := by decide +kernel
theorem dX8_feed_69 : decode cX8_feed 69 = .ok (.iload_n 3, 1) := by decide +kernel
theorem dX8_feed_70 : decode cX8_feed 70 = .ok (.goto 17, 3) := by decide +kernel
theorem dX8_feed_73 : decode cX8_feed 73 = .ok (.iload 6, 2) := by decide +kernel
theorem dX8_feed_75 : decode cX8_feed 75 = .ok (.bipush 16, 2) := by decide +kernel
theorem dX8_feed_77 : decode cX8_feed 77 = .ok (.if_icmp .ge 8, 3) := by decide +kernel
theorem dX8_feed_80 : decode cX8_feed 80 = .ok (.iload 4, 2) := by decide +kernel
theorem dX8_feed_82 : decode cX8_feed 82 = .ok (.goto 5, 3) := by decide +kernel
theorem dX8_feed_85 : decode cX8_feed 85 = .ok (.iload 5, 2) := by decide +kernel
theorem dX8_feed_87 : decode cX8_feed 87 = .ok (.istore 7, 2) := by decide +kernel
theorem dX8_feed_89 : decode cX8_feed 89 = .ok (.aload_n 0, 1) := by decide +kernel
theorem dX8_feed_90 : decode cX8_feed 90 = .ok (.getfield 7, 3) := by decide +kernel
theorem dX8_feed_93 : decode cX8_feed 93 = .ok (.aload_n 0, 1) := by decide +kernel
theorem dX8_feed_94 : decode cX8_feed 94 = .ok (.getfield 151, 3) := by decide +kernel
theorem dX8_feed_97 : decode cX8_feed 97 = .ok (.iload 7, 2) := by decide +kernel
theorem dX8_feed_99 : decode cX8_feed 99 = .ok (.bipush 24, 2) := by decide +kernel
theorem dX8_feed_101 : decode cX8_feed 101 = .ok (.bipush 8, 2) := by decide +kernel
theorem dX8_feed_103 : decode cX8_feed 103 = .ok (.iload 6, 2) := by decide +kernel
theorem dX8_feed_105 : decode cX8_feed 105 = .ok (.iconst 4, 1) := by decide +kernel
theorem dX8_feed_106 : decode cX8_feed 106 = .ok (.irem, 1) := by decide +kernel
theorem dX8_feed_107 : decode cX8_feed 107 = .ok (.imul, 1) := by decide +kernel
theorem dX8_feed_108 : decode cX8_feed 108 = .ok (.isub, 1) := by decide +kernel
theorem dX8_feed_109 : decode cX8_feed 109 = .ok (.ishr, 1) := by decide +kernel
theorem dX8_feed_110 : decode cX8_feed 110 = .ok (.sipush 255, 3) := by decide +kernel
theorem dX8_feed_113 : decode cX8_feed 113 = .ok (.iand, 1) := by decide +kernel
theorem dX8_feed_114 : decode cX8_feed 114 = .ok (.iastore, 1) := by decide +kernel
theorem dX8_feed_115 : decode cX8_feed 115 = .ok (.aload_n 0, 1) := by decide +kernel
theorem dX8_feed_116 : decode cX8_feed 116 = .ok (.dup, 1) := by decide +kernel
theorem dX8_feed_117 : decode cX8_feed 117 = .ok (.getfield 151, 3) := by decide +kernel
theorem dX8_feed_120 : decode cX8_feed 120 = .ok (.iconst 1, 1) := by decide +kernel
theorem dX8_feed_121 : decode cX8_feed 121 = .ok (.iadd, 1) := by decide +kernel
theorem dX8_feed_122 : decode cX8_feed 122 = .ok (.putfield 151, 3) := by decide +kernel
theorem dX8_feed_125 : decode cX8_feed 125 = .ok (.iinc 6 1, 3) := by decide +kernel
theorem dX8_feed_128 : decode cX8_feed 128 = .ok (.goto (-94), 3) := by decide +kernel
theorem dX8_feed_131 : decode cX8_feed 131 = .ok (.aload_n 0, 1) := by decide +kernel
theorem dX8_feed_132 : decode cX8_feed 132 = .ok (.getfield 151, 3) := by decide +kernel
theorem dX8_feed_135 : decode cX8_feed 135 = .ok (.ireturn, 1) := by decide +kernel
abbrev JX8_feed_87 (D : DE) (f : Nat) (Q : Int32 → HI → HL → Prop) (F : Frm) (h : HI) (g : HL) (x1 : Int32) (x2 : Int32) (x3 : Int32) (x4 : Int32) (x5 : Int32) (x6 : Int32) (s0 : Int32) : Prop := ∀ y1 : Int32, y1 = (s0 >>> ((24 - (8 * (x6 - x6 / 4 * 4))) &&& 31)) &&& 255 → vp_in (h 115 2) 4000 ∧ ∀ h4, h4 = up2 h 116 (ix (h 115 2)) y1 → ∀ h6, h6 = up2 h4 115 2 ((h4 115 2) + 1) → ∀ y8 : Int32, y8 = x6 + 1 → V D mX8_feed f (qi F Q) 34 [(0, .ref (ad D 115)), (1, .int x1), (2, .int x2), (3, .int x3), (4, .int x4), (5, .int x5), (6, .int y8)] [] (F, h6, g)
theorem bX8_feed_87 {D : DE} {f : Nat} {Q : Int32 → HI → HL → Prop} {F : Frm} {h : HI} {g : HL} (hF : k_Fix F) (x1 : Int32) (x2 : Int32) (x3 : Int32) (x4 : Int32) (x5 : Int32) (x6 : Int32) (s0 : Int32) (H : JX8_feed_87 D f Q F h g x1 x2 x3 x4 x5 x6 s0) : V D mX8_feed f (qi F Q) 87 [(0, .ref (ad D 115)), (1, .int x1), (2, .int x2), (3, .int x3), (4, .int x4), (5, .int x5), (6, .int x6)] [.int s0] (F, h, g) := by
  refine V_istore (l1 := [(7, .int s0), (0, .ref (ad D 115)), (1, .int x1), (2, .int x2), (3, .int x3), (4, .int x4), (5, .int x5), (6, .int x6)]) dX8_feed_87 (by decide) rfl ?_
  refine V_aload_n dX8_feed_89 rfl 1 rfl ?_
  refine H_getr ck7 1 (by decide) (fs_115 hF) (by decide) rfl (fr_115_1 hF) q1459 dX8_feed_90 ?_
  refine V_aload_n dX8_feed_93 rfl 1 rfl ?_
  refine H_geti ck7 2 (by decide) (fs_115 hF) (by decide) rfl q1460 dX8_feed_94 ?_
  refine V_iload dX8_feed_97 0 rfl ?_
  refine V_bipush (v := 24) dX8_feed_99 (by decide) ?_
  refine V_bipush (v := 8) dX8_feed_101 (by decide) ?_
  refine V_iload dX8_feed_103 7 rfl ?_
  refine V_iconst (v := 4) dX8_feed_105 (by decide) ?_
  refine V_irem dX8_feed_106 (by decide) ?_
  refine V_imul dX8_feed_107 ?_
  refine V_isub dX8_feed_108 ?_
  refine V_ishr dX8_feed_109 ?_
  refine V_sipush (v := 255) dX8_feed_110 (by decide) ?_
  refine V_iand dX8_feed_113 ?_
  refine V_topi (fun y1 e2 => ?_)
  have H := H y1 e2
  obtain ⟨i3, H⟩ := H
  refine H_iast (fs_116 hF) i3 dX8_feed_114 (fun h4 e5 => ?_)
  have H := H h4 e5
  refine V_aload_n dX8_feed_115 rfl 1 rfl ?_
  refine V_dup dX8_feed_116 rfl ?_
  refine H_geti ck7 2 (by decide) (fs_115 hF) (by decide) rfl q1460 dX8_feed_117 ?_
  refine V_iconst (v := 1) dX8_feed_120 (by decide) ?_
  refine V_iadd dX8_feed_121 ?_
  refine H_puti ck7 2 (by decide) (fs_115 hF) (by decide) rfl rfl q1460 dX8_feed_122 (fun h6 e7 => ?_)
  have H := H h6 e7
  obtain ⟨y8, e9⟩ : ∃ y : Int32, y = x6 + 1 := ⟨_, rfl⟩
  have H := H y8 e9
  refine V_iinc (j := 7) (v := y8) (l1 := [(6, .int y8), (7, .int s0), (0, .ref (ad D 115)), (1, .int x1), (2, .int x2), (3, .int x3), (4, .int x4), (5, .int x5)]) dX8_feed_125 rfl (by rw [e9]; rfl) (by decide) rfl ?_
  refine V_goto (tgt := 34) dX8_feed_128 (by decide) ?_
  refine V.sub [2, 3, 4, 5, 6, 7, 0] rfl ?_
  exact H
abbrev JX8_feed_34 (D : DE) (f : Nat) (Q : Int32 → HI → HL → Prop) (F : Frm) (h : HI) (g : HL) (x1 : Int32) (x2 : Int32) (x3 : Int32) (x4 : Int32) (x5 : Int32) (x6 : Int32) : Prop := ((20 ≤ x6 → Q (h 115 2) h g) ∧ (¬ 20 ≤ x6 → ((4 ≤ x6 → ((8 ≤ x6 → ((12 ≤ x6 → ((16 ≤ x6 → JX8_feed_87 D f Q F h g x1 x2 x3 x4 x5 x6 x5) ∧ (¬ 16 ≤ x6 → JX8_feed_87 D f Q F h g x1 x2 x3 x4 x5 x6 x4))) ∧ (¬ 12 ≤ x6 → JX8_feed_87 D f Q F h g x1 x2 x3 x4 x5 x6 x3))) ∧ (¬ 8 ≤ x6 → JX8_feed_87 D f Q F h g x1 x2 x3 x4 x5 x6 x2))) ∧ (¬ 4 ≤ x6 → JX8_feed_87 D f Q F h g x1 x2 x3 x4 x5 x6 x1))))
theorem bX8_feed_34 {D : DE} {f : Nat} {Q : Int32 → HI → HL → Prop} {F : Frm} {h : HI} {g : HL} (hF : k_Fix F) (x1 : Int32) (x2 : Int32) (x3 : Int32) (x4 : Int32) (x5 : Int32) (x6 : Int32) (H : JX8_feed_34 D f Q F h g x1 x2 x3 x4 x5 x6) : V D mX8_feed f (qi F Q) 34 [(0, .ref (ad D 115)), (1, .int x1), (2, .int x2), (3, .int x3), (4, .int x4), (5, .int x5), (6, .int x6)] [] (F, h, g) := by
  refine V_iload dX8_feed_34 6 rfl ?_
  refine V_bipush (v := 20) dX8_feed_36 (by decide) ?_
  refine V_icmp_ge (tgt := 131) dX8_feed_38 (by decide) (fun c1 => ?_) (fun c1 => ?_)
  · have H := H.1 c1
    refine V_aload_n dX8_feed_131 rfl 0 rfl ?_
    refine H_geti ck7 2 (by decide) (fs_115 hF) (by decide) rfl q1460 dX8_feed_132 ?_
    exact H_iret rfl dX8_feed_135 H
  · have H := H.2 c1
    refine V_iload dX8_feed_41 6 rfl ?_
    refine V_iconst (v := 4) dX8_feed_43 (by decide) ?_
    refine V_icmp_ge (tgt := 51) dX8_feed_44 (by decide) (fun c2 => ?_) (fun c2 => ?_)
    · have H := H.1 c2
      refine V_iload dX8_feed_51 6 rfl ?_
      refine V_bipush (v := 8) dX8_feed_53 (by decide) ?_
      refine V_icmp_ge (tgt := 62) dX8_feed_55 (by decide) (fun c3 => ?_) (fun c3 => ?_)
      · have H := H.1 c3
        refine V_iload dX8_feed_62 6 rfl ?_
        refine V_bipush (v := 12) dX8_feed_64 (by decide) ?_
        refine V_icmp_ge (tgt := 73) dX8_feed_66 (by decide) (fun c4 => ?_) (fun c4 => ?_)
        · have H := H.1 c4
          refine V_iload dX8_feed_73 6 rfl ?_
          refine V_bipush (v := 16) dX8_feed_75 (by decide) ?_
          refine V_icmp_ge (tgt := 85) dX8_feed_77 (by decide) (fun c5 => ?_) (fun c5 => ?_)
          · have H := H.1 c5
            refine V_iload dX8_feed_85 5 rfl ?_
            exact bX8_feed_87 hF x1 x2 x3 x4 x5 x6 x5 H
          · have H := H.2 c5
            refine V_iload dX8_feed_80 4 rfl ?_
            refine V_goto (tgt := 87) dX8_feed_82 (by decide) ?_
            exact bX8_feed_87 hF x1 x2 x3 x4 x5 x6 x4 H
        · have H := H.2 c4
          refine V_iload_n dX8_feed_69 rfl 3 rfl ?_
          refine V_goto (tgt := 87) dX8_feed_70 (by decide) ?_
          exact bX8_feed_87 hF x1 x2 x3 x4 x5 x6 x3 H
      · have H := H.2 c3
        refine V_iload_n dX8_feed_58 rfl 2 rfl ?_
        refine V_goto (tgt := 87) dX8_feed_59 (by decide) ?_
        exact bX8_feed_87 hF x1 x2 x3 x4 x5 x6 x2 H
    · have H := H.2 c2
      refine V_iload_n dX8_feed_47 rfl 1 rfl ?_
      refine V_goto (tgt := 87) dX8_feed_48 (by decide) ?_
      exact bX8_feed_87 hF x1 x2 x3 x4 x5 x6 x1 H
abbrev JX8_feed_19 (D : DE) (f : Nat) (Q : Int32 → HI → HL → Prop) (F : Frm) (h : HI) (g : HL) (x1 : Int32) (x2 : Int32) (x3 : Int32) (x4 : Int32) (x5 : Int32) (s1 : Int32) : Prop := ∀ h1, h1 = up2 h 115 0 s1 → (((h1 115 0) ≤ 0 → V D mX8_feed f (qi F Q) 34 [(0, .ref (ad D 115)), (1, .int x1), (2, .int x2), (3, .int x3), (4, .int x4), (5, .int x5), (6, .int 0)] [] (F, h1, g)) ∧ (¬ (h1 115 0) ≤ 0 → Q 0 h1 g))
theorem bX8_feed_19 {D : DE} {f : Nat} {Q : Int32 → HI → HL → Prop} {F : Frm} {h : HI} {g : HL} (hF : k_Fix F) (x1 : Int32) (x2 : Int32) (x3 : Int32) (x4 : Int32) (x5 : Int32) (s1 : Int32) (H : JX8_feed_19 D f Q F h g x1 x2 x3 x4 x5 s1) : V D mX8_feed f (qi F Q) 19 [(0, .ref (ad D 115)), (1, .int x1), (2, .int x2), (3, .int x3), (4, .int x4), (5, .int x5)] [.int s1, .ref (ad D 115)] (F, h, g) := by
  refine H_puti ck7 0 (by decide) (fs_115 hF) (by decide) rfl rfl q1458 dX8_feed_19 (fun h1 e2 => ?_)
  have H := H h1 e2
  refine V_aload_n dX8_feed_22 rfl 0 rfl ?_
  refine H_geti ck7 0 (by decide) (fs_115 hF) (by decide) rfl q1458 dX8_feed_23 ?_
  refine V_if_le (tgt := 31) dX8_feed_26 (by decide) (fun c3 => ?_) (fun c3 => ?_)
  · have H := H.1 c3
    refine V_iconst (v := 0) dX8_feed_31 (by decide) ?_
    refine V_istore (l1 := [(6, .int 0), (0, .ref (ad D 115)), (1, .int x1), (2, .int x2), (3, .int x3), (4, .int x4), (5, .int x5)]) dX8_feed_32 (by decide) rfl ?_
    refine V.sub [1, 2, 3, 4, 5, 6, 0] rfl ?_
    exact H
  · have H := H.2 c3
    refine V_iconst (v := 0) dX8_feed_29 (by decide) ?_
    exact H_iret rfl dX8_feed_30 H
abbrev JX8_feed_0 (D : DE) (f : Nat) (Q : Int32 → HI → HL → Prop) (F : Frm) (h : HI) (g : HL) (x1 : Int32) (x2 : Int32) (x3 : Int32) (x4 : Int32) (x5 : Int32) : Prop := ((((h 115 2) + 20) ≤ 4000 → JX8_feed_19 D f Q F h g x1 x2 x3 x4 x5 0) ∧ (¬ ((h 115 2) + 20) ≤ 4000 → JX8_feed_19 D f Q F h g x1 x2 x3 x4 x5 1))
theorem bX8_feed_0 {D : DE} {f : Nat} {Q : Int32 → HI → HL → Prop} {F : Frm} {h : HI} {g : HL} (hF : k_Fix F) (x1 : Int32) (x2 : Int32) (x3 : Int32) (x4 : Int32) (x5 : Int32) (H : JX8_feed_0 D f Q F h g x1 x2 x3 x4 x5) : V D mX8_feed f (qi F Q) 0 [(0, .ref (ad D 115)), (1, .int x1), (2, .int x2), (3, .int x3), (4, .int x4), (5, .int x5)] [] (F, h, g) := by
  refine V_aload_n dX8_feed_0 rfl 0 rfl ?_
  refine V_aload_n dX8_feed_1 rfl 0 rfl ?_
  refine H_geti ck7 2 (by decide) (fs_115 hF) (by decide) rfl q1460 dX8_feed_2 ?_
  refine V_bipush (v := 20) dX8_feed_5 (by decide) ?_
  refine V_iadd dX8_feed_7 ?_
  refine V_sipush (v := 4000) dX8_feed_8 (by decide) ?_
  refine V_icmp_le (tgt := 18) dX8_feed_11 (by decide) (fun c1 => ?_) (fun c1 => ?_)
  · have H := H.1 c1
    refine V_iconst (v := 0) dX8_feed_18 (by decide) ?_
    exact bX8_feed_19 hF x1 x2 x3 x4 x5 0 H
  · have H := H.2 c1
    refine V_iconst (v := 1) dX8_feed_14 (by decide) ?_
    refine V_goto (tgt := 19) dX8_feed_15 (by decide) ?_
    exact bX8_feed_19 hF x1 x2 x3 x4 x5 1 H
theorem wX8_feed {D : DE} {f : Nat} {Q : Int32 → HI → HL → Prop} {F : Frm} {h : HI} {g : HL} (hF : k_Fix F) (x1 : Int32) (x2 : Int32) (x3 : Int32) (x4 : Int32) (x5 : Int32) (H : JX8_feed_0 D f Q F h g x1 x2 x3 x4 x5) : Si D f mX8_feed [.ref (ad D 115), .int x1, .int x2, .int x3, .int x4, .int x5] F h g Q := Cl.ofV (by decide) (Nat.le_of_ble_eq_true rfl) rfl (bX8_feed_0 hF x1 x2 x3 x4 x5 H)
theorem dX8_cut_0 : decode cX8_cut 0 = .ok (.aload_n 0, 1) := by decide +kernel
theorem dX8_cut_1 : decode cX8_cut 1 = .ok (.iload_n 1, 1) := by decide +kernel
theorem dX8_cut_2 : decode cX8_cut 2 = .ok (.i2l, 1) := by decide +kernel
theorem dX8_cut_3 : decode cX8_cut 3 = .ok (.lconst 0, 1) := by decide +kernel
theorem dX8_cut_4 : decode cX8_cut 4 = .ok (.aload_n 0, 1) := by decide +kernel
theorem dX8_cut_5 : decode cX8_cut 5 = .ok (.getfield 151, 3) := by decide +kernel
theorem dX8_cut_8 : decode cX8_cut 8 = .ok (.i2l, 1) := by decide +kernel
theorem dX8_cut_9 : decode cX8_cut 9 = .ok (.invokestatic 154, 3) := by decide +kernel
theorem dX8_cut_12 : decode cX8_cut 12 = .ok (.ifCond .eq 7, 3) := by decide +kernel
theorem dX8_cut_15 : decode cX8_cut 15 = .ok (.iconst 0, 1) := by decide +kernel
theorem dX8_cut_16 : decode cX8_cut 16 = .ok (.goto 4, 3) := by decide +kernel
theorem dX8_cut_19 : decode cX8_cut 19 = .ok (.iconst 1, 1) := by decide +kernel
theorem dX8_cut_20 : decode cX8_cut 20 = .ok (.putfield 148, 3) := by decide +kernel
theorem dX8_cut_23 : decode cX8_cut 23 = .ok (.aload_n 0, 1) := by decide +kernel
theorem dX8_cut_24 : decode cX8_cut 24 = .ok (.getfield 148, 3) := by decide +kernel
theorem dX8_cut_27 : decode cX8_cut 27 = .ok (.ifCond .le 5, 3) := by decide +kernel
theorem dX8_cut_30 : decode cX8_cut 30 = .ok (.iconst 0, 1) := by decide +kernel
theorem dX8_cut_31 : decode cX8_cut 31 = .ok (.ireturn, 1) := by decide +kernel
theorem dX8_cut_32 : decode cX8_cut 32 = .ok (.aload_n 0, 1) := by decide +kernel
theorem dX8_cut_33 : decode cX8_cut 33 = .ok (.getfield 151, 3) := by decide +kernel
theorem dX8_cut_36 : decode cX8_cut 36 = .ok (.iload_n 1, 1) := by decide +kernel
theorem dX8_cut_37 : decode cX8_cut 37 = .ok (.isub, 1) := by decide +kernel
theorem dX8_cut_38 : decode cX8_cut 38 = .ok (.istore_n 2, 1) := by decide +kernel
theorem dX8_cut_39 : decode cX8_cut 39 = .ok (.aload_n 0, 1) := by decide +kernel
theorem dX8_cut_40 : decode cX8_cut 40 = .ok (.iload_n 1, 1) := by decide +kernel
theorem dX8_cut_41 : decode cX8_cut 41 = .ok (.putfield 151, 3) := by decide +kernel
theorem dX8_cut_44 : decode cX8_cut 44 = .ok (.iload_n 2, 1) := by decide +kernel
theorem dX8_cut_45 : decode cX8_cut 45 = .ok (.ireturn, 1) := by decide +kernel
abbrev JX8_cut_20 (D : DE) (f : Nat) (Q : Int32 → HI → HL → Prop) (F : Frm) (h : HI) (g : HL) (x1 : Int32) (s1 : Int32) : Prop := ∀ h1, h1 = up2 h 115 0 s1 → (((h1 115 0) ≤ 0 → ∀ y4 : Int32, y4 = (h1 115 2) - x1 → ∀ h6, h6 = up2 h1 115 2 x1 → Q y4 h6 g) ∧ (¬ (h1 115 0) ≤ 0 → Q 0 h1 g))
theorem bX8_cut_20 {D : DE} {f : Nat} {Q : Int32 → HI → HL → Prop} {F : Frm} {h : HI} {g : HL} (hF : k_Fix F) (x1 : Int32) (s1 : Int32) (H : JX8_cut_20 D f Q F h g x1 s1) : V D mX8_cut (f + 1) (qi F Q) 20 [(0, .ref (ad D 115)), (1, .int x1)] [.int s1, .ref (ad D 115)] (F, h, g) := by
  refine H_puti ck7 0 (by decide) (fs_115 hF) (by decide) rfl rfl q1458 dX8_cut_20 (fun h1 e2 => ?_)
  have H := H h1 e2
  refine V_aload_n dX8_cut_23 rfl 0 rfl ?_
  refine H_geti ck7 0 (by decide) (fs_115 hF) (by decide) rfl q1458 dX8_cut_24 ?_
  refine V_if_le (tgt := 32) dX8_cut_27 (by decide) (fun c3 => ?_) (fun c3 => ?_)
  · have H := H.1 c3
    refine V_aload_n dX8_cut_32 rfl 0 rfl ?_
    refine H_geti ck7 2 (by decide) (fs_115 hF) (by decide) rfl q1460 dX8_cut_33 ?_
    refine V_iload_n dX8_cut_36 rfl 1 rfl ?_
    refine V_isub dX8_cut_37 ?_
    refine V_topi (fun y4 e5 => ?_)
    have H := H y4 e5
    refine V_istore_n (l1 := [(2, .int y4), (0, .ref (ad D 115)), (1, .int x1)]) dX8_cut_38 rfl (by decide) rfl ?_
    refine V_aload_n dX8_cut_39 rfl 1 rfl ?_
    refine V_iload_n dX8_cut_40 rfl 2 rfl ?_
    refine H_puti ck7 2 (by decide) (fs_115 hF) (by decide) rfl rfl q1460 dX8_cut_41 (fun h6 e7 => ?_)
    have H := H h6 e7
    refine V_iload_n dX8_cut_44 rfl 0 rfl ?_
    exact H_iret rfl dX8_cut_45 H
  · have H := H.2 c3
    refine V_iconst (v := 0) dX8_cut_30 (by decide) ?_
    exact H_iret rfl dX8_cut_31 H
abbrev JX8_cut_0 (D : DE) (f : Nat) (Q : Int32 → HI → HL → Prop) (F : Frm) (h : HI) (g : HL) (x1 : Int32) : Prop := Si D f mX8_within [.long x1.toInt64, .long 0, .long ((h 115 2).toInt64)] F h g (fun y3 h1 g2 => ((y3 = 0 → JX8_cut_20 D f Q F h1 g2 x1 1) ∧ (¬ y3 = 0 → JX8_cut_20 D f Q F h1 g2 x1 0)))
theorem bX8_cut_0 {D : DE} {f : Nat} {Q : Int32 → HI → HL → Prop} {F : Frm} {h : HI} {g : HL} (hF : k_Fix F) (x1 : Int32) (H : JX8_cut_0 D f Q F h g x1) : V D mX8_cut (f + 1) (qi F Q) 0 [(0, .ref (ad D 115)), (1, .int x1)] [] (F, h, g) := by
  refine V_aload_n dX8_cut_0 rfl 0 rfl ?_
  refine V_iload_n dX8_cut_1 rfl 1 rfl ?_
  refine V_i2l dX8_cut_2 ?_
  refine V_lconst (v := 0) dX8_cut_3 (by decide) ?_
  refine V_aload_n dX8_cut_4 rfl 0 rfl ?_
  refine H_geti ck7 2 (by decide) (fs_115 hF) (by decide) rfl q1460 dX8_cut_5 ?_
  refine V_i2l dX8_cut_8 ?_
  refine H_calli (av := [.long x1.toInt64, .long 0, .long ((h 115 2).toInt64)]) (rest := [.ref (ad D 115)]) H mqX8_within q88 (by decide) (Nat.le_of_ble_eq_true rfl) (k_resS (av := [.long x1.toInt64, .long 0, .long ((h 115 2).toInt64)]) (rest := [.ref (ad D 115)]) (M1 := mX8_within) rfl q1721 q1722 q88 mqX8_within (fun _ _ h => mW_named h) mhX8_within mnX8_within dX8_cut_9) (fun y3 h1 g2 H => ?_)
  refine V_if_eq (tgt := 19) dX8_cut_12 (by decide) (fun c4 => ?_) (fun c4 => ?_)
  · have H := H.1 c4
    refine V_iconst (v := 1) dX8_cut_19 (by decide) ?_
    exact bX8_cut_20 hF x1 1 H
  · have H := H.2 c4
    refine V_iconst (v := 0) dX8_cut_15 (by decide) ?_
    refine V_goto (tgt := 20) dX8_cut_16 (by decide) ?_
    exact bX8_cut_20 hF x1 0 H
theorem wX8_cut {D : DE} {f : Nat} {Q : Int32 → HI → HL → Prop} {F : Frm} {h : HI} {g : HL} (hF : k_Fix F) (x1 : Int32) (H : JX8_cut_0 D f Q F h g x1) : Si D (f + 1) mX8_cut [.ref (ad D 115), .int x1] F h g Q := Cl.ofV (by decide) (Nat.le_of_ble_eq_true rfl) rfl (bX8_cut_0 hF x1 H)
theorem dX8_firstOf_0 : decode cX8_firstOf 0 = .ok (.iload_n 0, 1) := by decide +kernel
theorem dX8_firstOf_1 : decode cX8_firstOf 1 = .ok (.iconst 3, 1) := by decide +kernel
theorem dX8_firstOf_2 : decode cX8_firstOf 2 = .ok (.if_icmp .lt 7, 3) := by decide +kernel
theorem dX8_firstOf_5 : decode cX8_firstOf 5 = .ok (.iconst 1, 1) := by decide +kernel
theorem dX8_firstOf_6 : decode cX8_firstOf 6 = .ok (.goto 4, 3) := by decide +kernel
theorem dX8_firstOf_9 : decode cX8_firstOf 9 = .ok (.iconst 0, 1) := by decide +kernel
theorem dX8_firstOf_10 : decode cX8_firstOf 10 = .ok (.ireturn, 1) := by decide +kernel
abbrev JX8_firstOf_0 (D : DE) (f : Nat) (Q : Int32 → HI → HL → Prop) (F : Frm) (h : HI) (g : HL) (x0 : Int32) : Prop := ((x0 < 3 → Q 0 h g) ∧ (¬ x0 < 3 → Q 1 h g))
theorem bX8_firstOf_0 {D : DE} {f : Nat} {Q : Int32 → HI → HL → Prop} {F : Frm} {h : HI} {g : HL} (hF : k_Fix F) (x0 : Int32) (H : JX8_firstOf_0 D f Q F h g x0) : V D mX8_firstOf f (qi F Q) 0 [(0, .int x0)] [] (F, h, g) := by
  refine V_iload_n dX8_firstOf_0 rfl 0 rfl ?_
  refine V_iconst (v := 3) dX8_firstOf_1 (by decide) ?_
  refine V_icmp_lt (tgt := 9) dX8_firstOf_2 (by decide) (fun c1 => ?_) (fun c1 => ?_)
  · have H := H.1 c1
    refine V_iconst (v := 0) dX8_firstOf_9 (by decide) ?_
    exact H_iret rfl dX8_firstOf_10 H
  · have H := H.2 c1
    refine V_iconst (v := 1) dX8_firstOf_5 (by decide) ?_
    refine V_goto (tgt := 10) dX8_firstOf_6 (by decide) ?_
    exact H_iret rfl dX8_firstOf_10 H
theorem wX8_firstOf {D : DE} {f : Nat} {Q : Int32 → HI → HL → Prop} {F : Frm} {h : HI} {g : HL} (hF : k_Fix F) (x0 : Int32) (H : JX8_firstOf_0 D f Q F h g x0) : Si D f mX8_firstOf [.int x0] F h g Q := Cl.ofV (by decide) (Nat.le_of_ble_eq_true rfl) rfl (bX8_firstOf_0 hF x0 H)
theorem dX8_secondOf_0 : decode cX8_secondOf 0 = .ok (.iload_n 0, 1) := by decide +kernel
theorem dX8_secondOf_1 : decode cX8_secondOf 1 = .ok (.iconst 2, 1) := by decide +kernel
theorem dX8_secondOf_2 : decode cX8_secondOf 2 = .ok (.if_icmp .eq 8, 3) := by decide +kernel
theorem dX8_secondOf_5 : decode cX8_secondOf 5 = .ok (.iload_n 0, 1) := by decide +kernel
theorem dX8_secondOf_6 : decode cX8_secondOf 6 = .ok (.iconst 4, 1) := by decide +kernel
theorem dX8_secondOf_7 : decode cX8_secondOf 7 = .ok (.if_icmp .ne 7, 3) := by decide +kernel
theorem dX8_secondOf_10 : decode cX8_secondOf 10 = .ok (.iconst 1, 1) := by decide +kernel
theorem dX8_secondOf_11 : decode cX8_secondOf 11 = .ok (.goto 4, 3) := by decide +kernel
theorem dX8_secondOf_14 : decode cX8_secondOf 14 = .ok (.iconst 0, 1) := by decide +kernel
theorem dX8_secondOf_15 : decode cX8_secondOf 15 = .ok (.ireturn, 1) := by decide +kernel
abbrev JX8_secondOf_0 (D : DE) (f : Nat) (Q : Int32 → HI → HL → Prop) (F : Frm) (h : HI) (g : HL) (x0 : Int32) : Prop := ((x0 = 2 → Q 1 h g) ∧ (¬ x0 = 2 → ((¬ x0 = 4 → Q 0 h g) ∧ (x0 = 4 → Q 1 h g))))
theorem bX8_secondOf_0 {D : DE} {f : Nat} {Q : Int32 → HI → HL → Prop} {F : Frm} {h : HI} {g : HL} (hF : k_Fix F) (x0 : Int32) (H : JX8_secondOf_0 D f Q F h g x0) : V D mX8_secondOf f (qi F Q) 0 [(0, .int x0)] [] (F, h, g) := by
  refine V_iload_n dX8_secondOf_0 rfl 0 rfl ?_
  refine V_iconst (v := 2) dX8_secondOf_1 (by decide) ?_
  refine V_icmp_eq (tgt := 10) dX8_secondOf_2 (by decide) (fun c1 => ?_) (fun c1 => ?_)
  · have H := H.1 c1
    refine V_iconst (v := 1) dX8_secondOf_10 (by decide) ?_
    refine V_goto (tgt := 15) dX8_secondOf_11 (by decide) ?_
    exact H_iret rfl dX8_secondOf_15 H
  · have H := H.2 c1
    refine V_iload_n dX8_secondOf_5 rfl 0 rfl ?_
    refine V_iconst (v := 4) dX8_secondOf_6 (by decide) ?_
    refine V_icmp_ne (tgt := 14) dX8_secondOf_7 (by decide) (fun c2 => ?_) (fun c2 => ?_)
    · have H := H.1 c2
      refine V_iconst (v := 0) dX8_secondOf_14 (by decide) ?_
      exact H_iret rfl dX8_secondOf_15 H
    · have H := H.2 c2
      refine V_iconst (v := 1) dX8_secondOf_10 (by decide) ?_
      refine V_goto (tgt := 15) dX8_secondOf_11 (by decide) ?_
      exact H_iret rfl dX8_secondOf_15 H
theorem wX8_secondOf {D : DE} {f : Nat} {Q : Int32 → HI → HL → Prop} {F : Frm} {h : HI} {g : HL} (hF : k_Fix F) (x0 : Int32) (H : JX8_secondOf_0 D f Q F h g x0) : Si D f mX8_secondOf [.int x0] F h g Q := Cl.ofV (by decide) (Nat.le_of_ble_eq_true rfl) rfl (bX8_secondOf_0 hF x0 H)
theorem dX8_pairOf_0 : decode cX8_pairOf 0 = .ok (.iload_n 0, 1) := by decide +kernel
theorem dX8_pairOf_1 : decode cX8_pairOf 1 = .ok (.iconst 1, 1) := by decide +kernel
theorem dX8_pairOf_2 : decode cX8_pairOf 2 = .ok (.if_icmp .gt 8, 3) := by decide +kernel
theorem dX8_pairOf_5 : decode cX8_pairOf 5 = .ok (.iload_n 1, 1) := by decide +kernel
theorem dX8_pairOf_6 : decode cX8_pairOf 6 = .ok (.iconst 1, 1) := by decide +kernel
theorem dX8_pairOf_7 : decode cX8_pairOf 7 = .ok (.if_icmp .le 7, 3) := by decide +kernel
theorem dX8_pairOf_10 : decode cX8_pairOf 10 = .ok (.iconst (-1), 1) := by decide +kernel
theorem dX8_pairOf_11 : decode cX8_pairOf 11 = .ok (.goto 10, 3) := by decide +kernel
theorem dX8_pairOf_14 : decode cX8_pairOf 14 = .ok (.iconst 1, 1) := by decide +kernel
theorem dX8_pairOf_15 : decode cX8_pairOf 15 = .ok (.iconst 2, 1) := by decide +kernel
theorem dX8_pairOf_16 : decode cX8_pairOf 16 = .ok (.iload_n 0, 1) := by decide +kernel
theorem dX8_pairOf_17 : decode cX8_pairOf 17 = .ok (.imul, 1) := by decide +kernel
theorem dX8_pairOf_18 : decode cX8_pairOf 18 = .ok (.iadd, 1) := by decide +kernel
theorem dX8_pairOf_19 : decode cX8_pairOf 19 = .ok (.iload_n 1, 1) := by decide +kernel
theorem dX8_pairOf_20 : decode cX8_pairOf 20 = .ok (.iadd, 1) := by decide +kernel
theorem dX8_pairOf_21 : decode cX8_pairOf 21 = .ok (.ireturn, 1) := by decide +kernel
abbrev JX8_pairOf_0 (D : DE) (f : Nat) (Q : Int32 → HI → HL → Prop) (F : Frm) (h : HI) (g : HL) (x0 : Int32) (x1 : Int32) : Prop := ((1 < x0 → Q (-1) h g) ∧ (¬ 1 < x0 → ((x1 ≤ 1 → Q ((1 + (2 * x0)) + x1) h g) ∧ (¬ x1 ≤ 1 → Q (-1) h g))))
theorem bX8_pairOf_0 {D : DE} {f : Nat} {Q : Int32 → HI → HL → Prop} {F : Frm} {h : HI} {g : HL} (hF : k_Fix F) (x0 : Int32) (x1 : Int32) (H : JX8_pairOf_0 D f Q F h g x0 x1) : V D mX8_pairOf f (qi F Q) 0 [(0, .int x0), (1, .int x1)] [] (F, h, g) := by
  refine V_iload_n dX8_pairOf_0 rfl 0 rfl ?_
  refine V_iconst (v := 1) dX8_pairOf_1 (by decide) ?_
  refine V_icmp_gt (tgt := 10) dX8_pairOf_2 (by decide) (fun c1 => ?_) (fun c1 => ?_)
  · have H := H.1 c1
    refine V_iconst (v := (-1)) dX8_pairOf_10 (by decide) ?_
    refine V_goto (tgt := 21) dX8_pairOf_11 (by decide) ?_
    exact H_iret rfl dX8_pairOf_21 H
  · have H := H.2 c1
    refine V_iload_n dX8_pairOf_5 rfl 1 rfl ?_
    refine V_iconst (v := 1) dX8_pairOf_6 (by decide) ?_
    refine V_icmp_le (tgt := 14) dX8_pairOf_7 (by decide) (fun c2 => ?_) (fun c2 => ?_)
    · have H := H.1 c2
      refine V_iconst (v := 1) dX8_pairOf_14 (by decide) ?_
      refine V_iconst (v := 2) dX8_pairOf_15 (by decide) ?_
      refine V_iload_n dX8_pairOf_16 rfl 0 rfl ?_
      refine V_imul dX8_pairOf_17 ?_
      refine V_iadd dX8_pairOf_18 ?_
      refine V_iload_n dX8_pairOf_19 rfl 1 rfl ?_
      refine V_iadd dX8_pairOf_20 ?_
      exact H_iret rfl dX8_pairOf_21 H
    · have H := H.2 c2
      refine V_iconst (v := (-1)) dX8_pairOf_10 (by decide) ?_
      refine V_goto (tgt := 21) dX8_pairOf_11 (by decide) ?_
      exact H_iret rfl dX8_pairOf_21 H
theorem wX8_pairOf {D : DE} {f : Nat} {Q : Int32 → HI → HL → Prop} {F : Frm} {h : HI} {g : HL} (hF : k_Fix F) (x0 : Int32) (x1 : Int32) (H : JX8_pairOf_0 D f Q F h g x0 x1) : Si D f mX8_pairOf [.int x0, .int x1] F h g Q := Cl.ofV (by decide) (Nat.le_of_ble_eq_true rfl) rfl (bX8_pairOf_0 hF x0 x1 H)
theorem dX8_demands_0 : decode cX8_demands 0 = .ok (.iload_n 0, 1) := by decide +kernel
theorem dX8_demands_1 : decode cX8_demands 1 = .ok (.ifCond .ne 7, 3) := by decide +kernel
theorem dX8_demands_4 : decode cX8_demands 4 = .ok (.iconst 2, 1) := by decide +kernel
theorem dX8_demands_5 : decode cX8_demands 5 = .ok (.goto 24, 3) := by decide +kernel
theorem dX8_demands_8 : decode cX8_demands 8 = .ok (.iload_n 0, 1) := by decide +kernel
theorem dX8_demands_9 : decode cX8_demands 9 = .ok (.iconst 1, 1) := by decide +kernel
theorem dX8_demands_10 : decode cX8_demands 10 = .ok (.if_icmp .ne 7, 3) := by decide +kernel
theorem dX8_demands_13 : decode cX8_demands 13 = .ok (.iconst 5, 1) := by decide +kernel
theorem dX8_demands_14 : decode cX8_demands 14 = .ok (.goto 15, 3) := by decide +kernel
theorem dX8_demands_17 : decode cX8_demands 17 = .ok (.iload_n 0, 1) := by decide +kernel
theorem dX8_demands_18 : decode cX8_demands 18 = .ok (.iconst 4, 1) := by decide +kernel
theorem dX8_demands_19 : decode cX8_demands 19 = .ok (.if_icmp .ne 8, 3) := by decide +kernel
theorem dX8_demands_22 : decode cX8_demands 22 = .ok (.bipush 26, 2) := by decide +kernel
theorem dX8_demands_24 : decode cX8_demands 24 = .ok (.goto 5, 3) := by decide +kernel
theorem dX8_demands_27 : decode cX8_demands 27 = .ok (.bipush 11, 2) := by decide +kernel
theorem dX8_demands_29 : decode cX8_demands 29 = .ok (.ireturn, 1) := by decide +kernel
abbrev JX8_demands_0 (D : DE) (f : Nat) (Q : Int32 → HI → HL → Prop) (F : Frm) (h : HI) (g : HL) (x0 : Int32) : Prop := ((¬ x0 = 0 → ((¬ x0 = 1 → ((¬ x0 = 4 → Q 11 h g) ∧ (x0 = 4 → Q 26 h g))) ∧ (x0 = 1 → Q 5 h g))) ∧ (x0 = 0 → Q 2 h g))
theorem bX8_demands_0 {D : DE} {f : Nat} {Q : Int32 → HI → HL → Prop} {F : Frm} {h : HI} {g : HL} (hF : k_Fix F) (x0 : Int32) (H : JX8_demands_0 D f Q F h g x0) : V D mX8_demands f (qi F Q) 0 [(0, .int x0)] [] (F, h, g) := by
  refine V_iload_n dX8_demands_0 rfl 0 rfl ?_
  refine V_if_ne (tgt := 8) dX8_demands_1 (by decide) (fun c1 => ?_) (fun c1 => ?_)
  · have H := H.1 c1
    refine V_iload_n dX8_demands_8 rfl 0 rfl ?_
    refine V_iconst (v := 1) dX8_demands_9 (by decide) ?_
    refine V_icmp_ne (tgt := 17) dX8_demands_10 (by decide) (fun c2 => ?_) (fun c2 => ?_)
    · have H := H.1 c2
      refine V_iload_n dX8_demands_17 rfl 0 rfl ?_
      refine V_iconst (v := 4) dX8_demands_18 (by decide) ?_
      refine V_icmp_ne (tgt := 27) dX8_demands_19 (by decide) (fun c3 => ?_) (fun c3 => ?_)
      · have H := H.1 c3
        refine V_bipush (v := 11) dX8_demands_27 (by decide) ?_
        exact H_iret rfl dX8_demands_29 H
      · have H := H.2 c3
        refine V_bipush (v := 26) dX8_demands_22 (by decide) ?_
        refine V_goto (tgt := 29) dX8_demands_24 (by decide) ?_
        exact H_iret rfl dX8_demands_29 H
    · have H := H.2 c2
      refine V_iconst (v := 5) dX8_demands_13 (by decide) ?_
      refine V_goto (tgt := 29) dX8_demands_14 (by decide) ?_
      exact H_iret rfl dX8_demands_29 H
  · have H := H.2 c1
    refine V_iconst (v := 2) dX8_demands_4 (by decide) ?_
    refine V_goto (tgt := 29) dX8_demands_5 (by decide) ?_
    exact H_iret rfl dX8_demands_29 H
theorem wX8_demands {D : DE} {f : Nat} {Q : Int32 → HI → HL → Prop} {F : Frm} {h : HI} {g : HL} (hF : k_Fix F) (x0 : Int32) (H : JX8_demands_0 D f Q F h g x0) : Si D f mX8_demands [.int x0] F h g Q := Cl.ofV (by decide) (Nat.le_of_ble_eq_true rfl) rfl (bX8_demands_0 hF x0 H)
theorem dX8_nearBoth_0 : decode cX8_nearBoth 0 = .ok (.iload_n 0, 1) := by decide +kernel
theorem dX8_nearBoth_1 : decode cX8_nearBoth 1 = .ok (.ifCond .eq 7, 3) := by decide +kernel
theorem dX8_nearBoth_4 : decode cX8_nearBoth 4 = .ok (.iload_n 1, 1) := by decide +kernel
theorem dX8_nearBoth_5 : decode cX8_nearBoth 5 = .ok (.ifCond .ne 15, 3) := by decide +kernel
theorem dX8_nearBoth_8 : decode cX8_nearBoth 8 = .ok (.iload_n 2, 1) := by decide +kernel
theorem dX8_nearBoth_9 : decode cX8_nearBoth 9 = .ok (.ifCond .eq 9, 3) := by decide +kernel
theorem dX8_nearBoth_12 : decode cX8_nearBoth 12 = .ok (.iload_n 0, 1) := by decide +kernel
theorem dX8_nearBoth_13 : decode cX8_nearBoth 13 = .ok (.iload_n 1, 1) := by decide +kernel
theorem dX8_nearBoth_14 : decode cX8_nearBoth 14 = .ok (.iadd, 1) := by decide +kernel
theorem dX8_nearBoth_15 : decode cX8_nearBoth 15 = .ok (.goto 4, 3) := by decide +kernel
theorem dX8_nearBoth_18 : decode cX8_nearBoth 18 = .ok (.iconst 0, 1) := by decide +kernel
theorem dX8_nearBoth_19 : decode cX8_nearBoth 19 = .ok (.ireturn, 1) := by decide +kernel
theorem dX8_nearBoth_20 : decode cX8_nearBoth 20 = .ok (.iload_n 0, 1) := by decide +kernel
theorem dX8_nearBoth_21 : decode cX8_nearBoth 21 = .ok (.iconst 1, 1) := by decide +kernel
theorem dX8_nearBoth_22 : decode cX8_nearBoth 22 = .ok (.isub, 1) := by decide +kernel
theorem dX8_nearBoth_23 : decode cX8_nearBoth 23 = .ok (.iconst 2, 1) := by decide +kernel
theorem dX8_nearBoth_24 : decode cX8_nearBoth 24 = .ok (.idiv, 1) := by decide +kernel
theorem dX8_nearBoth_25 : decode cX8_nearBoth 25 = .ok (.istore_n 3, 1) := by decide +kernel
theorem dX8_nearBoth_26 : decode cX8_nearBoth 26 = .ok (.iload_n 0, 1) := by decide +kernel
theorem dX8_nearBoth_27 : decode cX8_nearBoth 27 = .ok (.iconst 1, 1) := by decide +kernel
theorem dX8_nearBoth_28 : decode cX8_nearBoth 28 = .ok (.isub, 1) := by decide +kernel
theorem dX8_nearBoth_29 : decode cX8_nearBoth 29 = .ok (.iconst 2, 1) := by decide +kernel
theorem dX8_nearBoth_30 : decode cX8_nearBoth 30 = .ok (.irem, 1) := by decide +kernel
theorem dX8_nearBoth_31 : decode cX8_nearBoth 31 = .ok (.istore 4, 2) := by decide +kernel
theorem dX8_nearBoth_33 : decode cX8_nearBoth 33 = .ok (.iload_n 1, 1) := by decide +kernel
theorem dX8_nearBoth_34 : decode cX8_nearBoth 34 = .ok (.iconst 1, 1) := by decide +kernel
theorem dX8_nearBoth_35 : decode cX8_nearBoth 35 = .ok (.isub, 1) := by decide +kernel
theorem dX8_nearBoth_36 : decode cX8_nearBoth 36 = .ok (.iconst 2, 1) := by decide +kernel
theorem dX8_nearBoth_37 : decode cX8_nearBoth 37 = .ok (.idiv, 1) := by decide +kernel
theorem dX8_nearBoth_38 : decode cX8_nearBoth 38 = .ok (.istore 5, 2) := by decide +kernel
theorem dX8_nearBoth_40 : decode cX8_nearBoth 40 = .ok (.iload_n 1, 1) := by decide +kernel
theorem dX8_nearBoth_41 : decode cX8_nearBoth 41 = .ok (.iconst 1, 1) := by decide +kernel
theorem dX8_nearBoth_42 : decode cX8_nearBoth 42 = .ok (.isub, 1) := by decide +kernel
theorem dX8_nearBoth_43 : decode cX8_nearBoth 43 = .ok (.iconst 2, 1) := by decide +kernel
theorem dX8_nearBoth_44 : decode cX8_nearBoth 44 = .ok (.irem, 1) := by decide +kernel
theorem dX8_nearBoth_45 : decode cX8_nearBoth 45 = .ok (.istore 6, 2) := by decide +kernel
theorem dX8_nearBoth_47 : decode cX8_nearBoth 47 = .ok (.iconst 1, 1) := by decide +kernel
theorem dX8_nearBoth_48 : decode cX8_nearBoth 48 = .ok (.iconst 2, 1) := by decide +kernel
theorem dX8_nearBoth_49 : decode cX8_nearBoth 49 = .ok (.iload_n 2, 1) := by decide +kernel
theorem dX8_nearBoth_50 : decode cX8_nearBoth 50 = .ok (.ifCond .eq 10, 3) := by decide +kernel
theorem dX8_nearBoth_53 : decode cX8_nearBoth 53 = .ok (.iload_n 3, 1) := by decide +kernel
theorem dX8_nearBoth_54 : decode cX8_nearBoth 54 = .ok (.iload 5, 2) := by decide +kernel
theorem dX8_nearBoth_56 : decode cX8_nearBoth 56 = .ok (.ior, 1) := by decide +kernel
theorem dX8_nearBoth_57 : decode cX8_nearBoth 57 = .ok (.goto 7, 3) := by decide +kernel
theorem dX8_nearBoth_60 : decode cX8_nearBoth 60 = .ok (.iload_n 3, 1) := by decide +kernel
theorem dX8_nearBoth_61 : decode cX8_nearBoth 61 = .ok (.iload 5, 2) := by decide +kernel
theorem dX8_nearBoth_63 : decode cX8_nearBoth 63 = .ok (.iand, 1) := by decide +kernel
theorem dX8_nearBoth_64 : decode cX8_nearBoth 64 = .ok (.imul, 1) := by decide +kernel
theorem dX8_nearBoth_65 : decode cX8_nearBoth 65 = .ok (.iadd, 1) := by decide +kernel
theorem dX8_nearBoth_66 : decode cX8_nearBoth 66 = .ok (.iload_n 2, 1) := by decide +kernel
theorem dX8_nearBoth_67 : decode cX8_nearBoth 67 = .ok (.ifCond .eq 11, 3) := by decide +kernel
theorem dX8_nearBoth_70 : decode cX8_nearBoth 70 = .ok (.iload 4, 2) := by decide +kernel
theorem dX8_nearBoth_72 : decode cX8_nearBoth 72 = .ok (.iload 6, 2) := by decide +kernel
theorem dX8_nearBoth_74 : decode cX8_nearBoth 74 = .ok (.ior, 1) := by decide +kernel
theorem dX8_nearBoth_75 : decode cX8_nearBoth 75 = .ok (.goto 8, 3) := by decide +kernel
theorem dX8_nearBoth_78 : decode cX8_nearBoth 78 = .ok (.iload 4, 2) := by decide +kernel
theorem dX8_nearBoth_80 : decode cX8_nearBoth 80 = .ok (.iload 6, 2) := by decide +kernel
theorem dX8_nearBoth_82 : decode cX8_nearBoth 82 = .ok (.iand, 1) := by decide +kernel
theorem dX8_nearBoth_83 : decode cX8_nearBoth 83 = .ok (.iadd, 1) := by decide +kernel
theorem dX8_nearBoth_84 : decode cX8_nearBoth 84 = .ok (.ireturn, 1) := by decide +kernel
abbrev JX8_nearBoth_64 (D : DE) (f : Nat) (Q : Int32 → HI → HL → Prop) (F : Frm) (h : HI) (g : HL) (x2 : Int32) (x4 : Int32) (x6 : Int32) (s0 : Int32) (s1 : Int32) (s2 : Int32) : Prop := ((x2 = 0 → Q ((s0 + (s1 * s2)) + (x4 &&& x6)) h g) ∧ (¬ x2 = 0 → Q ((s0 + (s1 * s2)) + (x4 ||| x6)) h g))
theorem bX8_nearBoth_64 {D : DE} {f : Nat} {Q : Int32 → HI → HL → Prop} {F : Frm} {h : HI} {g : HL} (hF : k_Fix F) (x2 : Int32) (x4 : Int32) (x6 : Int32) (s0 : Int32) (s1 : Int32) (s2 : Int32) (H : JX8_nearBoth_64 D f Q F h g x2 x4 x6 s0 s1 s2) : V D mX8_nearBoth f (qi F Q) 64 [(2, .int x2), (4, .int x4), (6, .int x6)] [.int s2, .int s1, .int s0] (F, h, g) := by
  refine V_imul dX8_nearBoth_64 ?_
  refine V_iadd dX8_nearBoth_65 ?_
  refine V_iload_n dX8_nearBoth_66 rfl 0 rfl ?_
  refine V_if_eq (tgt := 78) dX8_nearBoth_67 (by decide) (fun c1 => ?_) (fun c1 => ?_)
  · have H := H.1 c1
    refine V_iload dX8_nearBoth_78 1 rfl ?_
    refine V_iload dX8_nearBoth_80 2 rfl ?_
    refine V_iand dX8_nearBoth_82 ?_
    refine V_iadd dX8_nearBoth_83 ?_
    exact H_iret rfl dX8_nearBoth_84 H
  · have H := H.2 c1
    refine V_iload dX8_nearBoth_70 1 rfl ?_
    refine V_iload dX8_nearBoth_72 2 rfl ?_
    refine V_ior dX8_nearBoth_74 ?_
    refine V_goto (tgt := 83) dX8_nearBoth_75 (by decide) ?_
    refine V_iadd dX8_nearBoth_83 ?_
    exact H_iret rfl dX8_nearBoth_84 H
abbrev JX8_nearBoth_8 (D : DE) (f : Nat) (Q : Int32 → HI → HL → Prop) (F : Frm) (h : HI) (g : HL) (x0 : Int32) (x1 : Int32) (x2 : Int32) : Prop := ((x2 = 0 → Q 0 h g) ∧ (¬ x2 = 0 → Q (x0 + x1) h g))
theorem bX8_nearBoth_8 {D : DE} {f : Nat} {Q : Int32 → HI → HL → Prop} {F : Frm} {h : HI} {g : HL} (hF : k_Fix F) (x0 : Int32) (x1 : Int32) (x2 : Int32) (H : JX8_nearBoth_8 D f Q F h g x0 x1 x2) : V D mX8_nearBoth f (qi F Q) 8 [(0, .int x0), (1, .int x1), (2, .int x2)] [] (F, h, g) := by
  refine V_iload_n dX8_nearBoth_8 rfl 2 rfl ?_
  refine V_if_eq (tgt := 18) dX8_nearBoth_9 (by decide) (fun c1 => ?_) (fun c1 => ?_)
  · have H := H.1 c1
    refine V_iconst (v := 0) dX8_nearBoth_18 (by decide) ?_
    exact H_iret rfl dX8_nearBoth_19 H
  · have H := H.2 c1
    refine V_iload_n dX8_nearBoth_12 rfl 0 rfl ?_
    refine V_iload_n dX8_nearBoth_13 rfl 1 rfl ?_
    refine V_iadd dX8_nearBoth_14 ?_
    refine V_goto (tgt := 19) dX8_nearBoth_15 (by decide) ?_
    exact H_iret rfl dX8_nearBoth_19 H
abbrev JX8_nearBoth_0 (D : DE) (f : Nat) (Q : Int32 → HI → HL → Prop) (F : Frm) (h : HI) (g : HL) (x0 : Int32) (x1 : Int32) (x2 : Int32) : Prop := ((x0 = 0 → JX8_nearBoth_8 D f Q F h g x0 x1 x2) ∧ (¬ x0 = 0 → ((¬ x1 = 0 → ∀ y3 : Int32, y3 = (x0 - 1) / 2 → ∀ y5 : Int32, y5 = (x0 - 1) - (x0 - 1) / 2 * 2 → ∀ y7 : Int32, y7 = (x1 - 1) / 2 → ∀ y9 : Int32, y9 = (x1 - 1) - (x1 - 1) / 2 * 2 → ((x2 = 0 → JX8_nearBoth_64 D f Q F h g x2 y5 y9 1 2 (y3 &&& y7)) ∧ (¬ x2 = 0 → JX8_nearBoth_64 D f Q F h g x2 y5 y9 1 2 (y3 ||| y7)))) ∧ (x1 = 0 → JX8_nearBoth_8 D f Q F h g x0 x1 x2))))
theorem bX8_nearBoth_0 {D : DE} {f : Nat} {Q : Int32 → HI → HL → Prop} {F : Frm} {h : HI} {g : HL} (hF : k_Fix F) (x0 : Int32) (x1 : Int32) (x2 : Int32) (H : JX8_nearBoth_0 D f Q F h g x0 x1 x2) : V D mX8_nearBoth f (qi F Q) 0 [(0, .int x0), (1, .int x1), (2, .int x2)] [] (F, h, g) := by
  refine V_iload_n dX8_nearBoth_0 rfl 0 rfl ?_
  refine V_if_eq (tgt := 8) dX8_nearBoth_1 (by decide) (fun c1 => ?_) (fun c1 => ?_)
  · have H := H.1 c1
    exact bX8_nearBoth_8 hF x0 x1 x2 H
  · have H := H.2 c1
    refine V_iload_n dX8_nearBoth_4 rfl 1 rfl ?_
    refine V_if_ne (tgt := 20) dX8_nearBoth_5 (by decide) (fun c2 => ?_) (fun c2 => ?_)
    · have H := H.1 c2
      refine V_iload_n dX8_nearBoth_20 rfl 0 rfl ?_
      refine V_iconst (v := 1) dX8_nearBoth_21 (by decide) ?_
      refine V_isub dX8_nearBoth_22 ?_
      refine V_iconst (v := 2) dX8_nearBoth_23 (by decide) ?_
      refine V_idiv dX8_nearBoth_24 (by decide) ?_
      refine V_topi (fun y3 e4 => ?_)
      have H := H y3 e4
      refine V_istore_n (l1 := [(3, .int y3), (0, .int x0), (1, .int x1), (2, .int x2)]) dX8_nearBoth_25 rfl (by decide) rfl ?_
      refine V_iload_n dX8_nearBoth_26 rfl 1 rfl ?_
      refine V_iconst (v := 1) dX8_nearBoth_27 (by decide) ?_
      refine V_isub dX8_nearBoth_28 ?_
      refine V_iconst (v := 2) dX8_nearBoth_29 (by decide) ?_
      refine V_irem dX8_nearBoth_30 (by decide) ?_
      refine V_topi (fun y5 e6 => ?_)
      have H := H y5 e6
      refine V_istore (l1 := [(4, .int y5), (3, .int y3), (0, .int x0), (1, .int x1), (2, .int x2)]) dX8_nearBoth_31 (by decide) rfl ?_
      refine V_iload_n dX8_nearBoth_33 rfl 3 rfl ?_
      refine V_iconst (v := 1) dX8_nearBoth_34 (by decide) ?_
      refine V_isub dX8_nearBoth_35 ?_
      refine V_iconst (v := 2) dX8_nearBoth_36 (by decide) ?_
      refine V_idiv dX8_nearBoth_37 (by decide) ?_
      refine V_topi (fun y7 e8 => ?_)
      have H := H y7 e8
      refine V_istore (l1 := [(5, .int y7), (4, .int y5), (3, .int y3), (0, .int x0), (1, .int x1), (2, .int x2)]) dX8_nearBoth_38 (by decide) rfl ?_
      refine V_iload_n dX8_nearBoth_40 rfl 4 rfl ?_
      refine V_iconst (v := 1) dX8_nearBoth_41 (by decide) ?_
      refine V_isub dX8_nearBoth_42 ?_
      refine V_iconst (v := 2) dX8_nearBoth_43 (by decide) ?_
      refine V_irem dX8_nearBoth_44 (by decide) ?_
      refine V_topi (fun y9 e10 => ?_)
      have H := H y9 e10
      refine V_istore (l1 := [(6, .int y9), (5, .int y7), (4, .int y5), (3, .int y3), (0, .int x0), (1, .int x1), (2, .int x2)]) dX8_nearBoth_45 (by decide) rfl ?_
      refine V_iconst (v := 1) dX8_nearBoth_47 (by decide) ?_
      refine V_iconst (v := 2) dX8_nearBoth_48 (by decide) ?_
      refine V_iload_n dX8_nearBoth_49 rfl 6 rfl ?_
      refine V_if_eq (tgt := 60) dX8_nearBoth_50 (by decide) (fun c11 => ?_) (fun c11 => ?_)
      · have H := H.1 c11
        refine V_iload_n dX8_nearBoth_60 rfl 3 rfl ?_
        refine V_iload dX8_nearBoth_61 1 rfl ?_
        refine V_iand dX8_nearBoth_63 ?_
        refine V.sub [6, 2, 0] rfl ?_
        exact bX8_nearBoth_64 hF x2 y5 y9 1 2 (y3 &&& y7) H
      · have H := H.2 c11
        refine V_iload_n dX8_nearBoth_53 rfl 3 rfl ?_
        refine V_iload dX8_nearBoth_54 1 rfl ?_
        refine V_ior dX8_nearBoth_56 ?_
        refine V_goto (tgt := 64) dX8_nearBoth_57 (by decide) ?_
        refine V.sub [6, 2, 0] rfl ?_
        exact bX8_nearBoth_64 hF x2 y5 y9 1 2 (y3 ||| y7) H
    · have H := H.2 c2
      exact bX8_nearBoth_8 hF x0 x1 x2 H
theorem wX8_nearBoth {D : DE} {f : Nat} {Q : Int32 → HI → HL → Prop} {F : Frm} {h : HI} {g : HL} (hF : k_Fix F) (x0 : Int32) (x1 : Int32) (x2 : Int32) (H : JX8_nearBoth_0 D f Q F h g x0 x1 x2) : Si D f mX8_nearBoth [.int x0, .int x1, .int x2] F h g Q := Cl.ofV (by decide) (Nat.le_of_ble_eq_true rfl) rfl (bX8_nearBoth_0 hF x0 x1 x2 H)
theorem dX8_partBoth_0 : decode cX8_partBoth 0 = .ok (.iload_n 0, 1) := by decide +kernel
theorem dX8_partBoth_1 : decode cX8_partBoth 1 = .ok (.ifCond .ne 19, 3) := by decide +kernel
theorem dX8_partBoth_4 : decode cX8_partBoth 4 = .ok (.iload_n 3, 1) := by decide +kernel
theorem dX8_partBoth_5 : decode cX8_partBoth 5 = .ok (.ifCond .eq 9, 3) := by decide +kernel
theorem dX8_partBoth_8 : decode cX8_partBoth 8 = .ok (.iload_n 1, 1) := by decide +kernel
theorem dX8_partBoth_9 : decode cX8_partBoth 9 = .ok (.iload_n 2, 1) := by decide +kernel
theorem dX8_partBoth_10 : decode cX8_partBoth 10 = .ok (.ior, 1) := by decide +kernel
theorem dX8_partBoth_11 : decode cX8_partBoth 11 = .ok (.goto 15, 3) := by decide +kernel
theorem dX8_partBoth_14 : decode cX8_partBoth 14 = .ok (.iload_n 1, 1) := by decide +kernel
theorem dX8_partBoth_15 : decode cX8_partBoth 15 = .ok (.iload_n 2, 1) := by decide +kernel
theorem dX8_partBoth_16 : decode cX8_partBoth 16 = .ok (.iand, 1) := by decide +kernel
theorem dX8_partBoth_17 : decode cX8_partBoth 17 = .ok (.goto 9, 3) := by decide +kernel
theorem dX8_partBoth_20 : decode cX8_partBoth 20 = .ok (.iload_n 1, 1) := by decide +kernel
theorem dX8_partBoth_21 : decode cX8_partBoth 21 = .ok (.iload_n 2, 1) := by decide +kernel
theorem dX8_partBoth_22 : decode cX8_partBoth 22 = .ok (.iload_n 3, 1) := by decide +kernel
theorem dX8_partBoth_23 : decode cX8_partBoth 23 = .ok (.invokestatic 158, 3) := by decide +kernel
theorem dX8_partBoth_26 : decode cX8_partBoth 26 = .ok (.ireturn, 1) := by decide +kernel
abbrev JX8_partBoth_0 (D : DE) (f : Nat) (Q : Int32 → HI → HL → Prop) (F : Frm) (h : HI) (g : HL) (x0 : Int32) (x1 : Int32) (x2 : Int32) (x3 : Int32) : Prop := ((¬ x0 = 0 → Si D f mX8_nearBoth [.int x1, .int x2, .int x3] F h g (fun y4 h2 g3 => Q y4 h2 g3)) ∧ (x0 = 0 → ((x3 = 0 → Q (x1 &&& x2) h g) ∧ (¬ x3 = 0 → Q (x1 ||| x2) h g))))
theorem bX8_partBoth_0 {D : DE} {f : Nat} {Q : Int32 → HI → HL → Prop} {F : Frm} {h : HI} {g : HL} (hF : k_Fix F) (x0 : Int32) (x1 : Int32) (x2 : Int32) (x3 : Int32) (H : JX8_partBoth_0 D f Q F h g x0 x1 x2 x3) : V D mX8_partBoth (f + 1) (qi F Q) 0 [(0, .int x0), (1, .int x1), (2, .int x2), (3, .int x3)] [] (F, h, g) := by
  refine V_iload_n dX8_partBoth_0 rfl 0 rfl ?_
  refine V_if_ne (tgt := 20) dX8_partBoth_1 (by decide) (fun c1 => ?_) (fun c1 => ?_)
  · have H := H.1 c1
    refine V_iload_n dX8_partBoth_20 rfl 1 rfl ?_
    refine V_iload_n dX8_partBoth_21 rfl 2 rfl ?_
    refine V_iload_n dX8_partBoth_22 rfl 3 rfl ?_
    refine H_calli (av := [.int x1, .int x2, .int x3]) (rest := []) H mqX8_nearBoth q88 (by decide) (Nat.le_of_ble_eq_true rfl) (k_resS (av := [.int x1, .int x2, .int x3]) (rest := []) (M1 := mX8_nearBoth) rfl q1909 q1910 q88 mqX8_nearBoth (fun _ _ h => mW_named h) mhX8_nearBoth mnX8_nearBoth dX8_partBoth_23) (fun y4 h2 g3 H => ?_)
    exact H_iret rfl dX8_partBoth_26 H
  · have H := H.2 c1
    refine V_iload_n dX8_partBoth_4 rfl 3 rfl ?_
    refine V_if_eq (tgt := 14) dX8_partBoth_5 (by decide) (fun c5 => ?_) (fun c5 => ?_)
    · have H := H.1 c5
      refine V_iload_n dX8_partBoth_14 rfl 1 rfl ?_
      refine V_iload_n dX8_partBoth_15 rfl 2 rfl ?_
      refine V_iand dX8_partBoth_16 ?_
      refine V_goto (tgt := 26) dX8_partBoth_17 (by decide) ?_
      exact H_iret rfl dX8_partBoth_26 H
    · have H := H.2 c5
      refine V_iload_n dX8_partBoth_8 rfl 1 rfl ?_
      refine V_iload_n dX8_partBoth_9 rfl 2 rfl ?_
      refine V_ior dX8_partBoth_10 ?_
      refine V_goto (tgt := 26) dX8_partBoth_11 (by decide) ?_
      exact H_iret rfl dX8_partBoth_26 H
theorem wX8_partBoth {D : DE} {f : Nat} {Q : Int32 → HI → HL → Prop} {F : Frm} {h : HI} {g : HL} (hF : k_Fix F) (x0 : Int32) (x1 : Int32) (x2 : Int32) (x3 : Int32) (H : JX8_partBoth_0 D f Q F h g x0 x1 x2 x3) : Si D (f + 1) mX8_partBoth [.int x0, .int x1, .int x2, .int x3] F h g Q := Cl.ofV (by decide) (Nat.le_of_ble_eq_true rfl) rfl (bX8_partBoth_0 hF x0 x1 x2 x3 H)
theorem dX8_joined_0 : decode cX8_joined 0 = .ok (.iload_n 0, 1) := by decide +kernel
theorem dX8_joined_1 : decode cX8_joined 1 = .ok (.ifCond .eq 11, 3) := by decide +kernel
theorem dX8_joined_4 : decode cX8_joined 4 = .ok (.iload_n 1, 1) := by decide +kernel
theorem dX8_joined_5 : decode cX8_joined 5 = .ok (.ifCond .eq 7, 3) := by decide +kernel
theorem dX8_joined_8 : decode cX8_joined 8 = .ok (.iload_n 2, 1) := by decide +kernel
theorem dX8_joined_9 : decode cX8_joined 9 = .ok (.ifCond .ne 27, 3) := by decide +kernel
theorem dX8_joined_12 : decode cX8_joined 12 = .ok (.iload_n 1, 1) := by decide +kernel
theorem dX8_joined_13 : decode cX8_joined 13 = .ok (.ifCond .eq 7, 3) := by decide +kernel
theorem dX8_joined_16 : decode cX8_joined 16 = .ok (.iload_n 2, 1) := by decide +kernel
theorem dX8_joined_17 : decode cX8_joined 17 = .ok (.ifCond .ne 17, 3) := by decide +kernel
theorem dX8_joined_20 : decode cX8_joined 20 = .ok (.iload_n 3, 1) := by decide +kernel
theorem dX8_joined_21 : decode cX8_joined 21 = .ok (.ifCond .eq 9, 3) := by decide +kernel
theorem dX8_joined_24 : decode cX8_joined 24 = .ok (.iload_n 1, 1) := by decide +kernel
theorem dX8_joined_25 : decode cX8_joined 25 = .ok (.iload_n 2, 1) := by decide +kernel
theorem dX8_joined_26 : decode cX8_joined 26 = .ok (.iadd, 1) := by decide +kernel
theorem dX8_joined_27 : decode cX8_joined 27 = .ok (.goto 8, 3) := by decide +kernel
theorem dX8_joined_30 : decode cX8_joined 30 = .ok (.iconst 0, 1) := by decide +kernel
theorem dX8_joined_31 : decode cX8_joined 31 = .ok (.goto 4, 3) := by decide +kernel
theorem dX8_joined_34 : decode cX8_joined 34 = .ok (.iconst 1, 1) := by decide +kernel
theorem dX8_joined_35 : decode cX8_joined 35 = .ok (.ireturn, 1) := by decide +kernel
theorem dX8_joined_36 : decode cX8_joined 36 = .ok (.iload_n 0, 1) := by decide +kernel
theorem dX8_joined_37 : decode cX8_joined 37 = .ok (.invokestatic 162, 3) := by decide +kernel
theorem dX8_joined_40 : decode cX8_joined 40 = .ok (.invokestatic 166, 3) := by decide +kernel
theorem dX8_joined_43 : decode cX8_joined 43 = .ok (.istore 4, 2) := by decide +kernel
theorem dX8_joined_45 : decode cX8_joined 45 = .ok (.iload_n 0, 1) := by decide +kernel
theorem dX8_joined_46 : decode cX8_joined 46 = .ok (.invokestatic 169, 3) := by decide +kernel
theorem dX8_joined_49 : decode cX8_joined 49 = .ok (.iload_n 1, 1) := by decide +kernel
theorem dX8_joined_50 : decode cX8_joined 50 = .ok (.iconst 1, 1) := by decide +kernel
theorem dX8_joined_51 : decode cX8_joined 51 = .ok (.isub, 1) := by decide +kernel
theorem dX8_joined_52 : decode cX8_joined 52 = .ok (.iload 4, 2) := by decide +kernel
theorem dX8_joined_54 : decode cX8_joined 54 = .ok (.idiv, 1) := by decide +kernel
theorem dX8_joined_55 : decode cX8_joined 55 = .ok (.iload_n 2, 1) := by decide +kernel
theorem dX8_joined_56 : decode cX8_joined 56 = .ok (.iconst 1, 1) := by decide +kernel
theorem dX8_joined_57 : decode cX8_joined 57 = .ok (.isub, 1) := by decide +kernel
theorem dX8_joined_58 : decode cX8_joined 58 = .ok (.iload 4, 2) := by decide +kernel
theorem dX8_joined_60 : decode cX8_joined 60 = .ok (.idiv, 1) := by decide +kernel
theorem dX8_joined_61 : decode cX8_joined 61 = .ok (.iload_n 3, 1) := by decide +kernel
theorem dX8_joined_62 : decode cX8_joined 62 = .ok (.invokestatic 172, 3) := by decide +kernel
theorem dX8_joined_65 : decode cX8_joined 65 = .ok (.istore 5, 2) := by decide +kernel
theorem dX8_joined_67 : decode cX8_joined 67 = .ok (.iconst 1, 1) := by decide +kernel
theorem dX8_joined_68 : decode cX8_joined 68 = .ok (.iload 5, 2) := by decide +kernel
theorem dX8_joined_70 : decode cX8_joined 70 = .ok (.iload 4, 2) := by decide +kernel
theorem dX8_joined_72 : decode cX8_joined 72 = .ok (.imul, 1) := by decide +kernel
theorem dX8_joined_73 : decode cX8_joined 73 = .ok (.iadd, 1) := by decide +kernel
theorem dX8_joined_74 : decode cX8_joined 74 = .ok (.iload_n 0, 1) := by decide +kernel
theorem dX8_joined_75 : decode cX8_joined 75 = .ok (.invokestatic 162, 3) := by decide +kernel
theorem dX8_joined_78 : decode cX8_joined 78 = .ok (.iload_n 1, 1) := by decide +kernel
theorem dX8_joined_79 : decode cX8_joined 79 = .ok (.iconst 1, 1) := by decide +kernel
theorem dX8_joined_80 : decode cX8_joined 80 = .ok (.isub, 1) := by decide +kernel
theorem dX8_joined_81 : decode cX8_joined 81 = .ok (.iload 4, 2) := by decide +kernel
theorem dX8_joined_83 : decode cX8_joined 83 = .ok (.irem, 1) := by decide +kernel
theorem dX8_joined_84 : decode cX8_joined 84 = .ok (.iload_n 2, 1) := by decide +kernel
theorem dX8_joined_85 : decode cX8_joined 85 = .ok (.iconst 1, 1) := by decide +kernel
theorem dX8_joined_86 : decode cX8_joined 86 = .ok (.isub, 1) := by decide +kernel
theorem dX8_joined_87 : decode cX8_joined 87 = .ok (.iload 4, 2) := by decide +kernel
theorem dX8_joined_89 : decode cX8_joined 89 = .ok (.irem, 1) := by decide +kernel
theorem dX8_joined_90 : decode cX8_joined 90 = .ok (.iload_n 3, 1) := by decide +kernel
theorem dX8_joined_91 : decode cX8_joined 91 = .ok (.invokestatic 172, 3) := by decide +kernel
theorem dX8_joined_94 : decode cX8_joined 94 = .ok (.iadd, 1) := by decide +kernel
theorem dX8_joined_95 : decode cX8_joined 95 = .ok (.ireturn, 1) := by decide +kernel
abbrev JX8_joined_20 (D : DE) (f : Nat) (Q : Int32 → HI → HL → Prop) (F : Frm) (h : HI) (g : HL) (x1 : Int32) (x2 : Int32) (x3 : Int32) : Prop := ((x3 = 0 → Q 0 h g) ∧ (¬ x3 = 0 → Q (x1 + x2) h g))
theorem bX8_joined_20 {D : DE} {f : Nat} {Q : Int32 → HI → HL → Prop} {F : Frm} {h : HI} {g : HL} (hF : k_Fix F) (x1 : Int32) (x2 : Int32) (x3 : Int32) (H : JX8_joined_20 D f Q F h g x1 x2 x3) : V D mX8_joined (f + 1) (qi F Q) 20 [(1, .int x1), (2, .int x2), (3, .int x3)] [] (F, h, g) := by
  refine V_iload_n dX8_joined_20 rfl 2 rfl ?_
  refine V_if_eq (tgt := 30) dX8_joined_21 (by decide) (fun c1 => ?_) (fun c1 => ?_)
  · have H := H.1 c1
    refine V_iconst (v := 0) dX8_joined_30 (by decide) ?_
    refine V_goto (tgt := 35) dX8_joined_31 (by decide) ?_
    exact H_iret rfl dX8_joined_35 H
  · have H := H.2 c1
    refine V_iload_n dX8_joined_24 rfl 0 rfl ?_
    refine V_iload_n dX8_joined_25 rfl 1 rfl ?_
    refine V_iadd dX8_joined_26 ?_
    refine V_goto (tgt := 35) dX8_joined_27 (by decide) ?_
    exact H_iret rfl dX8_joined_35 H
abbrev JX8_joined_12 (D : DE) (f : Nat) (Q : Int32 → HI → HL → Prop) (F : Frm) (h : HI) (g : HL) (x1 : Int32) (x2 : Int32) (x3 : Int32) : Prop := ((x1 = 0 → JX8_joined_20 D f Q F h g x1 x2 x3) ∧ (¬ x1 = 0 → ((¬ x2 = 0 → Q 1 h g) ∧ (x2 = 0 → JX8_joined_20 D f Q F h g x1 x2 x3))))
theorem bX8_joined_12 {D : DE} {f : Nat} {Q : Int32 → HI → HL → Prop} {F : Frm} {h : HI} {g : HL} (hF : k_Fix F) (x1 : Int32) (x2 : Int32) (x3 : Int32) (H : JX8_joined_12 D f Q F h g x1 x2 x3) : V D mX8_joined (f + 1) (qi F Q) 12 [(1, .int x1), (2, .int x2), (3, .int x3)] [] (F, h, g) := by
  refine V_iload_n dX8_joined_12 rfl 0 rfl ?_
  refine V_if_eq (tgt := 20) dX8_joined_13 (by decide) (fun c1 => ?_) (fun c1 => ?_)
  · have H := H.1 c1
    exact bX8_joined_20 hF x1 x2 x3 H
  · have H := H.2 c1
    refine V_iload_n dX8_joined_16 rfl 1 rfl ?_
    refine V_if_ne (tgt := 34) dX8_joined_17 (by decide) (fun c2 => ?_) (fun c2 => ?_)
    · have H := H.1 c2
      refine V_iconst (v := 1) dX8_joined_34 (by decide) ?_
      exact H_iret rfl dX8_joined_35 H
    · have H := H.2 c2
      exact bX8_joined_20 hF x1 x2 x3 H
abbrev JX8_joined_0 (D : DE) (f : Nat) (Q : Int32 → HI → HL → Prop) (F : Frm) (h : HI) (g : HL) (x0 : Int32) (x1 : Int32) (x2 : Int32) (x3 : Int32) : Prop := ((x0 = 0 → JX8_joined_12 D f Q F h g x1 x2 x3) ∧ (¬ x0 = 0 → ((x1 = 0 → JX8_joined_12 D f Q F h g x1 x2 x3) ∧ (¬ x1 = 0 → ((¬ x2 = 0 → Si D f mX8_secondOf [.int x0] F h g (fun y6 h4 g5 => Si D f mX8_demands [.int y6] F h4 g5 (fun y9 h7 g8 => Si D f mX8_firstOf [.int x0] F h7 g8 (fun y12 h10 g11 => (¬ y9 = 0) ∧ (¬ y9 = 0) ∧ Si D f mX8_partBoth [.int y12, .int ((x1 - 1) / y9), .int ((x2 - 1) / y9), .int x3] F h10 g11 (fun y17 h15 g16 => Si D f mX8_secondOf [.int x0] F h15 g16 (fun y20 h18 g19 => (¬ y9 = 0) ∧ (¬ y9 = 0) ∧ Si D f mX8_partBoth [.int y20, .int ((x1 - 1) - (x1 - 1) / y9 * y9), .int ((x2 - 1) - (x2 - 1) / y9 * y9), .int x3] F h18 g19 (fun y25 h23 g24 => Q ((1 + (y17 * y9)) + y25) h23 g24))))))) ∧ (x2 = 0 → JX8_joined_12 D f Q F h g x1 x2 x3))))))
theorem bX8_joined_0 {D : DE} {f : Nat} {Q : Int32 → HI → HL → Prop} {F : Frm} {h : HI} {g : HL} (hF : k_Fix F) (x0 : Int32) (x1 : Int32) (x2 : Int32) (x3 : Int32) (H : JX8_joined_0 D f Q F h g x0 x1 x2 x3) : V D mX8_joined (f + 1) (qi F Q) 0 [(0, .int x0), (1, .int x1), (2, .int x2), (3, .int x3)] [] (F, h, g) := by
  refine V_iload_n dX8_joined_0 rfl 0 rfl ?_
  refine V_if_eq (tgt := 12) dX8_joined_1 (by decide) (fun c1 => ?_) (fun c1 => ?_)
  · have H := H.1 c1
    refine V.sub [1, 2, 3] rfl ?_
    exact bX8_joined_12 hF x1 x2 x3 H
  · have H := H.2 c1
    refine V_iload_n dX8_joined_4 rfl 1 rfl ?_
    refine V_if_eq (tgt := 12) dX8_joined_5 (by decide) (fun c2 => ?_) (fun c2 => ?_)
    · have H := H.1 c2
      refine V.sub [1, 2, 3] rfl ?_
      exact bX8_joined_12 hF x1 x2 x3 H
    · have H := H.2 c2
      refine V_iload_n dX8_joined_8 rfl 2 rfl ?_
      refine V_if_ne (tgt := 36) dX8_joined_9 (by decide) (fun c3 => ?_) (fun c3 => ?_)
      · have H := H.1 c3
        refine V_iload_n dX8_joined_36 rfl 0 rfl ?_
        refine H_calli (av := [.int x0]) (rest := []) H mqX8_secondOf q88 (by decide) (Nat.le_of_ble_eq_true rfl) (k_resS (av := [.int x0]) (rest := []) (M1 := mX8_secondOf) rfl q1850 q1851 q88 mqX8_secondOf (fun _ _ h => mW_named h) mhX8_secondOf mnX8_secondOf dX8_joined_37) (fun y6 h4 g5 H => ?_)
        refine H_calli (av := [.int y6]) (rest := []) H mqX8_demands q88 (by decide) (Nat.le_of_ble_eq_true rfl) (k_resS (av := [.int y6]) (rest := []) (M1 := mX8_demands) rfl q1876 q1877 q88 mqX8_demands (fun _ _ h => mW_named h) mhX8_demands mnX8_demands dX8_joined_40) (fun y9 h7 g8 H => ?_)
        refine V_istore (l1 := [(4, .int y9), (0, .int x0), (1, .int x1), (2, .int x2), (3, .int x3)]) dX8_joined_43 (by decide) rfl ?_
        refine V_iload_n dX8_joined_45 rfl 1 rfl ?_
        refine H_calli (av := [.int x0]) (rest := []) H mqX8_firstOf q88 (by decide) (Nat.le_of_ble_eq_true rfl) (k_resS (av := [.int x0]) (rest := []) (M1 := mX8_firstOf) rfl q1853 q1854 q88 mqX8_firstOf (fun _ _ h => mW_named h) mhX8_firstOf mnX8_firstOf dX8_joined_46) (fun y12 h10 g11 H => ?_)
        refine V_iload_n dX8_joined_49 rfl 2 rfl ?_
        refine V_iconst (v := 1) dX8_joined_50 (by decide) ?_
        refine V_isub dX8_joined_51 ?_
        refine V_iload dX8_joined_52 0 rfl ?_
        obtain ⟨z13, H⟩ := H
        refine V_idiv dX8_joined_54 z13 ?_
        refine V_iload_n dX8_joined_55 rfl 3 rfl ?_
        refine V_iconst (v := 1) dX8_joined_56 (by decide) ?_
        refine V_isub dX8_joined_57 ?_
        refine V_iload dX8_joined_58 0 rfl ?_
        obtain ⟨z14, H⟩ := H
        refine V_idiv dX8_joined_60 z14 ?_
        refine V_iload_n dX8_joined_61 rfl 4 rfl ?_
        refine H_calli (av := [.int y12, .int ((x1 - 1) / y9), .int ((x2 - 1) / y9), .int x3]) (rest := []) H mqX8_partBoth q88 (by decide) (Nat.le_of_ble_eq_true rfl) (k_resS (av := [.int y12, .int ((x1 - 1) / y9), .int ((x2 - 1) / y9), .int x3]) (rest := []) (M1 := mX8_partBoth) rfl q1906 q1907 q88 mqX8_partBoth (fun _ _ h => mW_named h) mhX8_partBoth mnX8_partBoth dX8_joined_62) (fun y17 h15 g16 H => ?_)
        refine V_istore (l1 := [(5, .int y17), (4, .int y9), (0, .int x0), (1, .int x1), (2, .int x2), (3, .int x3)]) dX8_joined_65 (by decide) rfl ?_
        refine V_iconst (v := 1) dX8_joined_67 (by decide) ?_
        refine V_iload dX8_joined_68 0 rfl ?_
        refine V_iload dX8_joined_70 1 rfl ?_
        refine V_imul dX8_joined_72 ?_
        refine V_iadd dX8_joined_73 ?_
        refine V_iload_n dX8_joined_74 rfl 2 rfl ?_
        refine H_calli (av := [.int x0]) (rest := [.int (1 + (y17 * y9))]) H mqX8_secondOf q88 (by decide) (Nat.le_of_ble_eq_true rfl) (k_resS (av := [.int x0]) (rest := [.int (1 + (y17 * y9))]) (M1 := mX8_secondOf) rfl q1850 q1851 q88 mqX8_secondOf (fun _ _ h => mW_named h) mhX8_secondOf mnX8_secondOf dX8_joined_75) (fun y20 h18 g19 H => ?_)
        refine V_iload_n dX8_joined_78 rfl 3 rfl ?_
        refine V_iconst (v := 1) dX8_joined_79 (by decide) ?_
        refine V_isub dX8_joined_80 ?_
        refine V_iload dX8_joined_81 1 rfl ?_
        obtain ⟨z21, H⟩ := H
        refine V_irem dX8_joined_83 z21 ?_
        refine V_iload_n dX8_joined_84 rfl 4 rfl ?_
        refine V_iconst (v := 1) dX8_joined_85 (by decide) ?_
        refine V_isub dX8_joined_86 ?_
        refine V_iload dX8_joined_87 1 rfl ?_
        obtain ⟨z22, H⟩ := H
        refine V_irem dX8_joined_89 z22 ?_
        refine V_iload_n dX8_joined_90 rfl 5 rfl ?_
        refine H_calli (av := [.int y20, .int ((x1 - 1) - (x1 - 1) / y9 * y9), .int ((x2 - 1) - (x2 - 1) / y9 * y9), .int x3]) (rest := [.int (1 + (y17 * y9))]) H mqX8_partBoth q88 (by decide) (Nat.le_of_ble_eq_true rfl) (k_resS (av := [.int y20, .int ((x1 - 1) - (x1 - 1) / y9 * y9), .int ((x2 - 1) - (x2 - 1) / y9 * y9), .int x3]) (rest := [.int (1 + (y17 * y9))]) (M1 := mX8_partBoth) rfl q1906 q1907 q88 mqX8_partBoth (fun _ _ h => mW_named h) mhX8_partBoth mnX8_partBoth dX8_joined_91) (fun y25 h23 g24 H => ?_)
        refine V_iadd dX8_joined_94 ?_
        exact H_iret rfl dX8_joined_95 H
      · have H := H.2 c3
        refine V.sub [1, 2, 3] rfl ?_
        exact bX8_joined_12 hF x1 x2 x3 H
theorem wX8_joined {D : DE} {f : Nat} {Q : Int32 → HI → HL → Prop} {F : Frm} {h : HI} {g : HL} (hF : k_Fix F) (x0 : Int32) (x1 : Int32) (x2 : Int32) (x3 : Int32) (H : JX8_joined_0 D f Q F h g x0 x1 x2 x3) : Si D (f + 1) mX8_joined [.int x0, .int x1, .int x2, .int x3] F h g Q := Cl.ofV (by decide) (Nat.le_of_ble_eq_true rfl) rfl (bX8_joined_0 hF x0 x1 x2 x3 H)
theorem dX8_stop_0 : decode cX8_stop 0 = .ok (.aload_n 0, 1) := by decide +kernel
theorem dX8_stop_1 : decode cX8_stop 1 = .ok (.getfield 176, 3) := by decide +kernel
theorem dX8_stop_4 : decode cX8_stop 4 = .ok (.ifCond .ne 13, 3) := by decide +kernel
theorem dX8_stop_7 : decode cX8_stop 7 = .ok (.aload_n 0, 1) := by decide +kernel
theorem dX8_stop_8 : decode cX8_stop 8 = .ok (.iload_n 1, 1) := by decide +kernel
theorem dX8_stop_9 : decode cX8_stop 9 = .ok (.putfield 176, 3) := by decide +kernel
theorem dX8_stop_12 : decode cX8_stop 12 = .ok (.aload_n 0, 1) := by decide +kernel
theorem dX8_stop_13 : decode cX8_stop 13 = .ok (.iload_n 2, 1) := by decide +kernel
theorem dX8_stop_14 : decode cX8_stop 14 = .ok (.putfield 13, 3) := by decide +kernel
theorem dX8_stop_17 : decode cX8_stop 17 = .ok (.return_, 1) := by decide +kernel
abbrev JX8_stop_0 (D : DE) (f : Nat) (Q : HI → HL → Prop) (F : Frm) (h : HI) (g : HL) (x1 : Int32) (x2 : Int32) : Prop := ((¬ (h 115 9) = 0 → Q h g) ∧ ((h 115 9) = 0 → ∀ h2, h2 = up2 h 115 9 x1 → ∀ h4, h4 = up2 h2 115 10 x2 → Q h4 g))
theorem bX8_stop_0 {D : DE} {f : Nat} {Q : HI → HL → Prop} {F : Frm} {h : HI} {g : HL} (hF : k_Fix F) (x1 : Int32) (x2 : Int32) (H : JX8_stop_0 D f Q F h g x1 x2) : V D mX8_stop f (qv F Q) 0 [(0, .ref (ad D 115)), (1, .int x1), (2, .int x2)] [] (F, h, g) := by
  refine V_aload_n dX8_stop_0 rfl 0 rfl ?_
  refine H_geti ck7 9 (by decide) (fs_115 hF) (by decide) rfl q1467 dX8_stop_1 ?_
  refine V_if_ne (tgt := 17) dX8_stop_4 (by decide) (fun c1 => ?_) (fun c1 => ?_)
  · have H := H.1 c1
    exact H_vret rfl dX8_stop_17 H
  · have H := H.2 c1
    refine V_aload_n dX8_stop_7 rfl 0 rfl ?_
    refine V_iload_n dX8_stop_8 rfl 1 rfl ?_
    refine H_puti ck7 9 (by decide) (fs_115 hF) (by decide) rfl rfl q1467 dX8_stop_9 (fun h2 e3 => ?_)
    have H := H h2 e3
    refine V_aload_n dX8_stop_12 rfl 0 rfl ?_
    refine V_iload_n dX8_stop_13 rfl 2 rfl ?_
    refine H_puti ck7 10 (by decide) (fs_115 hF) (by decide) rfl rfl q1468 dX8_stop_14 (fun h4 e5 => ?_)
    have H := H h4 e5
    exact H_vret rfl dX8_stop_17 H
theorem wX8_stop {D : DE} {f : Nat} {Q : HI → HL → Prop} {F : Frm} {h : HI} {g : HL} (hF : k_Fix F) (x1 : Int32) (x2 : Int32) (H : JX8_stop_0 D f Q F h g x1 x2) : Sv D f mX8_stop [.ref (ad D 115), .int x1, .int x2] F h g Q := Cl.ofV (by decide) (Nat.le_of_ble_eq_true rfl) rfl (bX8_stop_0 hF x1 x2 H)
theorem dX8_isDigit_0 : decode cX8_isDigit 0 = .ok (.iload_n 0, 1) := by decide +kernel
theorem dX8_isDigit_1 : decode cX8_isDigit 1 = .ok (.bipush 48, 2) := by decide +kernel
theorem dX8_isDigit_3 : decode cX8_isDigit 3 = .ok (.if_icmp .lt 13, 3) := by decide +kernel
theorem dX8_isDigit_6 : decode cX8_isDigit 6 = .ok (.iload_n 0, 1) := by decide +kernel
theorem dX8_isDigit_7 : decode cX8_isDigit 7 = .ok (.bipush 57, 2) := by decide +kernel
theorem dX8_isDigit_9 : decode cX8_isDigit 9 = .ok (.if_icmp .gt 7, 3) := by decide +kernel
theorem dX8_isDigit_12 : decode cX8_isDigit 12 = .ok (.iconst 1, 1) := by decide +kernel
theorem dX8_isDigit_13 : decode cX8_isDigit 13 = .ok (.goto 4, 3) := by decide +kernel
theorem dX8_isDigit_16 : decode cX8_isDigit 16 = .ok (.iconst 0, 1) := by decide +kernel
theorem dX8_isDigit_17 : decode cX8_isDigit 17 = .ok (.ireturn, 1) := by decide +kernel
abbrev JX8_isDigit_0 (D : DE) (f : Nat) (Q : Int32 → HI → HL → Prop) (F : Frm) (h : HI) (g : HL) (x0 : Int32) : Prop := ((x0 < 48 → Q 0 h g) ∧ (¬ x0 < 48 → ((57 < x0 → Q 0 h g) ∧ (¬ 57 < x0 → Q 1 h g))))
theorem bX8_isDigit_0 {D : DE} {f : Nat} {Q : Int32 → HI → HL → Prop} {F : Frm} {h : HI} {g : HL} (hF : k_Fix F) (x0 : Int32) (H : JX8_isDigit_0 D f Q F h g x0) : V D mX8_isDigit f (qi F Q) 0 [(0, .int x0)] [] (F, h, g) := by
  refine V_iload_n dX8_isDigit_0 rfl 0 rfl ?_
  refine V_bipush (v := 48) dX8_isDigit_1 (by decide) ?_
  refine V_icmp_lt (tgt := 16) dX8_isDigit_3 (by decide) (fun c1 => ?_) (fun c1 => ?_)
  · have H := H.1 c1
    refine V_iconst (v := 0) dX8_isDigit_16 (by decide) ?_
    exact H_zret rfl isB0 dX8_isDigit_17 H
  · have H := H.2 c1
    refine V_iload_n dX8_isDigit_6 rfl 0 rfl ?_
    refine V_bipush (v := 57) dX8_isDigit_7 (by decide) ?_
    refine V_icmp_gt (tgt := 16) dX8_isDigit_9 (by decide) (fun c2 => ?_) (fun c2 => ?_)
    · have H := H.1 c2
      refine V_iconst (v := 0) dX8_isDigit_16 (by decide) ?_
      exact H_zret rfl isB0 dX8_isDigit_17 H
    · have H := H.2 c2
      refine V_iconst (v := 1) dX8_isDigit_12 (by decide) ?_
      refine V_goto (tgt := 17) dX8_isDigit_13 (by decide) ?_
      exact H_zret rfl isB1 dX8_isDigit_17 H
theorem wX8_isDigit {D : DE} {f : Nat} {Q : Int32 → HI → HL → Prop} {F : Frm} {h : HI} {g : HL} (hF : k_Fix F) (x0 : Int32) (H : JX8_isDigit_0 D f Q F h g x0) : Si D f mX8_isDigit [.int x0] F h g Q := Cl.ofV (by decide) (Nat.le_of_ble_eq_true rfl) rfl (bX8_isDigit_0 hF x0 H)
theorem dX8_isRow_0 : decode cX8_isRow 0 = .ok (.iload_n 0, 1) := by decide +kernel
theorem dX8_isRow_1 : decode cX8_isRow 1 = .ok (.invokestatic 179, 3) := by decide +kernel
theorem dX8_isRow_4 : decode cX8_isRow 4 = .ok (.ifCond .ne 15, 3) := by decide +kernel
theorem dX8_isRow_7 : decode cX8_isRow 7 = .ok (.iload_n 0, 1) := by decide +kernel
theorem dX8_isRow_8 : decode cX8_isRow 8 = .ok (.bipush 97, 2) := by decide +kernel
theorem dX8_isRow_10 : decode cX8_isRow 10 = .ok (.if_icmp .lt 13, 3) := by decide +kernel
theorem dX8_isRow_13 : decode cX8_isRow 13 = .ok (.iload_n 0, 1) := by decide +kernel
theorem dX8_isRow_14 : decode cX8_isRow 14 = .ok (.bipush 122, 2) := by decide +kernel
theorem dX8_isRow_16 : decode cX8_isRow 16 = .ok (.if_icmp .gt 7, 3) := by decide +kernel
theorem dX8_isRow_19 : decode cX8_isRow 19 = .ok (.iconst 1, 1) := by decide +kernel
theorem dX8_isRow_20 : decode cX8_isRow 20 = .ok (.goto 4, 3) := by decide +kernel
theorem dX8_isRow_23 : decode cX8_isRow 23 = .ok (.iconst 0, 1) := by decide +kernel
theorem dX8_isRow_24 : decode cX8_isRow 24 = .ok (.ireturn, 1) := by decide +kernel
abbrev JX8_isRow_0 (D : DE) (f : Nat) (Q : Int32 → HI → HL → Prop) (F : Frm) (h : HI) (g : HL) (x0 : Int32) : Prop := Si D f mX8_isDigit [.int x0] F h g (fun y3 h1 g2 => ((¬ y3 = 0 → Q 1 h1 g2) ∧ (y3 = 0 → ((x0 < 97 → Q 0 h1 g2) ∧ (¬ x0 < 97 → ((122 < x0 → Q 0 h1 g2) ∧ (¬ 122 < x0 → Q 1 h1 g2)))))))
theorem bX8_isRow_0 {D : DE} {f : Nat} {Q : Int32 → HI → HL → Prop} {F : Frm} {h : HI} {g : HL} (hF : k_Fix F) (x0 : Int32) (H : JX8_isRow_0 D f Q F h g x0) : V D mX8_isRow (f + 1) (qi F Q) 0 [(0, .int x0)] [] (F, h, g) := by
  refine V_iload_n dX8_isRow_0 rfl 0 rfl ?_
  refine H_calli (av := [.int x0]) (rest := []) H mqX8_isDigit q88 (by decide) (Nat.le_of_ble_eq_true rfl) (k_resS (av := [.int x0]) (rest := []) (M1 := mX8_isDigit) rfl q1735 q1736 q88 mqX8_isDigit (fun _ _ h => mW_named h) mhX8_isDigit mnX8_isDigit dX8_isRow_1) (fun y3 h1 g2 H => ?_)
  refine V_if_ne (tgt := 19) dX8_isRow_4 (by decide) (fun c4 => ?_) (fun c4 => ?_)
  · have H := H.1 c4
    refine V_iconst (v := 1) dX8_isRow_19 (by decide) ?_
    refine V_goto (tgt := 24) dX8_isRow_20 (by decide) ?_
    exact H_zret rfl isB1 dX8_isRow_24 H
  · have H := H.2 c4
    refine V_iload_n dX8_isRow_7 rfl 0 rfl ?_
    refine V_bipush (v := 97) dX8_isRow_8 (by decide) ?_
    refine V_icmp_lt (tgt := 23) dX8_isRow_10 (by decide) (fun c5 => ?_) (fun c5 => ?_)
    · have H := H.1 c5
      refine V_iconst (v := 0) dX8_isRow_23 (by decide) ?_
      exact H_zret rfl isB0 dX8_isRow_24 H
    · have H := H.2 c5
      refine V_iload_n dX8_isRow_13 rfl 0 rfl ?_
      refine V_bipush (v := 122) dX8_isRow_14 (by decide) ?_
      refine V_icmp_gt (tgt := 23) dX8_isRow_16 (by decide) (fun c6 => ?_) (fun c6 => ?_)
      · have H := H.1 c6
        refine V_iconst (v := 0) dX8_isRow_23 (by decide) ?_
        exact H_zret rfl isB0 dX8_isRow_24 H
      · have H := H.2 c6
        refine V_iconst (v := 1) dX8_isRow_19 (by decide) ?_
        refine V_goto (tgt := 24) dX8_isRow_20 (by decide) ?_
        exact H_zret rfl isB1 dX8_isRow_24 H
theorem wX8_isRow {D : DE} {f : Nat} {Q : Int32 → HI → HL → Prop} {F : Frm} {h : HI} {g : HL} (hF : k_Fix F) (x0 : Int32) (H : JX8_isRow_0 D f Q F h g x0) : Si D (f + 1) mX8_isRow [.int x0] F h g Q := Cl.ofV (by decide) (Nat.le_of_ble_eq_true rfl) rfl (bX8_isRow_0 hF x0 H)
theorem dX8_packed_0 : decode cX8_packed 0 = .ok (.iload_n 0, 1) := by decide +kernel
theorem dX8_packed_1 : decode cX8_packed 1 = .ok (.i2l, 1) := by decide +kernel
theorem dX8_packed_2 : decode cX8_packed 2 = .ok (.bipush 24, 2) := by decide +kernel
theorem dX8_packed_4 : decode cX8_packed 4 = .ok (.lshl, 1) := by decide +kernel
theorem dX8_packed_5 : decode cX8_packed 5 = .ok (.iload_n 1, 1) := by decide +kernel
theorem dX8_packed_6 : decode cX8_packed 6 = .ok (.bipush 16, 2) := by decide +kernel
theorem dX8_packed_8 : decode cX8_packed 8 = .ok (.ishl, 1) := by decide +kernel
theorem dX8_packed_9 : decode cX8_packed 9 = .ok (.i2l, 1) := by decide +kernel
theorem dX8_packed_10 : decode cX8_packed 10 = .ok (.lor, 1) := by decide +kernel
theorem dX8_packed_11 : decode cX8_packed 11 = .ok (.iload_n 2, 1) := by decide +kernel
theorem dX8_packed_12 : decode cX8_packed 12 = .ok (.bipush 8, 2) := by decide +kernel
theorem dX8_packed_14 : decode cX8_packed 14 = .ok (.ishl, 1) := by decide +kernel
theorem dX8_packed_15 : decode cX8_packed 15 = .ok (.i2l, 1) := by decide +kernel
theorem dX8_packed_16 : decode cX8_packed 16 = .ok (.lor, 1) := by decide +kernel
theorem dX8_packed_17 : decode cX8_packed 17 = .ok (.iload_n 3, 1) := by decide +kernel
theorem dX8_packed_18 : decode cX8_packed 18 = .ok (.i2l, 1) := by decide +kernel
theorem dX8_packed_19 : decode cX8_packed 19 = .ok (.lor, 1) := by decide +kernel
theorem dX8_packed_20 : decode cX8_packed 20 = .ok (.lreturn, 1) := by decide +kernel
abbrev JX8_packed_0 (D : DE) (f : Nat) (Q : Int64 → HI → HL → Prop) (F : Frm) (h : HI) (g : HL) (x0 : Int32) (x1 : Int32) (x2 : Int32) (x3 : Int32) : Prop := ∀ y1 : Int64, y1 = (x0.toInt64 <<< ((24 : Int32).toInt64 &&& 63)) ||| ((x1 <<< (16 &&& 31)).toInt64) → ∀ y3 : Int64, y3 = (y1 ||| ((x2 <<< (8 &&& 31)).toInt64)) ||| x3.toInt64 → Q y3 h g
theorem bX8_packed_0 {D : DE} {f : Nat} {Q : Int64 → HI → HL → Prop} {F : Frm} {h : HI} {g : HL} (hF : k_Fix F) (x0 : Int32) (x1 : Int32) (x2 : Int32) (x3 : Int32) (H : JX8_packed_0 D f Q F h g x0 x1 x2 x3) : V D mX8_packed f (ql F Q) 0 [(0, .int x0), (1, .int x1), (2, .int x2), (3, .int x3)] [] (F, h, g) := by
  refine V_iload_n dX8_packed_0 rfl 0 rfl ?_
  refine V_i2l dX8_packed_1 ?_
  refine V_bipush (v := 24) dX8_packed_2 (by decide) ?_
  refine V_lshl dX8_packed_4 ?_
  refine V_iload_n dX8_packed_5 rfl 1 rfl ?_
  refine V_bipush (v := 16) dX8_packed_6 (by decide) ?_
  refine V_ishl dX8_packed_8 ?_
  refine V_i2l dX8_packed_9 ?_
  refine V_lor dX8_packed_10 ?_
  refine V_topl (fun y1 e2 => ?_)
  have H := H y1 e2
  refine V_iload_n dX8_packed_11 rfl 2 rfl ?_
  refine V_bipush (v := 8) dX8_packed_12 (by decide) ?_
  refine V_ishl dX8_packed_14 ?_
  refine V_i2l dX8_packed_15 ?_
  refine V_lor dX8_packed_16 ?_
  refine V_iload_n dX8_packed_17 rfl 3 rfl ?_
  refine V_i2l dX8_packed_18 ?_
  refine V_lor dX8_packed_19 ?_
  refine V_topl (fun y3 e4 => ?_)
  have H := H y3 e4
  exact H_lret rfl dX8_packed_20 H
theorem wX8_packed {D : DE} {f : Nat} {Q : Int64 → HI → HL → Prop} {F : Frm} {h : HI} {g : HL} (hF : k_Fix F) (x0 : Int32) (x1 : Int32) (x2 : Int32) (x3 : Int32) (H : JX8_packed_0 D f Q F h g x0 x1 x2 x3) : Sl D f mX8_packed [.int x0, .int x1, .int x2, .int x3] F h g Q := Cl.ofV (by decide) (Nat.le_of_ble_eq_true rfl) rfl (bX8_packed_0 hF x0 x1 x2 x3 H)
theorem dX8_wordOf_0 : decode cX8_wordOf 0 = .ok (.lload_n 0, 1) := by decide +kernel
theorem dX8_wordOf_1 : decode cX8_wordOf 1 = .ok (.iconst 0, 1) := by decide +kernel
theorem dX8_wordOf_2 : decode cX8_wordOf 2 = .ok (.bipush 110, 2) := by decide +kernel
theorem dX8_wordOf_4 : decode cX8_wordOf 4 = .ok (.bipush 117, 2) := by decide +kernel
theorem dX8_wordOf_6 : decode cX8_wordOf 6 = .ok (.bipush 109, 2) := by decide +kernel
theorem dX8_wordOf_8 : decode cX8_wordOf 8 = .ok (.invokestatic 183, 3) := by decide +kernel
theorem dX8_wordOf_11 : decode cX8_wordOf 11 = .ok (.lcmp, 1) := by decide +kernel
theorem dX8_wordOf_12 : decode cX8_wordOf 12 = .ok (.ifCond .ne 7, 3) := by decide +kernel
theorem dX8_wordOf_15 : decode cX8_wordOf 15 = .ok (.iconst 1, 1) := by decide +kernel
theorem dX8_wordOf_16 : decode cX8_wordOf 16 = .ok (.goto 161, 3) := by decide +kernel
theorem dX8_wordOf_19 : decode cX8_wordOf 19 = .ok (.lload_n 0, 1) := by decide +kernel
theorem dX8_wordOf_20 : decode cX8_wordOf 20 = .ok (.iconst 0, 1) := by decide +kernel
theorem dX8_wordOf_21 : decode cX8_wordOf 21 = .ok (.iconst 0, 1) := by decide +kernel
theorem dX8_wordOf_22 : decode cX8_wordOf 22 = .ok (.bipush 105, 2) := by decide +kernel
theorem dX8_wordOf_24 : decode cX8_wordOf 24 = .ok (.bipush 102, 2) := by decide +kernel
theorem dX8_wordOf_26 : decode cX8_wordOf 26 = .ok (.invokestatic 183, 3) := by decide +kernel
theorem dX8_wordOf_29 : decode cX8_wordOf 29 = .ok (.lcmp, 1) := by decide +kernel
theorem dX8_wordOf_30 : decode cX8_wordOf 30 = .ok (.ifCond .ne 7, 3) := by decide +kernel
theorem dX8_wordOf_33 : decode cX8_wordOf 33 = .ok (.iconst 2, 1) := by decide +kernel
theorem dX8_wordOf_34 : decode cX8_wordOf 34 = .ok (.goto 143, 3) := by decide +kernel
theorem dX8_wordOf_37 : decode cX8_wordOf 37 = .ok (.lload_n 0, 1) := by decide +kernel
theorem dX8_wordOf_38 : decode cX8_wordOf 38 = .ok (.bipush 116, 2) := by decide +kernel
theorem dX8_wordOf_40 : decode cX8_wordOf 40 = .ok (.bipush 104, 2) := by decide +kernel
theorem dX8_wordOf_42 : decode cX8_wordOf 42 = .ok (.bipush 101, 2) := by decide +kernel
theorem dX8_wordOf_44 : decode cX8_wordOf 44 = .ok (.bipush 110, 2) := by decide +kernel
theorem dX8_wordOf_46 : decode cX8_wordOf 46 = .ok (.invokestatic 183, 3) := by decide +kernel
theorem dX8_wordOf_49 : decode cX8_wordOf 49 = .ok (.lcmp, 1) := by decide +kernel
theorem dX8_wordOf_50 : decode cX8_wordOf 50 = .ok (.ifCond .ne 7, 3) := by decide +kernel
theorem dX8_wordOf_53 : decode cX8_wordOf 53 = .ok (.iconst 3, 1) := by decide +kernel
theorem dX8_wordOf_54 : decode cX8_wordOf 54 = .ok (.goto 123, 3) := by decide +kernel
theorem dX8_wordOf_57 : decode cX8_wordOf 57 = .ok (.lload_n 0, 1) := by decide +kernel
theorem dX8_wordOf_58 : decode cX8_wordOf 58 = .ok (.bipush 101, 2) := by decide +kernel
theorem dX8_wordOf_60 : decode cX8_wordOf 60 = .ok (.bipush 108, 2) := by decide +kernel
theorem dX8_wordOf_62 : decode cX8_wordOf 62 = .ok (.bipush 115, 2) := by decide +kernel
theorem dX8_wordOf_64 : decode cX8_wordOf 64 = .ok (.bipush 101, 2) := by decide +kernel
theorem dX8_wordOf_66 : decode cX8_wordOf 66 = .ok (.invokestatic 183, 3) := by decide +kernel
theorem dX8_wordOf_69 : decode cX8_wordOf 69 = .ok (.lcmp, 1) := by decide +kernel
theorem dX8_wordOf_70 : decode cX8_wordOf 70 = .ok (.ifCond .ne 7, 3) := by decide +kernel
theorem dX8_wordOf_73 : decode cX8_wordOf 73 = .ok (.iconst 4, 1) := by decide +kernel
theorem dX8_wordOf_74 : decode cX8_wordOf 74 = .ok (.goto 103, 3) := by decide +kernel
theorem dX8_wordOf_77 : decode cX8_wordOf 77 = .ok (.lload_n 0, 1) := by decide +kernel
theorem dX8_wordOf_78 : decode cX8_wordOf 78 = .ok (.iconst 0, 1) := by decide +kernel
theorem dX8_wordOf_79 : decode cX8_wordOf 79 = .ok (.bipush 108, 2) := by decide +kernel
theorem dX8_wordOf_81 : decode cX8_wordOf 81 = .ok (.bipush 101, 2) := by decide +kernel
theorem dX8_wordOf_83 : decode cX8_wordOf 83 = .ok (.bipush 116, 2) := by decide +kernel
theorem dX8_wordOf_85 : decode cX8_wordOf 85 = .ok (.invokestatic 183, 3) := by decide +kernel
theorem dX8_wordOf_88 : decode cX8_wordOf 88 = .ok (.lcmp, 1) := by decide +kernel
theorem dX8_wordOf_89 : decode cX8_wordOf 89 = .ok (.ifCond .ne 7, 3) := by decide +kernel
theorem dX8_wordOf_92 : decode cX8_wordOf 92 = .ok (.iconst 5, 1) := by decide +kernel
theorem dX8_wordOf_93 : decode cX8_wordOf 93 = .ok (.goto 84, 3) := by decide +kernel
theorem dX8_wordOf_96 : decode cX8_wordOf 96 = .ok (.lload_n 0, 1) := by decide +kernel
theorem dX8_wordOf_97 : decode cX8_wordOf 97 = .ok (.iconst 0, 1) := by decide +kernel
theorem dX8_wordOf_98 : decode cX8_wordOf 98 = .ok (.iconst 0, 1) := by decide +kernel
theorem dX8_wordOf_99 : decode cX8_wordOf 99 = .ok (.bipush 105, 2) := by decide +kernel
theorem dX8_wordOf_101 : decode cX8_wordOf 101 = .ok (.bipush 110, 2) := by decide +kernel
theorem dX8_wordOf_103 : decode cX8_wordOf 103 = .ok (.invokestatic 183, 3) := by decide +kernel
theorem dX8_wordOf_106 : decode cX8_wordOf 106 = .ok (.lcmp, 1) := by decide +kernel
theorem dX8_wordOf_107 : decode cX8_wordOf 107 = .ok (.ifCond .ne 8, 3) := by decide +kernel
theorem dX8_wordOf_110 : decode cX8_wordOf 110 = .ok (.bipush 6, 2) := by decide +kernel
theorem dX8_wordOf_112 : decode cX8_wordOf 112 = .ok (.goto 65, 3) := by decide +kernel
theorem dX8_wordOf_115 : decode cX8_wordOf 115 = .ok (.lload_n 0, 1) := by decide +kernel
theorem dX8_wordOf_116 : decode cX8_wordOf 116 = .ok (.bipush 99, 2) := by decide +kernel
theorem dX8_wordOf_118 : decode cX8_wordOf 118 = .ok (.bipush 97, 2) := by decide +kernel
theorem dX8_wordOf_120 : decode cX8_wordOf 120 = .ok (.bipush 115, 2) := by decide +kernel
theorem dX8_wordOf_122 : decode cX8_wordOf 122 = .ok (.bipush 101, 2) := by decide +kernel
theorem dX8_wordOf_124 : decode cX8_wordOf 124 = .ok (.invokestatic 183, 3) := by decide +kernel
theorem dX8_wordOf_127 : decode cX8_wordOf 127 = .ok (.lcmp, 1) := by decide +kernel
theorem dX8_wordOf_128 : decode cX8_wordOf 128 = .ok (.ifCond .ne 8, 3) := by decide +kernel
theorem dX8_wordOf_131 : decode cX8_wordOf 131 = .ok (.bipush 7, 2) := by decide +kernel
theorem dX8_wordOf_133 : decode cX8_wordOf 133 = .ok (.goto 44, 3) := by decide +kernel
theorem dX8_wordOf_136 : decode cX8_wordOf 136 = .ok (.lload_n 0, 1) := by decide +kernel
theorem dX8_wordOf_137 : decode cX8_wordOf 137 = .ok (.iconst 0, 1) := by decide +kernel
theorem dX8_wordOf_138 : decode cX8_wordOf 138 = .ok (.iconst 0, 1) := by decide +kernel
theorem dX8_wordOf_139 : decode cX8_wordOf 139 = .ok (.bipush 111, 2) := by decide +kernel
theorem dX8_wordOf_141 : decode cX8_wordOf 141 = .ok (.bipush 102, 2) := by decide +kernel
theorem dX8_wordOf_143 : decode cX8_wordOf 143 = .ok (.invokestatic 183, 3) := by decide +kernel
theorem dX8_wordOf_146 : decode cX8_wordOf 146 = .ok (.lcmp, 1) := by decide +kernel
theorem dX8_wordOf_147 : decode cX8_wordOf 147 = .ok (.ifCond .ne 8, 3) := by decide +kernel
theorem dX8_wordOf_150 : decode cX8_wordOf 150 = .ok (.bipush 8, 2) := by decide +kernel
theorem dX8_wordOf_152 : decode cX8_wordOf 152 = .ok (.goto 25, 3) := by decide +kernel
theorem dX8_wordOf_155 : decode cX8_wordOf 155 = .ok (.lload_n 0, 1) := by decide +kernel
theorem dX8_wordOf_156 : decode cX8_wordOf 156 = .ok (.bipush 102, 2) := by decide +kernel
theorem dX8_wordOf_158 : decode cX8_wordOf 158 = .ok (.bipush 97, 2) := by decide +kernel
theorem dX8_wordOf_160 : decode cX8_wordOf 160 = .ok (.bipush 105, 2) := by decide +kernel
theorem dX8_wordOf_162 : decode cX8_wordOf 162 = .ok (.bipush 108, 2) := by decide +kernel
theorem dX8_wordOf_164 : decode cX8_wordOf 164 = .ok (.invokestatic 183, 3) := by decide +kernel
theorem dX8_wordOf_167 : decode cX8_wordOf 167 = .ok (.lcmp, 1) := by decide +kernel
theorem dX8_wordOf_168 : decode cX8_wordOf 168 = .ok (.ifCond .ne 8, 3) := by decide +kernel
theorem dX8_wordOf_171 : decode cX8_wordOf 171 = .ok (.bipush 9, 2) := by decide +kernel
theorem dX8_wordOf_173 : decode cX8_wordOf 173 = .ok (.goto 4, 3) := by decide +kernel
theorem dX8_wordOf_176 : decode cX8_wordOf 176 = .ok (.iconst 0, 1) := by decide +kernel
theorem dX8_wordOf_177 : decode cX8_wordOf 177 = .ok (.ireturn, 1) := by decide +kernel
abbrev JX8_wordOf_0 (D : DE) (f : Nat) (Q : Int32 → HI → HL → Prop) (F : Frm) (h : HI) (g : HL) (x0 : Int64) : Prop := Sl D f mX8_packed [.int 0, .int 110, .int 117, .int 109] F h g (fun y3 h1 g2 => ((¬ (lg_cmp x0 y3) = 0 → Sl D f mX8_packed [.int 0, .int 0, .int 105, .int 102] F h1 g2 (fun y7 h5 g6 => ((¬ (lg_cmp x0 y7) = 0 → Sl D f mX8_packed [.int 116, .int 104, .int 101, .int 110] F h5 g6 (fun y11 h9 g10 => ((¬ (lg_cmp x0 y11) = 0 → Sl D f mX8_packed [.int 101, .int 108, .int 115, .int 101] F h9 g10 (fun y15 h13 g14 => ((¬ (lg_cmp x0 y15) = 0 → Sl D f mX8_packed [.int 0, .int 108, .int 101, .int 116] F h13 g14 (fun y19 h17 g18 => ((¬ (lg_cmp x0 y19) = 0 → Sl D f mX8_packed [.int 0, .int 0, .int 105, .int 110] F h17 g18 (fun y23 h21 g22 => ((¬ (lg_cmp x0 y23) = 0 → Sl D f mX8_packed [.int 99, .int 97, .int 115, .int 101] F h21 g22 (fun y27 h25 g26 => ((¬ (lg_cmp x0 y27) = 0 → Sl D f mX8_packed [.int 0, .int 0, .int 111, .int 102] F h25 g26 (fun y31 h29 g30 => ((¬ (lg_cmp x0 y31) = 0 → Sl D f mX8_packed [.int 102, .int 97, .int 105, .int 108] F h29 g30 (fun y35 h33 g34 => ((¬ (lg_cmp x0 y35) = 0 → Q 0 h33 g34) ∧ ((lg_cmp x0 y35) = 0 → Q 9 h33 g34)))) ∧ ((lg_cmp x0 y31) = 0 → Q 8 h29 g30)))) ∧ ((lg_cmp x0 y27) = 0 → Q 7 h25 g26)))) ∧ ((lg_cmp x0 y23) = 0 → Q 6 h21 g22)))) ∧ ((lg_cmp x0 y19) = 0 → Q 5 h17 g18)))) ∧ ((lg_cmp x0 y15) = 0 → Q 4 h13 g14)))) ∧ ((lg_cmp x0 y11) = 0 → Q 3 h9 g10)))) ∧ ((lg_cmp x0 y7) = 0 → Q 2 h5 g6)))) ∧ ((lg_cmp x0 y3) = 0 → Q 1 h1 g2)))
theorem bX8_wordOf_0 {D : DE} {f : Nat} {Q : Int32 → HI → HL → Prop} {F : Frm} {h : HI} {g : HL} (hF : k_Fix F) (x0 : Int64) (H : JX8_wordOf_0 D f Q F h g x0) : V D mX8_wordOf (f + 1) (qi F Q) 0 [(0, .long x0)] [] (F, h, g) := by
  refine V_lload_n dX8_wordOf_0 rfl 0 rfl ?_
  refine V_iconst (v := 0) dX8_wordOf_1 (by decide) ?_
  refine V_bipush (v := 110) dX8_wordOf_2 (by decide) ?_
  refine V_bipush (v := 117) dX8_wordOf_4 (by decide) ?_
  refine V_bipush (v := 109) dX8_wordOf_6 (by decide) ?_
  refine H_calll (av := [.int 0, .int 110, .int 117, .int 109]) (rest := [.long x0]) H mqX8_packed q88 (by decide) (Nat.le_of_ble_eq_true rfl) (k_resS (av := [.int 0, .int 110, .int 117, .int 109]) (rest := [.long x0]) (M1 := mX8_packed) rfl q1748 q1749 q88 mqX8_packed (fun _ _ h => mW_named h) mhX8_packed mnX8_packed dX8_wordOf_8) (fun y3 h1 g2 H => ?_)
  refine V_lcmp dX8_wordOf_11 ?_
  refine V_if_ne (tgt := 19) dX8_wordOf_12 (by decide) (fun c4 => ?_) (fun c4 => ?_)
  · have H := H.1 c4
    refine V_lload_n dX8_wordOf_19 rfl 0 rfl ?_
    refine V_iconst (v := 0) dX8_wordOf_20 (by decide) ?_
    refine V_iconst (v := 0) dX8_wordOf_21 (by decide) ?_
    refine V_bipush (v := 105) dX8_wordOf_22 (by decide) ?_
    refine V_bipush (v := 102) dX8_wordOf_24 (by decide) ?_
    refine H_calll (av := [.int 0, .int 0, .int 105, .int 102]) (rest := [.long x0]) H mqX8_packed q88 (by decide) (Nat.le_of_ble_eq_true rfl) (k_resS (av := [.int 0, .int 0, .int 105, .int 102]) (rest := [.long x0]) (M1 := mX8_packed) rfl q1748 q1749 q88 mqX8_packed (fun _ _ h => mW_named h) mhX8_packed mnX8_packed dX8_wordOf_26) (fun y7 h5 g6 H => ?_)
    refine V_lcmp dX8_wordOf_29 ?_
    refine V_if_ne (tgt := 37) dX8_wordOf_30 (by decide) (fun c8 => ?_) (fun c8 => ?_)
    · have H := H.1 c8
      refine V_lload_n dX8_wordOf_37 rfl 0 rfl ?_
      refine V_bipush (v := 116) dX8_wordOf_38 (by decide) ?_
      refine V_bipush (v := 104) dX8_wordOf_40 (by decide) ?_
      refine V_bipush (v := 101) dX8_wordOf_42 (by decide) ?_
      refine V_bipush (v := 110) dX8_wordOf_44 (by decide) ?_
      refine H_calll (av := [.int 116, .int 104, .int 101, .int 110]) (rest := [.long x0]) H mqX8_packed q88 (by decide) (Nat.le_of_ble_eq_true rfl) (k_resS (av := [.int 116, .int 104, .int 101, .int 110]) (rest := [.long x0]) (M1 := mX8_packed) rfl q1748 q1749 q88 mqX8_packed (fun _ _ h => mW_named h) mhX8_packed mnX8_packed dX8_wordOf_46) (fun y11 h9 g10 H => ?_)
      refine V_lcmp dX8_wordOf_49 ?_
      refine V_if_ne (tgt := 57) dX8_wordOf_50 (by decide) (fun c12 => ?_) (fun c12 => ?_)
      · have H := H.1 c12
        refine V_lload_n dX8_wordOf_57 rfl 0 rfl ?_
        refine V_bipush (v := 101) dX8_wordOf_58 (by decide) ?_
        refine V_bipush (v := 108) dX8_wordOf_60 (by decide) ?_
        refine V_bipush (v := 115) dX8_wordOf_62 (by decide) ?_
        refine V_bipush (v := 101) dX8_wordOf_64 (by decide) ?_
        refine H_calll (av := [.int 101, .int 108, .int 115, .int 101]) (rest := [.long x0]) H mqX8_packed q88 (by decide) (Nat.le_of_ble_eq_true rfl) (k_resS (av := [.int 101, .int 108, .int 115, .int 101]) (rest := [.long x0]) (M1 := mX8_packed) rfl q1748 q1749 q88 mqX8_packed (fun _ _ h => mW_named h) mhX8_packed mnX8_packed dX8_wordOf_66) (fun y15 h13 g14 H => ?_)
        refine V_lcmp dX8_wordOf_69 ?_
        refine V_if_ne (tgt := 77) dX8_wordOf_70 (by decide) (fun c16 => ?_) (fun c16 => ?_)
        · have H := H.1 c16
          refine V_lload_n dX8_wordOf_77 rfl 0 rfl ?_
          refine V_iconst (v := 0) dX8_wordOf_78 (by decide) ?_
          refine V_bipush (v := 108) dX8_wordOf_79 (by decide) ?_
          refine V_bipush (v := 101) dX8_wordOf_81 (by decide) ?_
          refine V_bipush (v := 116) dX8_wordOf_83 (by decide) ?_
          refine H_calll (av := [.int 0, .int 108, .int 101, .int 116]) (rest := [.long x0]) H mqX8_packed q88 (by decide) (Nat.le_of_ble_eq_true rfl) (k_resS (av := [.int 0, .int 108, .int 101, .int 116]) (rest := [.long x0]) (M1 := mX8_packed) rfl q1748 q1749 q88 mqX8_packed (fun _ _ h => mW_named h) mhX8_packed mnX8_packed dX8_wordOf_85) (fun y19 h17 g18 H => ?_)
          refine V_lcmp dX8_wordOf_88 ?_
          refine V_if_ne (tgt := 96) dX8_wordOf_89 (by decide) (fun c20 => ?_) (fun c20 => ?_)
          · have H := H.1 c20
            refine V_lload_n dX8_wordOf_96 rfl 0 rfl ?_
            refine V_iconst (v := 0) dX8_wordOf_97 (by decide) ?_
            refine V_iconst (v := 0) dX8_wordOf_98 (by decide) ?_
            refine V_bipush (v := 105) dX8_wordOf_99 (by decide) ?_
            refine V_bipush (v := 110) dX8_wordOf_101 (by decide) ?_
            refine H_calll (av := [.int 0, .int 0, .int 105, .int 110]) (rest := [.long x0]) H mqX8_packed q88 (by decide) (Nat.le_of_ble_eq_true rfl) (k_resS (av := [.int 0, .int 0, .int 105, .int 110]) (rest := [.long x0]) (M1 := mX8_packed) rfl q1748 q1749 q88 mqX8_packed (fun _ _ h => mW_named h) mhX8_packed mnX8_packed dX8_wordOf_103) (fun y23 h21 g22 H => ?_)
            refine V_lcmp dX8_wordOf_106 ?_
            refine V_if_ne (tgt := 115) dX8_wordOf_107 (by decide) (fun c24 => ?_) (fun c24 => ?_)
            · have H := H.1 c24
              refine V_lload_n dX8_wordOf_115 rfl 0 rfl ?_
              refine V_bipush (v := 99) dX8_wordOf_116 (by decide) ?_
              refine V_bipush (v := 97) dX8_wordOf_118 (by decide) ?_
              refine V_bipush (v := 115) dX8_wordOf_120 (by decide) ?_
              refine V_bipush (v := 101) dX8_wordOf_122 (by decide) ?_
              refine H_calll (av := [.int 99, .int 97, .int 115, .int 101]) (rest := [.long x0]) H mqX8_packed q88 (by decide) (Nat.le_of_ble_eq_true rfl) (k_resS (av := [.int 99, .int 97, .int 115, .int 101]) (rest := [.long x0]) (M1 := mX8_packed) rfl q1748 q1749 q88 mqX8_packed (fun _ _ h => mW_named h) mhX8_packed mnX8_packed dX8_wordOf_124) (fun y27 h25 g26 H => ?_)
              refine V_lcmp dX8_wordOf_127 ?_
              refine V_if_ne (tgt := 136) dX8_wordOf_128 (by decide) (fun c28 => ?_) (fun c28 => ?_)
              · have H := H.1 c28
                refine V_lload_n dX8_wordOf_136 rfl 0 rfl ?_
                refine V_iconst (v := 0) dX8_wordOf_137 (by decide) ?_
                refine V_iconst (v := 0) dX8_wordOf_138 (by decide) ?_
                refine V_bipush (v := 111) dX8_wordOf_139 (by decide) ?_
                refine V_bipush (v := 102) dX8_wordOf_141 (by decide) ?_
                refine H_calll (av := [.int 0, .int 0, .int 111, .int 102]) (rest := [.long x0]) H mqX8_packed q88 (by decide) (Nat.le_of_ble_eq_true rfl) (k_resS (av := [.int 0, .int 0, .int 111, .int 102]) (rest := [.long x0]) (M1 := mX8_packed) rfl q1748 q1749 q88 mqX8_packed (fun _ _ h => mW_named h) mhX8_packed mnX8_packed dX8_wordOf_143) (fun y31 h29 g30 H => ?_)
                refine V_lcmp dX8_wordOf_146 ?_
                refine V_if_ne (tgt := 155) dX8_wordOf_147 (by decide) (fun c32 => ?_) (fun c32 => ?_)
                · have H := H.1 c32
                  refine V_lload_n dX8_wordOf_155 rfl 0 rfl ?_
                  refine V_bipush (v := 102) dX8_wordOf_156 (by decide) ?_
                  refine V_bipush (v := 97) dX8_wordOf_158 (by decide) ?_
                  refine V_bipush (v := 105) dX8_wordOf_160 (by decide) ?_
                  refine V_bipush (v := 108) dX8_wordOf_162 (by decide) ?_
                  refine H_calll (av := [.int 102, .int 97, .int 105, .int 108]) (rest := [.long x0]) H mqX8_packed q88 (by decide) (Nat.le_of_ble_eq_true rfl) (k_resS (av := [.int 102, .int 97, .int 105, .int 108]) (rest := [.long x0]) (M1 := mX8_packed) rfl q1748 q1749 q88 mqX8_packed (fun _ _ h => mW_named h) mhX8_packed mnX8_packed dX8_wordOf_164) (fun y35 h33 g34 H => ?_)
                  refine V_lcmp dX8_wordOf_167 ?_
                  refine V_if_ne (tgt := 176) dX8_wordOf_168 (by decide) (fun c36 => ?_) (fun c36 => ?_)
                  · have H := H.1 c36
                    refine V_iconst (v := 0) dX8_wordOf_176 (by decide) ?_
                    exact H_iret rfl dX8_wordOf_177 H
                  · have H := H.2 c36
                    refine V_bipush (v := 9) dX8_wordOf_171 (by decide) ?_
                    refine V_goto (tgt := 177) dX8_wordOf_173 (by decide) ?_
                    exact H_iret rfl dX8_wordOf_177 H
                · have H := H.2 c32
                  refine V_bipush (v := 8) dX8_wordOf_150 (by decide) ?_
                  refine V_goto (tgt := 177) dX8_wordOf_152 (by decide) ?_
                  exact H_iret rfl dX8_wordOf_177 H
              · have H := H.2 c28
                refine V_bipush (v := 7) dX8_wordOf_131 (by decide) ?_
                refine V_goto (tgt := 177) dX8_wordOf_133 (by decide) ?_
                exact H_iret rfl dX8_wordOf_177 H
            · have H := H.2 c24
              refine V_bipush (v := 6) dX8_wordOf_110 (by decide) ?_
              refine V_goto (tgt := 177) dX8_wordOf_112 (by decide) ?_
              exact H_iret rfl dX8_wordOf_177 H
          · have H := H.2 c20
            refine V_iconst (v := 5) dX8_wordOf_92 (by decide) ?_
            refine V_goto (tgt := 177) dX8_wordOf_93 (by decide) ?_
            exact H_iret rfl dX8_wordOf_177 H
        · have H := H.2 c16
          refine V_iconst (v := 4) dX8_wordOf_73 (by decide) ?_
          refine V_goto (tgt := 177) dX8_wordOf_74 (by decide) ?_
          exact H_iret rfl dX8_wordOf_177 H
      · have H := H.2 c12
        refine V_iconst (v := 3) dX8_wordOf_53 (by decide) ?_
        refine V_goto (tgt := 177) dX8_wordOf_54 (by decide) ?_
        exact H_iret rfl dX8_wordOf_177 H
    · have H := H.2 c8
      refine V_iconst (v := 2) dX8_wordOf_33 (by decide) ?_
      refine V_goto (tgt := 177) dX8_wordOf_34 (by decide) ?_
      exact H_iret rfl dX8_wordOf_177 H
  · have H := H.2 c4
    refine V_iconst (v := 1) dX8_wordOf_15 (by decide) ?_
    refine V_goto (tgt := 177) dX8_wordOf_16 (by decide) ?_
    exact H_iret rfl dX8_wordOf_177 H
theorem wX8_wordOf {D : DE} {f : Nat} {Q : Int32 → HI → HL → Prop} {F : Frm} {h : HI} {g : HL} (hF : k_Fix F) (x0 : Int64) (H : JX8_wordOf_0 D f Q F h g x0) : Si D (f + 1) mX8_wordOf [.long x0] F h g Q := Cl.ofV (by decide) (Nat.le_of_ble_eq_true rfl) rfl (bX8_wordOf_0 hF x0 H)
theorem dX8_row_0 : decode cX8_row 0 = .ok (.iconst 1, 1) := by decide +kernel
theorem dX8_row_1 : decode cX8_row 1 = .ok (.istore_n 1, 1) := by decide +kernel
theorem dX8_row_2 : decode cX8_row 2 = .ok (.lconst 0, 1) := by decide +kernel
theorem dX8_row_3 : decode cX8_row 3 = .ok (.lstore_n 2, 1) := by decide +kernel
theorem dX8_row_4 : decode cX8_row 4 = .ok (.lconst 0, 1) := by decide +kernel
theorem dX8_row_5 : decode cX8_row 5 = .ok (.lstore 4, 2) := by decide +kernel
theorem dX8_row_7 : decode cX8_row 7 = .ok (.aload_n 0, 1) := by decide +kernel
theorem dX8_row_8 : decode cX8_row 8 = .ok (.getfield 187, 3) := by decide +kernel
theorem dX8_row_11 : decode cX8_row 11 = .ok (.aload_n 0, 1) := by decide +kernel
theorem dX8_row_12 : decode cX8_row 12 = .ok (.getfield 151, 3) := by decide +kernel
theorem dX8_row_15 : decode cX8_row 15 = .ok (.if_icmp .ge 109, 3) := by decide +kernel
theorem dX8_row_18 : decode cX8_row 18 = .ok (.aload_n 0, 1) := by decide +kernel
theorem dX8_row_19 : decode cX8_row 19 = .ok (.getfield 7, 3) := by decide +kernel
theorem dX8_row_22 : decode cX8_row 22 = .ok (.aload_n 0, 1) := by decide +kernel
theorem dX8_row_23 : decode cX8_row 23 = .ok (.getfield 187, 3) := by decide +kernel
theorem dX8_row_26 : decode cX8_row 26 = .ok (.iaload, 1) := by decide +kernel
theorem dX8_row_27 : decode cX8_row 27 = .ok (.invokestatic 199, 3) := by decide +kernel
theorem dX8_row_30 : decode cX8_row 30 = .ok (.ifCond .eq 94, 3) := by decide +kernel
theorem dX8_row_33 : decode cX8_row 33 = .ok (.iload_n 1, 1) := by decide +kernel
theorem dX8_row_34 : decode cX8_row 34 = .ok (.ifCond .eq 22, 3) := by decide +kernel
theorem dX8_row_37 : decode cX8_row 37 = .ok (.aload_n 0, 1) := by decide +kernel
theorem dX8_row_38 : decode cX8_row 38 = .ok (.getfield 7, 3) := by decide +kernel
theorem dX8_row_41 : decode cX8_row 41 = .ok (.aload_n 0, 1) := by decide +kernel
theorem dX8_row_42 : decode cX8_row 42 = .ok (.getfield 187, 3) := by decide +kernel
theorem dX8_row_45 : decode cX8_row 45 = .ok (.iaload, 1) := by decide +kernel
theorem dX8_row_46 : decode cX8_row 46 = .ok (.invokestatic 179, 3) := by decide +kernel
theorem dX8_row_49 : decode cX8_row 49 = .ok (.ifCond .eq 7, 3) := by decide +kernel
theorem dX8_row_52 : decode cX8_row 52 = .ok (.iconst 1, 1) := by decide +kernel
theorem dX8_row_53 : decode cX8_row 53 = .ok (.goto 4, 3) := by decide +kernel
theorem dX8_row_56 : decode cX8_row 56 = .ok (.iconst 0, 1) := by decide +kernel
theorem dX8_row_57 : decode cX8_row 57 = .ok (.istore_n 1, 1) := by decide +kernel
theorem dX8_row_58 : decode cX8_row 58 = .ok (.lload_n 2, 1) := by decide +kernel
theorem dX8_row_59 : decode cX8_row 59 = .ok (.bipush 8, 2) := by decide +kernel
theorem dX8_row_61 : decode cX8_row 61 = .ok (.lshl, 1) := by decide +kernel
theorem dX8_row_62 : decode cX8_row 62 = .ok (.aload_n 0, 1) := by decide +kernel
theorem dX8_row_63 : decode cX8_row 63 = .ok (.getfield 7, 3) := by decide +kernel
theorem dX8_row_66 : decode cX8_row 66 = .ok (.aload_n 0, 1) := by decide +kernel
theorem dX8_row_67 : decode cX8_row 67 = .ok (.getfield 187, 3) := by decide +kernel
theorem dX8_row_70 : decode cX8_row 70 = .ok (.iaload, 1) := by decide +kernel
theorem dX8_row_71 : decode cX8_row 71 = .ok (.i2l, 1) := by decide +kernel
theorem dX8_row_72 : decode cX8_row 72 = .ok (.lor, 1) := by decide +kernel
theorem dX8_row_73 : decode cX8_row 73 = .ok (.lstore_n 2, 1) := by decide +kernel
theorem dX8_row_74 : decode cX8_row 74 = .ok (.lload 4, 2) := by decide +kernel
theorem dX8_row_76 : decode cX8_row 76 = .ok (.ldc2_w 209, 3) := by decide +kernel
theorem dX8_row_79 : decode cX8_row 79 = .ok (.lcmp, 1) := by decide +kernel
theorem dX8_row_80 : decode cX8_row 80 = .ok (.ifCond .le 8, 3) := by decide +kernel
theorem dX8_row_83 : decode cX8_row 83 = .ok (.lload 4, 2) := by decide +kernel
theorem dX8_row_85 : decode cX8_row 85 = .ok (.goto 24, 3) := by decide +kernel
theorem dX8_row_88 : decode cX8_row 88 = .ok (.ldc2_w 211, 3) := by decide +kernel
theorem dX8_row_91 : decode cX8_row 91 = .ok (.lload 4, 2) := by decide +kernel
theorem dX8_row_93 : decode cX8_row 93 = .ok (.lmul, 1) := by decide +kernel
theorem dX8_row_94 : decode cX8_row 94 = .ok (.aload_n 0, 1) := by decide +kernel
theorem dX8_row_95 : decode cX8_row 95 = .ok (.getfield 7, 3) := by decide +kernel
theorem dX8_row_98 : decode cX8_row 98 = .ok (.aload_n 0, 1) := by decide +kernel
theorem dX8_row_99 : decode cX8_row 99 = .ok (.getfield 187, 3) := by decide +kernel
theorem dX8_row_102 : decode cX8_row 102 = .ok (.iaload, 1) := by decide +kernel
theorem dX8_row_103 : decode cX8_row 103 = .ok (.i2l, 1) := by decide +kernel
theorem dX8_row_104 : decode cX8_row 104 = .ok (.ladd, 1) := by decide +kernel
theorem dX8_row_105 : decode cX8_row 105 = .ok (.ldc2_w 213, 3) := by decide +kernel
theorem dX8_row_108 : decode cX8_row 108 = .ok (.lsub, 1) := by decide +kernel
theorem dX8_row_109 : decode cX8_row 109 = .ok (.lstore 4, 2) := by decide +kernel
theorem dX8_row_111 : decode cX8_row 111 = .ok (.aload_n 0, 1) := by decide +kernel
theorem dX8_row_112 : decode cX8_row 112 = .ok (.dup, 1) := by decide +kernel
theorem dX8_row_113 : decode cX8_row 113 = .ok (.getfield 187, 3) := by decide +kernel
theorem dX8_row_116 : decode cX8_row 116 = .ok (.iconst 1, 1) := by decide +kernel
theorem dX8_row_117 : decode cX8_row 117 = .ok (.iadd, 1) := by decide +kernel
theorem dX8_row_118 : decode cX8_row 118 = .ok (.putfield 187, 3) := by decide +kernel
theorem dX8_row_121 : decode cX8_row 121 = .ok (.goto (-114), 3) := by decide +kernel
theorem dX8_row_124 : decode cX8_row 124 = .ok (.aload_n 0, 1) := by decide +kernel
theorem dX8_row_125 : decode cX8_row 125 = .ok (.getfield 187, 3) := by decide +kernel
theorem dX8_row_128 : decode cX8_row 128 = .ok (.aload_n 0, 1) := by decide +kernel
theorem dX8_row_129 : decode cX8_row 129 = .ok (.getfield 190, 3) := by decide +kernel
theorem dX8_row_132 : decode cX8_row 132 = .ok (.isub, 1) := by decide +kernel
theorem dX8_row_133 : decode cX8_row 133 = .ok (.istore 6, 2) := by decide +kernel
theorem dX8_row_135 : decode cX8_row 135 = .ok (.aload_n 0, 1) := by decide +kernel
theorem dX8_row_136 : decode cX8_row 136 = .ok (.getfield 7, 3) := by decide +kernel
theorem dX8_row_139 : decode cX8_row 139 = .ok (.aload_n 0, 1) := by decide +kernel
theorem dX8_row_140 : decode cX8_row 140 = .ok (.getfield 190, 3) := by decide +kernel
theorem dX8_row_143 : decode cX8_row 143 = .ok (.iaload, 1) := by decide +kernel
theorem dX8_row_144 : decode cX8_row 144 = .ok (.invokestatic 179, 3) := by decide +kernel
theorem dX8_row_147 : decode cX8_row 147 = .ok (.ifCond .eq 34, 3) := by decide +kernel
theorem dX8_row_150 : decode cX8_row 150 = .ok (.aload_n 0, 1) := by decide +kernel
theorem dX8_row_151 : decode cX8_row 151 = .ok (.iload_n 1, 1) := by decide +kernel
theorem dX8_row_152 : decode cX8_row 152 = .ok (.ifCond .eq 15, 3) := by decide +kernel
theorem dX8_row_155 : decode cX8_row 155 = .ok (.iload 6, 2) := by decide +kernel
theorem dX8_row_157 : decode cX8_row 157 = .ok (.bipush 9, 2) := by decide +kernel
theorem dX8_row_159 : decode cX8_row 159 = .ok (.if_icmp .gt 8, 3) := by decide +kernel
theorem dX8_row_162 : decode cX8_row 162 = .ok (.bipush 11, 2) := by decide +kernel
theorem dX8_row_164 : decode cX8_row 164 = .ok (.goto 4, 3) := by decide +kernel
theorem dX8_row_167 : decode cX8_row 167 = .ok (.iconst 0, 1) := by decide +kernel
theorem dX8_row_168 : decode cX8_row 168 = .ok (.putfield 193, 3) := by decide +kernel
theorem dX8_row_171 : decode cX8_row 171 = .ok (.aload_n 0, 1) := by decide +kernel
theorem dX8_row_172 : decode cX8_row 172 = .ok (.lload 4, 2) := by decide +kernel
theorem dX8_row_174 : decode cX8_row 174 = .ok (.l2i, 1) := by decide +kernel
theorem dX8_row_175 : decode cX8_row 175 = .ok (.putfield 215, 3) := by decide +kernel
theorem dX8_row_178 : decode cX8_row 178 = .ok (.goto 51, 3) := by decide +kernel
theorem dX8_row_181 : decode cX8_row 181 = .ok (.iload 6, 2) := by decide +kernel
theorem dX8_row_183 : decode cX8_row 183 = .ok (.iconst 4, 1) := by decide +kernel
theorem dX8_row_184 : decode cX8_row 184 = .ok (.if_icmp .gt 10, 3) := by decide +kernel
theorem dX8_row_187 : decode cX8_row 187 = .ok (.lload_n 2, 1) := by decide +kernel
theorem dX8_row_188 : decode cX8_row 188 = .ok (.invokestatic 218, 3) := by decide +kernel
theorem dX8_row_191 : decode cX8_row 191 = .ok (.goto 4, 3) := by decide +kernel
theorem dX8_row_194 : decode cX8_row 194 = .ok (.iconst 0, 1) := by decide +kernel
theorem dX8_row_195 : decode cX8_row 195 = .ok (.istore 7, 2) := by decide +kernel
theorem dX8_row_197 : decode cX8_row 197 = .ok (.aload_n 0, 1) := by decide +kernel
theorem dX8_row_198 : decode cX8_row 198 = .ok (.iload 7, 2) := by decide +kernel
theorem dX8_row_200 : decode cX8_row 200 = .ok (.ifCond .le 8, 3) := by decide +kernel
theorem dX8_row_203 : decode cX8_row 203 = .ok (.iload 7, 2) := by decide +kernel
theorem dX8_row_205 : decode cX8_row 205 = .ok (.goto 16, 3) := by decide +kernel
theorem dX8_row_208 : decode cX8_row 208 = .ok (.iload 6, 2) := by decide +kernel
theorem dX8_row_210 : decode cX8_row 210 = .ok (.bipush 8, 2) := by decide +kernel
theorem dX8_row_212 : decode cX8_row 212 = .ok (.if_icmp .gt 8, 3) := by decide +kernel
theorem dX8_row_215 : decode cX8_row 215 = .ok (.bipush 10, 2) := by decide +kernel
theorem dX8_row_217 : decode cX8_row 217 = .ok (.goto 4, 3) := by decide +kernel
theorem dX8_row_220 : decode cX8_row 220 = .ok (.iconst 0, 1) := by decide +kernel
theorem dX8_row_221 : decode cX8_row 221 = .ok (.putfield 193, 3) := by decide +kernel
theorem dX8_row_224 : decode cX8_row 224 = .ok (.aload_n 0, 1) := by decide +kernel
theorem dX8_row_225 : decode cX8_row 225 = .ok (.lload_n 2, 1) := by decide +kernel
theorem dX8_row_226 : decode cX8_row 226 = .ok (.putfield 222, 3) := by decide +kernel
theorem dX8_row_229 : decode cX8_row 229 = .ok (.aload_n 0, 1) := by decide +kernel
theorem dX8_row_230 : decode cX8_row 230 = .ok (.getfield 193, 3) := by decide +kernel
theorem dX8_row_233 : decode cX8_row 233 = .ok (.ifCond .ne 12, 3) := by decide +kernel
theorem dX8_row_236 : decode cX8_row 236 = .ok (.aload_n 0, 1) := by decide +kernel
theorem dX8_row_237 : decode cX8_row 237 = .ok (.iconst 1, 1) := by decide +kernel
theorem dX8_row_238 : decode cX8_row 238 = .ok (.aload_n 0, 1) := by decide +kernel
theorem dX8_row_239 : decode cX8_row 239 = .ok (.getfield 190, 3) := by decide +kernel
theorem dX8_row_242 : decode cX8_row 242 = .ok (.invokevirtual 205, 3) := by decide +kernel
theorem dX8_row_245 : decode cX8_row 245 = .ok (.return_, 1) := by decide +kernel
abbrev JX8_row_229 (D : DE) (f : Nat) (Q : HI → HL → Prop) (F : Frm) (h : HI) (g : HL) : Prop := ((¬ (h 115 4) = 0 → Q h g) ∧ ((h 115 4) = 0 → Sv D f mX8_stop [.ref (ad D 115), .int 1, .int (h 115 5)] F h g (fun h2 g3 => Q h2 g3)))
theorem bX8_row_229 {D : DE} {f : Nat} {Q : HI → HL → Prop} {F : Frm} {h : HI} {g : HL} (hF : k_Fix F)  (H : JX8_row_229 D f Q F h g ) : V D mX8_row (f + 1) (qv F Q) 229 [(0, .ref (ad D 115))] [] (F, h, g) := by
  refine V_aload_n dX8_row_229 rfl 0 rfl ?_
  refine H_geti ck7 4 (by decide) (fs_115 hF) (by decide) rfl q1462 dX8_row_230 ?_
  refine V_if_ne (tgt := 245) dX8_row_233 (by decide) (fun c1 => ?_) (fun c1 => ?_)
  · have H := H.1 c1
    exact H_vret rfl dX8_row_245 H
  · have H := H.2 c1
    refine V_aload_n dX8_row_236 rfl 0 rfl ?_
    refine V_iconst (v := 1) dX8_row_237 (by decide) ?_
    refine V_aload_n dX8_row_238 rfl 0 rfl ?_
    refine H_geti ck7 5 (by decide) (fs_115 hF) (by decide) rfl q1463 dX8_row_239 ?_
    refine H_callv (av := [.ref (ad D 115), .int 1, .int (h 115 5)]) (rest := []) H mqX8_stop q88 (by decide) (Nat.le_of_ble_eq_true rfl) (k_resV (ci := 7) (av := [.int 1, .int (h 115 5)]) (rest := []) (fs_115 hF) (by decide) rfl rfl q1751 q1753 qs31 q1754 mhX8_stop mnX8_stop dX8_row_242) (fun h2 g3 H => ?_)
    exact H_vret rfl dX8_row_245 H
abbrev JX8_row_221 (D : DE) (f : Nat) (Q : HI → HL → Prop) (F : Frm) (h : HI) (g : HL) (x2 : Int64) (s1 : Int32) : Prop := ∀ h1, h1 = up2 h 115 4 s1 → ∀ g3, g3 = up2 g 115 7 x2 → JX8_row_229 D f Q F h1 g3
theorem bX8_row_221 {D : DE} {f : Nat} {Q : HI → HL → Prop} {F : Frm} {h : HI} {g : HL} (hF : k_Fix F) (x2 : Int64) (s1 : Int32) (H : JX8_row_221 D f Q F h g x2 s1) : V D mX8_row (f + 1) (qv F Q) 221 [(0, .ref (ad D 115)), (2, .long x2)] [.int s1, .ref (ad D 115)] (F, h, g) := by
  refine H_puti ck7 4 (by decide) (fs_115 hF) (by decide) rfl rfl q1462 dX8_row_221 (fun h1 e2 => ?_)
  have H := H h1 e2
  refine V_aload_n dX8_row_224 rfl 0 rfl ?_
  refine V_lload_n dX8_row_225 rfl 1 rfl ?_
  refine H_putl ck7 7 (by decide) (fs_115 hF) (by decide) rfl rfl q1465 dX8_row_226 (fun g3 e4 => ?_)
  have H := H g3 e4
  refine V.sub [0] rfl ?_
  exact bX8_row_229 hF  H
abbrev JX8_row_195 (D : DE) (f : Nat) (Q : HI → HL → Prop) (F : Frm) (h : HI) (g : HL) (x2 : Int64) (x6 : Int32) (s0 : Int32) : Prop := ((s0 ≤ 0 → ((8 < x6 → JX8_row_221 D f Q F h g x2 0) ∧ (¬ 8 < x6 → JX8_row_221 D f Q F h g x2 10))) ∧ (¬ s0 ≤ 0 → JX8_row_221 D f Q F h g x2 s0))
theorem bX8_row_195 {D : DE} {f : Nat} {Q : HI → HL → Prop} {F : Frm} {h : HI} {g : HL} (hF : k_Fix F) (x2 : Int64) (x6 : Int32) (s0 : Int32) (H : JX8_row_195 D f Q F h g x2 x6 s0) : V D mX8_row (f + 1) (qv F Q) 195 [(0, .ref (ad D 115)), (2, .long x2), (6, .int x6)] [.int s0] (F, h, g) := by
  refine V_istore (l1 := [(7, .int s0), (0, .ref (ad D 115)), (2, .long x2), (6, .int x6)]) dX8_row_195 (by decide) rfl ?_
  refine V_aload_n dX8_row_197 rfl 1 rfl ?_
  refine V_iload dX8_row_198 0 rfl ?_
  refine V_if_le (tgt := 208) dX8_row_200 (by decide) (fun c1 => ?_) (fun c1 => ?_)
  · have H := H.1 c1
    refine V_iload dX8_row_208 3 rfl ?_
    refine V_bipush (v := 8) dX8_row_210 (by decide) ?_
    refine V_icmp_gt (tgt := 220) dX8_row_212 (by decide) (fun c2 => ?_) (fun c2 => ?_)
    · have H := H.1 c2
      refine V_iconst (v := 0) dX8_row_220 (by decide) ?_
      refine V.sub [1, 2] rfl ?_
      exact bX8_row_221 hF x2 0 H
    · have H := H.2 c2
      refine V_bipush (v := 10) dX8_row_215 (by decide) ?_
      refine V_goto (tgt := 221) dX8_row_217 (by decide) ?_
      refine V.sub [1, 2] rfl ?_
      exact bX8_row_221 hF x2 10 H
  · have H := H.2 c1
    refine V_iload dX8_row_203 0 rfl ?_
    refine V_goto (tgt := 221) dX8_row_205 (by decide) ?_
    refine V.sub [1, 2] rfl ?_
    exact bX8_row_221 hF x2 s0 H
abbrev JX8_row_168 (D : DE) (f : Nat) (Q : HI → HL → Prop) (F : Frm) (h : HI) (g : HL) (x4 : Int64) (s1 : Int32) : Prop := ∀ h1, h1 = up2 h 115 4 s1 → ∀ h3, h3 = up2 h1 115 8 x4.toInt32 → JX8_row_229 D f Q F h3 g
theorem bX8_row_168 {D : DE} {f : Nat} {Q : HI → HL → Prop} {F : Frm} {h : HI} {g : HL} (hF : k_Fix F) (x4 : Int64) (s1 : Int32) (H : JX8_row_168 D f Q F h g x4 s1) : V D mX8_row (f + 1) (qv F Q) 168 [(0, .ref (ad D 115)), (4, .long x4)] [.int s1, .ref (ad D 115)] (F, h, g) := by
  refine H_puti ck7 4 (by decide) (fs_115 hF) (by decide) rfl rfl q1462 dX8_row_168 (fun h1 e2 => ?_)
  have H := H h1 e2
  refine V_aload_n dX8_row_171 rfl 0 rfl ?_
  refine V_lload dX8_row_172 1 rfl ?_
  refine V_l2i dX8_row_174 ?_
  refine H_puti ck7 8 (by decide) (fs_115 hF) (by decide) rfl rfl q1466 dX8_row_175 (fun h3 e4 => ?_)
  have H := H h3 e4
  refine V_goto (tgt := 229) dX8_row_178 (by decide) ?_
  refine V.sub [0] rfl ?_
  exact bX8_row_229 hF  H
abbrev JX8_row_167 (D : DE) (f : Nat) (Q : HI → HL → Prop) (F : Frm) (h : HI) (g : HL) (x4 : Int64) : Prop := JX8_row_168 D f Q F h g x4 0
theorem bX8_row_167 {D : DE} {f : Nat} {Q : HI → HL → Prop} {F : Frm} {h : HI} {g : HL} (hF : k_Fix F) (x4 : Int64) (H : JX8_row_167 D f Q F h g x4) : V D mX8_row (f + 1) (qv F Q) 167 [(0, .ref (ad D 115)), (4, .long x4)] [.ref (ad D 115)] (F, h, g) := by
  refine V_iconst (v := 0) dX8_row_167 (by decide) ?_
  exact bX8_row_168 hF x4 0 H
abbrev JX8_row_124 (D : DE) (f : Nat) (Q : HI → HL → Prop) (F : Frm) (h : HI) (g : HL) (x1 : Int32) (x2 : Int64) (x4 : Int64) : Prop := ∀ y1 : Int32, y1 = (h 115 3) - (h 115 5) → vp_in (h 115 5) 4000 ∧ Si D f mX8_isDigit [.int (h 116 (ix (h 115 5)))] F h g (fun y6 h4 g5 => ((y6 = 0 → ((4 < y1 → JX8_row_195 D f Q F h4 g5 x2 y1 0) ∧ (¬ 4 < y1 → Si D f mX8_wordOf [.long x2] F h4 g5 (fun y11 h9 g10 => JX8_row_195 D f Q F h9 g10 x2 y1 y11)))) ∧ (¬ y6 = 0 → ((x1 = 0 → JX8_row_167 D f Q F h4 g5 x4) ∧ (¬ x1 = 0 → ((9 < y1 → JX8_row_167 D f Q F h4 g5 x4) ∧ (¬ 9 < y1 → JX8_row_168 D f Q F h4 g5 x4 11)))))))
theorem bX8_row_124 {D : DE} {f : Nat} {Q : HI → HL → Prop} {F : Frm} {h : HI} {g : HL} (hF : k_Fix F) (x1 : Int32) (x2 : Int64) (x4 : Int64) (H : JX8_row_124 D f Q F h g x1 x2 x4) : V D mX8_row (f + 1) (qv F Q) 124 [(0, .ref (ad D 115)), (1, .int x1), (2, .long x2), (4, .long x4)] [] (F, h, g) := by
  refine V_aload_n dX8_row_124 rfl 0 rfl ?_
  refine H_geti ck7 3 (by decide) (fs_115 hF) (by decide) rfl q1461 dX8_row_125 ?_
  refine V_aload_n dX8_row_128 rfl 0 rfl ?_
  refine H_geti ck7 5 (by decide) (fs_115 hF) (by decide) rfl q1463 dX8_row_129 ?_
  refine V_isub dX8_row_132 ?_
  refine V_topi (fun y1 e2 => ?_)
  have H := H y1 e2
  refine V_istore (l1 := [(6, .int y1), (0, .ref (ad D 115)), (1, .int x1), (2, .long x2), (4, .long x4)]) dX8_row_133 (by decide) rfl ?_
  refine V_aload_n dX8_row_135 rfl 1 rfl ?_
  refine H_getr ck7 1 (by decide) (fs_115 hF) (by decide) rfl (fr_115_1 hF) q1459 dX8_row_136 ?_
  refine V_aload_n dX8_row_139 rfl 1 rfl ?_
  refine H_geti ck7 5 (by decide) (fs_115 hF) (by decide) rfl q1463 dX8_row_140 ?_
  obtain ⟨i3, H⟩ := H
  refine H_iald (fs_116 hF) i3 dX8_row_143 ?_
  refine H_calli (av := [.int (h 116 (ix (h 115 5)))]) (rest := []) H mqX8_isDigit q88 (by decide) (Nat.le_of_ble_eq_true rfl) (k_resS (av := [.int (h 116 (ix (h 115 5)))]) (rest := []) (M1 := mX8_isDigit) rfl q1735 q1736 q88 mqX8_isDigit (fun _ _ h => mW_named h) mhX8_isDigit mnX8_isDigit dX8_row_144) (fun y6 h4 g5 H => ?_)
  refine V_if_eq (tgt := 181) dX8_row_147 (by decide) (fun c7 => ?_) (fun c7 => ?_)
  · have H := H.1 c7
    refine V_iload dX8_row_181 0 rfl ?_
    refine V_iconst (v := 4) dX8_row_183 (by decide) ?_
    refine V_icmp_gt (tgt := 194) dX8_row_184 (by decide) (fun c8 => ?_) (fun c8 => ?_)
    · have H := H.1 c8
      refine V_iconst (v := 0) dX8_row_194 (by decide) ?_
      refine V.sub [1, 3, 0] rfl ?_
      exact bX8_row_195 hF x2 y1 0 H
    · have H := H.2 c8
      refine V_lload_n dX8_row_187 rfl 3 rfl ?_
      refine H_calli (av := [.long x2]) (rest := []) H mqX8_wordOf q88 (by decide) (Nat.le_of_ble_eq_true rfl) (k_resS (av := [.long x2]) (rest := []) (M1 := mX8_wordOf) rfl q1745 q1746 q88 mqX8_wordOf (fun _ _ h => mW_named h) mhX8_wordOf mnX8_wordOf dX8_row_188) (fun y11 h9 g10 H => ?_)
      refine V_goto (tgt := 195) dX8_row_191 (by decide) ?_
      refine V.sub [1, 3, 0] rfl ?_
      exact bX8_row_195 hF x2 y1 y11 H
  · have H := H.2 c7
    refine V_aload_n dX8_row_150 rfl 1 rfl ?_
    refine V_iload_n dX8_row_151 rfl 2 rfl ?_
    refine V_if_eq (tgt := 167) dX8_row_152 (by decide) (fun c12 => ?_) (fun c12 => ?_)
    · have H := H.1 c12
      refine V.sub [1, 4] rfl ?_
      exact bX8_row_167 hF x4 H
    · have H := H.2 c12
      refine V_iload dX8_row_155 0 rfl ?_
      refine V_bipush (v := 9) dX8_row_157 (by decide) ?_
      refine V_icmp_gt (tgt := 167) dX8_row_159 (by decide) (fun c13 => ?_) (fun c13 => ?_)
      · have H := H.1 c13
        refine V.sub [1, 4] rfl ?_
        exact bX8_row_167 hF x4 H
      · have H := H.2 c13
        refine V_bipush (v := 11) dX8_row_162 (by decide) ?_
        refine V_goto (tgt := 168) dX8_row_164 (by decide) ?_
        refine V.sub [1, 4] rfl ?_
        exact bX8_row_168 hF x4 11 H
abbrev JX8_row_109 (D : DE) (f : Nat) (Q : HI → HL → Prop) (F : Frm) (h : HI) (g : HL) (x1 : Int32) (x2 : Int64) (s0 : Int64) : Prop := ∀ h1, h1 = up2 h 115 3 ((h 115 3) + 1) → V D mX8_row (f + 1) (qv F Q) 7 [(0, .ref (ad D 115)), (1, .int x1), (2, .long x2), (4, .long s0)] [] (F, h1, g)
theorem bX8_row_109 {D : DE} {f : Nat} {Q : HI → HL → Prop} {F : Frm} {h : HI} {g : HL} (hF : k_Fix F) (x1 : Int32) (x2 : Int64) (s0 : Int64) (H : JX8_row_109 D f Q F h g x1 x2 s0) : V D mX8_row (f + 1) (qv F Q) 109 [(0, .ref (ad D 115)), (1, .int x1), (2, .long x2)] [.long s0] (F, h, g) := by
  refine V_lstore (l1 := [(4, .long s0), (0, .ref (ad D 115)), (1, .int x1), (2, .long x2)]) dX8_row_109 (by decide) rfl ?_
  refine V_aload_n dX8_row_111 rfl 1 rfl ?_
  refine V_dup dX8_row_112 rfl ?_
  refine H_geti ck7 3 (by decide) (fs_115 hF) (by decide) rfl q1461 dX8_row_113 ?_
  refine V_iconst (v := 1) dX8_row_116 (by decide) ?_
  refine V_iadd dX8_row_117 ?_
  refine H_puti ck7 3 (by decide) (fs_115 hF) (by decide) rfl rfl q1461 dX8_row_118 (fun h1 e2 => ?_)
  have H := H h1 e2
  refine V_goto (tgt := 7) dX8_row_121 (by decide) ?_
  refine V.sub [1, 2, 3, 0] rfl ?_
  exact H
abbrev JX8_row_57 (D : DE) (f : Nat) (Q : HI → HL → Prop) (F : Frm) (h : HI) (g : HL) (x2 : Int64) (x4 : Int64) (s0 : Int32) : Prop := vp_in (h 115 3) 4000 ∧ ∀ y2 : Int64, y2 = (x2 <<< ((8 : Int32).toInt64 &&& 63)) ||| ((h 116 (ix (h 115 3))).toInt64) → (((lg_cmp x4 1000000000) ≤ 0 → vp_in (h 115 3) 4000 ∧ ∀ y6 : Int64, y6 = ((10 * x4) + ((h 116 (ix (h 115 3))).toInt64)) - 48 → JX8_row_109 D f Q F h g s0 y2 y6) ∧ (¬ (lg_cmp x4 1000000000) ≤ 0 → JX8_row_109 D f Q F h g s0 y2 x4))
theorem bX8_row_57 {D : DE} {f : Nat} {Q : HI → HL → Prop} {F : Frm} {h : HI} {g : HL} (hF : k_Fix F) (x2 : Int64) (x4 : Int64) (s0 : Int32) (H : JX8_row_57 D f Q F h g x2 x4 s0) : V D mX8_row (f + 1) (qv F Q) 57 [(0, .ref (ad D 115)), (2, .long x2), (4, .long x4)] [.int s0] (F, h, g) := by
  refine V_istore_n (l1 := [(1, .int s0), (0, .ref (ad D 115)), (2, .long x2), (4, .long x4)]) dX8_row_57 rfl (by decide) rfl ?_
  refine V_lload_n dX8_row_58 rfl 2 rfl ?_
  refine V_bipush (v := 8) dX8_row_59 (by decide) ?_
  refine V_lshl dX8_row_61 ?_
  refine V_aload_n dX8_row_62 rfl 1 rfl ?_
  refine H_getr ck7 1 (by decide) (fs_115 hF) (by decide) rfl (fr_115_1 hF) q1459 dX8_row_63 ?_
  refine V_aload_n dX8_row_66 rfl 1 rfl ?_
  refine H_geti ck7 3 (by decide) (fs_115 hF) (by decide) rfl q1461 dX8_row_67 ?_
  obtain ⟨i1, H⟩ := H
  refine H_iald (fs_116 hF) i1 dX8_row_70 ?_
  refine V_i2l dX8_row_71 ?_
  refine V_lor dX8_row_72 ?_
  refine V_topl (fun y2 e3 => ?_)
  have H := H y2 e3
  refine V_lstore_n (l1 := [(2, .long y2), (1, .int s0), (0, .ref (ad D 115)), (4, .long x4)]) dX8_row_73 rfl (by decide) rfl ?_
  refine V_lload dX8_row_74 3 rfl ?_
  refine V_ldc2 (v := 1000000000) dX8_row_76 q1742 ?_
  refine V_lcmp dX8_row_79 ?_
  refine V_if_le (tgt := 88) dX8_row_80 (by decide) (fun c4 => ?_) (fun c4 => ?_)
  · have H := H.1 c4
    refine V_ldc2 (v := 10) dX8_row_88 q1743 ?_
    refine V_lload dX8_row_91 3 rfl ?_
    refine V_lmul dX8_row_93 ?_
    refine V_aload_n dX8_row_94 rfl 2 rfl ?_
    refine H_getr ck7 1 (by decide) (fs_115 hF) (by decide) rfl (fr_115_1 hF) q1459 dX8_row_95 ?_
    refine V_aload_n dX8_row_98 rfl 2 rfl ?_
    refine H_geti ck7 3 (by decide) (fs_115 hF) (by decide) rfl q1461 dX8_row_99 ?_
    obtain ⟨i5, H⟩ := H
    refine H_iald (fs_116 hF) i5 dX8_row_102 ?_
    refine V_i2l dX8_row_103 ?_
    refine V_ladd dX8_row_104 ?_
    refine V_ldc2 (v := 48) dX8_row_105 q1744 ?_
    refine V_lsub dX8_row_108 ?_
    refine V_topl (fun y6 e7 => ?_)
    have H := H y6 e7
    refine V.sub [2, 1, 0] rfl ?_
    exact bX8_row_109 hF s0 y2 y6 H
  · have H := H.2 c4
    refine V_lload dX8_row_83 3 rfl ?_
    refine V_goto (tgt := 109) dX8_row_85 (by decide) ?_
    refine V.sub [2, 1, 0] rfl ?_
    exact bX8_row_109 hF s0 y2 x4 H
abbrev JX8_row_56 (D : DE) (f : Nat) (Q : HI → HL → Prop) (F : Frm) (h : HI) (g : HL) (x2 : Int64) (x4 : Int64) : Prop := JX8_row_57 D f Q F h g x2 x4 0
theorem bX8_row_56 {D : DE} {f : Nat} {Q : HI → HL → Prop} {F : Frm} {h : HI} {g : HL} (hF : k_Fix F) (x2 : Int64) (x4 : Int64) (H : JX8_row_56 D f Q F h g x2 x4) : V D mX8_row (f + 1) (qv F Q) 56 [(0, .ref (ad D 115)), (2, .long x2), (4, .long x4)] [] (F, h, g) := by
  refine V_iconst (v := 0) dX8_row_56 (by decide) ?_
  exact bX8_row_57 hF x2 x4 0 H
abbrev JX8_row_7 (D : DE) (f : Nat) (Q : HI → HL → Prop) (F : Frm) (h : HI) (g : HL) (x1 : Int32) (x2 : Int64) (x4 : Int64) : Prop := (((h 115 2) ≤ (h 115 3) → JX8_row_124 D f Q F h g x1 x2 x4) ∧ (¬ (h 115 2) ≤ (h 115 3) → vp_in (h 115 3) 4000 ∧ Si D f mX8_isRow [.int (h 116 (ix (h 115 3)))] F h g (fun y5 h3 g4 => ((y5 = 0 → JX8_row_124 D f Q F h3 g4 x1 x2 x4) ∧ (¬ y5 = 0 → ((x1 = 0 → JX8_row_56 D f Q F h3 g4 x2 x4) ∧ (¬ x1 = 0 → vp_in (h3 115 3) 4000 ∧ Si D f mX8_isDigit [.int (h3 116 (ix (h3 115 3)))] F h3 g4 (fun y11 h9 g10 => ((y11 = 0 → JX8_row_56 D f Q F h9 g10 x2 x4) ∧ (¬ y11 = 0 → JX8_row_57 D f Q F h9 g10 x2 x4 1))))))))))
theorem bX8_row_7 {D : DE} {f : Nat} {Q : HI → HL → Prop} {F : Frm} {h : HI} {g : HL} (hF : k_Fix F) (x1 : Int32) (x2 : Int64) (x4 : Int64) (H : JX8_row_7 D f Q F h g x1 x2 x4) : V D mX8_row (f + 1) (qv F Q) 7 [(0, .ref (ad D 115)), (1, .int x1), (2, .long x2), (4, .long x4)] [] (F, h, g) := by
  refine V_aload_n dX8_row_7 rfl 0 rfl ?_
  refine H_geti ck7 3 (by decide) (fs_115 hF) (by decide) rfl q1461 dX8_row_8 ?_
  refine V_aload_n dX8_row_11 rfl 0 rfl ?_
  refine H_geti ck7 2 (by decide) (fs_115 hF) (by decide) rfl q1460 dX8_row_12 ?_
  refine V_icmp_ge (tgt := 124) dX8_row_15 (by decide) (fun c1 => ?_) (fun c1 => ?_)
  · have H := H.1 c1
    exact bX8_row_124 hF x1 x2 x4 H
  · have H := H.2 c1
    refine V_aload_n dX8_row_18 rfl 0 rfl ?_
    refine H_getr ck7 1 (by decide) (fs_115 hF) (by decide) rfl (fr_115_1 hF) q1459 dX8_row_19 ?_
    refine V_aload_n dX8_row_22 rfl 0 rfl ?_
    refine H_geti ck7 3 (by decide) (fs_115 hF) (by decide) rfl q1461 dX8_row_23 ?_
    obtain ⟨i2, H⟩ := H
    refine H_iald (fs_116 hF) i2 dX8_row_26 ?_
    refine H_calli (av := [.int (h 116 (ix (h 115 3)))]) (rest := []) H mqX8_isRow q88 (by decide) (Nat.le_of_ble_eq_true rfl) (k_resS (av := [.int (h 116 (ix (h 115 3)))]) (rest := []) (M1 := mX8_isRow) rfl q1732 q1733 q88 mqX8_isRow (fun _ _ h => mW_named h) mhX8_isRow mnX8_isRow dX8_row_27) (fun y5 h3 g4 H => ?_)
    refine V_if_eq (tgt := 124) dX8_row_30 (by decide) (fun c6 => ?_) (fun c6 => ?_)
    · have H := H.1 c6
      exact bX8_row_124 hF x1 x2 x4 H
    · have H := H.2 c6
      refine V_iload_n dX8_row_33 rfl 1 rfl ?_
      refine V_if_eq (tgt := 56) dX8_row_34 (by decide) (fun c7 => ?_) (fun c7 => ?_)
      · have H := H.1 c7
        refine V.sub [0, 2, 3] rfl ?_
        exact bX8_row_56 hF x2 x4 H
      · have H := H.2 c7
        refine V_aload_n dX8_row_37 rfl 0 rfl ?_
        refine H_getr ck7 1 (by decide) (fs_115 hF) (by decide) rfl (fr_115_1 hF) q1459 dX8_row_38 ?_
        refine V_aload_n dX8_row_41 rfl 0 rfl ?_
        refine H_geti ck7 3 (by decide) (fs_115 hF) (by decide) rfl q1461 dX8_row_42 ?_
        obtain ⟨i8, H⟩ := H
        refine H_iald (fs_116 hF) i8 dX8_row_45 ?_
        refine H_calli (av := [.int (h3 116 (ix (h3 115 3)))]) (rest := []) H mqX8_isDigit q88 (by decide) (Nat.le_of_ble_eq_true rfl) (k_resS (av := [.int (h3 116 (ix (h3 115 3)))]) (rest := []) (M1 := mX8_isDigit) rfl q1735 q1736 q88 mqX8_isDigit (fun _ _ h => mW_named h) mhX8_isDigit mnX8_isDigit dX8_row_46) (fun y11 h9 g10 H => ?_)
        refine V_if_eq (tgt := 56) dX8_row_49 (by decide) (fun c12 => ?_) (fun c12 => ?_)
        · have H := H.1 c12
          refine V.sub [0, 2, 3] rfl ?_
          exact bX8_row_56 hF x2 x4 H
        · have H := H.2 c12
          refine V_iconst (v := 1) dX8_row_52 (by decide) ?_
          refine V_goto (tgt := 57) dX8_row_53 (by decide) ?_
          refine V.sub [0, 2, 3] rfl ?_
          exact bX8_row_57 hF x2 x4 1 H
abbrev JX8_row_0 (D : DE) (f : Nat) (Q : HI → HL → Prop) (F : Frm) (h : HI) (g : HL) : Prop := V D mX8_row (f + 1) (qv F Q) 7 [(0, .ref (ad D 115)), (1, .int 1), (2, .long 0), (4, .long 0)] [] (F, h, g)
theorem bX8_row_0 {D : DE} {f : Nat} {Q : HI → HL → Prop} {F : Frm} {h : HI} {g : HL} (hF : k_Fix F)  (H : JX8_row_0 D f Q F h g ) : V D mX8_row (f + 1) (qv F Q) 0 [(0, .ref (ad D 115))] [] (F, h, g) := by
  refine V_iconst (v := 1) dX8_row_0 (by decide) ?_
  refine V_istore_n (l1 := [(1, .int 1), (0, .ref (ad D 115))]) dX8_row_1 rfl (by decide) rfl ?_
  refine V_lconst (v := 0) dX8_row_2 (by decide) ?_
  refine V_lstore_n (l1 := [(2, .long 0), (1, .int 1), (0, .ref (ad D 115))]) dX8_row_3 rfl (by decide) rfl ?_
  refine V_lconst (v := 0) dX8_row_4 (by decide) ?_
  refine V_lstore (l1 := [(4, .long 0), (2, .long 0), (1, .int 1), (0, .ref (ad D 115))]) dX8_row_5 (by decide) rfl ?_
  refine V.sub [3, 2, 1, 0] rfl ?_
  exact H
theorem wX8_row {D : DE} {f : Nat} {Q : HI → HL → Prop} {F : Frm} {h : HI} {g : HL} (hF : k_Fix F)  (H : JX8_row_0 D f Q F h g ) : Sv D (f + 1) mX8_row [.ref (ad D 115)] F h g Q := Cl.ofV (by decide) (Nat.le_of_ble_eq_true rfl) rfl (bX8_row_0 hF  H)
theorem dX8_next_0 : decode cX8_next 0 = .ok (.aload_n 0, 1) := by decide +kernel
theorem dX8_next_1 : decode cX8_next 1 = .ok (.getfield 187, 3) := by decide +kernel
theorem dX8_next_4 : decode cX8_next 4 = .ok (.aload_n 0, 1) := by decide +kernel
theorem dX8_next_5 : decode cX8_next 5 = .ok (.getfield 151, 3) := by decide +kernel
theorem dX8_next_8 : decode cX8_next 8 = .ok (.if_icmp .ge 44, 3) := by decide +kernel
theorem dX8_next_11 : decode cX8_next 11 = .ok (.aload_n 0, 1) := by decide +kernel
theorem dX8_next_12 : decode cX8_next 12 = .ok (.getfield 7, 3) := by decide +kernel
theorem dX8_next_15 : decode cX8_next 15 = .ok (.aload_n 0, 1) := by decide +kernel
theorem dX8_next_16 : decode cX8_next 16 = .ok (.getfield 187, 3) := by decide +kernel
theorem dX8_next_19 : decode cX8_next 19 = .ok (.iaload, 1) := by decide +kernel
theorem dX8_next_20 : decode cX8_next 20 = .ok (.bipush 32, 2) := by decide +kernel
theorem dX8_next_22 : decode cX8_next 22 = .ok (.if_icmp .eq 17, 3) := by decide +kernel
theorem dX8_next_25 : decode cX8_next 25 = .ok (.aload_n 0, 1) := by decide +kernel
theorem dX8_next_26 : decode cX8_next 26 = .ok (.getfield 7, 3) := by decide +kernel
theorem dX8_next_29 : decode cX8_next 29 = .ok (.aload_n 0, 1) := by decide +kernel
theorem dX8_next_30 : decode cX8_next 30 = .ok (.getfield 187, 3) := by decide +kernel
theorem dX8_next_33 : decode cX8_next 33 = .ok (.iaload, 1) := by decide +kernel
theorem dX8_next_34 : decode cX8_next 34 = .ok (.bipush 10, 2) := by decide +kernel
theorem dX8_next_36 : decode cX8_next 36 = .ok (.if_icmp .ne 16, 3) := by decide +kernel
theorem dX8_next_39 : decode cX8_next 39 = .ok (.aload_n 0, 1) := by decide +kernel
theorem dX8_next_40 : decode cX8_next 40 = .ok (.dup, 1) := by decide +kernel
theorem dX8_next_41 : decode cX8_next 41 = .ok (.getfield 187, 3) := by decide +kernel
theorem dX8_next_44 : decode cX8_next 44 = .ok (.iconst 1, 1) := by decide +kernel
theorem dX8_next_45 : decode cX8_next 45 = .ok (.iadd, 1) := by decide +kernel
theorem dX8_next_46 : decode cX8_next 46 = .ok (.putfield 187, 3) := by decide +kernel
theorem dX8_next_49 : decode cX8_next 49 = .ok (.goto (-49), 3) := by decide +kernel
theorem dX8_next_52 : decode cX8_next 52 = .ok (.aload_n 0, 1) := by decide +kernel
theorem dX8_next_53 : decode cX8_next 53 = .ok (.aload_n 0, 1) := by decide +kernel
theorem dX8_next_54 : decode cX8_next 54 = .ok (.getfield 187, 3) := by decide +kernel
theorem dX8_next_57 : decode cX8_next 57 = .ok (.putfield 190, 3) := by decide +kernel
theorem dX8_next_60 : decode cX8_next 60 = .ok (.aload_n 0, 1) := by decide +kernel
theorem dX8_next_61 : decode cX8_next 61 = .ok (.getfield 187, 3) := by decide +kernel
theorem dX8_next_64 : decode cX8_next 64 = .ok (.aload_n 0, 1) := by decide +kernel
theorem dX8_next_65 : decode cX8_next 65 = .ok (.getfield 151, 3) := by decide +kernel
theorem dX8_next_68 : decode cX8_next 68 = .ok (.if_icmp .ne 10, 3) := by decide +kernel
theorem dX8_next_71 : decode cX8_next 71 = .ok (.aload_n 0, 1) := by decide +kernel
theorem dX8_next_72 : decode cX8_next 72 = .ok (.bipush 23, 2) := by decide +kernel
theorem dX8_next_74 : decode cX8_next 74 = .ok (.putfield 193, 3) := by decide +kernel
theorem dX8_next_77 : decode cX8_next 77 = .ok (.return_, 1) := by decide +kernel
theorem dX8_next_78 : decode cX8_next 78 = .ok (.aload_n 0, 1) := by decide +kernel
theorem dX8_next_79 : decode cX8_next 79 = .ok (.dup, 1) := by decide +kernel
theorem dX8_next_80 : decode cX8_next 80 = .ok (.getfield 196, 3) := by decide +kernel
theorem dX8_next_83 : decode cX8_next 83 = .ok (.iconst 1, 1) := by decide +kernel
theorem dX8_next_84 : decode cX8_next 84 = .ok (.iadd, 1) := by decide +kernel
theorem dX8_next_85 : decode cX8_next 85 = .ok (.putfield 196, 3) := by decide +kernel
theorem dX8_next_88 : decode cX8_next 88 = .ok (.aload_n 0, 1) := by decide +kernel
theorem dX8_next_89 : decode cX8_next 89 = .ok (.getfield 7, 3) := by decide +kernel
theorem dX8_next_92 : decode cX8_next 92 = .ok (.aload_n 0, 1) := by decide +kernel
theorem dX8_next_93 : decode cX8_next 93 = .ok (.getfield 187, 3) := by decide +kernel
theorem dX8_next_96 : decode cX8_next 96 = .ok (.iaload, 1) := by decide +kernel
theorem dX8_next_97 : decode cX8_next 97 = .ok (.istore_n 1, 1) := by decide +kernel
theorem dX8_next_98 : decode cX8_next 98 = .ok (.iload_n 1, 1) := by decide +kernel
theorem dX8_next_99 : decode cX8_next 99 = .ok (.invokestatic 199, 3) := by decide +kernel
theorem dX8_next_102 : decode cX8_next 102 = .ok (.ifCond .eq 8, 3) := by decide +kernel
theorem dX8_next_105 : decode cX8_next 105 = .ok (.aload_n 0, 1) := by decide +kernel
theorem dX8_next_106 : decode cX8_next 106 = .ok (.invokevirtual 202, 3) := by decide +kernel
theorem dX8_next_109 : decode cX8_next 109 = .ok (.return_, 1) := by decide +kernel
theorem dX8_next_110 : decode cX8_next 110 = .ok (.aload_n 0, 1) := by decide +kernel
theorem dX8_next_111 : decode cX8_next 111 = .ok (.dup, 1) := by decide +kernel
theorem dX8_next_112 : decode cX8_next 112 = .ok (.getfield 187, 3) := by decide +kernel
theorem dX8_next_115 : decode cX8_next 115 = .ok (.iconst 1, 1) := by decide +kernel
theorem dX8_next_116 : decode cX8_next 116 = .ok (.iadd, 1) := by decide +kernel
theorem dX8_next_117 : decode cX8_next 117 = .ok (.putfield 187, 3) := by decide +kernel
theorem dX8_next_120 : decode cX8_next 120 = .ok (.iload_n 1, 1) := by decide +kernel
theorem dX8_next_121 : decode cX8_next 121 = .ok (.bipush 61, 2) := by decide +kernel
theorem dX8_next_123 : decode cX8_next 123 = .ok (.if_icmp .ne 45, 3) := by decide +kernel
theorem dX8_next_126 : decode cX8_next 126 = .ok (.aload_n 0, 1) := by decide +kernel
theorem dX8_next_127 : decode cX8_next 127 = .ok (.getfield 187, 3) := by decide +kernel
theorem dX8_next_130 : decode cX8_next 130 = .ok (.aload_n 0, 1) := by decide +kernel
theorem dX8_next_131 : decode cX8_next 131 = .ok (.getfield 151, 3) := by decide +kernel
theorem dX8_next_134 : decode cX8_next 134 = .ok (.if_icmp .ge 34, 3) := by decide +kernel
theorem dX8_next_137 : decode cX8_next 137 = .ok (.aload_n 0, 1) := by decide +kernel
theorem dX8_next_138 : decode cX8_next 138 = .ok (.getfield 7, 3) := by decide +kernel
theorem dX8_next_141 : decode cX8_next 141 = .ok (.aload_n 0, 1) := by decide +kernel
theorem dX8_next_142 : decode cX8_next 142 = .ok (.getfield 187, 3) := by decide +kernel
theorem dX8_next_145 : decode cX8_next 145 = .ok (.iaload, 1) := by decide +kernel
theorem dX8_next_146 : decode cX8_next 146 = .ok (.bipush 61, 2) := by decide +kernel
theorem dX8_next_148 : decode cX8_next 148 = .ok (.if_icmp .ne 20, 3) := by decide +kernel
theorem dX8_next_151 : decode cX8_next 151 = .ok (.aload_n 0, 1) := by decide +kernel
theorem dX8_next_152 : decode cX8_next 152 = .ok (.dup, 1) := by decide +kernel
theorem dX8_next_153 : decode cX8_next 153 = .ok (.getfield 187, 3) := by decide +kernel
theorem dX8_next_156 : decode cX8_next 156 = .ok (.iconst 1, 1) := by decide +kernel
theorem dX8_next_157 : decode cX8_next 157 = .ok (.iadd, 1) := by decide +kernel
theorem dX8_next_158 : decode cX8_next 158 = .ok (.putfield 187, 3) := by decide +kernel
theorem dX8_next_161 : decode cX8_next 161 = .ok (.aload_n 0, 1) := by decide +kernel
theorem dX8_next_162 : decode cX8_next 162 = .ok (.bipush 12, 2) := by decide +kernel
theorem dX8_next_164 : decode cX8_next 164 = .ok (.putfield 193, 3) := by decide +kernel
theorem dX8_next_167 : decode cX8_next 167 = .ok (.return_, 1) := by decide +kernel
theorem dX8_next_168 : decode cX8_next 168 = .ok (.aload_n 0, 1) := by decide +kernel
theorem dX8_next_169 : decode cX8_next 169 = .ok (.iload_n 1, 1) := by decide +kernel
theorem dX8_next_170 : decode cX8_next 170 = .ok (.bipush 61, 2) := by decide +kernel
theorem dX8_next_172 : decode cX8_next 172 = .ok (.if_icmp .ne 8, 3) := by decide +kernel
theorem dX8_next_175 : decode cX8_next 175 = .ok (.bipush 13, 2) := by decide +kernel
theorem dX8_next_177 : decode cX8_next 177 = .ok (.goto 103, 3) := by decide +kernel
theorem dX8_next_180 : decode cX8_next 180 = .ok (.iload_n 1, 1) := by decide +kernel
theorem dX8_next_181 : decode cX8_next 181 = .ok (.bipush 40, 2) := by decide +kernel
theorem dX8_next_183 : decode cX8_next 183 = .ok (.if_icmp .ne 8, 3) := by decide +kernel
theorem dX8_next_186 : decode cX8_next 186 = .ok (.bipush 14, 2) := by decide +kernel
theorem dX8_next_188 : decode cX8_next 188 = .ok (.goto 92, 3) := by decide +kernel
theorem dX8_next_191 : decode cX8_next 191 = .ok (.iload_n 1, 1) := by decide +kernel
theorem dX8_next_192 : decode cX8_next 192 = .ok (.bipush 41, 2) := by decide +kernel
theorem dX8_next_194 : decode cX8_next 194 = .ok (.if_icmp .ne 8, 3) := by decide +kernel
theorem dX8_next_197 : decode cX8_next 197 = .ok (.bipush 15, 2) := by decide +kernel
theorem dX8_next_199 : decode cX8_next 199 = .ok (.goto 81, 3) := by decide +kernel
theorem dX8_next_202 : decode cX8_next 202 = .ok (.iload_n 1, 1) := by decide +kernel
theorem dX8_next_203 : decode cX8_next 203 = .ok (.bipush 44, 2) := by decide +kernel
theorem dX8_next_205 : decode cX8_next 205 = .ok (.if_icmp .ne 8, 3) := by decide +kernel
theorem dX8_next_208 : decode cX8_next 208 = .ok (.bipush 16, 2) := by decide +kernel
theorem dX8_next_210 : decode cX8_next 210 = .ok (.goto 70, 3) := by decide +kernel
theorem dX8_next_213 : decode cX8_next 213 = .ok (.iload_n 1, 1) := by decide +kernel
theorem dX8_next_214 : decode cX8_next 214 = .ok (.bipush 59, 2) := by decide +kernel
theorem dX8_next_216 : decode cX8_next 216 = .ok (.if_icmp .ne 8, 3) := by decide +kernel
theorem dX8_next_219 : decode cX8_next 219 = .ok (.bipush 17, 2) := by decide +kernel
theorem dX8_next_221 : decode cX8_next 221 = .ok (.goto 59, 3) := by decide +kernel
theorem dX8_next_224 : decode cX8_next 224 = .ok (.iload_n 1, 1) := by decide +kernel
theorem dX8_next_225 : decode cX8_next 225 = .ok (.bipush 58, 2) := by decide +kernel
theorem dX8_next_227 : decode cX8_next 227 = .ok (.if_icmp .ne 8, 3) := by decide +kernel
theorem dX8_next_230 : decode cX8_next 230 = .ok (.bipush 18, 2) := by decide +kernel
theorem dX8_next_232 : decode cX8_next 232 = .ok (.goto 48, 3) := by decide +kernel
theorem dX8_next_235 : decode cX8_next 235 = .ok (.iload_n 1, 1) := by decide +kernel
theorem dX8_next_236 : decode cX8_next 236 = .ok (.bipush 43, 2) := by decide +kernel
theorem dX8_next_238 : decode cX8_next 238 = .ok (.if_icmp .ne 8, 3) := by decide +kernel
theorem dX8_next_241 : decode cX8_next 241 = .ok (.bipush 19, 2) := by decide +kernel
theorem dX8_next_243 : decode cX8_next 243 = .ok (.goto 37, 3) := by decide +kernel
theorem dX8_next_246 : decode cX8_next 246 = .ok (.iload_n 1, 1) := by decide +kernel
theorem dX8_next_247 : decode cX8_next 247 = .ok (.bipush 45, 2) := by decide +kernel
theorem dX8_next_249 : decode cX8_next 249 = .ok (.if_icmp .ne 8, 3) := by decide +kernel
theorem dX8_next_252 : decode cX8_next 252 = .ok (.bipush 20, 2) := by decide +kernel
theorem dX8_next_254 : decode cX8_next 254 = .ok (.goto 26, 3) := by decide +kernel
theorem dX8_next_257 : decode cX8_next 257 = .ok (.iload_n 1, 1) := by decide +kernel
theorem dX8_next_258 : decode cX8_next 258 = .ok (.bipush 42, 2) := by decide +kernel
theorem dX8_next_260 : decode cX8_next 260 = .ok (.if_icmp .ne 8, 3) := by decide +kernel
theorem dX8_next_263 : decode cX8_next 263 = .ok (.bipush 21, 2) := by decide +kernel
theorem dX8_next_265 : decode cX8_next 265 = .ok (.goto 15, 3) := by decide +kernel
theorem dX8_next_268 : decode cX8_next 268 = .ok (.iload_n 1, 1) := by decide +kernel
theorem dX8_next_269 : decode cX8_next 269 = .ok (.bipush 60, 2) := by decide +kernel
theorem dX8_next_271 : decode cX8_next 271 = .ok (.if_icmp .ne 8, 3) := by decide +kernel
theorem dX8_next_274 : decode cX8_next 274 = .ok (.bipush 22, 2) := by decide +kernel
theorem dX8_next_276 : decode cX8_next 276 = .ok (.goto 4, 3) := by decide +kernel
theorem dX8_next_279 : decode cX8_next 279 = .ok (.iconst 0, 1) := by decide +kernel
theorem dX8_next_280 : decode cX8_next 280 = .ok (.putfield 193, 3) := by decide +kernel
theorem dX8_next_283 : decode cX8_next 283 = .ok (.aload_n 0, 1) := by decide +kernel
theorem dX8_next_284 : decode cX8_next 284 = .ok (.getfield 193, 3) := by decide +kernel
theorem dX8_next_287 : decode cX8_next 287 = .ok (.ifCond .ne 12, 3) := by decide +kernel
theorem dX8_next_290 : decode cX8_next 290 = .ok (.aload_n 0, 1) := by decide +kernel
theorem dX8_next_291 : decode cX8_next 291 = .ok (.iconst 1, 1) := by decide +kernel
theorem dX8_next_292 : decode cX8_next 292 = .ok (.aload_n 0, 1) := by decide +kernel
theorem dX8_next_293 : decode cX8_next 293 = .ok (.getfield 190, 3) := by decide +kernel
theorem dX8_next_296 : decode cX8_next 296 = .ok (.invokevirtual 205, 3) := by decide +kernel
theorem dX8_next_299 : decode cX8_next 299 = .ok (.return_, 1) := by decide +kernel
abbrev JX8_next_280 (D : DE) (f : Nat) (Q : HI → HL → Prop) (F : Frm) (h : HI) (g : HL) (s1 : Int32) : Prop := ∀ h1, h1 = up2 h 115 4 s1 → ((¬ (h1 115 4) = 0 → Q h1 g) ∧ ((h1 115 4) = 0 → Sv D f mX8_stop [.ref (ad D 115), .int 1, .int (h1 115 5)] F h1 g (fun h4 g5 => Q h4 g5)))
theorem bX8_next_280 {D : DE} {f : Nat} {Q : HI → HL → Prop} {F : Frm} {h : HI} {g : HL} (hF : k_Fix F) (s1 : Int32) (H : JX8_next_280 D f Q F h g s1) : V D mX8_next (f + 1) (qv F Q) 280 [(0, .ref (ad D 115))] [.int s1, .ref (ad D 115)] (F, h, g) := by
  refine H_puti ck7 4 (by decide) (fs_115 hF) (by decide) rfl rfl q1462 dX8_next_280 (fun h1 e2 => ?_)
  have H := H h1 e2
  refine V_aload_n dX8_next_283 rfl 0 rfl ?_
  refine H_geti ck7 4 (by decide) (fs_115 hF) (by decide) rfl q1462 dX8_next_284 ?_
  refine V_if_ne (tgt := 299) dX8_next_287 (by decide) (fun c3 => ?_) (fun c3 => ?_)
  · have H := H.1 c3
    exact H_vret rfl dX8_next_299 H
  · have H := H.2 c3
    refine V_aload_n dX8_next_290 rfl 0 rfl ?_
    refine V_iconst (v := 1) dX8_next_291 (by decide) ?_
    refine V_aload_n dX8_next_292 rfl 0 rfl ?_
    refine H_geti ck7 5 (by decide) (fs_115 hF) (by decide) rfl q1463 dX8_next_293 ?_
    refine H_callv (av := [.ref (ad D 115), .int 1, .int (h1 115 5)]) (rest := []) H mqX8_stop q88 (by decide) (Nat.le_of_ble_eq_true rfl) (k_resV (ci := 7) (av := [.int 1, .int (h1 115 5)]) (rest := []) (fs_115 hF) (by decide) rfl rfl q1751 q1753 qs31 q1754 mhX8_stop mnX8_stop dX8_next_296) (fun h4 g5 H => ?_)
    exact H_vret rfl dX8_next_299 H
abbrev JX8_next_168 (D : DE) (f : Nat) (Q : HI → HL → Prop) (F : Frm) (h : HI) (g : HL) (x1 : Int32) : Prop := ((¬ x1 = 61 → ((¬ x1 = 40 → ((¬ x1 = 41 → ((¬ x1 = 44 → ((¬ x1 = 59 → ((¬ x1 = 58 → ((¬ x1 = 43 → ((¬ x1 = 45 → ((¬ x1 = 42 → ((¬ x1 = 60 → JX8_next_280 D f Q F h g 0) ∧ (x1 = 60 → JX8_next_280 D f Q F h g 22))) ∧ (x1 = 42 → JX8_next_280 D f Q F h g 21))) ∧ (x1 = 45 → JX8_next_280 D f Q F h g 20))) ∧ (x1 = 43 → JX8_next_280 D f Q F h g 19))) ∧ (x1 = 58 → JX8_next_280 D f Q F h g 18))) ∧ (x1 = 59 → JX8_next_280 D f Q F h g 17))) ∧ (x1 = 44 → JX8_next_280 D f Q F h g 16))) ∧ (x1 = 41 → JX8_next_280 D f Q F h g 15))) ∧ (x1 = 40 → JX8_next_280 D f Q F h g 14))) ∧ (x1 = 61 → JX8_next_280 D f Q F h g 13))
theorem bX8_next_168 {D : DE} {f : Nat} {Q : HI → HL → Prop} {F : Frm} {h : HI} {g : HL} (hF : k_Fix F) (x1 : Int32) (H : JX8_next_168 D f Q F h g x1) : V D mX8_next (f + 1) (qv F Q) 168 [(0, .ref (ad D 115)), (1, .int x1)] [] (F, h, g) := by
  refine V_aload_n dX8_next_168 rfl 0 rfl ?_
  refine V_iload_n dX8_next_169 rfl 1 rfl ?_
  refine V_bipush (v := 61) dX8_next_170 (by decide) ?_
  refine V_icmp_ne (tgt := 180) dX8_next_172 (by decide) (fun c1 => ?_) (fun c1 => ?_)
  · have H := H.1 c1
    refine V_iload_n dX8_next_180 rfl 1 rfl ?_
    refine V_bipush (v := 40) dX8_next_181 (by decide) ?_
    refine V_icmp_ne (tgt := 191) dX8_next_183 (by decide) (fun c2 => ?_) (fun c2 => ?_)
    · have H := H.1 c2
      refine V_iload_n dX8_next_191 rfl 1 rfl ?_
      refine V_bipush (v := 41) dX8_next_192 (by decide) ?_
      refine V_icmp_ne (tgt := 202) dX8_next_194 (by decide) (fun c3 => ?_) (fun c3 => ?_)
      · have H := H.1 c3
        refine V_iload_n dX8_next_202 rfl 1 rfl ?_
        refine V_bipush (v := 44) dX8_next_203 (by decide) ?_
        refine V_icmp_ne (tgt := 213) dX8_next_205 (by decide) (fun c4 => ?_) (fun c4 => ?_)
        · have H := H.1 c4
          refine V_iload_n dX8_next_213 rfl 1 rfl ?_
          refine V_bipush (v := 59) dX8_next_214 (by decide) ?_
          refine V_icmp_ne (tgt := 224) dX8_next_216 (by decide) (fun c5 => ?_) (fun c5 => ?_)
          · have H := H.1 c5
            refine V_iload_n dX8_next_224 rfl 1 rfl ?_
            refine V_bipush (v := 58) dX8_next_225 (by decide) ?_
            refine V_icmp_ne (tgt := 235) dX8_next_227 (by decide) (fun c6 => ?_) (fun c6 => ?_)
            · have H := H.1 c6
              refine V_iload_n dX8_next_235 rfl 1 rfl ?_
              refine V_bipush (v := 43) dX8_next_236 (by decide) ?_
              refine V_icmp_ne (tgt := 246) dX8_next_238 (by decide) (fun c7 => ?_) (fun c7 => ?_)
              · have H := H.1 c7
                refine V_iload_n dX8_next_246 rfl 1 rfl ?_
                refine V_bipush (v := 45) dX8_next_247 (by decide) ?_
                refine V_icmp_ne (tgt := 257) dX8_next_249 (by decide) (fun c8 => ?_) (fun c8 => ?_)
                · have H := H.1 c8
                  refine V_iload_n dX8_next_257 rfl 1 rfl ?_
                  refine V_bipush (v := 42) dX8_next_258 (by decide) ?_
                  refine V_icmp_ne (tgt := 268) dX8_next_260 (by decide) (fun c9 => ?_) (fun c9 => ?_)
                  · have H := H.1 c9
                    refine V_iload_n dX8_next_268 rfl 1 rfl ?_
                    refine V_bipush (v := 60) dX8_next_269 (by decide) ?_
                    refine V_icmp_ne (tgt := 279) dX8_next_271 (by decide) (fun c10 => ?_) (fun c10 => ?_)
                    · have H := H.1 c10
                      refine V_iconst (v := 0) dX8_next_279 (by decide) ?_
                      refine V.sub [0] rfl ?_
                      exact bX8_next_280 hF 0 H
                    · have H := H.2 c10
                      refine V_bipush (v := 22) dX8_next_274 (by decide) ?_
                      refine V_goto (tgt := 280) dX8_next_276 (by decide) ?_
                      refine V.sub [0] rfl ?_
                      exact bX8_next_280 hF 22 H
                  · have H := H.2 c9
                    refine V_bipush (v := 21) dX8_next_263 (by decide) ?_
                    refine V_goto (tgt := 280) dX8_next_265 (by decide) ?_
                    refine V.sub [0] rfl ?_
                    exact bX8_next_280 hF 21 H
                · have H := H.2 c8
                  refine V_bipush (v := 20) dX8_next_252 (by decide) ?_
                  refine V_goto (tgt := 280) dX8_next_254 (by decide) ?_
                  refine V.sub [0] rfl ?_
                  exact bX8_next_280 hF 20 H
              · have H := H.2 c7
                refine V_bipush (v := 19) dX8_next_241 (by decide) ?_
                refine V_goto (tgt := 280) dX8_next_243 (by decide) ?_
                refine V.sub [0] rfl ?_
                exact bX8_next_280 hF 19 H
            · have H := H.2 c6
              refine V_bipush (v := 18) dX8_next_230 (by decide) ?_
              refine V_goto (tgt := 280) dX8_next_232 (by decide) ?_
              refine V.sub [0] rfl ?_
              exact bX8_next_280 hF 18 H
          · have H := H.2 c5
            refine V_bipush (v := 17) dX8_next_219 (by decide) ?_
            refine V_goto (tgt := 280) dX8_next_221 (by decide) ?_
            refine V.sub [0] rfl ?_
            exact bX8_next_280 hF 17 H
        · have H := H.2 c4
          refine V_bipush (v := 16) dX8_next_208 (by decide) ?_
          refine V_goto (tgt := 280) dX8_next_210 (by decide) ?_
          refine V.sub [0] rfl ?_
          exact bX8_next_280 hF 16 H
      · have H := H.2 c3
        refine V_bipush (v := 15) dX8_next_197 (by decide) ?_
        refine V_goto (tgt := 280) dX8_next_199 (by decide) ?_
        refine V.sub [0] rfl ?_
        exact bX8_next_280 hF 15 H
    · have H := H.2 c2
      refine V_bipush (v := 14) dX8_next_186 (by decide) ?_
      refine V_goto (tgt := 280) dX8_next_188 (by decide) ?_
      refine V.sub [0] rfl ?_
      exact bX8_next_280 hF 14 H
  · have H := H.2 c1
    refine V_bipush (v := 13) dX8_next_175 (by decide) ?_
    refine V_goto (tgt := 280) dX8_next_177 (by decide) ?_
    refine V.sub [0] rfl ?_
    exact bX8_next_280 hF 13 H
abbrev JX8_next_52 (D : DE) (f : Nat) (Q : HI → HL → Prop) (F : Frm) (h : HI) (g : HL) : Prop := ∀ h1, h1 = up2 h 115 5 (h 115 3) → ((¬ (h1 115 3) = (h1 115 2) → ∀ h4, h4 = up2 h1 115 6 ((h1 115 6) + 1) → vp_in (h4 115 3) 4000 ∧ ∀ y7 : Int32, y7 = h4 116 (ix (h4 115 3)) → Si D f mX8_isRow [.int y7] F h4 g (fun y11 h9 g10 => ((y11 = 0 → ∀ h13, h13 = up2 h9 115 3 ((h9 115 3) + 1) → ((¬ y7 = 61 → JX8_next_168 D f Q F h13 g10 y7) ∧ (y7 = 61 → (((h13 115 2) ≤ (h13 115 3) → JX8_next_168 D f Q F h13 g10 y7) ∧ (¬ (h13 115 2) ≤ (h13 115 3) → vp_in (h13 115 3) 4000 ∧ ((¬ (h13 116 (ix (h13 115 3))) = 61 → JX8_next_168 D f Q F h13 g10 y7) ∧ ((h13 116 (ix (h13 115 3))) = 61 → ∀ h19, h19 = up2 h13 115 3 ((h13 115 3) + 1) → ∀ h21, h21 = up2 h19 115 4 12 → Q h21 g10))))))) ∧ (¬ y11 = 0 → Sv D f mX8_row [.ref (ad D 115)] F h9 g10 (fun h23 g24 => Q h23 g24))))) ∧ ((h1 115 3) = (h1 115 2) → ∀ h25, h25 = up2 h1 115 4 23 → Q h25 g))
theorem bX8_next_52 {D : DE} {f : Nat} {Q : HI → HL → Prop} {F : Frm} {h : HI} {g : HL} (hF : k_Fix F)  (H : JX8_next_52 D f Q F h g ) : V D mX8_next (f + 1) (qv F Q) 52 [(0, .ref (ad D 115))] [] (F, h, g) := by
  refine V_aload_n dX8_next_52 rfl 0 rfl ?_
  refine V_aload_n dX8_next_53 rfl 0 rfl ?_
  refine H_geti ck7 3 (by decide) (fs_115 hF) (by decide) rfl q1461 dX8_next_54 ?_
  refine H_puti ck7 5 (by decide) (fs_115 hF) (by decide) rfl rfl q1463 dX8_next_57 (fun h1 e2 => ?_)
  have H := H h1 e2
  refine V_aload_n dX8_next_60 rfl 0 rfl ?_
  refine H_geti ck7 3 (by decide) (fs_115 hF) (by decide) rfl q1461 dX8_next_61 ?_
  refine V_aload_n dX8_next_64 rfl 0 rfl ?_
  refine H_geti ck7 2 (by decide) (fs_115 hF) (by decide) rfl q1460 dX8_next_65 ?_
  refine V_icmp_ne (tgt := 78) dX8_next_68 (by decide) (fun c3 => ?_) (fun c3 => ?_)
  · have H := H.1 c3
    refine V_aload_n dX8_next_78 rfl 0 rfl ?_
    refine V_dup dX8_next_79 rfl ?_
    refine H_geti ck7 6 (by decide) (fs_115 hF) (by decide) rfl q1464 dX8_next_80 ?_
    refine V_iconst (v := 1) dX8_next_83 (by decide) ?_
    refine V_iadd dX8_next_84 ?_
    refine H_puti ck7 6 (by decide) (fs_115 hF) (by decide) rfl rfl q1464 dX8_next_85 (fun h4 e5 => ?_)
    have H := H h4 e5
    refine V_aload_n dX8_next_88 rfl 0 rfl ?_
    refine H_getr ck7 1 (by decide) (fs_115 hF) (by decide) rfl (fr_115_1 hF) q1459 dX8_next_89 ?_
    refine V_aload_n dX8_next_92 rfl 0 rfl ?_
    refine H_geti ck7 3 (by decide) (fs_115 hF) (by decide) rfl q1461 dX8_next_93 ?_
    obtain ⟨i6, H⟩ := H
    refine H_iald (fs_116 hF) i6 dX8_next_96 ?_
    refine V_topi (fun y7 e8 => ?_)
    have H := H y7 e8
    refine V_istore_n (l1 := [(1, .int y7), (0, .ref (ad D 115))]) dX8_next_97 rfl (by decide) rfl ?_
    refine V_iload_n dX8_next_98 rfl 0 rfl ?_
    refine H_calli (av := [.int y7]) (rest := []) H mqX8_isRow q88 (by decide) (Nat.le_of_ble_eq_true rfl) (k_resS (av := [.int y7]) (rest := []) (M1 := mX8_isRow) rfl q1732 q1733 q88 mqX8_isRow (fun _ _ h => mW_named h) mhX8_isRow mnX8_isRow dX8_next_99) (fun y11 h9 g10 H => ?_)
    refine V_if_eq (tgt := 110) dX8_next_102 (by decide) (fun c12 => ?_) (fun c12 => ?_)
    · have H := H.1 c12
      refine V_aload_n dX8_next_110 rfl 1 rfl ?_
      refine V_dup dX8_next_111 rfl ?_
      refine H_geti ck7 3 (by decide) (fs_115 hF) (by decide) rfl q1461 dX8_next_112 ?_
      refine V_iconst (v := 1) dX8_next_115 (by decide) ?_
      refine V_iadd dX8_next_116 ?_
      refine H_puti ck7 3 (by decide) (fs_115 hF) (by decide) rfl rfl q1461 dX8_next_117 (fun h13 e14 => ?_)
      have H := H h13 e14
      refine V_iload_n dX8_next_120 rfl 0 rfl ?_
      refine V_bipush (v := 61) dX8_next_121 (by decide) ?_
      refine V_icmp_ne (tgt := 168) dX8_next_123 (by decide) (fun c15 => ?_) (fun c15 => ?_)
      · have H := H.1 c15
        refine V.sub [1, 0] rfl ?_
        exact bX8_next_168 hF y7 H
      · have H := H.2 c15
        refine V_aload_n dX8_next_126 rfl 1 rfl ?_
        refine H_geti ck7 3 (by decide) (fs_115 hF) (by decide) rfl q1461 dX8_next_127 ?_
        refine V_aload_n dX8_next_130 rfl 1 rfl ?_
        refine H_geti ck7 2 (by decide) (fs_115 hF) (by decide) rfl q1460 dX8_next_131 ?_
        refine V_icmp_ge (tgt := 168) dX8_next_134 (by decide) (fun c16 => ?_) (fun c16 => ?_)
        · have H := H.1 c16
          refine V.sub [1, 0] rfl ?_
          exact bX8_next_168 hF y7 H
        · have H := H.2 c16
          refine V_aload_n dX8_next_137 rfl 1 rfl ?_
          refine H_getr ck7 1 (by decide) (fs_115 hF) (by decide) rfl (fr_115_1 hF) q1459 dX8_next_138 ?_
          refine V_aload_n dX8_next_141 rfl 1 rfl ?_
          refine H_geti ck7 3 (by decide) (fs_115 hF) (by decide) rfl q1461 dX8_next_142 ?_
          obtain ⟨i17, H⟩ := H
          refine H_iald (fs_116 hF) i17 dX8_next_145 ?_
          refine V_bipush (v := 61) dX8_next_146 (by decide) ?_
          refine V_icmp_ne (tgt := 168) dX8_next_148 (by decide) (fun c18 => ?_) (fun c18 => ?_)
          · have H := H.1 c18
            refine V.sub [1, 0] rfl ?_
            exact bX8_next_168 hF y7 H
          · have H := H.2 c18
            refine V_aload_n dX8_next_151 rfl 1 rfl ?_
            refine V_dup dX8_next_152 rfl ?_
            refine H_geti ck7 3 (by decide) (fs_115 hF) (by decide) rfl q1461 dX8_next_153 ?_
            refine V_iconst (v := 1) dX8_next_156 (by decide) ?_
            refine V_iadd dX8_next_157 ?_
            refine H_puti ck7 3 (by decide) (fs_115 hF) (by decide) rfl rfl q1461 dX8_next_158 (fun h19 e20 => ?_)
            have H := H h19 e20
            refine V_aload_n dX8_next_161 rfl 1 rfl ?_
            refine V_bipush (v := 12) dX8_next_162 (by decide) ?_
            refine H_puti ck7 4 (by decide) (fs_115 hF) (by decide) rfl rfl q1462 dX8_next_164 (fun h21 e22 => ?_)
            have H := H h21 e22
            exact H_vret rfl dX8_next_167 H
    · have H := H.2 c12
      refine V_aload_n dX8_next_105 rfl 1 rfl ?_
      refine H_callv (av := [.ref (ad D 115)]) (rest := []) H mqX8_row q88 (by decide) (Nat.le_of_ble_eq_true rfl) (k_resV (ci := 7) (av := []) (rest := []) (fs_115 hF) (by decide) rfl rfl q1738 q1740 qs30 q1741 mhX8_row mnX8_row dX8_next_106) (fun h23 g24 H => ?_)
      exact H_vret rfl dX8_next_109 H
  · have H := H.2 c3
    refine V_aload_n dX8_next_71 rfl 0 rfl ?_
    refine V_bipush (v := 23) dX8_next_72 (by decide) ?_
    refine H_puti ck7 4 (by decide) (fs_115 hF) (by decide) rfl rfl q1462 dX8_next_74 (fun h25 e26 => ?_)
    have H := H h25 e26
    exact H_vret rfl dX8_next_77 H
abbrev JX8_next_39 (D : DE) (f : Nat) (Q : HI → HL → Prop) (F : Frm) (h : HI) (g : HL) : Prop := ∀ h1, h1 = up2 h 115 3 ((h 115 3) + 1) → V D mX8_next (f + 1) (qv F Q) 0 [(0, .ref (ad D 115))] [] (F, h1, g)
theorem bX8_next_39 {D : DE} {f : Nat} {Q : HI → HL → Prop} {F : Frm} {h : HI} {g : HL} (hF : k_Fix F)  (H : JX8_next_39 D f Q F h g ) : V D mX8_next (f + 1) (qv F Q) 39 [(0, .ref (ad D 115))] [] (F, h, g) := by
  refine V_aload_n dX8_next_39 rfl 0 rfl ?_
  refine V_dup dX8_next_40 rfl ?_
  refine H_geti ck7 3 (by decide) (fs_115 hF) (by decide) rfl q1461 dX8_next_41 ?_
  refine V_iconst (v := 1) dX8_next_44 (by decide) ?_
  refine V_iadd dX8_next_45 ?_
  refine H_puti ck7 3 (by decide) (fs_115 hF) (by decide) rfl rfl q1461 dX8_next_46 (fun h1 e2 => ?_)
  have H := H h1 e2
  refine V_goto (tgt := 0) dX8_next_49 (by decide) ?_
  exact H
abbrev JX8_next_0 (D : DE) (f : Nat) (Q : HI → HL → Prop) (F : Frm) (h : HI) (g : HL) : Prop := (((h 115 2) ≤ (h 115 3) → JX8_next_52 D f Q F h g) ∧ (¬ (h 115 2) ≤ (h 115 3) → vp_in (h 115 3) 4000 ∧ (((h 116 (ix (h 115 3))) = 32 → JX8_next_39 D f Q F h g) ∧ (¬ (h 116 (ix (h 115 3))) = 32 → vp_in (h 115 3) 4000 ∧ ((¬ (h 116 (ix (h 115 3))) = 10 → JX8_next_52 D f Q F h g) ∧ ((h 116 (ix (h 115 3))) = 10 → JX8_next_39 D f Q F h g))))))
theorem bX8_next_0 {D : DE} {f : Nat} {Q : HI → HL → Prop} {F : Frm} {h : HI} {g : HL} (hF : k_Fix F)  (H : JX8_next_0 D f Q F h g ) : V D mX8_next (f + 1) (qv F Q) 0 [(0, .ref (ad D 115))] [] (F, h, g) := by
  refine V_aload_n dX8_next_0 rfl 0 rfl ?_
  refine H_geti ck7 3 (by decide) (fs_115 hF) (by decide) rfl q1461 dX8_next_1 ?_
  refine V_aload_n dX8_next_4 rfl 0 rfl ?_
  refine H_geti ck7 2 (by decide) (fs_115 hF) (by decide) rfl q1460 dX8_next_5 ?_
  refine V_icmp_ge (tgt := 52) dX8_next_8 (by decide) (fun c1 => ?_) (fun c1 => ?_)
  · have H := H.1 c1
    exact bX8_next_52 hF  H
  · have H := H.2 c1
    refine V_aload_n dX8_next_11 rfl 0 rfl ?_
    refine H_getr ck7 1 (by decide) (fs_115 hF) (by decide) rfl (fr_115_1 hF) q1459 dX8_next_12 ?_
    refine V_aload_n dX8_next_15 rfl 0 rfl ?_
    refine H_geti ck7 3 (by decide) (fs_115 hF) (by decide) rfl q1461 dX8_next_16 ?_
    obtain ⟨i2, H⟩ := H
    refine H_iald (fs_116 hF) i2 dX8_next_19 ?_
    refine V_bipush (v := 32) dX8_next_20 (by decide) ?_
    refine V_icmp_eq (tgt := 39) dX8_next_22 (by decide) (fun c3 => ?_) (fun c3 => ?_)
    · have H := H.1 c3
      exact bX8_next_39 hF  H
    · have H := H.2 c3
      refine V_aload_n dX8_next_25 rfl 0 rfl ?_
      refine H_getr ck7 1 (by decide) (fs_115 hF) (by decide) rfl (fr_115_1 hF) q1459 dX8_next_26 ?_
      refine V_aload_n dX8_next_29 rfl 0 rfl ?_
      refine H_geti ck7 3 (by decide) (fs_115 hF) (by decide) rfl q1461 dX8_next_30 ?_
      obtain ⟨i4, H⟩ := H
      refine H_iald (fs_116 hF) i4 dX8_next_33 ?_
      refine V_bipush (v := 10) dX8_next_34 (by decide) ?_
      refine V_icmp_ne (tgt := 52) dX8_next_36 (by decide) (fun c5 => ?_) (fun c5 => ?_)
      · have H := H.1 c5
        exact bX8_next_52 hF  H
      · have H := H.2 c5
        exact bX8_next_39 hF  H
theorem wX8_next {D : DE} {f : Nat} {Q : HI → HL → Prop} {F : Frm} {h : HI} {g : HL} (hF : k_Fix F)  (H : JX8_next_0 D f Q F h g ) : Sv D (f + 1) mX8_next [.ref (ad D 115)] F h g Q := Cl.ofV (by decide) (Nat.le_of_ble_eq_true rfl) rfl (bX8_next_0 hF  H)
theorem dX8_pass_0 : decode cX8_pass 0 = .ok (.aload_n 0, 1) := by decide +kernel
theorem dX8_pass_1 : decode cX8_pass 1 = .ok (.getfield 176, 3) := by decide +kernel
theorem dX8_pass_4 : decode cX8_pass 4 = .ok (.ifCond .ne 23, 3) := by decide +kernel
theorem dX8_pass_7 : decode cX8_pass 7 = .ok (.aload_n 0, 1) := by decide +kernel
theorem dX8_pass_8 : decode cX8_pass 8 = .ok (.getfield 196, 3) := by decide +kernel
theorem dX8_pass_11 : decode cX8_pass 11 = .ok (.sipush 1000, 3) := by decide +kernel
theorem dX8_pass_14 : decode cX8_pass 14 = .ok (.if_icmp .le 13, 3) := by decide +kernel
theorem dX8_pass_17 : decode cX8_pass 17 = .ok (.aload_n 0, 1) := by decide +kernel
theorem dX8_pass_18 : decode cX8_pass 18 = .ok (.bipush 6, 2) := by decide +kernel
theorem dX8_pass_20 : decode cX8_pass 20 = .ok (.aload_n 0, 1) := by decide +kernel
theorem dX8_pass_21 : decode cX8_pass 21 = .ok (.getfield 190, 3) := by decide +kernel
theorem dX8_pass_24 : decode cX8_pass 24 = .ok (.invokevirtual 205, 3) := by decide +kernel
theorem dX8_pass_27 : decode cX8_pass 27 = .ok (.aload_n 0, 1) := by decide +kernel
theorem dX8_pass_28 : decode cX8_pass 28 = .ok (.getfield 176, 3) := by decide +kernel
theorem dX8_pass_31 : decode cX8_pass 31 = .ok (.ifCond .ne 7, 3) := by decide +kernel
theorem dX8_pass_34 : decode cX8_pass 34 = .ok (.aload_n 0, 1) := by decide +kernel
theorem dX8_pass_35 : decode cX8_pass 35 = .ok (.invokevirtual 226, 3) := by decide +kernel
theorem dX8_pass_38 : decode cX8_pass 38 = .ok (.return_, 1) := by decide +kernel
abbrev JX8_pass_27 (D : DE) (f : Nat) (Q : HI → HL → Prop) (F : Frm) (h : HI) (g : HL) : Prop := ((¬ (h 115 9) = 0 → Q h g) ∧ ((h 115 9) = 0 → Sv D f mX8_next [.ref (ad D 115)] F h g (fun h2 g3 => Q h2 g3)))
theorem bX8_pass_27 {D : DE} {f : Nat} {Q : HI → HL → Prop} {F : Frm} {h : HI} {g : HL} (hF : k_Fix F)  (H : JX8_pass_27 D f Q F h g ) : V D mX8_pass (f + 1) (qv F Q) 27 [(0, .ref (ad D 115))] [] (F, h, g) := by
  refine V_aload_n dX8_pass_27 rfl 0 rfl ?_
  refine H_geti ck7 9 (by decide) (fs_115 hF) (by decide) rfl q1467 dX8_pass_28 ?_
  refine V_if_ne (tgt := 38) dX8_pass_31 (by decide) (fun c1 => ?_) (fun c1 => ?_)
  · have H := H.1 c1
    exact H_vret rfl dX8_pass_38 H
  · have H := H.2 c1
    refine V_aload_n dX8_pass_34 rfl 0 rfl ?_
    refine H_callv (av := [.ref (ad D 115)]) (rest := []) H mqX8_next q88 (by decide) (Nat.le_of_ble_eq_true rfl) (k_resV (ci := 7) (av := []) (rest := []) (fs_115 hF) (by decide) rfl rfl q1728 q1730 qs29 q1731 mhX8_next mnX8_next dX8_pass_35) (fun h2 g3 H => ?_)
    exact H_vret rfl dX8_pass_38 H
abbrev JX8_pass_0 (D : DE) (f : Nat) (Q : HI → HL → Prop) (F : Frm) (h : HI) (g : HL) : Prop := ((¬ (h 115 9) = 0 → JX8_pass_27 D f Q F h g) ∧ ((h 115 9) = 0 → (((h 115 6) ≤ 1000 → JX8_pass_27 D f Q F h g) ∧ (¬ (h 115 6) ≤ 1000 → Sv D f mX8_stop [.ref (ad D 115), .int 6, .int (h 115 5)] F h g (fun h3 g4 => JX8_pass_27 D f Q F h3 g4)))))
theorem bX8_pass_0 {D : DE} {f : Nat} {Q : HI → HL → Prop} {F : Frm} {h : HI} {g : HL} (hF : k_Fix F)  (H : JX8_pass_0 D f Q F h g ) : V D mX8_pass (f + 1) (qv F Q) 0 [(0, .ref (ad D 115))] [] (F, h, g) := by
  refine V_aload_n dX8_pass_0 rfl 0 rfl ?_
  refine H_geti ck7 9 (by decide) (fs_115 hF) (by decide) rfl q1467 dX8_pass_1 ?_
  refine V_if_ne (tgt := 27) dX8_pass_4 (by decide) (fun c1 => ?_) (fun c1 => ?_)
  · have H := H.1 c1
    exact bX8_pass_27 hF  H
  · have H := H.2 c1
    refine V_aload_n dX8_pass_7 rfl 0 rfl ?_
    refine H_geti ck7 6 (by decide) (fs_115 hF) (by decide) rfl q1464 dX8_pass_8 ?_
    refine V_sipush (v := 1000) dX8_pass_11 (by decide) ?_
    refine V_icmp_le (tgt := 27) dX8_pass_14 (by decide) (fun c2 => ?_) (fun c2 => ?_)
    · have H := H.1 c2
      exact bX8_pass_27 hF  H
    · have H := H.2 c2
      refine V_aload_n dX8_pass_17 rfl 0 rfl ?_
      refine V_bipush (v := 6) dX8_pass_18 (by decide) ?_
      refine V_aload_n dX8_pass_20 rfl 0 rfl ?_
      refine H_geti ck7 5 (by decide) (fs_115 hF) (by decide) rfl q1463 dX8_pass_21 ?_
      refine H_callv (av := [.ref (ad D 115), .int 6, .int (h 115 5)]) (rest := []) H mqX8_stop q88 (by decide) (Nat.le_of_ble_eq_true rfl) (k_resV (ci := 7) (av := [.int 6, .int (h 115 5)]) (rest := []) (fs_115 hF) (by decide) rfl rfl q1751 q1753 qs31 q1754 mhX8_stop mnX8_stop dX8_pass_24) (fun h3 g4 H => ?_)
      exact bX8_pass_27 hF  H
theorem wX8_pass {D : DE} {f : Nat} {Q : HI → HL → Prop} {F : Frm} {h : HI} {g : HL} (hF : k_Fix F)  (H : JX8_pass_0 D f Q F h g ) : Sv D (f + 1) mX8_pass [.ref (ad D 115)] F h g Q := Cl.ofV (by decide) (Nat.le_of_ble_eq_true rfl) rfl (bX8_pass_0 hF  H)
theorem dX8_want_0 : decode cX8_want 0 = .ok (.aload_n 0, 1) := by decide +kernel
theorem dX8_want_1 : decode cX8_want 1 = .ok (.getfield 176, 3) := by decide +kernel
theorem dX8_want_4 : decode cX8_want 4 = .ok (.ifCond .ne 20, 3) := by decide +kernel
theorem dX8_want_7 : decode cX8_want 7 = .ok (.aload_n 0, 1) := by decide +kernel
theorem dX8_want_8 : decode cX8_want 8 = .ok (.getfield 193, 3) := by decide +kernel
theorem dX8_want_11 : decode cX8_want 11 = .ok (.iload_n 1, 1) := by decide +kernel
theorem dX8_want_12 : decode cX8_want 12 = .ok (.if_icmp .eq 12, 3) := by decide +kernel
theorem dX8_want_15 : decode cX8_want 15 = .ok (.aload_n 0, 1) := by decide +kernel
theorem dX8_want_16 : decode cX8_want 16 = .ok (.iconst 2, 1) := by decide +kernel
theorem dX8_want_17 : decode cX8_want 17 = .ok (.aload_n 0, 1) := by decide +kernel
theorem dX8_want_18 : decode cX8_want 18 = .ok (.getfield 190, 3) := by decide +kernel
theorem dX8_want_21 : decode cX8_want 21 = .ok (.invokevirtual 205, 3) := by decide +kernel
theorem dX8_want_24 : decode cX8_want 24 = .ok (.aload_n 0, 1) := by decide +kernel
theorem dX8_want_25 : decode cX8_want 25 = .ok (.invokevirtual 229, 3) := by decide +kernel
theorem dX8_want_28 : decode cX8_want 28 = .ok (.return_, 1) := by decide +kernel
abbrev JX8_want_0 (D : DE) (f : Nat) (Q : HI → HL → Prop) (F : Frm) (h : HI) (g : HL) (x1 : Int32) : Prop := ((¬ (h 115 9) = 0 → Sv D f mX8_pass [.ref (ad D 115)] F h g (fun h2 g3 => Q h2 g3)) ∧ ((h 115 9) = 0 → (((h 115 4) = x1 → Sv D f mX8_pass [.ref (ad D 115)] F h g (fun h5 g6 => Q h5 g6)) ∧ (¬ (h 115 4) = x1 → Sv D f mX8_stop [.ref (ad D 115), .int 2, .int (h 115 5)] F h g (fun h7 g8 => Sv D f mX8_pass [.ref (ad D 115)] F h7 g8 (fun h9 g10 => Q h9 g10))))))
theorem bX8_want_0 {D : DE} {f : Nat} {Q : HI → HL → Prop} {F : Frm} {h : HI} {g : HL} (hF : k_Fix F) (x1 : Int32) (H : JX8_want_0 D f Q F h g x1) : V D mX8_want (f + 1) (qv F Q) 0 [(0, .ref (ad D 115)), (1, .int x1)] [] (F, h, g) := by
  refine V_aload_n dX8_want_0 rfl 0 rfl ?_
  refine H_geti ck7 9 (by decide) (fs_115 hF) (by decide) rfl q1467 dX8_want_1 ?_
  refine V_if_ne (tgt := 24) dX8_want_4 (by decide) (fun c1 => ?_) (fun c1 => ?_)
  · have H := H.1 c1
    refine V_aload_n dX8_want_24 rfl 0 rfl ?_
    refine H_callv (av := [.ref (ad D 115)]) (rest := []) H mqX8_pass q88 (by decide) (Nat.le_of_ble_eq_true rfl) (k_resV (ci := 7) (av := []) (rest := []) (fs_115 hF) (by decide) rfl rfl q1759 q1761 qs33 q1762 mhX8_pass mnX8_pass dX8_want_25) (fun h2 g3 H => ?_)
    exact H_vret rfl dX8_want_28 H
  · have H := H.2 c1
    refine V_aload_n dX8_want_7 rfl 0 rfl ?_
    refine H_geti ck7 4 (by decide) (fs_115 hF) (by decide) rfl q1462 dX8_want_8 ?_
    refine V_iload_n dX8_want_11 rfl 1 rfl ?_
    refine V_icmp_eq (tgt := 24) dX8_want_12 (by decide) (fun c4 => ?_) (fun c4 => ?_)
    · have H := H.1 c4
      refine V_aload_n dX8_want_24 rfl 0 rfl ?_
      refine H_callv (av := [.ref (ad D 115)]) (rest := []) H mqX8_pass q88 (by decide) (Nat.le_of_ble_eq_true rfl) (k_resV (ci := 7) (av := []) (rest := []) (fs_115 hF) (by decide) rfl rfl q1759 q1761 qs33 q1762 mhX8_pass mnX8_pass dX8_want_25) (fun h5 g6 H => ?_)
      exact H_vret rfl dX8_want_28 H
    · have H := H.2 c4
      refine V_aload_n dX8_want_15 rfl 0 rfl ?_
      refine V_iconst (v := 2) dX8_want_16 (by decide) ?_
      refine V_aload_n dX8_want_17 rfl 0 rfl ?_
      refine H_geti ck7 5 (by decide) (fs_115 hF) (by decide) rfl q1463 dX8_want_18 ?_
      refine H_callv (av := [.ref (ad D 115), .int 2, .int (h 115 5)]) (rest := []) H mqX8_stop q88 (by decide) (Nat.le_of_ble_eq_true rfl) (k_resV (ci := 7) (av := [.int 2, .int (h 115 5)]) (rest := []) (fs_115 hF) (by decide) rfl rfl q1751 q1753 qs31 q1754 mhX8_stop mnX8_stop dX8_want_21) (fun h7 g8 H => ?_)
      refine V_aload_n dX8_want_24 rfl 0 rfl ?_
      refine H_callv (av := [.ref (ad D 115)]) (rest := []) H mqX8_pass q88 (by decide) (Nat.le_of_ble_eq_true rfl) (k_resV (ci := 7) (av := []) (rest := []) (fs_115 hF) (by decide) rfl rfl q1759 q1761 qs33 q1762 mhX8_pass mnX8_pass dX8_want_25) (fun h9 g10 H => ?_)
      exact H_vret rfl dX8_want_28 H
theorem wX8_want {D : DE} {f : Nat} {Q : HI → HL → Prop} {F : Frm} {h : HI} {g : HL} (hF : k_Fix F) (x1 : Int32) (H : JX8_want_0 D f Q F h g x1) : Sv D (f + 1) mX8_want [.ref (ad D 115), .int x1] F h g Q := Cl.ofV (by decide) (Nat.le_of_ble_eq_true rfl) rfl (bX8_want_0 hF x1 H)
theorem dX8_node_0 : decode cX8_node 0 = .ok (.aload_n 0, 1) := by decide +kernel
theorem dX8_node_1 : decode cX8_node 1 = .ok (.getfield 232, 3) := by decide +kernel
theorem dX8_node_4 : decode cX8_node 4 = .ok (.sipush 2001, 3) := by decide +kernel
theorem dX8_node_7 : decode cX8_node 7 = .ok (.if_icmp .ge 10, 3) := by decide +kernel
theorem dX8_node_10 : decode cX8_node 10 = .ok (.aload_n 0, 1) := by decide +kernel
theorem dX8_node_11 : decode cX8_node 11 = .ok (.getfield 232, 3) := by decide +kernel
theorem dX8_node_14 : decode cX8_node 14 = .ok (.goto 6, 3) := by decide +kernel
theorem dX8_node_17 : decode cX8_node 17 = .ok (.sipush 2001, 3) := by decide +kernel
theorem dX8_node_20 : decode cX8_node 20 = .ok (.istore_n 3, 1) := by decide +kernel
theorem dX8_node_21 : decode cX8_node 21 = .ok (.aload_n 0, 1) := by decide +kernel
theorem dX8_node_22 : decode cX8_node 22 = .ok (.iload_n 3, 1) := by decide +kernel
theorem dX8_node_23 : decode cX8_node 23 = .ok (.iconst 1, 1) := by decide +kernel
theorem dX8_node_24 : decode cX8_node 24 = .ok (.iadd, 1) := by decide +kernel
theorem dX8_node_25 : decode cX8_node 25 = .ok (.putfield 232, 3) := by decide +kernel
theorem dX8_node_28 : decode cX8_node 28 = .ok (.aload_n 0, 1) := by decide +kernel
theorem dX8_node_29 : decode cX8_node 29 = .ok (.getfield 39, 3) := by decide +kernel
theorem dX8_node_32 : decode cX8_node 32 = .ok (.iload_n 3, 1) := by decide +kernel
theorem dX8_node_33 : decode cX8_node 33 = .ok (.iload_n 1, 1) := by decide +kernel
theorem dX8_node_34 : decode cX8_node 34 = .ok (.iastore, 1) := by decide +kernel
theorem dX8_node_35 : decode cX8_node 35 = .ok (.aload_n 0, 1) := by decide +kernel
theorem dX8_node_36 : decode cX8_node 36 = .ok (.getfield 51, 3) := by decide +kernel
theorem dX8_node_39 : decode cX8_node 39 = .ok (.iload_n 3, 1) := by decide +kernel
theorem dX8_node_40 : decode cX8_node 40 = .ok (.iload_n 2, 1) := by decide +kernel
theorem dX8_node_41 : decode cX8_node 41 = .ok (.iastore, 1) := by decide +kernel
theorem dX8_node_42 : decode cX8_node 42 = .ok (.iload_n 3, 1) := by decide +kernel
theorem dX8_node_43 : decode cX8_node 43 = .ok (.ireturn, 1) := by decide +kernel
abbrev JX8_node_20 (D : DE) (f : Nat) (Q : Int32 → HI → HL → Prop) (F : Frm) (h : HI) (g : HL) (x1 : Int32) (x2 : Int32) (s0 : Int32) : Prop := ∀ h1, h1 = up2 h 115 29 (s0 + 1) → vp_in s0 2002 ∧ ∀ h4, h4 = up2 h1 124 (ix s0) x1 → vp_in s0 2002 ∧ ∀ h7, h7 = up2 h4 128 (ix s0) x2 → Q s0 h7 g
theorem bX8_node_20 {D : DE} {f : Nat} {Q : Int32 → HI → HL → Prop} {F : Frm} {h : HI} {g : HL} (hF : k_Fix F) (x1 : Int32) (x2 : Int32) (s0 : Int32) (H : JX8_node_20 D f Q F h g x1 x2 s0) : V D mX8_node f (qi F Q) 20 [(0, .ref (ad D 115)), (1, .int x1), (2, .int x2)] [.int s0] (F, h, g) := by
  refine V_istore_n (l1 := [(3, .int s0), (0, .ref (ad D 115)), (1, .int x1), (2, .int x2)]) dX8_node_20 rfl (by decide) rfl ?_
  refine V_aload_n dX8_node_21 rfl 1 rfl ?_
  refine V_iload_n dX8_node_22 rfl 0 rfl ?_
  refine V_iconst (v := 1) dX8_node_23 (by decide) ?_
  refine V_iadd dX8_node_24 ?_
  refine H_puti ck7 29 (by decide) (fs_115 hF) (by decide) rfl rfl q1487 dX8_node_25 (fun h1 e2 => ?_)
  have H := H h1 e2
  refine V_aload_n dX8_node_28 rfl 1 rfl ?_
  refine H_getr ck7 18 (by decide) (fs_115 hF) (by decide) rfl (fr_115_18 hF) q1476 dX8_node_29 ?_
  refine V_iload_n dX8_node_32 rfl 0 rfl ?_
  refine V_iload_n dX8_node_33 rfl 2 rfl ?_
  obtain ⟨i3, H⟩ := H
  refine H_iast (fs_124 hF) i3 dX8_node_34 (fun h4 e5 => ?_)
  have H := H h4 e5
  refine V_aload_n dX8_node_35 rfl 1 rfl ?_
  refine H_getr ck7 22 (by decide) (fs_115 hF) (by decide) rfl (fr_115_22 hF) q1480 dX8_node_36 ?_
  refine V_iload_n dX8_node_39 rfl 0 rfl ?_
  refine V_iload_n dX8_node_40 rfl 3 rfl ?_
  obtain ⟨i6, H⟩ := H
  refine H_iast (fs_128 hF) i6 dX8_node_41 (fun h7 e8 => ?_)
  have H := H h7 e8
  refine V_iload_n dX8_node_42 rfl 0 rfl ?_
  exact H_iret rfl dX8_node_43 H
abbrev JX8_node_0 (D : DE) (f : Nat) (Q : Int32 → HI → HL → Prop) (F : Frm) (h : HI) (g : HL) (x1 : Int32) (x2 : Int32) : Prop := ((2001 ≤ (h 115 29) → JX8_node_20 D f Q F h g x1 x2 2001) ∧ (¬ 2001 ≤ (h 115 29) → JX8_node_20 D f Q F h g x1 x2 (h 115 29)))
theorem bX8_node_0 {D : DE} {f : Nat} {Q : Int32 → HI → HL → Prop} {F : Frm} {h : HI} {g : HL} (hF : k_Fix F) (x1 : Int32) (x2 : Int32) (H : JX8_node_0 D f Q F h g x1 x2) : V D mX8_node f (qi F Q) 0 [(0, .ref (ad D 115)), (1, .int x1), (2, .int x2)] [] (F, h, g) := by
  refine V_aload_n dX8_node_0 rfl 0 rfl ?_
  refine H_geti ck7 29 (by decide) (fs_115 hF) (by decide) rfl q1487 dX8_node_1 ?_
  refine V_sipush (v := 2001) dX8_node_4 (by decide) ?_
  refine V_icmp_ge (tgt := 17) dX8_node_7 (by decide) (fun c1 => ?_) (fun c1 => ?_)
  · have H := H.1 c1
    refine V_sipush (v := 2001) dX8_node_17 (by decide) ?_
    exact bX8_node_20 hF x1 x2 2001 H
  · have H := H.2 c1
    refine V_aload_n dX8_node_10 rfl 0 rfl ?_
    refine H_geti ck7 29 (by decide) (fs_115 hF) (by decide) rfl q1487 dX8_node_11 ?_
    refine V_goto (tgt := 20) dX8_node_14 (by decide) ?_
    exact bX8_node_20 hF x1 x2 (h 115 29) H
theorem wX8_node {D : DE} {f : Nat} {Q : Int32 → HI → HL → Prop} {F : Frm} {h : HI} {g : HL} (hF : k_Fix F) (x1 : Int32) (x2 : Int32) (H : JX8_node_0 D f Q F h g x1 x2) : Si D f mX8_node [.ref (ad D 115), .int x1, .int x2] F h g Q := Cl.ofV (by decide) (Nat.le_of_ble_eq_true rfl) rfl (bX8_node_0 hF x1 x2 H)
theorem dX8_isParam_0 : decode cX8_isParam 0 = .ok (.iconst 0, 1) := by decide +kernel
theorem dX8_isParam_1 : decode cX8_isParam 1 = .ok (.istore_n 3, 1) := by decide +kernel
theorem dX8_isParam_2 : decode cX8_isParam 2 = .ok (.iconst 0, 1) := by decide +kernel
theorem dX8_isParam_3 : decode cX8_isParam 3 = .ok (.istore 4, 2) := by decide +kernel
theorem dX8_isParam_5 : decode cX8_isParam 5 = .ok (.iload 4, 2) := by decide +kernel
theorem dX8_isParam_7 : decode cX8_isParam 7 = .ok (.aload_n 0, 1) := by decide +kernel
theorem dX8_isParam_8 : decode cX8_isParam 8 = .ok (.getfield 24, 3) := by decide +kernel
theorem dX8_isParam_11 : decode cX8_isParam 11 = .ok (.aload_n 0, 1) := by decide +kernel
theorem dX8_isParam_12 : decode cX8_isParam 12 = .ok (.getfield 239, 3) := by decide +kernel
theorem dX8_isParam_15 : decode cX8_isParam 15 = .ok (.iaload, 1) := by decide +kernel
theorem dX8_isParam_16 : decode cX8_isParam 16 = .ok (.if_icmp .ge 39, 3) := by decide +kernel
theorem dX8_isParam_19 : decode cX8_isParam 19 = .ok (.iload_n 3, 1) := by decide +kernel
theorem dX8_isParam_20 : decode cX8_isParam 20 = .ok (.ifCond .ne 23, 3) := by decide +kernel
theorem dX8_isParam_23 : decode cX8_isParam 23 = .ok (.aload_n 0, 1) := by decide +kernel
theorem dX8_isParam_24 : decode cX8_isParam 24 = .ok (.getfield 33, 3) := by decide +kernel
theorem dX8_isParam_27 : decode cX8_isParam 27 = .ok (.bipush 16, 2) := by decide +kernel
theorem dX8_isParam_29 : decode cX8_isParam 29 = .ok (.aload_n 0, 1) := by decide +kernel
theorem dX8_isParam_30 : decode cX8_isParam 30 = .ok (.getfield 239, 3) := by decide +kernel
theorem dX8_isParam_33 : decode cX8_isParam 33 = .ok (.imul, 1) := by decide +kernel
theorem dX8_isParam_34 : decode cX8_isParam 34 = .ok (.iload 4, 2) := by decide +kernel
theorem dX8_isParam_36 : decode cX8_isParam 36 = .ok (.iadd, 1) := by decide +kernel
theorem dX8_isParam_37 : decode cX8_isParam 37 = .ok (.laload, 1) := by decide +kernel
theorem dX8_isParam_38 : decode cX8_isParam 38 = .ok (.lload_n 1, 1) := by decide +kernel
theorem dX8_isParam_39 : decode cX8_isParam 39 = .ok (.lcmp, 1) := by decide +kernel
theorem dX8_isParam_40 : decode cX8_isParam 40 = .ok (.ifCond .ne 7, 3) := by decide +kernel
theorem dX8_isParam_43 : decode cX8_isParam 43 = .ok (.iconst 1, 1) := by decide +kernel
theorem dX8_isParam_44 : decode cX8_isParam 44 = .ok (.goto 4, 3) := by decide +kernel
theorem dX8_isParam_47 : decode cX8_isParam 47 = .ok (.iconst 0, 1) := by decide +kernel
theorem dX8_isParam_48 : decode cX8_isParam 48 = .ok (.istore_n 3, 1) := by decide +kernel
theorem dX8_isParam_49 : decode cX8_isParam 49 = .ok (.iinc 4 1, 3) := by decide +kernel
theorem dX8_isParam_52 : decode cX8_isParam 52 = .ok (.goto (-47), 3) := by decide +kernel
theorem dX8_isParam_55 : decode cX8_isParam 55 = .ok (.iload_n 3, 1) := by decide +kernel
theorem dX8_isParam_56 : decode cX8_isParam 56 = .ok (.ireturn, 1) := by decide +kernel
abbrev JX8_isParam_48 (D : DE) (f : Nat) (Q : Int32 → HI → HL → Prop) (F : Frm) (h : HI) (g : HL) (x1 : Int64) (x4 : Int32) (s0 : Int32) : Prop := ∀ y1 : Int32, y1 = x4 + 1 → V D mX8_isParam f (qi F Q) 5 [(0, .ref (ad D 115)), (1, .long x1), (3, .int s0), (4, .int y1)] [] (F, h, g)
theorem bX8_isParam_48 {D : DE} {f : Nat} {Q : Int32 → HI → HL → Prop} {F : Frm} {h : HI} {g : HL} (hF : k_Fix F) (x1 : Int64) (x4 : Int32) (s0 : Int32) (H : JX8_isParam_48 D f Q F h g x1 x4 s0) : V D mX8_isParam f (qi F Q) 48 [(0, .ref (ad D 115)), (1, .long x1), (4, .int x4)] [.int s0] (F, h, g) := by
  refine V_istore_n (l1 := [(3, .int s0), (0, .ref (ad D 115)), (1, .long x1), (4, .int x4)]) dX8_isParam_48 rfl (by decide) rfl ?_
  obtain ⟨y1, e2⟩ : ∃ y : Int32, y = x4 + 1 := ⟨_, rfl⟩
  have H := H y1 e2
  refine V_iinc (j := 3) (v := y1) (l1 := [(4, .int y1), (3, .int s0), (0, .ref (ad D 115)), (1, .long x1)]) dX8_isParam_49 rfl (by rw [e2]; rfl) (by decide) rfl ?_
  refine V_goto (tgt := 5) dX8_isParam_52 (by decide) ?_
  refine V.sub [2, 3, 1, 0] rfl ?_
  exact H
abbrev JX8_isParam_43 (D : DE) (f : Nat) (Q : Int32 → HI → HL → Prop) (F : Frm) (h : HI) (g : HL) (x1 : Int64) (x4 : Int32) : Prop := JX8_isParam_48 D f Q F h g x1 x4 1
theorem bX8_isParam_43 {D : DE} {f : Nat} {Q : Int32 → HI → HL → Prop} {F : Frm} {h : HI} {g : HL} (hF : k_Fix F) (x1 : Int64) (x4 : Int32) (H : JX8_isParam_43 D f Q F h g x1 x4) : V D mX8_isParam f (qi F Q) 43 [(0, .ref (ad D 115)), (1, .long x1), (4, .int x4)] [] (F, h, g) := by
  refine V_iconst (v := 1) dX8_isParam_43 (by decide) ?_
  refine V_goto (tgt := 48) dX8_isParam_44 (by decide) ?_
  exact bX8_isParam_48 hF x1 x4 1 H
abbrev JX8_isParam_5 (D : DE) (f : Nat) (Q : Int32 → HI → HL → Prop) (F : Frm) (h : HI) (g : HL) (x1 : Int64) (x3 : Int32) (x4 : Int32) : Prop := vp_in (h 115 33) 24 ∧ (((h 119 (ix (h 115 33))) ≤ x4 → (isB x3 ∧ Q x3 h g)) ∧ (¬ (h 119 (ix (h 115 33))) ≤ x4 → ((¬ x3 = 0 → JX8_isParam_43 D f Q F h g x1 x4) ∧ (x3 = 0 → vp_in ((16 * (h 115 33)) + x4) 384 ∧ ((¬ (lg_cmp (g 122 (ix ((16 * (h 115 33)) + x4))) x1) = 0 → JX8_isParam_48 D f Q F h g x1 x4 0) ∧ ((lg_cmp (g 122 (ix ((16 * (h 115 33)) + x4))) x1) = 0 → JX8_isParam_43 D f Q F h g x1 x4))))))
theorem bX8_isParam_5 {D : DE} {f : Nat} {Q : Int32 → HI → HL → Prop} {F : Frm} {h : HI} {g : HL} (hF : k_Fix F) (x1 : Int64) (x3 : Int32) (x4 : Int32) (H : JX8_isParam_5 D f Q F h g x1 x3 x4) : V D mX8_isParam f (qi F Q) 5 [(0, .ref (ad D 115)), (1, .long x1), (3, .int x3), (4, .int x4)] [] (F, h, g) := by
  refine V_iload dX8_isParam_5 3 rfl ?_
  refine V_aload_n dX8_isParam_7 rfl 0 rfl ?_
  refine H_getr ck7 13 (by decide) (fs_115 hF) (by decide) rfl (fr_115_13 hF) q1471 dX8_isParam_8 ?_
  refine V_aload_n dX8_isParam_11 rfl 0 rfl ?_
  refine H_geti ck7 33 (by decide) (fs_115 hF) (by decide) rfl q1491 dX8_isParam_12 ?_
  obtain ⟨i1, H⟩ := H
  refine H_iald (fs_119 hF) i1 dX8_isParam_15 ?_
  refine V_icmp_ge (tgt := 55) dX8_isParam_16 (by decide) (fun c2 => ?_) (fun c2 => ?_)
  · have H := H.1 c2
    refine V_iload_n dX8_isParam_55 rfl 2 rfl ?_
    exact H_zret rfl H.1 dX8_isParam_56 H.2
  · have H := H.2 c2
    refine V_iload_n dX8_isParam_19 rfl 2 rfl ?_
    refine V_if_ne (tgt := 43) dX8_isParam_20 (by decide) (fun c3 => ?_) (fun c3 => ?_)
    · have H := H.1 c3
      refine V.sub [0, 1, 3] rfl ?_
      exact bX8_isParam_43 hF x1 x4 H
    · have H := H.2 c3
      refine V_aload_n dX8_isParam_23 rfl 0 rfl ?_
      refine H_getr ck7 16 (by decide) (fs_115 hF) (by decide) rfl (fr_115_16 hF) q1474 dX8_isParam_24 ?_
      refine V_bipush (v := 16) dX8_isParam_27 (by decide) ?_
      refine V_aload_n dX8_isParam_29 rfl 0 rfl ?_
      refine H_geti ck7 33 (by decide) (fs_115 hF) (by decide) rfl q1491 dX8_isParam_30 ?_
      refine V_imul dX8_isParam_33 ?_
      refine V_iload dX8_isParam_34 3 rfl ?_
      refine V_iadd dX8_isParam_36 ?_
      obtain ⟨i4, H⟩ := H
      refine H_lald (fs_122 hF) i4 dX8_isParam_37 ?_
      refine V_lload_n dX8_isParam_38 rfl 1 rfl ?_
      refine V_lcmp dX8_isParam_39 ?_
      refine V_if_ne (tgt := 47) dX8_isParam_40 (by decide) (fun c5 => ?_) (fun c5 => ?_)
      · have H := H.1 c5
        refine V_iconst (v := 0) dX8_isParam_47 (by decide) ?_
        refine V.sub [0, 1, 3] rfl ?_
        exact bX8_isParam_48 hF x1 x4 0 H
      · have H := H.2 c5
        refine V.sub [0, 1, 3] rfl ?_
        exact bX8_isParam_43 hF x1 x4 H
abbrev JX8_isParam_0 (D : DE) (f : Nat) (Q : Int32 → HI → HL → Prop) (F : Frm) (h : HI) (g : HL) (x1 : Int64) : Prop := V D mX8_isParam f (qi F Q) 5 [(0, .ref (ad D 115)), (1, .long x1), (3, .int 0), (4, .int 0)] [] (F, h, g)
theorem bX8_isParam_0 {D : DE} {f : Nat} {Q : Int32 → HI → HL → Prop} {F : Frm} {h : HI} {g : HL} (hF : k_Fix F) (x1 : Int64) (H : JX8_isParam_0 D f Q F h g x1) : V D mX8_isParam f (qi F Q) 0 [(0, .ref (ad D 115)), (1, .long x1)] [] (F, h, g) := by
  refine V_iconst (v := 0) dX8_isParam_0 (by decide) ?_
  refine V_istore_n (l1 := [(3, .int 0), (0, .ref (ad D 115)), (1, .long x1)]) dX8_isParam_1 rfl (by decide) rfl ?_
  refine V_iconst (v := 0) dX8_isParam_2 (by decide) ?_
  refine V_istore (l1 := [(4, .int 0), (3, .int 0), (0, .ref (ad D 115)), (1, .long x1)]) dX8_isParam_3 (by decide) rfl ?_
  refine V.sub [2, 3, 1, 0] rfl ?_
  exact H
theorem wX8_isParam {D : DE} {f : Nat} {Q : Int32 → HI → HL → Prop} {F : Frm} {h : HI} {g : HL} (hF : k_Fix F) (x1 : Int64) (H : JX8_isParam_0 D f Q F h g x1) : Si D f mX8_isParam [.ref (ad D 115), .long x1] F h g Q := Cl.ofV (by decide) (Nat.le_of_ble_eq_true rfl) rfl (bX8_isParam_0 hF x1 H)
theorem dX8_name_0 : decode cX8_name 0 = .ok (.aload_n 0, 1) := by decide +kernel
theorem dX8_name_1 : decode cX8_name 1 = .ok (.getfield 176, 3) := by decide +kernel
theorem dX8_name_4 : decode cX8_name 4 = .ok (.ifCond .ne 21, 3) := by decide +kernel
theorem dX8_name_7 : decode cX8_name 7 = .ok (.aload_n 0, 1) := by decide +kernel
theorem dX8_name_8 : decode cX8_name 8 = .ok (.getfield 193, 3) := by decide +kernel
theorem dX8_name_11 : decode cX8_name 11 = .ok (.bipush 10, 2) := by decide +kernel
theorem dX8_name_13 : decode cX8_name 13 = .ok (.if_icmp .eq 12, 3) := by decide +kernel
theorem dX8_name_16 : decode cX8_name 16 = .ok (.aload_n 0, 1) := by decide +kernel
theorem dX8_name_17 : decode cX8_name 17 = .ok (.iconst 2, 1) := by decide +kernel
theorem dX8_name_18 : decode cX8_name 18 = .ok (.aload_n 0, 1) := by decide +kernel
theorem dX8_name_19 : decode cX8_name 19 = .ok (.getfield 190, 3) := by decide +kernel
theorem dX8_name_22 : decode cX8_name 22 = .ok (.invokevirtual 205, 3) := by decide +kernel
theorem dX8_name_25 : decode cX8_name 25 = .ok (.aload_n 0, 1) := by decide +kernel
theorem dX8_name_26 : decode cX8_name 26 = .ok (.getfield 176, 3) := by decide +kernel
theorem dX8_name_29 : decode cX8_name 29 = .ok (.ifCond .ne 27, 3) := by decide +kernel
theorem dX8_name_32 : decode cX8_name 32 = .ok (.iload_n 1, 1) := by decide +kernel
theorem dX8_name_33 : decode cX8_name 33 = .ok (.ifCond .eq 23, 3) := by decide +kernel
theorem dX8_name_36 : decode cX8_name 36 = .ok (.aload_n 0, 1) := by decide +kernel
theorem dX8_name_37 : decode cX8_name 37 = .ok (.aload_n 0, 1) := by decide +kernel
theorem dX8_name_38 : decode cX8_name 38 = .ok (.getfield 222, 3) := by decide +kernel
theorem dX8_name_41 : decode cX8_name 41 = .ok (.invokevirtual 235, 3) := by decide +kernel
theorem dX8_name_44 : decode cX8_name 44 = .ok (.ifCond .eq 12, 3) := by decide +kernel
theorem dX8_name_47 : decode cX8_name 47 = .ok (.aload_n 0, 1) := by decide +kernel
theorem dX8_name_48 : decode cX8_name 48 = .ok (.iconst 3, 1) := by decide +kernel
theorem dX8_name_49 : decode cX8_name 49 = .ok (.aload_n 0, 1) := by decide +kernel
theorem dX8_name_50 : decode cX8_name 50 = .ok (.getfield 190, 3) := by decide +kernel
theorem dX8_name_53 : decode cX8_name 53 = .ok (.invokevirtual 205, 3) := by decide +kernel
theorem dX8_name_56 : decode cX8_name 56 = .ok (.aload_n 0, 1) := by decide +kernel
theorem dX8_name_57 : decode cX8_name 57 = .ok (.getfield 176, 3) := by decide +kernel
theorem dX8_name_60 : decode cX8_name 60 = .ok (.ifCond .ne 44, 3) := by decide +kernel
theorem dX8_name_63 : decode cX8_name 63 = .ok (.iload_n 1, 1) := by decide +kernel
theorem dX8_name_64 : decode cX8_name 64 = .ok (.ifCond .eq 16, 3) := by decide +kernel
theorem dX8_name_67 : decode cX8_name 67 = .ok (.aload_n 0, 1) := by decide +kernel
theorem dX8_name_68 : decode cX8_name 68 = .ok (.getfield 24, 3) := by decide +kernel
theorem dX8_name_71 : decode cX8_name 71 = .ok (.aload_n 0, 1) := by decide +kernel
theorem dX8_name_72 : decode cX8_name 72 = .ok (.getfield 239, 3) := by decide +kernel
theorem dX8_name_75 : decode cX8_name 75 = .ok (.iaload, 1) := by decide +kernel
theorem dX8_name_76 : decode cX8_name 76 = .ok (.iconst 4, 1) := by decide +kernel
theorem dX8_name_77 : decode cX8_name 77 = .ok (.if_icmp .eq 17, 3) := by decide +kernel
theorem dX8_name_80 : decode cX8_name 80 = .ok (.aload_n 0, 1) := by decide +kernel
theorem dX8_name_81 : decode cX8_name 81 = .ok (.getfield 27, 3) := by decide +kernel
theorem dX8_name_84 : decode cX8_name 84 = .ok (.aload_n 0, 1) := by decide +kernel
theorem dX8_name_85 : decode cX8_name 85 = .ok (.getfield 239, 3) := by decide +kernel
theorem dX8_name_88 : decode cX8_name 88 = .ok (.iaload, 1) := by decide +kernel
theorem dX8_name_89 : decode cX8_name 89 = .ok (.bipush 16, 2) := by decide +kernel
theorem dX8_name_91 : decode cX8_name 91 = .ok (.if_icmp .ne 13, 3) := by decide +kernel
theorem dX8_name_94 : decode cX8_name 94 = .ok (.aload_n 0, 1) := by decide +kernel
theorem dX8_name_95 : decode cX8_name 95 = .ok (.bipush 6, 2) := by decide +kernel
theorem dX8_name_97 : decode cX8_name 97 = .ok (.aload_n 0, 1) := by decide +kernel
theorem dX8_name_98 : decode cX8_name 98 = .ok (.getfield 190, 3) := by decide +kernel
theorem dX8_name_101 : decode cX8_name 101 = .ok (.invokevirtual 205, 3) := by decide +kernel
theorem dX8_name_104 : decode cX8_name 104 = .ok (.aload_n 0, 1) := by decide +kernel
theorem dX8_name_105 : decode cX8_name 105 = .ok (.getfield 176, 3) := by decide +kernel
theorem dX8_name_108 : decode cX8_name 108 = .ok (.ifCond .eq 5, 3) := by decide +kernel
theorem dX8_name_111 : decode cX8_name 111 = .ok (.iconst 0, 1) := by decide +kernel
theorem dX8_name_112 : decode cX8_name 112 = .ok (.ireturn, 1) := by decide +kernel
theorem dX8_name_113 : decode cX8_name 113 = .ok (.aload_n 0, 1) := by decide +kernel
theorem dX8_name_114 : decode cX8_name 114 = .ok (.getfield 27, 3) := by decide +kernel
theorem dX8_name_117 : decode cX8_name 117 = .ok (.aload_n 0, 1) := by decide +kernel
theorem dX8_name_118 : decode cX8_name 118 = .ok (.getfield 239, 3) := by decide +kernel
theorem dX8_name_121 : decode cX8_name 121 = .ok (.iaload, 1) := by decide +kernel
theorem dX8_name_122 : decode cX8_name 122 = .ok (.istore_n 2, 1) := by decide +kernel
theorem dX8_name_123 : decode cX8_name 123 = .ok (.aload_n 0, 1) := by decide +kernel
theorem dX8_name_124 : decode cX8_name 124 = .ok (.getfield 33, 3) := by decide +kernel
theorem dX8_name_127 : decode cX8_name 127 = .ok (.bipush 16, 2) := by decide +kernel
theorem dX8_name_129 : decode cX8_name 129 = .ok (.aload_n 0, 1) := by decide +kernel
theorem dX8_name_130 : decode cX8_name 130 = .ok (.getfield 239, 3) := by decide +kernel
theorem dX8_name_133 : decode cX8_name 133 = .ok (.imul, 1) := by decide +kernel
theorem dX8_name_134 : decode cX8_name 134 = .ok (.iload_n 2, 1) := by decide +kernel
theorem dX8_name_135 : decode cX8_name 135 = .ok (.iadd, 1) := by decide +kernel
theorem dX8_name_136 : decode cX8_name 136 = .ok (.aload_n 0, 1) := by decide +kernel
theorem dX8_name_137 : decode cX8_name 137 = .ok (.getfield 222, 3) := by decide +kernel
theorem dX8_name_140 : decode cX8_name 140 = .ok (.lastore, 1) := by decide +kernel
theorem dX8_name_141 : decode cX8_name 141 = .ok (.aload_n 0, 1) := by decide +kernel
theorem dX8_name_142 : decode cX8_name 142 = .ok (.getfield 27, 3) := by decide +kernel
theorem dX8_name_145 : decode cX8_name 145 = .ok (.aload_n 0, 1) := by decide +kernel
theorem dX8_name_146 : decode cX8_name 146 = .ok (.getfield 239, 3) := by decide +kernel
theorem dX8_name_149 : decode cX8_name 149 = .ok (.dup2, 1) := by decide +kernel
theorem dX8_name_150 : decode cX8_name 150 = .ok (.iaload, 1) := by decide +kernel
theorem dX8_name_151 : decode cX8_name 151 = .ok (.iconst 1, 1) := by decide +kernel
theorem dX8_name_152 : decode cX8_name 152 = .ok (.iadd, 1) := by decide +kernel
theorem dX8_name_153 : decode cX8_name 153 = .ok (.iastore, 1) := by decide +kernel
theorem dX8_name_154 : decode cX8_name 154 = .ok (.aload_n 0, 1) := by decide +kernel
theorem dX8_name_155 : decode cX8_name 155 = .ok (.invokevirtual 229, 3) := by decide +kernel
theorem dX8_name_158 : decode cX8_name 158 = .ok (.iload_n 2, 1) := by decide +kernel
theorem dX8_name_159 : decode cX8_name 159 = .ok (.ireturn, 1) := by decide +kernel
abbrev JX8_name_104 (D : DE) (f : Nat) (Q : Int32 → HI → HL → Prop) (F : Frm) (h : HI) (g : HL) : Prop := (((h 115 9) = 0 → vp_in (h 115 33) 24 ∧ ∀ y3 : Int32, y3 = h 120 (ix (h 115 33)) → vp_in ((16 * (h 115 33)) + y3) 384 ∧ ∀ g6, g6 = up2 g 122 (ix ((16 * (h 115 33)) + y3)) (g 115 7) → vp_in (h 115 33) 24 ∧ vp_in (h 115 33) 24 ∧ ∀ h10, h10 = up2 h 120 (ix (h 115 33)) ((h 120 (ix (h 115 33))) + 1) → Sv D f mX8_pass [.ref (ad D 115)] F h10 g6 (fun h12 g13 => Q y3 h12 g13)) ∧ (¬ (h 115 9) = 0 → Q 0 h g))
theorem bX8_name_104 {D : DE} {f : Nat} {Q : Int32 → HI → HL → Prop} {F : Frm} {h : HI} {g : HL} (hF : k_Fix F)  (H : JX8_name_104 D f Q F h g ) : V D mX8_name (f + 1) (qi F Q) 104 [(0, .ref (ad D 115))] [] (F, h, g) := by
  refine V_aload_n dX8_name_104 rfl 0 rfl ?_
  refine H_geti ck7 9 (by decide) (fs_115 hF) (by decide) rfl q1467 dX8_name_105 ?_
  refine V_if_eq (tgt := 113) dX8_name_108 (by decide) (fun c1 => ?_) (fun c1 => ?_)
  · have H := H.1 c1
    refine V_aload_n dX8_name_113 rfl 0 rfl ?_
    refine H_getr ck7 14 (by decide) (fs_115 hF) (by decide) rfl (fr_115_14 hF) q1472 dX8_name_114 ?_
    refine V_aload_n dX8_name_117 rfl 0 rfl ?_
    refine H_geti ck7 33 (by decide) (fs_115 hF) (by decide) rfl q1491 dX8_name_118 ?_
    obtain ⟨i2, H⟩ := H
    refine H_iald (fs_120 hF) i2 dX8_name_121 ?_
    refine V_topi (fun y3 e4 => ?_)
    have H := H y3 e4
    refine V_istore_n (l1 := [(2, .int y3), (0, .ref (ad D 115))]) dX8_name_122 rfl (by decide) rfl ?_
    refine V_aload_n dX8_name_123 rfl 1 rfl ?_
    refine H_getr ck7 16 (by decide) (fs_115 hF) (by decide) rfl (fr_115_16 hF) q1474 dX8_name_124 ?_
    refine V_bipush (v := 16) dX8_name_127 (by decide) ?_
    refine V_aload_n dX8_name_129 rfl 1 rfl ?_
    refine H_geti ck7 33 (by decide) (fs_115 hF) (by decide) rfl q1491 dX8_name_130 ?_
    refine V_imul dX8_name_133 ?_
    refine V_iload_n dX8_name_134 rfl 0 rfl ?_
    refine V_iadd dX8_name_135 ?_
    refine V_aload_n dX8_name_136 rfl 1 rfl ?_
    refine H_getl ck7 7 (by decide) (fs_115 hF) (by decide) rfl q1465 dX8_name_137 ?_
    obtain ⟨i5, H⟩ := H
    refine H_last (fs_122 hF) i5 dX8_name_140 (fun g6 e7 => ?_)
    have H := H g6 e7
    refine V_aload_n dX8_name_141 rfl 1 rfl ?_
    refine H_getr ck7 14 (by decide) (fs_115 hF) (by decide) rfl (fr_115_14 hF) q1472 dX8_name_142 ?_
    refine V_aload_n dX8_name_145 rfl 1 rfl ?_
    refine H_geti ck7 33 (by decide) (fs_115 hF) (by decide) rfl q1491 dX8_name_146 ?_
    refine V_dup2 dX8_name_149 rfl rfl ?_
    obtain ⟨i8, H⟩ := H
    refine H_iald (fs_120 hF) i8 dX8_name_150 ?_
    refine V_iconst (v := 1) dX8_name_151 (by decide) ?_
    refine V_iadd dX8_name_152 ?_
    obtain ⟨i9, H⟩ := H
    refine H_iast (fs_120 hF) i9 dX8_name_153 (fun h10 e11 => ?_)
    have H := H h10 e11
    refine V_aload_n dX8_name_154 rfl 1 rfl ?_
    refine H_callv (av := [.ref (ad D 115)]) (rest := []) H mqX8_pass q88 (by decide) (Nat.le_of_ble_eq_true rfl) (k_resV (ci := 7) (av := []) (rest := []) (fs_115 hF) (by decide) rfl rfl q1759 q1761 qs33 q1762 mhX8_pass mnX8_pass dX8_name_155) (fun h12 g13 H => ?_)
    refine V_iload_n dX8_name_158 rfl 0 rfl ?_
    exact H_iret rfl dX8_name_159 H
  · have H := H.2 c1
    refine V_iconst (v := 0) dX8_name_111 (by decide) ?_
    exact H_iret rfl dX8_name_112 H
abbrev JX8_name_94 (D : DE) (f : Nat) (Q : Int32 → HI → HL → Prop) (F : Frm) (h : HI) (g : HL) : Prop := Sv D f mX8_stop [.ref (ad D 115), .int 6, .int (h 115 5)] F h g (fun h1 g2 => JX8_name_104 D f Q F h1 g2)
theorem bX8_name_94 {D : DE} {f : Nat} {Q : Int32 → HI → HL → Prop} {F : Frm} {h : HI} {g : HL} (hF : k_Fix F)  (H : JX8_name_94 D f Q F h g ) : V D mX8_name (f + 1) (qi F Q) 94 [(0, .ref (ad D 115))] [] (F, h, g) := by
  refine V_aload_n dX8_name_94 rfl 0 rfl ?_
  refine V_bipush (v := 6) dX8_name_95 (by decide) ?_
  refine V_aload_n dX8_name_97 rfl 0 rfl ?_
  refine H_geti ck7 5 (by decide) (fs_115 hF) (by decide) rfl q1463 dX8_name_98 ?_
  refine H_callv (av := [.ref (ad D 115), .int 6, .int (h 115 5)]) (rest := []) H mqX8_stop q88 (by decide) (Nat.le_of_ble_eq_true rfl) (k_resV (ci := 7) (av := [.int 6, .int (h 115 5)]) (rest := []) (fs_115 hF) (by decide) rfl rfl q1751 q1753 qs31 q1754 mhX8_stop mnX8_stop dX8_name_101) (fun h1 g2 H => ?_)
  exact bX8_name_104 hF  H
abbrev JX8_name_80 (D : DE) (f : Nat) (Q : Int32 → HI → HL → Prop) (F : Frm) (h : HI) (g : HL) : Prop := vp_in (h 115 33) 24 ∧ ((¬ (h 120 (ix (h 115 33))) = 16 → JX8_name_104 D f Q F h g) ∧ ((h 120 (ix (h 115 33))) = 16 → JX8_name_94 D f Q F h g))
theorem bX8_name_80 {D : DE} {f : Nat} {Q : Int32 → HI → HL → Prop} {F : Frm} {h : HI} {g : HL} (hF : k_Fix F)  (H : JX8_name_80 D f Q F h g ) : V D mX8_name (f + 1) (qi F Q) 80 [(0, .ref (ad D 115))] [] (F, h, g) := by
  refine V_aload_n dX8_name_80 rfl 0 rfl ?_
  refine H_getr ck7 14 (by decide) (fs_115 hF) (by decide) rfl (fr_115_14 hF) q1472 dX8_name_81 ?_
  refine V_aload_n dX8_name_84 rfl 0 rfl ?_
  refine H_geti ck7 33 (by decide) (fs_115 hF) (by decide) rfl q1491 dX8_name_85 ?_
  obtain ⟨i1, H⟩ := H
  refine H_iald (fs_120 hF) i1 dX8_name_88 ?_
  refine V_bipush (v := 16) dX8_name_89 (by decide) ?_
  refine V_icmp_ne (tgt := 104) dX8_name_91 (by decide) (fun c2 => ?_) (fun c2 => ?_)
  · have H := H.1 c2
    exact bX8_name_104 hF  H
  · have H := H.2 c2
    exact bX8_name_94 hF  H
abbrev JX8_name_56 (D : DE) (f : Nat) (Q : Int32 → HI → HL → Prop) (F : Frm) (h : HI) (g : HL) (x1 : Int32) : Prop := ((¬ (h 115 9) = 0 → JX8_name_104 D f Q F h g) ∧ ((h 115 9) = 0 → ((x1 = 0 → JX8_name_80 D f Q F h g) ∧ (¬ x1 = 0 → vp_in (h 115 33) 24 ∧ (((h 119 (ix (h 115 33))) = 4 → JX8_name_94 D f Q F h g) ∧ (¬ (h 119 (ix (h 115 33))) = 4 → JX8_name_80 D f Q F h g))))))
theorem bX8_name_56 {D : DE} {f : Nat} {Q : Int32 → HI → HL → Prop} {F : Frm} {h : HI} {g : HL} (hF : k_Fix F) (x1 : Int32) (H : JX8_name_56 D f Q F h g x1) : V D mX8_name (f + 1) (qi F Q) 56 [(0, .ref (ad D 115)), (1, .int x1)] [] (F, h, g) := by
  refine V_aload_n dX8_name_56 rfl 0 rfl ?_
  refine H_geti ck7 9 (by decide) (fs_115 hF) (by decide) rfl q1467 dX8_name_57 ?_
  refine V_if_ne (tgt := 104) dX8_name_60 (by decide) (fun c1 => ?_) (fun c1 => ?_)
  · have H := H.1 c1
    refine V.sub [0] rfl ?_
    exact bX8_name_104 hF  H
  · have H := H.2 c1
    refine V_iload_n dX8_name_63 rfl 1 rfl ?_
    refine V_if_eq (tgt := 80) dX8_name_64 (by decide) (fun c2 => ?_) (fun c2 => ?_)
    · have H := H.1 c2
      refine V.sub [0] rfl ?_
      exact bX8_name_80 hF  H
    · have H := H.2 c2
      refine V_aload_n dX8_name_67 rfl 0 rfl ?_
      refine H_getr ck7 13 (by decide) (fs_115 hF) (by decide) rfl (fr_115_13 hF) q1471 dX8_name_68 ?_
      refine V_aload_n dX8_name_71 rfl 0 rfl ?_
      refine H_geti ck7 33 (by decide) (fs_115 hF) (by decide) rfl q1491 dX8_name_72 ?_
      obtain ⟨i3, H⟩ := H
      refine H_iald (fs_119 hF) i3 dX8_name_75 ?_
      refine V_iconst (v := 4) dX8_name_76 (by decide) ?_
      refine V_icmp_eq (tgt := 94) dX8_name_77 (by decide) (fun c4 => ?_) (fun c4 => ?_)
      · have H := H.1 c4
        refine V.sub [0] rfl ?_
        exact bX8_name_94 hF  H
      · have H := H.2 c4
        refine V.sub [0] rfl ?_
        exact bX8_name_80 hF  H
abbrev JX8_name_25 (D : DE) (f : Nat) (Q : Int32 → HI → HL → Prop) (F : Frm) (h : HI) (g : HL) (x1 : Int32) : Prop := ((¬ (h 115 9) = 0 → JX8_name_56 D f Q F h g x1) ∧ ((h 115 9) = 0 → ((x1 = 0 → JX8_name_56 D f Q F h g x1) ∧ (¬ x1 = 0 → Si D f mX8_isParam [.ref (ad D 115), .long (g 115 7)] F h g (fun y5 h3 g4 => ((y5 = 0 → JX8_name_56 D f Q F h3 g4 x1) ∧ (¬ y5 = 0 → Sv D f mX8_stop [.ref (ad D 115), .int 3, .int (h3 115 5)] F h3 g4 (fun h7 g8 => JX8_name_56 D f Q F h7 g8 x1))))))))
theorem bX8_name_25 {D : DE} {f : Nat} {Q : Int32 → HI → HL → Prop} {F : Frm} {h : HI} {g : HL} (hF : k_Fix F) (x1 : Int32) (H : JX8_name_25 D f Q F h g x1) : V D mX8_name (f + 1) (qi F Q) 25 [(0, .ref (ad D 115)), (1, .int x1)] [] (F, h, g) := by
  refine V_aload_n dX8_name_25 rfl 0 rfl ?_
  refine H_geti ck7 9 (by decide) (fs_115 hF) (by decide) rfl q1467 dX8_name_26 ?_
  refine V_if_ne (tgt := 56) dX8_name_29 (by decide) (fun c1 => ?_) (fun c1 => ?_)
  · have H := H.1 c1
    exact bX8_name_56 hF x1 H
  · have H := H.2 c1
    refine V_iload_n dX8_name_32 rfl 1 rfl ?_
    refine V_if_eq (tgt := 56) dX8_name_33 (by decide) (fun c2 => ?_) (fun c2 => ?_)
    · have H := H.1 c2
      exact bX8_name_56 hF x1 H
    · have H := H.2 c2
      refine V_aload_n dX8_name_36 rfl 0 rfl ?_
      refine V_aload_n dX8_name_37 rfl 0 rfl ?_
      refine H_getl ck7 7 (by decide) (fs_115 hF) (by decide) rfl q1465 dX8_name_38 ?_
      refine H_calli (av := [.ref (ad D 115), .long (g 115 7)]) (rest := []) H mqX8_isParam q88 (by decide) (Nat.le_of_ble_eq_true rfl) (k_resV (ci := 7) (av := [.long (g 115 7)]) (rest := []) (fs_115 hF) (by decide) rfl rfl q1771 q1773 qs36 q1774 mhX8_isParam mnX8_isParam dX8_name_41) (fun y5 h3 g4 H => ?_)
      refine V_if_eq (tgt := 56) dX8_name_44 (by decide) (fun c6 => ?_) (fun c6 => ?_)
      · have H := H.1 c6
        exact bX8_name_56 hF x1 H
      · have H := H.2 c6
        refine V_aload_n dX8_name_47 rfl 0 rfl ?_
        refine V_iconst (v := 3) dX8_name_48 (by decide) ?_
        refine V_aload_n dX8_name_49 rfl 0 rfl ?_
        refine H_geti ck7 5 (by decide) (fs_115 hF) (by decide) rfl q1463 dX8_name_50 ?_
        refine H_callv (av := [.ref (ad D 115), .int 3, .int (h3 115 5)]) (rest := []) H mqX8_stop q88 (by decide) (Nat.le_of_ble_eq_true rfl) (k_resV (ci := 7) (av := [.int 3, .int (h3 115 5)]) (rest := []) (fs_115 hF) (by decide) rfl rfl q1751 q1753 qs31 q1754 mhX8_stop mnX8_stop dX8_name_53) (fun h7 g8 H => ?_)
        exact bX8_name_56 hF x1 H
abbrev JX8_name_0 (D : DE) (f : Nat) (Q : Int32 → HI → HL → Prop) (F : Frm) (h : HI) (g : HL) (x1 : Int32) : Prop := ((¬ (h 115 9) = 0 → JX8_name_25 D f Q F h g x1) ∧ ((h 115 9) = 0 → (((h 115 4) = 10 → JX8_name_25 D f Q F h g x1) ∧ (¬ (h 115 4) = 10 → Sv D f mX8_stop [.ref (ad D 115), .int 2, .int (h 115 5)] F h g (fun h3 g4 => JX8_name_25 D f Q F h3 g4 x1)))))
theorem bX8_name_0 {D : DE} {f : Nat} {Q : Int32 → HI → HL → Prop} {F : Frm} {h : HI} {g : HL} (hF : k_Fix F) (x1 : Int32) (H : JX8_name_0 D f Q F h g x1) : V D mX8_name (f + 1) (qi F Q) 0 [(0, .ref (ad D 115)), (1, .int x1)] [] (F, h, g) := by
  refine V_aload_n dX8_name_0 rfl 0 rfl ?_
  refine H_geti ck7 9 (by decide) (fs_115 hF) (by decide) rfl q1467 dX8_name_1 ?_
  refine V_if_ne (tgt := 25) dX8_name_4 (by decide) (fun c1 => ?_) (fun c1 => ?_)
  · have H := H.1 c1
    exact bX8_name_25 hF x1 H
  · have H := H.2 c1
    refine V_aload_n dX8_name_7 rfl 0 rfl ?_
    refine H_geti ck7 4 (by decide) (fs_115 hF) (by decide) rfl q1462 dX8_name_8 ?_
    refine V_bipush (v := 10) dX8_name_11 (by decide) ?_
    refine V_icmp_eq (tgt := 25) dX8_name_13 (by decide) (fun c2 => ?_) (fun c2 => ?_)
    · have H := H.1 c2
      exact bX8_name_25 hF x1 H
    · have H := H.2 c2
      refine V_aload_n dX8_name_16 rfl 0 rfl ?_
      refine V_iconst (v := 2) dX8_name_17 (by decide) ?_
      refine V_aload_n dX8_name_18 rfl 0 rfl ?_
      refine H_geti ck7 5 (by decide) (fs_115 hF) (by decide) rfl q1463 dX8_name_19 ?_
      refine H_callv (av := [.ref (ad D 115), .int 2, .int (h 115 5)]) (rest := []) H mqX8_stop q88 (by decide) (Nat.le_of_ble_eq_true rfl) (k_resV (ci := 7) (av := [.int 2, .int (h 115 5)]) (rest := []) (fs_115 hF) (by decide) rfl rfl q1751 q1753 qs31 q1754 mhX8_stop mnX8_stop dX8_name_22) (fun h3 g4 H => ?_)
      exact bX8_name_25 hF x1 H
theorem wX8_name {D : DE} {f : Nat} {Q : Int32 → HI → HL → Prop} {F : Frm} {h : HI} {g : HL} (hF : k_Fix F) (x1 : Int32) (H : JX8_name_0 D f Q F h g x1) : Si D (f + 1) mX8_name [.ref (ad D 115), .int x1] F h g Q := Cl.ofV (by decide) (Nat.le_of_ble_eq_true rfl) rfl (bX8_name_0 hF x1 H)
theorem dX8_push_0 : decode cX8_push 0 = .ok (.aload_n 0, 1) := by decide +kernel
theorem dX8_push_1 : decode cX8_push 1 = .ok (.getfield 242, 3) := by decide +kernel
theorem dX8_push_4 : decode cX8_push 4 = .ok (.sipush 3000, 3) := by decide +kernel
theorem dX8_push_7 : decode cX8_push 7 = .ok (.if_icmp .ge 33, 3) := by decide +kernel
theorem dX8_push_10 : decode cX8_push 10 = .ok (.aload_n 0, 1) := by decide +kernel
theorem dX8_push_11 : decode cX8_push 11 = .ok (.getfield 69, 3) := by decide +kernel
theorem dX8_push_14 : decode cX8_push 14 = .ok (.aload_n 0, 1) := by decide +kernel
theorem dX8_push_15 : decode cX8_push 15 = .ok (.getfield 242, 3) := by decide +kernel
theorem dX8_push_18 : decode cX8_push 18 = .ok (.iload_n 1, 1) := by decide +kernel
theorem dX8_push_19 : decode cX8_push 19 = .ok (.iastore, 1) := by decide +kernel
theorem dX8_push_20 : decode cX8_push 20 = .ok (.aload_n 0, 1) := by decide +kernel
theorem dX8_push_21 : decode cX8_push 21 = .ok (.getfield 72, 3) := by decide +kernel
theorem dX8_push_24 : decode cX8_push 24 = .ok (.aload_n 0, 1) := by decide +kernel
theorem dX8_push_25 : decode cX8_push 25 = .ok (.getfield 242, 3) := by decide +kernel
theorem dX8_push_28 : decode cX8_push 28 = .ok (.iload_n 2, 1) := by decide +kernel
theorem dX8_push_29 : decode cX8_push 29 = .ok (.iastore, 1) := by decide +kernel
theorem dX8_push_30 : decode cX8_push 30 = .ok (.aload_n 0, 1) := by decide +kernel
theorem dX8_push_31 : decode cX8_push 31 = .ok (.dup, 1) := by decide +kernel
theorem dX8_push_32 : decode cX8_push 32 = .ok (.getfield 242, 3) := by decide +kernel
theorem dX8_push_35 : decode cX8_push 35 = .ok (.iconst 1, 1) := by decide +kernel
theorem dX8_push_36 : decode cX8_push 36 = .ok (.iadd, 1) := by decide +kernel
theorem dX8_push_37 : decode cX8_push 37 = .ok (.putfield 242, 3) := by decide +kernel
theorem dX8_push_40 : decode cX8_push 40 = .ok (.return_, 1) := by decide +kernel
abbrev JX8_push_0 (D : DE) (f : Nat) (Q : HI → HL → Prop) (F : Frm) (h : HI) (g : HL) (x1 : Int32) (x2 : Int32) : Prop := ((3000 ≤ (h 115 36) → Q h g) ∧ (¬ 3000 ≤ (h 115 36) → vp_in (h 115 36) 3000 ∧ ∀ h3, h3 = up2 h 134 (ix (h 115 36)) x1 → vp_in (h3 115 36) 3000 ∧ ∀ h6, h6 = up2 h3 135 (ix (h3 115 36)) x2 → ∀ h8, h8 = up2 h6 115 36 ((h6 115 36) + 1) → Q h8 g))
theorem bX8_push_0 {D : DE} {f : Nat} {Q : HI → HL → Prop} {F : Frm} {h : HI} {g : HL} (hF : k_Fix F) (x1 : Int32) (x2 : Int32) (H : JX8_push_0 D f Q F h g x1 x2) : V D mX8_push f (qv F Q) 0 [(0, .ref (ad D 115)), (1, .int x1), (2, .int x2)] [] (F, h, g) := by
  refine V_aload_n dX8_push_0 rfl 0 rfl ?_
  refine H_geti ck7 36 (by decide) (fs_115 hF) (by decide) rfl q1494 dX8_push_1 ?_
  refine V_sipush (v := 3000) dX8_push_4 (by decide) ?_
  refine V_icmp_ge (tgt := 40) dX8_push_7 (by decide) (fun c1 => ?_) (fun c1 => ?_)
  · have H := H.1 c1
    exact H_vret rfl dX8_push_40 H
  · have H := H.2 c1
    refine V_aload_n dX8_push_10 rfl 0 rfl ?_
    refine H_getr ck7 34 (by decide) (fs_115 hF) (by decide) rfl (fr_115_34 hF) q1492 dX8_push_11 ?_
    refine V_aload_n dX8_push_14 rfl 0 rfl ?_
    refine H_geti ck7 36 (by decide) (fs_115 hF) (by decide) rfl q1494 dX8_push_15 ?_
    refine V_iload_n dX8_push_18 rfl 1 rfl ?_
    obtain ⟨i2, H⟩ := H
    refine H_iast (fs_134 hF) i2 dX8_push_19 (fun h3 e4 => ?_)
    have H := H h3 e4
    refine V_aload_n dX8_push_20 rfl 0 rfl ?_
    refine H_getr ck7 35 (by decide) (fs_115 hF) (by decide) rfl (fr_115_35 hF) q1493 dX8_push_21 ?_
    refine V_aload_n dX8_push_24 rfl 0 rfl ?_
    refine H_geti ck7 36 (by decide) (fs_115 hF) (by decide) rfl q1494 dX8_push_25 ?_
    refine V_iload_n dX8_push_28 rfl 2 rfl ?_
    obtain ⟨i5, H⟩ := H
    refine H_iast (fs_135 hF) i5 dX8_push_29 (fun h6 e7 => ?_)
    have H := H h6 e7
    refine V_aload_n dX8_push_30 rfl 0 rfl ?_
    refine V_dup dX8_push_31 rfl ?_
    refine H_geti ck7 36 (by decide) (fs_115 hF) (by decide) rfl q1494 dX8_push_32 ?_
    refine V_iconst (v := 1) dX8_push_35 (by decide) ?_
    refine V_iadd dX8_push_36 ?_
    refine H_puti ck7 36 (by decide) (fs_115 hF) (by decide) rfl rfl q1494 dX8_push_37 (fun h8 e9 => ?_)
    have H := H h8 e9
    exact H_vret rfl dX8_push_40 H
theorem wX8_push {D : DE} {f : Nat} {Q : HI → HL → Prop} {F : Frm} {h : HI} {g : HL} (hF : k_Fix F) (x1 : Int32) (x2 : Int32) (H : JX8_push_0 D f Q F h g x1 x2) : Sv D f mX8_push [.ref (ad D 115), .int x1, .int x2] F h g Q := Cl.ofV (by decide) (Nat.le_of_ble_eq_true rfl) rfl (bX8_push_0 hF x1 x2 H)
theorem dX8_make_0 : decode cX8_make 0 = .ok (.aload_n 0, 1) := by decide +kernel
theorem dX8_make_1 : decode cX8_make 1 = .ok (.getfield 245, 3) := by decide +kernel
theorem dX8_make_4 : decode cX8_make 4 = .ok (.sipush 1100, 3) := by decide +kernel
theorem dX8_make_7 : decode cX8_make 7 = .ok (.if_icmp .ge 23, 3) := by decide +kernel
theorem dX8_make_10 : decode cX8_make 10 = .ok (.aload_n 0, 1) := by decide +kernel
theorem dX8_make_11 : decode cX8_make 11 = .ok (.getfield 75, 3) := by decide +kernel
theorem dX8_make_14 : decode cX8_make 14 = .ok (.aload_n 0, 1) := by decide +kernel
theorem dX8_make_15 : decode cX8_make 15 = .ok (.getfield 245, 3) := by decide +kernel
theorem dX8_make_18 : decode cX8_make 18 = .ok (.iload_n 1, 1) := by decide +kernel
theorem dX8_make_19 : decode cX8_make 19 = .ok (.iastore, 1) := by decide +kernel
theorem dX8_make_20 : decode cX8_make 20 = .ok (.aload_n 0, 1) := by decide +kernel
theorem dX8_make_21 : decode cX8_make 21 = .ok (.dup, 1) := by decide +kernel
theorem dX8_make_22 : decode cX8_make 22 = .ok (.getfield 245, 3) := by decide +kernel
theorem dX8_make_25 : decode cX8_make 25 = .ok (.iconst 1, 1) := by decide +kernel
theorem dX8_make_26 : decode cX8_make 26 = .ok (.iadd, 1) := by decide +kernel
theorem dX8_make_27 : decode cX8_make 27 = .ok (.putfield 245, 3) := by decide +kernel
theorem dX8_make_30 : decode cX8_make 30 = .ok (.return_, 1) := by decide +kernel
abbrev JX8_make_0 (D : DE) (f : Nat) (Q : HI → HL → Prop) (F : Frm) (h : HI) (g : HL) (x1 : Int32) : Prop := ((1100 ≤ (h 115 38) → Q h g) ∧ (¬ 1100 ≤ (h 115 38) → vp_in (h 115 38) 1100 ∧ ∀ h3, h3 = up2 h 136 (ix (h 115 38)) x1 → ∀ h5, h5 = up2 h3 115 38 ((h3 115 38) + 1) → Q h5 g))
theorem bX8_make_0 {D : DE} {f : Nat} {Q : HI → HL → Prop} {F : Frm} {h : HI} {g : HL} (hF : k_Fix F) (x1 : Int32) (H : JX8_make_0 D f Q F h g x1) : V D mX8_make f (qv F Q) 0 [(0, .ref (ad D 115)), (1, .int x1)] [] (F, h, g) := by
  refine V_aload_n dX8_make_0 rfl 0 rfl ?_
  refine H_geti ck7 38 (by decide) (fs_115 hF) (by decide) rfl q1496 dX8_make_1 ?_
  refine V_sipush (v := 1100) dX8_make_4 (by decide) ?_
  refine V_icmp_ge (tgt := 30) dX8_make_7 (by decide) (fun c1 => ?_) (fun c1 => ?_)
  · have H := H.1 c1
    exact H_vret rfl dX8_make_30 H
  · have H := H.2 c1
    refine V_aload_n dX8_make_10 rfl 0 rfl ?_
    refine H_getr ck7 37 (by decide) (fs_115 hF) (by decide) rfl (fr_115_37 hF) q1495 dX8_make_11 ?_
    refine V_aload_n dX8_make_14 rfl 0 rfl ?_
    refine H_geti ck7 38 (by decide) (fs_115 hF) (by decide) rfl q1496 dX8_make_15 ?_
    refine V_iload_n dX8_make_18 rfl 1 rfl ?_
    obtain ⟨i2, H⟩ := H
    refine H_iast (fs_136 hF) i2 dX8_make_19 (fun h3 e4 => ?_)
    have H := H h3 e4
    refine V_aload_n dX8_make_20 rfl 0 rfl ?_
    refine V_dup dX8_make_21 rfl ?_
    refine H_geti ck7 38 (by decide) (fs_115 hF) (by decide) rfl q1496 dX8_make_22 ?_
    refine V_iconst (v := 1) dX8_make_25 (by decide) ?_
    refine V_iadd dX8_make_26 ?_
    refine H_puti ck7 38 (by decide) (fs_115 hF) (by decide) rfl rfl q1496 dX8_make_27 (fun h5 e6 => ?_)
    have H := H h5 e6
    exact H_vret rfl dX8_make_30 H
theorem wX8_make {D : DE} {f : Nat} {Q : HI → HL → Prop} {F : Frm} {h : HI} {g : HL} (hF : k_Fix F) (x1 : Int32) (H : JX8_make_0 D f Q F h g x1) : Sv D f mX8_make [.ref (ad D 115), .int x1] F h g Q := Cl.ofV (by decide) (Nat.le_of_ble_eq_true rfl) rfl (bX8_make_0 hF x1 H)
theorem dX8_last_0 : decode cX8_last 0 = .ok (.aload_n 0, 1) := by decide +kernel
theorem dX8_last_1 : decode cX8_last 1 = .ok (.dup, 1) := by decide +kernel
theorem dX8_last_2 : decode cX8_last 2 = .ok (.getfield 245, 3) := by decide +kernel
theorem dX8_last_5 : decode cX8_last 5 = .ok (.aload_n 0, 1) := by decide +kernel
theorem dX8_last_6 : decode cX8_last 6 = .ok (.getfield 245, 3) := by decide +kernel
theorem dX8_last_9 : decode cX8_last 9 = .ok (.ifCond .le 7, 3) := by decide +kernel
theorem dX8_last_12 : decode cX8_last 12 = .ok (.iconst 1, 1) := by decide +kernel
theorem dX8_last_13 : decode cX8_last 13 = .ok (.goto 4, 3) := by decide +kernel
theorem dX8_last_16 : decode cX8_last 16 = .ok (.iconst 0, 1) := by decide +kernel
theorem dX8_last_17 : decode cX8_last 17 = .ok (.isub, 1) := by decide +kernel
theorem dX8_last_18 : decode cX8_last 18 = .ok (.putfield 245, 3) := by decide +kernel
theorem dX8_last_21 : decode cX8_last 21 = .ok (.aload_n 0, 1) := by decide +kernel
theorem dX8_last_22 : decode cX8_last 22 = .ok (.getfield 75, 3) := by decide +kernel
theorem dX8_last_25 : decode cX8_last 25 = .ok (.aload_n 0, 1) := by decide +kernel
theorem dX8_last_26 : decode cX8_last 26 = .ok (.getfield 245, 3) := by decide +kernel
theorem dX8_last_29 : decode cX8_last 29 = .ok (.iaload, 1) := by decide +kernel
theorem dX8_last_30 : decode cX8_last 30 = .ok (.ireturn, 1) := by decide +kernel
abbrev JX8_last_17 (D : DE) (f : Nat) (Q : Int32 → HI → HL → Prop) (F : Frm) (h : HI) (g : HL) (s1 : Int32) (s2 : Int32) : Prop := ∀ h1, h1 = up2 h 115 38 (s1 - s2) → vp_in (h1 115 38) 1100 ∧ Q (h1 136 (ix (h1 115 38))) h1 g
theorem bX8_last_17 {D : DE} {f : Nat} {Q : Int32 → HI → HL → Prop} {F : Frm} {h : HI} {g : HL} (hF : k_Fix F) (s1 : Int32) (s2 : Int32) (H : JX8_last_17 D f Q F h g s1 s2) : V D mX8_last f (qi F Q) 17 [(0, .ref (ad D 115))] [.int s2, .int s1, .ref (ad D 115)] (F, h, g) := by
  refine V_isub dX8_last_17 ?_
  refine H_puti ck7 38 (by decide) (fs_115 hF) (by decide) rfl rfl q1496 dX8_last_18 (fun h1 e2 => ?_)
  have H := H h1 e2
  refine V_aload_n dX8_last_21 rfl 0 rfl ?_
  refine H_getr ck7 37 (by decide) (fs_115 hF) (by decide) rfl (fr_115_37 hF) q1495 dX8_last_22 ?_
  refine V_aload_n dX8_last_25 rfl 0 rfl ?_
  refine H_geti ck7 38 (by decide) (fs_115 hF) (by decide) rfl q1496 dX8_last_26 ?_
  obtain ⟨i3, H⟩ := H
  refine H_iald (fs_136 hF) i3 dX8_last_29 ?_
  exact H_iret rfl dX8_last_30 H
abbrev JX8_last_0 (D : DE) (f : Nat) (Q : Int32 → HI → HL → Prop) (F : Frm) (h : HI) (g : HL) : Prop := (((h 115 38) ≤ 0 → JX8_last_17 D f Q F h g (h 115 38) 0) ∧ (¬ (h 115 38) ≤ 0 → JX8_last_17 D f Q F h g (h 115 38) 1))
theorem bX8_last_0 {D : DE} {f : Nat} {Q : Int32 → HI → HL → Prop} {F : Frm} {h : HI} {g : HL} (hF : k_Fix F)  (H : JX8_last_0 D f Q F h g ) : V D mX8_last f (qi F Q) 0 [(0, .ref (ad D 115))] [] (F, h, g) := by
  refine V_aload_n dX8_last_0 rfl 0 rfl ?_
  refine V_dup dX8_last_1 rfl ?_
  refine H_geti ck7 38 (by decide) (fs_115 hF) (by decide) rfl q1496 dX8_last_2 ?_
  refine V_aload_n dX8_last_5 rfl 0 rfl ?_
  refine H_geti ck7 38 (by decide) (fs_115 hF) (by decide) rfl q1496 dX8_last_6 ?_
  refine V_if_le (tgt := 16) dX8_last_9 (by decide) (fun c1 => ?_) (fun c1 => ?_)
  · have H := H.1 c1
    refine V_iconst (v := 0) dX8_last_16 (by decide) ?_
    exact bX8_last_17 hF (h 115 38) 0 H
  · have H := H.2 c1
    refine V_iconst (v := 1) dX8_last_12 (by decide) ?_
    refine V_goto (tgt := 17) dX8_last_13 (by decide) ?_
    exact bX8_last_17 hF (h 115 38) 1 H
theorem wX8_last {D : DE} {f : Nat} {Q : Int32 → HI → HL → Prop} {F : Frm} {h : HI} {g : HL} (hF : k_Fix F)  (H : JX8_last_0 D f Q F h g ) : Si D f mX8_last [.ref (ad D 115)] F h g Q := Cl.ofV (by decide) (Nat.le_of_ble_eq_true rfl) rfl (bX8_last_0 hF  H)
theorem dX8_onType_0 : decode cX8_onType 0 = .ok (.iload_n 1, 1) := by decide +kernel
theorem dX8_onType_1 : decode cX8_onType 1 = .ok (.iconst 1, 1) := by decide +kernel
theorem dX8_onType_2 : decode cX8_onType 2 = .ok (.if_icmp .ne 11, 3) := by decide +kernel
theorem dX8_onType_5 : decode cX8_onType 5 = .ok (.aload_n 0, 1) := by decide +kernel
theorem dX8_onType_6 : decode cX8_onType 6 = .ok (.iload_n 2, 1) := by decide +kernel
theorem dX8_onType_7 : decode cX8_onType 7 = .ok (.invokevirtual 269, 3) := by decide +kernel
theorem dX8_onType_10 : decode cX8_onType 10 = .ok (.goto 177, 3) := by decide +kernel
theorem dX8_onType_13 : decode cX8_onType 13 = .ok (.iload_n 1, 1) := by decide +kernel
theorem dX8_onType_14 : decode cX8_onType 14 = .ok (.iconst 3, 1) := by decide +kernel
theorem dX8_onType_15 : decode cX8_onType 15 = .ok (.if_icmp .ne 58, 3) := by decide +kernel
theorem dX8_onType_18 : decode cX8_onType 18 = .ok (.aload_n 0, 1) := by decide +kernel
theorem dX8_onType_19 : decode cX8_onType 19 = .ok (.dup, 1) := by decide +kernel
theorem dX8_onType_20 : decode cX8_onType 20 = .ok (.getfield 248, 3) := by decide +kernel
theorem dX8_onType_23 : decode cX8_onType 23 = .ok (.iconst 2, 1) := by decide +kernel
theorem dX8_onType_24 : decode cX8_onType 24 = .ok (.isub, 1) := by decide +kernel
theorem dX8_onType_25 : decode cX8_onType 25 = .ok (.putfield 248, 3) := by decide +kernel
theorem dX8_onType_28 : decode cX8_onType 28 = .ok (.aload_n 0, 1) := by decide +kernel
theorem dX8_onType_29 : decode cX8_onType 29 = .ok (.getfield 78, 3) := by decide +kernel
theorem dX8_onType_32 : decode cX8_onType 32 = .ok (.aload_n 0, 1) := by decide +kernel
theorem dX8_onType_33 : decode cX8_onType 33 = .ok (.getfield 248, 3) := by decide +kernel
theorem dX8_onType_36 : decode cX8_onType 36 = .ok (.aload_n 0, 1) := by decide +kernel
theorem dX8_onType_37 : decode cX8_onType 37 = .ok (.getfield 78, 3) := by decide +kernel
theorem dX8_onType_40 : decode cX8_onType 40 = .ok (.aload_n 0, 1) := by decide +kernel
theorem dX8_onType_41 : decode cX8_onType 41 = .ok (.getfield 248, 3) := by decide +kernel
theorem dX8_onType_44 : decode cX8_onType 44 = .ok (.iaload, 1) := by decide +kernel
theorem dX8_onType_45 : decode cX8_onType 45 = .ok (.aload_n 0, 1) := by decide +kernel
theorem dX8_onType_46 : decode cX8_onType 46 = .ok (.getfield 78, 3) := by decide +kernel
theorem dX8_onType_49 : decode cX8_onType 49 = .ok (.aload_n 0, 1) := by decide +kernel
theorem dX8_onType_50 : decode cX8_onType 50 = .ok (.getfield 248, 3) := by decide +kernel
theorem dX8_onType_53 : decode cX8_onType 53 = .ok (.iconst 1, 1) := by decide +kernel
theorem dX8_onType_54 : decode cX8_onType 54 = .ok (.iadd, 1) := by decide +kernel
theorem dX8_onType_55 : decode cX8_onType 55 = .ok (.iaload, 1) := by decide +kernel
theorem dX8_onType_56 : decode cX8_onType 56 = .ok (.invokestatic 273, 3) := by decide +kernel
theorem dX8_onType_59 : decode cX8_onType 59 = .ok (.iastore, 1) := by decide +kernel
theorem dX8_onType_60 : decode cX8_onType 60 = .ok (.aload_n 0, 1) := by decide +kernel
theorem dX8_onType_61 : decode cX8_onType 61 = .ok (.dup, 1) := by decide +kernel
theorem dX8_onType_62 : decode cX8_onType 62 = .ok (.getfield 248, 3) := by decide +kernel
theorem dX8_onType_65 : decode cX8_onType 65 = .ok (.iconst 1, 1) := by decide +kernel
theorem dX8_onType_66 : decode cX8_onType 66 = .ok (.iadd, 1) := by decide +kernel
theorem dX8_onType_67 : decode cX8_onType 67 = .ok (.putfield 248, 3) := by decide +kernel
theorem dX8_onType_70 : decode cX8_onType 70 = .ok (.goto 117, 3) := by decide +kernel
theorem dX8_onType_73 : decode cX8_onType 73 = .ok (.aload_n 0, 1) := by decide +kernel
theorem dX8_onType_74 : decode cX8_onType 74 = .ok (.getfield 193, 3) := by decide +kernel
theorem dX8_onType_77 : decode cX8_onType 77 = .ok (.iconst 1, 1) := by decide +kernel
theorem dX8_onType_78 : decode cX8_onType 78 = .ok (.if_icmp .ne 30, 3) := by decide +kernel
theorem dX8_onType_81 : decode cX8_onType 81 = .ok (.aload_n 0, 1) := by decide +kernel
theorem dX8_onType_82 : decode cX8_onType 82 = .ok (.getfield 78, 3) := by decide +kernel
theorem dX8_onType_85 : decode cX8_onType 85 = .ok (.aload_n 0, 1) := by decide +kernel
theorem dX8_onType_86 : decode cX8_onType 86 = .ok (.getfield 248, 3) := by decide +kernel
theorem dX8_onType_89 : decode cX8_onType 89 = .ok (.iconst 0, 1) := by decide +kernel
theorem dX8_onType_90 : decode cX8_onType 90 = .ok (.iastore, 1) := by decide +kernel
theorem dX8_onType_91 : decode cX8_onType 91 = .ok (.aload_n 0, 1) := by decide +kernel
theorem dX8_onType_92 : decode cX8_onType 92 = .ok (.dup, 1) := by decide +kernel
theorem dX8_onType_93 : decode cX8_onType 93 = .ok (.getfield 248, 3) := by decide +kernel
theorem dX8_onType_96 : decode cX8_onType 96 = .ok (.iconst 1, 1) := by decide +kernel
theorem dX8_onType_97 : decode cX8_onType 97 = .ok (.iadd, 1) := by decide +kernel
theorem dX8_onType_98 : decode cX8_onType 98 = .ok (.putfield 248, 3) := by decide +kernel
theorem dX8_onType_101 : decode cX8_onType 101 = .ok (.aload_n 0, 1) := by decide +kernel
theorem dX8_onType_102 : decode cX8_onType 102 = .ok (.invokevirtual 229, 3) := by decide +kernel
theorem dX8_onType_105 : decode cX8_onType 105 = .ok (.goto 82, 3) := by decide +kernel
theorem dX8_onType_108 : decode cX8_onType 108 = .ok (.aload_n 0, 1) := by decide +kernel
theorem dX8_onType_109 : decode cX8_onType 109 = .ok (.getfield 193, 3) := by decide +kernel
theorem dX8_onType_112 : decode cX8_onType 112 = .ok (.bipush 14, 2) := by decide +kernel
theorem dX8_onType_114 : decode cX8_onType 114 = .ok (.if_icmp .eq 15, 3) := by decide +kernel
theorem dX8_onType_117 : decode cX8_onType 117 = .ok (.aload_n 0, 1) := by decide +kernel
theorem dX8_onType_118 : decode cX8_onType 118 = .ok (.iconst 2, 1) := by decide +kernel
theorem dX8_onType_119 : decode cX8_onType 119 = .ok (.aload_n 0, 1) := by decide +kernel
theorem dX8_onType_120 : decode cX8_onType 120 = .ok (.getfield 190, 3) := by decide +kernel
theorem dX8_onType_123 : decode cX8_onType 123 = .ok (.invokevirtual 205, 3) := by decide +kernel
theorem dX8_onType_126 : decode cX8_onType 126 = .ok (.goto 61, 3) := by decide +kernel
theorem dX8_onType_129 : decode cX8_onType 129 = .ok (.iload_n 2, 1) := by decide +kernel
theorem dX8_onType_130 : decode cX8_onType 130 = .ok (.iconst 2, 1) := by decide +kernel
theorem dX8_onType_131 : decode cX8_onType 131 = .ok (.if_icmp .ne 16, 3) := by decide +kernel
theorem dX8_onType_134 : decode cX8_onType 134 = .ok (.aload_n 0, 1) := by decide +kernel
theorem dX8_onType_135 : decode cX8_onType 135 = .ok (.bipush 6, 2) := by decide +kernel
theorem dX8_onType_137 : decode cX8_onType 137 = .ok (.aload_n 0, 1) := by decide +kernel
theorem dX8_onType_138 : decode cX8_onType 138 = .ok (.getfield 190, 3) := by decide +kernel
theorem dX8_onType_141 : decode cX8_onType 141 = .ok (.invokevirtual 205, 3) := by decide +kernel
theorem dX8_onType_144 : decode cX8_onType 144 = .ok (.goto 43, 3) := by decide +kernel
theorem dX8_onType_147 : decode cX8_onType 147 = .ok (.aload_n 0, 1) := by decide +kernel
theorem dX8_onType_148 : decode cX8_onType 148 = .ok (.invokevirtual 229, 3) := by decide +kernel
theorem dX8_onType_151 : decode cX8_onType 151 = .ok (.aload_n 0, 1) := by decide +kernel
theorem dX8_onType_152 : decode cX8_onType 152 = .ok (.iconst 3, 1) := by decide +kernel
theorem dX8_onType_153 : decode cX8_onType 153 = .ok (.iconst 0, 1) := by decide +kernel
theorem dX8_onType_154 : decode cX8_onType 154 = .ok (.invokevirtual 254, 3) := by decide +kernel
theorem dX8_onType_157 : decode cX8_onType 157 = .ok (.aload_n 0, 1) := by decide +kernel
theorem dX8_onType_158 : decode cX8_onType 158 = .ok (.iconst 1, 1) := by decide +kernel
theorem dX8_onType_159 : decode cX8_onType 159 = .ok (.bipush 15, 2) := by decide +kernel
theorem dX8_onType_161 : decode cX8_onType 161 = .ok (.invokevirtual 254, 3) := by decide +kernel
theorem dX8_onType_164 : decode cX8_onType 164 = .ok (.aload_n 0, 1) := by decide +kernel
theorem dX8_onType_165 : decode cX8_onType 165 = .ok (.iconst 2, 1) := by decide +kernel
theorem dX8_onType_166 : decode cX8_onType 166 = .ok (.iload_n 2, 1) := by decide +kernel
theorem dX8_onType_167 : decode cX8_onType 167 = .ok (.iconst 1, 1) := by decide +kernel
theorem dX8_onType_168 : decode cX8_onType 168 = .ok (.iadd, 1) := by decide +kernel
theorem dX8_onType_169 : decode cX8_onType 169 = .ok (.invokevirtual 254, 3) := by decide +kernel
theorem dX8_onType_172 : decode cX8_onType 172 = .ok (.aload_n 0, 1) := by decide +kernel
theorem dX8_onType_173 : decode cX8_onType 173 = .ok (.iconst 1, 1) := by decide +kernel
theorem dX8_onType_174 : decode cX8_onType 174 = .ok (.bipush 16, 2) := by decide +kernel
theorem dX8_onType_176 : decode cX8_onType 176 = .ok (.invokevirtual 254, 3) := by decide +kernel
theorem dX8_onType_179 : decode cX8_onType 179 = .ok (.aload_n 0, 1) := by decide +kernel
theorem dX8_onType_180 : decode cX8_onType 180 = .ok (.iconst 2, 1) := by decide +kernel
theorem dX8_onType_181 : decode cX8_onType 181 = .ok (.iload_n 2, 1) := by decide +kernel
theorem dX8_onType_182 : decode cX8_onType 182 = .ok (.iconst 1, 1) := by decide +kernel
theorem dX8_onType_183 : decode cX8_onType 183 = .ok (.iadd, 1) := by decide +kernel
theorem dX8_onType_184 : decode cX8_onType 184 = .ok (.invokevirtual 254, 3) := by decide +kernel
theorem dX8_onType_187 : decode cX8_onType 187 = .ok (.return_, 1) := by decide +kernel
abbrev JX8_onType_0 (D : DE) (f : Nat) (Q : HI → HL → Prop) (F : Frm) (h : HI) (g : HL) (x1 : Int32) (x2 : Int32) : Prop := ((¬ x1 = 1 → ((¬ x1 = 3 → ((¬ (h 115 4) = 1 → (((h 115 4) = 14 → ((¬ x2 = 2 → Sv D f mX8_pass [.ref (ad D 115)] F h g (fun h6 g7 => Sv D f mX8_push [.ref (ad D 115), .int 3, .int 0] F h6 g7 (fun h8 g9 => Sv D f mX8_push [.ref (ad D 115), .int 1, .int 15] F h8 g9 (fun h10 g11 => Sv D f mX8_push [.ref (ad D 115), .int 2, .int (x2 + 1)] F h10 g11 (fun h12 g13 => Sv D f mX8_push [.ref (ad D 115), .int 1, .int 16] F h12 g13 (fun h14 g15 => Sv D f mX8_push [.ref (ad D 115), .int 2, .int (x2 + 1)] F h14 g15 (fun h16 g17 => Q h16 g17))))))) ∧ (x2 = 2 → Sv D f mX8_stop [.ref (ad D 115), .int 6, .int (h 115 5)] F h g (fun h18 g19 => Q h18 g19)))) ∧ (¬ (h 115 4) = 14 → Sv D f mX8_stop [.ref (ad D 115), .int 2, .int (h 115 5)] F h g (fun h20 g21 => Q h20 g21)))) ∧ ((h 115 4) = 1 → vp_in (h 115 40) 16 ∧ ∀ h23, h23 = up2 h 137 (ix (h 115 40)) 0 → ∀ h25, h25 = up2 h23 115 40 ((h23 115 40) + 1) → Sv D f mX8_pass [.ref (ad D 115)] F h25 g (fun h27 g28 => Q h27 g28)))) ∧ (x1 = 3 → ∀ h29, h29 = up2 h 115 40 ((h 115 40) - 2) → vp_in (h29 115 40) 16 ∧ vp_in ((h29 115 40) + 1) 16 ∧ Si D f mX8_pairOf [.int (h29 137 (ix (h29 115 40))), .int (h29 137 (ix ((h29 115 40) + 1)))] F h29 g (fun y35 h33 g34 => vp_in (h29 115 40) 16 ∧ ∀ h37, h37 = up2 h33 137 (ix (h29 115 40)) y35 → ∀ h39, h39 = up2 h37 115 40 ((h37 115 40) + 1) → Q h39 g34)))) ∧ (x1 = 1 → Sv D f mX8_want [.ref (ad D 115), .int x2] F h g (fun h41 g42 => Q h41 g42)))
theorem bX8_onType_0 {D : DE} {f : Nat} {Q : HI → HL → Prop} {F : Frm} {h : HI} {g : HL} (hF : k_Fix F) (x1 : Int32) (x2 : Int32) (H : JX8_onType_0 D f Q F h g x1 x2) : V D mX8_onType (f + 1) (qv F Q) 0 [(0, .ref (ad D 115)), (1, .int x1), (2, .int x2)] [] (F, h, g) := by
  refine V_iload_n dX8_onType_0 rfl 1 rfl ?_
  refine V_iconst (v := 1) dX8_onType_1 (by decide) ?_
  refine V_icmp_ne (tgt := 13) dX8_onType_2 (by decide) (fun c1 => ?_) (fun c1 => ?_)
  · have H := H.1 c1
    refine V_iload_n dX8_onType_13 rfl 1 rfl ?_
    refine V_iconst (v := 3) dX8_onType_14 (by decide) ?_
    refine V_icmp_ne (tgt := 73) dX8_onType_15 (by decide) (fun c2 => ?_) (fun c2 => ?_)
    · have H := H.1 c2
      refine V_aload_n dX8_onType_73 rfl 0 rfl ?_
      refine H_geti ck7 4 (by decide) (fs_115 hF) (by decide) rfl q1462 dX8_onType_74 ?_
      refine V_iconst (v := 1) dX8_onType_77 (by decide) ?_
      refine V_icmp_ne (tgt := 108) dX8_onType_78 (by decide) (fun c3 => ?_) (fun c3 => ?_)
      · have H := H.1 c3
        refine V_aload_n dX8_onType_108 rfl 0 rfl ?_
        refine H_geti ck7 4 (by decide) (fs_115 hF) (by decide) rfl q1462 dX8_onType_109 ?_
        refine V_bipush (v := 14) dX8_onType_112 (by decide) ?_
        refine V_icmp_eq (tgt := 129) dX8_onType_114 (by decide) (fun c4 => ?_) (fun c4 => ?_)
        · have H := H.1 c4
          refine V_iload_n dX8_onType_129 rfl 2 rfl ?_
          refine V_iconst (v := 2) dX8_onType_130 (by decide) ?_
          refine V_icmp_ne (tgt := 147) dX8_onType_131 (by decide) (fun c5 => ?_) (fun c5 => ?_)
          · have H := H.1 c5
            refine V_aload_n dX8_onType_147 rfl 0 rfl ?_
            refine H_callv (av := [.ref (ad D 115)]) (rest := []) H mqX8_pass q88 (by decide) (Nat.le_of_ble_eq_true rfl) (k_resV (ci := 7) (av := []) (rest := []) (fs_115 hF) (by decide) rfl rfl q1759 q1761 qs33 q1762 mhX8_pass mnX8_pass dX8_onType_148) (fun h6 g7 H => ?_)
            refine V_aload_n dX8_onType_151 rfl 0 rfl ?_
            refine V_iconst (v := 3) dX8_onType_152 (by decide) ?_
            refine V_iconst (v := 0) dX8_onType_153 (by decide) ?_
            refine H_callv (av := [.ref (ad D 115), .int 3, .int 0]) (rest := []) H mqX8_push q88 (by decide) (Nat.le_of_ble_eq_true rfl) (k_resV (ci := 7) (av := [.int 3, .int 0]) (rest := []) (fs_115 hF) (by decide) rfl rfl q1783 q1785 qs39 q1786 mhX8_push mnX8_push dX8_onType_154) (fun h8 g9 H => ?_)
            refine V_aload_n dX8_onType_157 rfl 0 rfl ?_
            refine V_iconst (v := 1) dX8_onType_158 (by decide) ?_
            refine V_bipush (v := 15) dX8_onType_159 (by decide) ?_
            refine H_callv (av := [.ref (ad D 115), .int 1, .int 15]) (rest := []) H mqX8_push q88 (by decide) (Nat.le_of_ble_eq_true rfl) (k_resV (ci := 7) (av := [.int 1, .int 15]) (rest := []) (fs_115 hF) (by decide) rfl rfl q1783 q1785 qs39 q1786 mhX8_push mnX8_push dX8_onType_161) (fun h10 g11 H => ?_)
            refine V_aload_n dX8_onType_164 rfl 0 rfl ?_
            refine V_iconst (v := 2) dX8_onType_165 (by decide) ?_
            refine V_iload_n dX8_onType_166 rfl 2 rfl ?_
            refine V_iconst (v := 1) dX8_onType_167 (by decide) ?_
            refine V_iadd dX8_onType_168 ?_
            refine H_callv (av := [.ref (ad D 115), .int 2, .int (x2 + 1)]) (rest := []) H mqX8_push q88 (by decide) (Nat.le_of_ble_eq_true rfl) (k_resV (ci := 7) (av := [.int 2, .int (x2 + 1)]) (rest := []) (fs_115 hF) (by decide) rfl rfl q1783 q1785 qs39 q1786 mhX8_push mnX8_push dX8_onType_169) (fun h12 g13 H => ?_)
            refine V_aload_n dX8_onType_172 rfl 0 rfl ?_
            refine V_iconst (v := 1) dX8_onType_173 (by decide) ?_
            refine V_bipush (v := 16) dX8_onType_174 (by decide) ?_
            refine H_callv (av := [.ref (ad D 115), .int 1, .int 16]) (rest := []) H mqX8_push q88 (by decide) (Nat.le_of_ble_eq_true rfl) (k_resV (ci := 7) (av := [.int 1, .int 16]) (rest := []) (fs_115 hF) (by decide) rfl rfl q1783 q1785 qs39 q1786 mhX8_push mnX8_push dX8_onType_176) (fun h14 g15 H => ?_)
            refine V_aload_n dX8_onType_179 rfl 0 rfl ?_
            refine V_iconst (v := 2) dX8_onType_180 (by decide) ?_
            refine V_iload_n dX8_onType_181 rfl 2 rfl ?_
            refine V_iconst (v := 1) dX8_onType_182 (by decide) ?_
            refine V_iadd dX8_onType_183 ?_
            refine H_callv (av := [.ref (ad D 115), .int 2, .int (x2 + 1)]) (rest := []) H mqX8_push q88 (by decide) (Nat.le_of_ble_eq_true rfl) (k_resV (ci := 7) (av := [.int 2, .int (x2 + 1)]) (rest := []) (fs_115 hF) (by decide) rfl rfl q1783 q1785 qs39 q1786 mhX8_push mnX8_push dX8_onType_184) (fun h16 g17 H => ?_)
            exact H_vret rfl dX8_onType_187 H
          · have H := H.2 c5
            refine V_aload_n dX8_onType_134 rfl 0 rfl ?_
            refine V_bipush (v := 6) dX8_onType_135 (by decide) ?_
            refine V_aload_n dX8_onType_137 rfl 0 rfl ?_
            refine H_geti ck7 5 (by decide) (fs_115 hF) (by decide) rfl q1463 dX8_onType_138 ?_
            refine H_callv (av := [.ref (ad D 115), .int 6, .int (h 115 5)]) (rest := []) H mqX8_stop q88 (by decide) (Nat.le_of_ble_eq_true rfl) (k_resV (ci := 7) (av := [.int 6, .int (h 115 5)]) (rest := []) (fs_115 hF) (by decide) rfl rfl q1751 q1753 qs31 q1754 mhX8_stop mnX8_stop dX8_onType_141) (fun h18 g19 H => ?_)
            refine V_goto (tgt := 187) dX8_onType_144 (by decide) ?_
            exact H_vret rfl dX8_onType_187 H
        · have H := H.2 c4
          refine V_aload_n dX8_onType_117 rfl 0 rfl ?_
          refine V_iconst (v := 2) dX8_onType_118 (by decide) ?_
          refine V_aload_n dX8_onType_119 rfl 0 rfl ?_
          refine H_geti ck7 5 (by decide) (fs_115 hF) (by decide) rfl q1463 dX8_onType_120 ?_
          refine H_callv (av := [.ref (ad D 115), .int 2, .int (h 115 5)]) (rest := []) H mqX8_stop q88 (by decide) (Nat.le_of_ble_eq_true rfl) (k_resV (ci := 7) (av := [.int 2, .int (h 115 5)]) (rest := []) (fs_115 hF) (by decide) rfl rfl q1751 q1753 qs31 q1754 mhX8_stop mnX8_stop dX8_onType_123) (fun h20 g21 H => ?_)
          refine V_goto (tgt := 187) dX8_onType_126 (by decide) ?_
          exact H_vret rfl dX8_onType_187 H
      · have H := H.2 c3
        refine V_aload_n dX8_onType_81 rfl 0 rfl ?_
        refine H_getr ck7 39 (by decide) (fs_115 hF) (by decide) rfl (fr_115_39 hF) q1497 dX8_onType_82 ?_
        refine V_aload_n dX8_onType_85 rfl 0 rfl ?_
        refine H_geti ck7 40 (by decide) (fs_115 hF) (by decide) rfl q1498 dX8_onType_86 ?_
        refine V_iconst (v := 0) dX8_onType_89 (by decide) ?_
        obtain ⟨i22, H⟩ := H
        refine H_iast (fs_137 hF) i22 dX8_onType_90 (fun h23 e24 => ?_)
        have H := H h23 e24
        refine V_aload_n dX8_onType_91 rfl 0 rfl ?_
        refine V_dup dX8_onType_92 rfl ?_
        refine H_geti ck7 40 (by decide) (fs_115 hF) (by decide) rfl q1498 dX8_onType_93 ?_
        refine V_iconst (v := 1) dX8_onType_96 (by decide) ?_
        refine V_iadd dX8_onType_97 ?_
        refine H_puti ck7 40 (by decide) (fs_115 hF) (by decide) rfl rfl q1498 dX8_onType_98 (fun h25 e26 => ?_)
        have H := H h25 e26
        refine V_aload_n dX8_onType_101 rfl 0 rfl ?_
        refine H_callv (av := [.ref (ad D 115)]) (rest := []) H mqX8_pass q88 (by decide) (Nat.le_of_ble_eq_true rfl) (k_resV (ci := 7) (av := []) (rest := []) (fs_115 hF) (by decide) rfl rfl q1759 q1761 qs33 q1762 mhX8_pass mnX8_pass dX8_onType_102) (fun h27 g28 H => ?_)
        refine V_goto (tgt := 187) dX8_onType_105 (by decide) ?_
        exact H_vret rfl dX8_onType_187 H
    · have H := H.2 c2
      refine V_aload_n dX8_onType_18 rfl 0 rfl ?_
      refine V_dup dX8_onType_19 rfl ?_
      refine H_geti ck7 40 (by decide) (fs_115 hF) (by decide) rfl q1498 dX8_onType_20 ?_
      refine V_iconst (v := 2) dX8_onType_23 (by decide) ?_
      refine V_isub dX8_onType_24 ?_
      refine H_puti ck7 40 (by decide) (fs_115 hF) (by decide) rfl rfl q1498 dX8_onType_25 (fun h29 e30 => ?_)
      have H := H h29 e30
      refine V_aload_n dX8_onType_28 rfl 0 rfl ?_
      refine H_getr ck7 39 (by decide) (fs_115 hF) (by decide) rfl (fr_115_39 hF) q1497 dX8_onType_29 ?_
      refine V_aload_n dX8_onType_32 rfl 0 rfl ?_
      refine H_geti ck7 40 (by decide) (fs_115 hF) (by decide) rfl q1498 dX8_onType_33 ?_
      refine V_aload_n dX8_onType_36 rfl 0 rfl ?_
      refine H_getr ck7 39 (by decide) (fs_115 hF) (by decide) rfl (fr_115_39 hF) q1497 dX8_onType_37 ?_
      refine V_aload_n dX8_onType_40 rfl 0 rfl ?_
      refine H_geti ck7 40 (by decide) (fs_115 hF) (by decide) rfl q1498 dX8_onType_41 ?_
      obtain ⟨i31, H⟩ := H
      refine H_iald (fs_137 hF) i31 dX8_onType_44 ?_
      refine V_aload_n dX8_onType_45 rfl 0 rfl ?_
      refine H_getr ck7 39 (by decide) (fs_115 hF) (by decide) rfl (fr_115_39 hF) q1497 dX8_onType_46 ?_
      refine V_aload_n dX8_onType_49 rfl 0 rfl ?_
      refine H_geti ck7 40 (by decide) (fs_115 hF) (by decide) rfl q1498 dX8_onType_50 ?_
      refine V_iconst (v := 1) dX8_onType_53 (by decide) ?_
      refine V_iadd dX8_onType_54 ?_
      obtain ⟨i32, H⟩ := H
      refine H_iald (fs_137 hF) i32 dX8_onType_55 ?_
      refine H_calli (av := [.int (h29 137 (ix (h29 115 40))), .int (h29 137 (ix ((h29 115 40) + 1)))]) (rest := [.int (h29 115 40), .ref (ad D 137)]) H mqX8_pairOf q88 (by decide) (Nat.le_of_ble_eq_true rfl) (k_resS (av := [.int (h29 137 (ix (h29 115 40))), .int (h29 137 (ix ((h29 115 40) + 1)))]) (rest := [.int (h29 115 40), .ref (ad D 137)]) (M1 := mX8_pairOf) rfl q1791 q1792 q88 mqX8_pairOf (fun _ _ h => mW_named h) mhX8_pairOf mnX8_pairOf dX8_onType_56) (fun y35 h33 g34 H => ?_)
      obtain ⟨i36, H⟩ := H
      refine H_iast (fs_137 hF) i36 dX8_onType_59 (fun h37 e38 => ?_)
      have H := H h37 e38
      refine V_aload_n dX8_onType_60 rfl 0 rfl ?_
      refine V_dup dX8_onType_61 rfl ?_
      refine H_geti ck7 40 (by decide) (fs_115 hF) (by decide) rfl q1498 dX8_onType_62 ?_
      refine V_iconst (v := 1) dX8_onType_65 (by decide) ?_
      refine V_iadd dX8_onType_66 ?_
      refine H_puti ck7 40 (by decide) (fs_115 hF) (by decide) rfl rfl q1498 dX8_onType_67 (fun h39 e40 => ?_)
      have H := H h39 e40
      refine V_goto (tgt := 187) dX8_onType_70 (by decide) ?_
      exact H_vret rfl dX8_onType_187 H
  · have H := H.2 c1
    refine V_aload_n dX8_onType_5 rfl 0 rfl ?_
    refine V_iload_n dX8_onType_6 rfl 2 rfl ?_
    refine H_callv (av := [.ref (ad D 115), .int x2]) (rest := []) H mqX8_want q88 (by decide) (Nat.le_of_ble_eq_true rfl) (k_resV (ci := 7) (av := [.int x2]) (rest := []) (fs_115 hF) (by decide) rfl rfl q1763 q1765 qs34 q1766 mhX8_want mnX8_want dX8_onType_7) (fun h41 g42 H => ?_)
    refine V_goto (tgt := 187) dX8_onType_10 (by decide) ?_
    exact H_vret rfl dX8_onType_187 H
theorem wX8_onType {D : DE} {f : Nat} {Q : HI → HL → Prop} {F : Frm} {h : HI} {g : HL} (hF : k_Fix F) (x1 : Int32) (x2 : Int32) (H : JX8_onType_0 D f Q F h g x1 x2) : Sv D (f + 1) mX8_onType [.ref (ad D 115), .int x1, .int x2] F h g Q := Cl.ofV (by decide) (Nat.le_of_ble_eq_true rfl) rfl (bX8_onType_0 hF x1 x2 H)
theorem dX8_begins_0 : decode cX8_begins 0 = .ok (.aload_n 0, 1) := by decide +kernel
theorem dX8_begins_1 : decode cX8_begins 1 = .ok (.getfield 193, 3) := by decide +kernel
theorem dX8_begins_4 : decode cX8_begins 4 = .ok (.iconst 5, 1) := by decide +kernel
theorem dX8_begins_5 : decode cX8_begins 5 = .ok (.if_icmp .eq 56, 3) := by decide +kernel
theorem dX8_begins_8 : decode cX8_begins 8 = .ok (.aload_n 0, 1) := by decide +kernel
theorem dX8_begins_9 : decode cX8_begins 9 = .ok (.getfield 193, 3) := by decide +kernel
theorem dX8_begins_12 : decode cX8_begins 12 = .ok (.bipush 7, 2) := by decide +kernel
theorem dX8_begins_14 : decode cX8_begins 14 = .ok (.if_icmp .eq 47, 3) := by decide +kernel
theorem dX8_begins_17 : decode cX8_begins 17 = .ok (.aload_n 0, 1) := by decide +kernel
theorem dX8_begins_18 : decode cX8_begins 18 = .ok (.getfield 193, 3) := by decide +kernel
theorem dX8_begins_21 : decode cX8_begins 21 = .ok (.iconst 2, 1) := by decide +kernel
theorem dX8_begins_22 : decode cX8_begins 22 = .ok (.if_icmp .eq 39, 3) := by decide +kernel
theorem dX8_begins_25 : decode cX8_begins 25 = .ok (.aload_n 0, 1) := by decide +kernel
theorem dX8_begins_26 : decode cX8_begins 26 = .ok (.getfield 193, 3) := by decide +kernel
theorem dX8_begins_29 : decode cX8_begins 29 = .ok (.bipush 11, 2) := by decide +kernel
theorem dX8_begins_31 : decode cX8_begins 31 = .ok (.if_icmp .eq 30, 3) := by decide +kernel
theorem dX8_begins_34 : decode cX8_begins 34 = .ok (.aload_n 0, 1) := by decide +kernel
theorem dX8_begins_35 : decode cX8_begins 35 = .ok (.getfield 193, 3) := by decide +kernel
theorem dX8_begins_38 : decode cX8_begins 38 = .ok (.bipush 9, 2) := by decide +kernel
theorem dX8_begins_40 : decode cX8_begins 40 = .ok (.if_icmp .eq 21, 3) := by decide +kernel
theorem dX8_begins_43 : decode cX8_begins 43 = .ok (.aload_n 0, 1) := by decide +kernel
theorem dX8_begins_44 : decode cX8_begins 44 = .ok (.getfield 193, 3) := by decide +kernel
theorem dX8_begins_47 : decode cX8_begins 47 = .ok (.bipush 10, 2) := by decide +kernel
theorem dX8_begins_49 : decode cX8_begins 49 = .ok (.if_icmp .eq 12, 3) := by decide +kernel
theorem dX8_begins_52 : decode cX8_begins 52 = .ok (.aload_n 0, 1) := by decide +kernel
theorem dX8_begins_53 : decode cX8_begins 53 = .ok (.getfield 193, 3) := by decide +kernel
theorem dX8_begins_56 : decode cX8_begins 56 = .ok (.bipush 14, 2) := by decide +kernel
theorem dX8_begins_58 : decode cX8_begins 58 = .ok (.if_icmp .ne 7, 3) := by decide +kernel
theorem dX8_begins_61 : decode cX8_begins 61 = .ok (.iconst 1, 1) := by decide +kernel
theorem dX8_begins_62 : decode cX8_begins 62 = .ok (.goto 4, 3) := by decide +kernel
theorem dX8_begins_65 : decode cX8_begins 65 = .ok (.iconst 0, 1) := by decide +kernel
theorem dX8_begins_66 : decode cX8_begins 66 = .ok (.ireturn, 1) := by decide +kernel
abbrev JX8_begins_0 (D : DE) (f : Nat) (Q : Int32 → HI → HL → Prop) (F : Frm) (h : HI) (g : HL) : Prop := (((h 115 4) = 5 → Q 1 h g) ∧ (¬ (h 115 4) = 5 → (((h 115 4) = 7 → Q 1 h g) ∧ (¬ (h 115 4) = 7 → (((h 115 4) = 2 → Q 1 h g) ∧ (¬ (h 115 4) = 2 → (((h 115 4) = 11 → Q 1 h g) ∧ (¬ (h 115 4) = 11 → (((h 115 4) = 9 → Q 1 h g) ∧ (¬ (h 115 4) = 9 → (((h 115 4) = 10 → Q 1 h g) ∧ (¬ (h 115 4) = 10 → ((¬ (h 115 4) = 14 → Q 0 h g) ∧ ((h 115 4) = 14 → Q 1 h g))))))))))))))
theorem bX8_begins_0 {D : DE} {f : Nat} {Q : Int32 → HI → HL → Prop} {F : Frm} {h : HI} {g : HL} (hF : k_Fix F)  (H : JX8_begins_0 D f Q F h g ) : V D mX8_begins f (qi F Q) 0 [(0, .ref (ad D 115))] [] (F, h, g) := by
  refine V_aload_n dX8_begins_0 rfl 0 rfl ?_
  refine H_geti ck7 4 (by decide) (fs_115 hF) (by decide) rfl q1462 dX8_begins_1 ?_
  refine V_iconst (v := 5) dX8_begins_4 (by decide) ?_
  refine V_icmp_eq (tgt := 61) dX8_begins_5 (by decide) (fun c1 => ?_) (fun c1 => ?_)
  · have H := H.1 c1
    refine V_iconst (v := 1) dX8_begins_61 (by decide) ?_
    refine V_goto (tgt := 66) dX8_begins_62 (by decide) ?_
    exact H_zret rfl isB1 dX8_begins_66 H
  · have H := H.2 c1
    refine V_aload_n dX8_begins_8 rfl 0 rfl ?_
    refine H_geti ck7 4 (by decide) (fs_115 hF) (by decide) rfl q1462 dX8_begins_9 ?_
    refine V_bipush (v := 7) dX8_begins_12 (by decide) ?_
    refine V_icmp_eq (tgt := 61) dX8_begins_14 (by decide) (fun c2 => ?_) (fun c2 => ?_)
    · have H := H.1 c2
      refine V_iconst (v := 1) dX8_begins_61 (by decide) ?_
      refine V_goto (tgt := 66) dX8_begins_62 (by decide) ?_
      exact H_zret rfl isB1 dX8_begins_66 H
    · have H := H.2 c2
      refine V_aload_n dX8_begins_17 rfl 0 rfl ?_
      refine H_geti ck7 4 (by decide) (fs_115 hF) (by decide) rfl q1462 dX8_begins_18 ?_
      refine V_iconst (v := 2) dX8_begins_21 (by decide) ?_
      refine V_icmp_eq (tgt := 61) dX8_begins_22 (by decide) (fun c3 => ?_) (fun c3 => ?_)
      · have H := H.1 c3
        refine V_iconst (v := 1) dX8_begins_61 (by decide) ?_
        refine V_goto (tgt := 66) dX8_begins_62 (by decide) ?_
        exact H_zret rfl isB1 dX8_begins_66 H
      · have H := H.2 c3
        refine V_aload_n dX8_begins_25 rfl 0 rfl ?_
        refine H_geti ck7 4 (by decide) (fs_115 hF) (by decide) rfl q1462 dX8_begins_26 ?_
        refine V_bipush (v := 11) dX8_begins_29 (by decide) ?_
        refine V_icmp_eq (tgt := 61) dX8_begins_31 (by decide) (fun c4 => ?_) (fun c4 => ?_)
        · have H := H.1 c4
          refine V_iconst (v := 1) dX8_begins_61 (by decide) ?_
          refine V_goto (tgt := 66) dX8_begins_62 (by decide) ?_
          exact H_zret rfl isB1 dX8_begins_66 H
        · have H := H.2 c4
          refine V_aload_n dX8_begins_34 rfl 0 rfl ?_
          refine H_geti ck7 4 (by decide) (fs_115 hF) (by decide) rfl q1462 dX8_begins_35 ?_
          refine V_bipush (v := 9) dX8_begins_38 (by decide) ?_
          refine V_icmp_eq (tgt := 61) dX8_begins_40 (by decide) (fun c5 => ?_) (fun c5 => ?_)
          · have H := H.1 c5
            refine V_iconst (v := 1) dX8_begins_61 (by decide) ?_
            refine V_goto (tgt := 66) dX8_begins_62 (by decide) ?_
            exact H_zret rfl isB1 dX8_begins_66 H
          · have H := H.2 c5
            refine V_aload_n dX8_begins_43 rfl 0 rfl ?_
            refine H_geti ck7 4 (by decide) (fs_115 hF) (by decide) rfl q1462 dX8_begins_44 ?_
            refine V_bipush (v := 10) dX8_begins_47 (by decide) ?_
            refine V_icmp_eq (tgt := 61) dX8_begins_49 (by decide) (fun c6 => ?_) (fun c6 => ?_)
            · have H := H.1 c6
              refine V_iconst (v := 1) dX8_begins_61 (by decide) ?_
              refine V_goto (tgt := 66) dX8_begins_62 (by decide) ?_
              exact H_zret rfl isB1 dX8_begins_66 H
            · have H := H.2 c6
              refine V_aload_n dX8_begins_52 rfl 0 rfl ?_
              refine H_geti ck7 4 (by decide) (fs_115 hF) (by decide) rfl q1462 dX8_begins_53 ?_
              refine V_bipush (v := 14) dX8_begins_56 (by decide) ?_
              refine V_icmp_ne (tgt := 65) dX8_begins_58 (by decide) (fun c7 => ?_) (fun c7 => ?_)
              · have H := H.1 c7
                refine V_iconst (v := 0) dX8_begins_65 (by decide) ?_
                exact H_zret rfl isB0 dX8_begins_66 H
              · have H := H.2 c7
                refine V_iconst (v := 1) dX8_begins_61 (by decide) ?_
                refine V_goto (tgt := 66) dX8_begins_62 (by decide) ?_
                exact H_zret rfl isB1 dX8_begins_66 H
theorem wX8_begins {D : DE} {f : Nat} {Q : Int32 → HI → HL → Prop} {F : Frm} {h : HI} {g : HL} (hF : k_Fix F)  (H : JX8_begins_0 D f Q F h g ) : Si D f mX8_begins [.ref (ad D 115)] F h g Q := Cl.ofV (by decide) (Nat.le_of_ble_eq_true rfl) rfl (bX8_begins_0 hF  H)
theorem dX8_onE_0 : decode cX8_onE 0 = .ok (.aload_n 0, 1) := by decide +kernel
theorem dX8_onE_1 : decode cX8_onE 1 = .ok (.invokevirtual 277, 3) := by decide +kernel
theorem dX8_onE_4 : decode cX8_onE 4 = .ok (.ifCond .ne 13, 3) := by decide +kernel
theorem dX8_onE_7 : decode cX8_onE 7 = .ok (.aload_n 0, 1) := by decide +kernel
theorem dX8_onE_8 : decode cX8_onE 8 = .ok (.iconst 2, 1) := by decide +kernel
theorem dX8_onE_9 : decode cX8_onE 9 = .ok (.aload_n 0, 1) := by decide +kernel
theorem dX8_onE_10 : decode cX8_onE 10 = .ok (.getfield 190, 3) := by decide +kernel
theorem dX8_onE_13 : decode cX8_onE 13 = .ok (.invokevirtual 205, 3) := by decide +kernel
theorem dX8_onE_16 : decode cX8_onE 16 = .ok (.return_, 1) := by decide +kernel
theorem dX8_onE_17 : decode cX8_onE 17 = .ok (.aload_n 0, 1) := by decide +kernel
theorem dX8_onE_18 : decode cX8_onE 18 = .ok (.getfield 251, 3) := by decide +kernel
theorem dX8_onE_21 : decode cX8_onE 21 = .ok (.bipush 20, 2) := by decide +kernel
theorem dX8_onE_23 : decode cX8_onE 23 = .ok (.if_icmp .ne 14, 3) := by decide +kernel
theorem dX8_onE_26 : decode cX8_onE 26 = .ok (.aload_n 0, 1) := by decide +kernel
theorem dX8_onE_27 : decode cX8_onE 27 = .ok (.bipush 6, 2) := by decide +kernel
theorem dX8_onE_29 : decode cX8_onE 29 = .ok (.aload_n 0, 1) := by decide +kernel
theorem dX8_onE_30 : decode cX8_onE 30 = .ok (.getfield 190, 3) := by decide +kernel
theorem dX8_onE_33 : decode cX8_onE 33 = .ok (.invokevirtual 205, 3) := by decide +kernel
theorem dX8_onE_36 : decode cX8_onE 36 = .ok (.return_, 1) := by decide +kernel
theorem dX8_onE_37 : decode cX8_onE 37 = .ok (.aload_n 0, 1) := by decide +kernel
theorem dX8_onE_38 : decode cX8_onE 38 = .ok (.dup, 1) := by decide +kernel
theorem dX8_onE_39 : decode cX8_onE 39 = .ok (.getfield 251, 3) := by decide +kernel
theorem dX8_onE_42 : decode cX8_onE 42 = .ok (.iconst 1, 1) := by decide +kernel
theorem dX8_onE_43 : decode cX8_onE 43 = .ok (.iadd, 1) := by decide +kernel
theorem dX8_onE_44 : decode cX8_onE 44 = .ok (.putfield 251, 3) := by decide +kernel
theorem dX8_onE_47 : decode cX8_onE 47 = .ok (.aload_n 0, 1) := by decide +kernel
theorem dX8_onE_48 : decode cX8_onE 48 = .ok (.iconst 5, 1) := by decide +kernel
theorem dX8_onE_49 : decode cX8_onE 49 = .ok (.iconst 0, 1) := by decide +kernel
theorem dX8_onE_50 : decode cX8_onE 50 = .ok (.invokevirtual 254, 3) := by decide +kernel
theorem dX8_onE_53 : decode cX8_onE 53 = .ok (.aload_n 0, 1) := by decide +kernel
theorem dX8_onE_54 : decode cX8_onE 54 = .ok (.getfield 193, 3) := by decide +kernel
theorem dX8_onE_57 : decode cX8_onE 57 = .ok (.iconst 5, 1) := by decide +kernel
theorem dX8_onE_58 : decode cX8_onE 58 = .ok (.if_icmp .ne 74, 3) := by decide +kernel
theorem dX8_onE_61 : decode cX8_onE 61 = .ok (.aload_n 0, 1) := by decide +kernel
theorem dX8_onE_62 : decode cX8_onE 62 = .ok (.iconst 3, 1) := by decide +kernel
theorem dX8_onE_63 : decode cX8_onE 63 = .ok (.aload_n 0, 1) := by decide +kernel
theorem dX8_onE_64 : decode cX8_onE 64 = .ok (.getfield 190, 3) := by decide +kernel
theorem dX8_onE_67 : decode cX8_onE 67 = .ok (.invokevirtual 281, 3) := by decide +kernel
theorem dX8_onE_70 : decode cX8_onE 70 = .ok (.istore_n 1, 1) := by decide +kernel
theorem dX8_onE_71 : decode cX8_onE 71 = .ok (.aload_n 0, 1) := by decide +kernel
theorem dX8_onE_72 : decode cX8_onE 72 = .ok (.bipush 18, 2) := by decide +kernel
theorem dX8_onE_74 : decode cX8_onE 74 = .ok (.iload_n 1, 1) := by decide +kernel
theorem dX8_onE_75 : decode cX8_onE 75 = .ok (.invokevirtual 254, 3) := by decide +kernel
theorem dX8_onE_78 : decode cX8_onE 78 = .ok (.aload_n 0, 1) := by decide +kernel
theorem dX8_onE_79 : decode cX8_onE 79 = .ok (.bipush 16, 2) := by decide +kernel
theorem dX8_onE_81 : decode cX8_onE 81 = .ok (.iload_n 1, 1) := by decide +kernel
theorem dX8_onE_82 : decode cX8_onE 82 = .ok (.invokevirtual 254, 3) := by decide +kernel
theorem dX8_onE_85 : decode cX8_onE 85 = .ok (.aload_n 0, 1) := by decide +kernel
theorem dX8_onE_86 : decode cX8_onE 86 = .ok (.iconst 4, 1) := by decide +kernel
theorem dX8_onE_87 : decode cX8_onE 87 = .ok (.iconst 0, 1) := by decide +kernel
theorem dX8_onE_88 : decode cX8_onE 88 = .ok (.invokevirtual 254, 3) := by decide +kernel
theorem dX8_onE_91 : decode cX8_onE 91 = .ok (.aload_n 0, 1) := by decide +kernel
theorem dX8_onE_92 : decode cX8_onE 92 = .ok (.iconst 1, 1) := by decide +kernel
theorem dX8_onE_93 : decode cX8_onE 93 = .ok (.bipush 6, 2) := by decide +kernel
theorem dX8_onE_95 : decode cX8_onE 95 = .ok (.invokevirtual 254, 3) := by decide +kernel
theorem dX8_onE_98 : decode cX8_onE 98 = .ok (.aload_n 0, 1) := by decide +kernel
theorem dX8_onE_99 : decode cX8_onE 99 = .ok (.bipush 15, 2) := by decide +kernel
theorem dX8_onE_101 : decode cX8_onE 101 = .ok (.iload_n 1, 1) := by decide +kernel
theorem dX8_onE_102 : decode cX8_onE 102 = .ok (.invokevirtual 254, 3) := by decide +kernel
theorem dX8_onE_105 : decode cX8_onE 105 = .ok (.aload_n 0, 1) := by decide +kernel
theorem dX8_onE_106 : decode cX8_onE 106 = .ok (.iconst 4, 1) := by decide +kernel
theorem dX8_onE_107 : decode cX8_onE 107 = .ok (.iconst 0, 1) := by decide +kernel
theorem dX8_onE_108 : decode cX8_onE 108 = .ok (.invokevirtual 254, 3) := by decide +kernel
theorem dX8_onE_111 : decode cX8_onE 111 = .ok (.aload_n 0, 1) := by decide +kernel
theorem dX8_onE_112 : decode cX8_onE 112 = .ok (.iconst 1, 1) := by decide +kernel
theorem dX8_onE_113 : decode cX8_onE 113 = .ok (.bipush 13, 2) := by decide +kernel
theorem dX8_onE_115 : decode cX8_onE 115 = .ok (.invokevirtual 254, 3) := by decide +kernel
theorem dX8_onE_118 : decode cX8_onE 118 = .ok (.aload_n 0, 1) := by decide +kernel
theorem dX8_onE_119 : decode cX8_onE 119 = .ok (.bipush 13, 2) := by decide +kernel
theorem dX8_onE_121 : decode cX8_onE 121 = .ok (.iload_n 1, 1) := by decide +kernel
theorem dX8_onE_122 : decode cX8_onE 122 = .ok (.invokevirtual 254, 3) := by decide +kernel
theorem dX8_onE_125 : decode cX8_onE 125 = .ok (.aload_n 0, 1) := by decide +kernel
theorem dX8_onE_126 : decode cX8_onE 126 = .ok (.invokevirtual 229, 3) := by decide +kernel
theorem dX8_onE_129 : decode cX8_onE 129 = .ok (.goto 208, 3) := by decide +kernel
theorem dX8_onE_132 : decode cX8_onE 132 = .ok (.aload_n 0, 1) := by decide +kernel
theorem dX8_onE_133 : decode cX8_onE 133 = .ok (.getfield 193, 3) := by decide +kernel
theorem dX8_onE_136 : decode cX8_onE 136 = .ok (.bipush 7, 2) := by decide +kernel
theorem dX8_onE_138 : decode cX8_onE 138 = .ok (.if_icmp .ne 102, 3) := by decide +kernel
theorem dX8_onE_141 : decode cX8_onE 141 = .ok (.aload_n 0, 1) := by decide +kernel
theorem dX8_onE_142 : decode cX8_onE 142 = .ok (.iconst 4, 1) := by decide +kernel
theorem dX8_onE_143 : decode cX8_onE 143 = .ok (.aload_n 0, 1) := by decide +kernel
theorem dX8_onE_144 : decode cX8_onE 144 = .ok (.getfield 190, 3) := by decide +kernel
theorem dX8_onE_147 : decode cX8_onE 147 = .ok (.invokevirtual 281, 3) := by decide +kernel
theorem dX8_onE_150 : decode cX8_onE 150 = .ok (.istore_n 1, 1) := by decide +kernel
theorem dX8_onE_151 : decode cX8_onE 151 = .ok (.aload_n 0, 1) := by decide +kernel
theorem dX8_onE_152 : decode cX8_onE 152 = .ok (.bipush 18, 2) := by decide +kernel
theorem dX8_onE_154 : decode cX8_onE 154 = .ok (.iload_n 1, 1) := by decide +kernel
theorem dX8_onE_155 : decode cX8_onE 155 = .ok (.invokevirtual 254, 3) := by decide +kernel
theorem dX8_onE_158 : decode cX8_onE 158 = .ok (.aload_n 0, 1) := by decide +kernel
theorem dX8_onE_159 : decode cX8_onE 159 = .ok (.bipush 16, 2) := by decide +kernel
theorem dX8_onE_161 : decode cX8_onE 161 = .ok (.iload_n 1, 1) := by decide +kernel
theorem dX8_onE_162 : decode cX8_onE 162 = .ok (.invokevirtual 254, 3) := by decide +kernel
theorem dX8_onE_165 : decode cX8_onE 165 = .ok (.aload_n 0, 1) := by decide +kernel
theorem dX8_onE_166 : decode cX8_onE 166 = .ok (.iconst 4, 1) := by decide +kernel
theorem dX8_onE_167 : decode cX8_onE 167 = .ok (.iconst 0, 1) := by decide +kernel
theorem dX8_onE_168 : decode cX8_onE 168 = .ok (.invokevirtual 254, 3) := by decide +kernel
theorem dX8_onE_171 : decode cX8_onE 171 = .ok (.aload_n 0, 1) := by decide +kernel
theorem dX8_onE_172 : decode cX8_onE 172 = .ok (.iconst 1, 1) := by decide +kernel
theorem dX8_onE_173 : decode cX8_onE 173 = .ok (.bipush 6, 2) := by decide +kernel
theorem dX8_onE_175 : decode cX8_onE 175 = .ok (.invokevirtual 254, 3) := by decide +kernel
theorem dX8_onE_178 : decode cX8_onE 178 = .ok (.aload_n 0, 1) := by decide +kernel
theorem dX8_onE_179 : decode cX8_onE 179 = .ok (.iconst 1, 1) := by decide +kernel
theorem dX8_onE_180 : decode cX8_onE 180 = .ok (.bipush 15, 2) := by decide +kernel
theorem dX8_onE_182 : decode cX8_onE 182 = .ok (.invokevirtual 254, 3) := by decide +kernel
theorem dX8_onE_185 : decode cX8_onE 185 = .ok (.aload_n 0, 1) := by decide +kernel
theorem dX8_onE_186 : decode cX8_onE 186 = .ok (.bipush 14, 2) := by decide +kernel
theorem dX8_onE_188 : decode cX8_onE 188 = .ok (.iload_n 1, 1) := by decide +kernel
theorem dX8_onE_189 : decode cX8_onE 189 = .ok (.invokevirtual 254, 3) := by decide +kernel
theorem dX8_onE_192 : decode cX8_onE 192 = .ok (.aload_n 0, 1) := by decide +kernel
theorem dX8_onE_193 : decode cX8_onE 193 = .ok (.iconst 1, 1) := by decide +kernel
theorem dX8_onE_194 : decode cX8_onE 194 = .ok (.bipush 16, 2) := by decide +kernel
theorem dX8_onE_196 : decode cX8_onE 196 = .ok (.invokevirtual 254, 3) := by decide +kernel
theorem dX8_onE_199 : decode cX8_onE 199 = .ok (.aload_n 0, 1) := by decide +kernel
theorem dX8_onE_200 : decode cX8_onE 200 = .ok (.bipush 13, 2) := by decide +kernel
theorem dX8_onE_202 : decode cX8_onE 202 = .ok (.iload_n 1, 1) := by decide +kernel
theorem dX8_onE_203 : decode cX8_onE 203 = .ok (.invokevirtual 254, 3) := by decide +kernel
theorem dX8_onE_206 : decode cX8_onE 206 = .ok (.aload_n 0, 1) := by decide +kernel
theorem dX8_onE_207 : decode cX8_onE 207 = .ok (.iconst 1, 1) := by decide +kernel
theorem dX8_onE_208 : decode cX8_onE 208 = .ok (.bipush 14, 2) := by decide +kernel
theorem dX8_onE_210 : decode cX8_onE 210 = .ok (.invokevirtual 254, 3) := by decide +kernel
theorem dX8_onE_213 : decode cX8_onE 213 = .ok (.aload_n 0, 1) := by decide +kernel
theorem dX8_onE_214 : decode cX8_onE 214 = .ok (.iconst 1, 1) := by decide +kernel
theorem dX8_onE_215 : decode cX8_onE 215 = .ok (.bipush 8, 2) := by decide +kernel
theorem dX8_onE_217 : decode cX8_onE 217 = .ok (.invokevirtual 254, 3) := by decide +kernel
theorem dX8_onE_220 : decode cX8_onE 220 = .ok (.aload_n 0, 1) := by decide +kernel
theorem dX8_onE_221 : decode cX8_onE 221 = .ok (.bipush 15, 2) := by decide +kernel
theorem dX8_onE_223 : decode cX8_onE 223 = .ok (.iload_n 1, 1) := by decide +kernel
theorem dX8_onE_224 : decode cX8_onE 224 = .ok (.invokevirtual 254, 3) := by decide +kernel
theorem dX8_onE_227 : decode cX8_onE 227 = .ok (.aload_n 0, 1) := by decide +kernel
theorem dX8_onE_228 : decode cX8_onE 228 = .ok (.iconst 4, 1) := by decide +kernel
theorem dX8_onE_229 : decode cX8_onE 229 = .ok (.iconst 0, 1) := by decide +kernel
theorem dX8_onE_230 : decode cX8_onE 230 = .ok (.invokevirtual 254, 3) := by decide +kernel
theorem dX8_onE_233 : decode cX8_onE 233 = .ok (.aload_n 0, 1) := by decide +kernel
theorem dX8_onE_234 : decode cX8_onE 234 = .ok (.invokevirtual 229, 3) := by decide +kernel
theorem dX8_onE_237 : decode cX8_onE 237 = .ok (.goto 100, 3) := by decide +kernel
theorem dX8_onE_240 : decode cX8_onE 240 = .ok (.aload_n 0, 1) := by decide +kernel
theorem dX8_onE_241 : decode cX8_onE 241 = .ok (.getfield 193, 3) := by decide +kernel
theorem dX8_onE_244 : decode cX8_onE 244 = .ok (.iconst 2, 1) := by decide +kernel
theorem dX8_onE_245 : decode cX8_onE 245 = .ok (.if_icmp .ne 78, 3) := by decide +kernel
theorem dX8_onE_248 : decode cX8_onE 248 = .ok (.aload_n 0, 1) := by decide +kernel
theorem dX8_onE_249 : decode cX8_onE 249 = .ok (.iconst 2, 1) := by decide +kernel
theorem dX8_onE_250 : decode cX8_onE 250 = .ok (.aload_n 0, 1) := by decide +kernel
theorem dX8_onE_251 : decode cX8_onE 251 = .ok (.getfield 190, 3) := by decide +kernel
theorem dX8_onE_254 : decode cX8_onE 254 = .ok (.invokevirtual 281, 3) := by decide +kernel
theorem dX8_onE_257 : decode cX8_onE 257 = .ok (.istore_n 1, 1) := by decide +kernel
theorem dX8_onE_258 : decode cX8_onE 258 = .ok (.aload_n 0, 1) := by decide +kernel
theorem dX8_onE_259 : decode cX8_onE 259 = .ok (.bipush 18, 2) := by decide +kernel
theorem dX8_onE_261 : decode cX8_onE 261 = .ok (.iload_n 1, 1) := by decide +kernel
theorem dX8_onE_262 : decode cX8_onE 262 = .ok (.invokevirtual 254, 3) := by decide +kernel
theorem dX8_onE_265 : decode cX8_onE 265 = .ok (.aload_n 0, 1) := by decide +kernel
theorem dX8_onE_266 : decode cX8_onE 266 = .ok (.bipush 17, 2) := by decide +kernel
theorem dX8_onE_268 : decode cX8_onE 268 = .ok (.iload_n 1, 1) := by decide +kernel
theorem dX8_onE_269 : decode cX8_onE 269 = .ok (.invokevirtual 254, 3) := by decide +kernel
theorem dX8_onE_272 : decode cX8_onE 272 = .ok (.aload_n 0, 1) := by decide +kernel
theorem dX8_onE_273 : decode cX8_onE 273 = .ok (.iconst 4, 1) := by decide +kernel
theorem dX8_onE_274 : decode cX8_onE 274 = .ok (.iconst 0, 1) := by decide +kernel
theorem dX8_onE_275 : decode cX8_onE 275 = .ok (.invokevirtual 254, 3) := by decide +kernel
theorem dX8_onE_278 : decode cX8_onE 278 = .ok (.aload_n 0, 1) := by decide +kernel
theorem dX8_onE_279 : decode cX8_onE 279 = .ok (.iconst 1, 1) := by decide +kernel
theorem dX8_onE_280 : decode cX8_onE 280 = .ok (.iconst 4, 1) := by decide +kernel
theorem dX8_onE_281 : decode cX8_onE 281 = .ok (.invokevirtual 254, 3) := by decide +kernel
theorem dX8_onE_284 : decode cX8_onE 284 = .ok (.aload_n 0, 1) := by decide +kernel
theorem dX8_onE_285 : decode cX8_onE 285 = .ok (.bipush 16, 2) := by decide +kernel
theorem dX8_onE_287 : decode cX8_onE 287 = .ok (.iload_n 1, 1) := by decide +kernel
theorem dX8_onE_288 : decode cX8_onE 288 = .ok (.invokevirtual 254, 3) := by decide +kernel
theorem dX8_onE_291 : decode cX8_onE 291 = .ok (.aload_n 0, 1) := by decide +kernel
theorem dX8_onE_292 : decode cX8_onE 292 = .ok (.iconst 4, 1) := by decide +kernel
theorem dX8_onE_293 : decode cX8_onE 293 = .ok (.iconst 0, 1) := by decide +kernel
theorem dX8_onE_294 : decode cX8_onE 294 = .ok (.invokevirtual 254, 3) := by decide +kernel
theorem dX8_onE_297 : decode cX8_onE 297 = .ok (.aload_n 0, 1) := by decide +kernel
theorem dX8_onE_298 : decode cX8_onE 298 = .ok (.iconst 1, 1) := by decide +kernel
theorem dX8_onE_299 : decode cX8_onE 299 = .ok (.iconst 3, 1) := by decide +kernel
theorem dX8_onE_300 : decode cX8_onE 300 = .ok (.invokevirtual 254, 3) := by decide +kernel
theorem dX8_onE_303 : decode cX8_onE 303 = .ok (.aload_n 0, 1) := by decide +kernel
theorem dX8_onE_304 : decode cX8_onE 304 = .ok (.bipush 15, 2) := by decide +kernel
theorem dX8_onE_306 : decode cX8_onE 306 = .ok (.iload_n 1, 1) := by decide +kernel
theorem dX8_onE_307 : decode cX8_onE 307 = .ok (.invokevirtual 254, 3) := by decide +kernel
theorem dX8_onE_310 : decode cX8_onE 310 = .ok (.aload_n 0, 1) := by decide +kernel
theorem dX8_onE_311 : decode cX8_onE 311 = .ok (.iconst 4, 1) := by decide +kernel
theorem dX8_onE_312 : decode cX8_onE 312 = .ok (.iconst 0, 1) := by decide +kernel
theorem dX8_onE_313 : decode cX8_onE 313 = .ok (.invokevirtual 254, 3) := by decide +kernel
theorem dX8_onE_316 : decode cX8_onE 316 = .ok (.aload_n 0, 1) := by decide +kernel
theorem dX8_onE_317 : decode cX8_onE 317 = .ok (.invokevirtual 229, 3) := by decide +kernel
theorem dX8_onE_320 : decode cX8_onE 320 = .ok (.goto 17, 3) := by decide +kernel
theorem dX8_onE_323 : decode cX8_onE 323 = .ok (.aload_n 0, 1) := by decide +kernel
theorem dX8_onE_324 : decode cX8_onE 324 = .ok (.bipush 11, 2) := by decide +kernel
theorem dX8_onE_326 : decode cX8_onE 326 = .ok (.iconst 0, 1) := by decide +kernel
theorem dX8_onE_327 : decode cX8_onE 327 = .ok (.invokevirtual 254, 3) := by decide +kernel
theorem dX8_onE_330 : decode cX8_onE 330 = .ok (.aload_n 0, 1) := by decide +kernel
theorem dX8_onE_331 : decode cX8_onE 331 = .ok (.bipush 6, 2) := by decide +kernel
theorem dX8_onE_333 : decode cX8_onE 333 = .ok (.iconst 0, 1) := by decide +kernel
theorem dX8_onE_334 : decode cX8_onE 334 = .ok (.invokevirtual 254, 3) := by decide +kernel
theorem dX8_onE_337 : decode cX8_onE 337 = .ok (.return_, 1) := by decide +kernel
abbrev JX8_onE_0 (D : DE) (f : Nat) (Q : HI → HL → Prop) (F : Frm) (h : HI) (g : HL) : Prop := Si D f mX8_begins [.ref (ad D 115)] F h g (fun y3 h1 g2 => ((¬ y3 = 0 → ((¬ (h1 115 41) = 20 → ∀ h6, h6 = up2 h1 115 41 ((h1 115 41) + 1) → Sv D f mX8_push [.ref (ad D 115), .int 5, .int 0] F h6 g2 (fun h8 g9 => ((¬ (h8 115 4) = 5 → ((¬ (h8 115 4) = 7 → ((¬ (h8 115 4) = 2 → Sv D f mX8_push [.ref (ad D 115), .int 11, .int 0] F h8 g9 (fun h13 g14 => Sv D f mX8_push [.ref (ad D 115), .int 6, .int 0] F h13 g14 (fun h15 g16 => Q h15 g16))) ∧ ((h8 115 4) = 2 → Si D f mX8_node [.ref (ad D 115), .int 2, .int (h8 115 5)] F h8 g9 (fun y19 h17 g18 => Sv D f mX8_push [.ref (ad D 115), .int 18, .int y19] F h17 g18 (fun h20 g21 => Sv D f mX8_push [.ref (ad D 115), .int 17, .int y19] F h20 g21 (fun h22 g23 => Sv D f mX8_push [.ref (ad D 115), .int 4, .int 0] F h22 g23 (fun h24 g25 => Sv D f mX8_push [.ref (ad D 115), .int 1, .int 4] F h24 g25 (fun h26 g27 => Sv D f mX8_push [.ref (ad D 115), .int 16, .int y19] F h26 g27 (fun h28 g29 => Sv D f mX8_push [.ref (ad D 115), .int 4, .int 0] F h28 g29 (fun h30 g31 => Sv D f mX8_push [.ref (ad D 115), .int 1, .int 3] F h30 g31 (fun h32 g33 => Sv D f mX8_push [.ref (ad D 115), .int 15, .int y19] F h32 g33 (fun h34 g35 => Sv D f mX8_push [.ref (ad D 115), .int 4, .int 0] F h34 g35 (fun h36 g37 => Sv D f mX8_pass [.ref (ad D 115)] F h36 g37 (fun h38 g39 => Q h38 g39)))))))))))))) ∧ ((h8 115 4) = 7 → Si D f mX8_node [.ref (ad D 115), .int 4, .int (h8 115 5)] F h8 g9 (fun y42 h40 g41 => Sv D f mX8_push [.ref (ad D 115), .int 18, .int y42] F h40 g41 (fun h43 g44 => Sv D f mX8_push [.ref (ad D 115), .int 16, .int y42] F h43 g44 (fun h45 g46 => Sv D f mX8_push [.ref (ad D 115), .int 4, .int 0] F h45 g46 (fun h47 g48 => Sv D f mX8_push [.ref (ad D 115), .int 1, .int 6] F h47 g48 (fun h49 g50 => Sv D f mX8_push [.ref (ad D 115), .int 1, .int 15] F h49 g50 (fun h51 g52 => Sv D f mX8_push [.ref (ad D 115), .int 14, .int y42] F h51 g52 (fun h53 g54 => Sv D f mX8_push [.ref (ad D 115), .int 1, .int 16] F h53 g54 (fun h55 g56 => Sv D f mX8_push [.ref (ad D 115), .int 13, .int y42] F h55 g56 (fun h57 g58 => Sv D f mX8_push [.ref (ad D 115), .int 1, .int 14] F h57 g58 (fun h59 g60 => Sv D f mX8_push [.ref (ad D 115), .int 1, .int 8] F h59 g60 (fun h61 g62 => Sv D f mX8_push [.ref (ad D 115), .int 15, .int y42] F h61 g62 (fun h63 g64 => Sv D f mX8_push [.ref (ad D 115), .int 4, .int 0] F h63 g64 (fun h65 g66 => Sv D f mX8_pass [.ref (ad D 115)] F h65 g66 (fun h67 g68 => Q h67 g68))))))))))))))))) ∧ ((h8 115 4) = 5 → Si D f mX8_node [.ref (ad D 115), .int 3, .int (h8 115 5)] F h8 g9 (fun y71 h69 g70 => Sv D f mX8_push [.ref (ad D 115), .int 18, .int y71] F h69 g70 (fun h72 g73 => Sv D f mX8_push [.ref (ad D 115), .int 16, .int y71] F h72 g73 (fun h74 g75 => Sv D f mX8_push [.ref (ad D 115), .int 4, .int 0] F h74 g75 (fun h76 g77 => Sv D f mX8_push [.ref (ad D 115), .int 1, .int 6] F h76 g77 (fun h78 g79 => Sv D f mX8_push [.ref (ad D 115), .int 15, .int y71] F h78 g79 (fun h80 g81 => Sv D f mX8_push [.ref (ad D 115), .int 4, .int 0] F h80 g81 (fun h82 g83 => Sv D f mX8_push [.ref (ad D 115), .int 1, .int 13] F h82 g83 (fun h84 g85 => Sv D f mX8_push [.ref (ad D 115), .int 13, .int y71] F h84 g85 (fun h86 g87 => Sv D f mX8_pass [.ref (ad D 115)] F h86 g87 (fun h88 g89 => Q h88 g89)))))))))))))) ∧ ((h1 115 41) = 20 → Sv D f mX8_stop [.ref (ad D 115), .int 6, .int (h1 115 5)] F h1 g2 (fun h90 g91 => Q h90 g91)))) ∧ (y3 = 0 → Sv D f mX8_stop [.ref (ad D 115), .int 2, .int (h1 115 5)] F h1 g2 (fun h92 g93 => Q h92 g93))))
theorem bX8_onE_0 {D : DE} {f : Nat} {Q : HI → HL → Prop} {F : Frm} {h : HI} {g : HL} (hF : k_Fix F)  (H : JX8_onE_0 D f Q F h g ) : V D mX8_onE (f + 1) (qv F Q) 0 [(0, .ref (ad D 115))] [] (F, h, g) := by
  refine V_aload_n dX8_onE_0 rfl 0 rfl ?_
  refine H_calli (av := [.ref (ad D 115)]) (rest := []) H mqX8_begins q88 (by decide) (Nat.le_of_ble_eq_true rfl) (k_resV (ci := 7) (av := []) (rest := []) (fs_115 hF) (by decide) rfl rfl q1798 q1800 qs42 q1801 mhX8_begins mnX8_begins dX8_onE_1) (fun y3 h1 g2 H => ?_)
  refine V_if_ne (tgt := 17) dX8_onE_4 (by decide) (fun c4 => ?_) (fun c4 => ?_)
  · have H := H.1 c4
    refine V_aload_n dX8_onE_17 rfl 0 rfl ?_
    refine H_geti ck7 41 (by decide) (fs_115 hF) (by decide) rfl q1499 dX8_onE_18 ?_
    refine V_bipush (v := 20) dX8_onE_21 (by decide) ?_
    refine V_icmp_ne (tgt := 37) dX8_onE_23 (by decide) (fun c5 => ?_) (fun c5 => ?_)
    · have H := H.1 c5
      refine V_aload_n dX8_onE_37 rfl 0 rfl ?_
      refine V_dup dX8_onE_38 rfl ?_
      refine H_geti ck7 41 (by decide) (fs_115 hF) (by decide) rfl q1499 dX8_onE_39 ?_
      refine V_iconst (v := 1) dX8_onE_42 (by decide) ?_
      refine V_iadd dX8_onE_43 ?_
      refine H_puti ck7 41 (by decide) (fs_115 hF) (by decide) rfl rfl q1499 dX8_onE_44 (fun h6 e7 => ?_)
      have H := H h6 e7
      refine V_aload_n dX8_onE_47 rfl 0 rfl ?_
      refine V_iconst (v := 5) dX8_onE_48 (by decide) ?_
      refine V_iconst (v := 0) dX8_onE_49 (by decide) ?_
      refine H_callv (av := [.ref (ad D 115), .int 5, .int 0]) (rest := []) H mqX8_push q88 (by decide) (Nat.le_of_ble_eq_true rfl) (k_resV (ci := 7) (av := [.int 5, .int 0]) (rest := []) (fs_115 hF) (by decide) rfl rfl q1783 q1785 qs39 q1786 mhX8_push mnX8_push dX8_onE_50) (fun h8 g9 H => ?_)
      refine V_aload_n dX8_onE_53 rfl 0 rfl ?_
      refine H_geti ck7 4 (by decide) (fs_115 hF) (by decide) rfl q1462 dX8_onE_54 ?_
      refine V_iconst (v := 5) dX8_onE_57 (by decide) ?_
      refine V_icmp_ne (tgt := 132) dX8_onE_58 (by decide) (fun c10 => ?_) (fun c10 => ?_)
      · have H := H.1 c10
        refine V_aload_n dX8_onE_132 rfl 0 rfl ?_
        refine H_geti ck7 4 (by decide) (fs_115 hF) (by decide) rfl q1462 dX8_onE_133 ?_
        refine V_bipush (v := 7) dX8_onE_136 (by decide) ?_
        refine V_icmp_ne (tgt := 240) dX8_onE_138 (by decide) (fun c11 => ?_) (fun c11 => ?_)
        · have H := H.1 c11
          refine V_aload_n dX8_onE_240 rfl 0 rfl ?_
          refine H_geti ck7 4 (by decide) (fs_115 hF) (by decide) rfl q1462 dX8_onE_241 ?_
          refine V_iconst (v := 2) dX8_onE_244 (by decide) ?_
          refine V_icmp_ne (tgt := 323) dX8_onE_245 (by decide) (fun c12 => ?_) (fun c12 => ?_)
          · have H := H.1 c12
            refine V_aload_n dX8_onE_323 rfl 0 rfl ?_
            refine V_bipush (v := 11) dX8_onE_324 (by decide) ?_
            refine V_iconst (v := 0) dX8_onE_326 (by decide) ?_
            refine H_callv (av := [.ref (ad D 115), .int 11, .int 0]) (rest := []) H mqX8_push q88 (by decide) (Nat.le_of_ble_eq_true rfl) (k_resV (ci := 7) (av := [.int 11, .int 0]) (rest := []) (fs_115 hF) (by decide) rfl rfl q1783 q1785 qs39 q1786 mhX8_push mnX8_push dX8_onE_327) (fun h13 g14 H => ?_)
            refine V_aload_n dX8_onE_330 rfl 0 rfl ?_
            refine V_bipush (v := 6) dX8_onE_331 (by decide) ?_
            refine V_iconst (v := 0) dX8_onE_333 (by decide) ?_
            refine H_callv (av := [.ref (ad D 115), .int 6, .int 0]) (rest := []) H mqX8_push q88 (by decide) (Nat.le_of_ble_eq_true rfl) (k_resV (ci := 7) (av := [.int 6, .int 0]) (rest := []) (fs_115 hF) (by decide) rfl rfl q1783 q1785 qs39 q1786 mhX8_push mnX8_push dX8_onE_334) (fun h15 g16 H => ?_)
            exact H_vret rfl dX8_onE_337 H
          · have H := H.2 c12
            refine V_aload_n dX8_onE_248 rfl 0 rfl ?_
            refine V_iconst (v := 2) dX8_onE_249 (by decide) ?_
            refine V_aload_n dX8_onE_250 rfl 0 rfl ?_
            refine H_geti ck7 5 (by decide) (fs_115 hF) (by decide) rfl q1463 dX8_onE_251 ?_
            refine H_calli (av := [.ref (ad D 115), .int 2, .int (h8 115 5)]) (rest := []) H mqX8_node q88 (by decide) (Nat.le_of_ble_eq_true rfl) (k_resV (ci := 7) (av := [.int 2, .int (h8 115 5)]) (rest := []) (fs_115 hF) (by decide) rfl rfl q1802 q1804 qs43 q1805 mhX8_node mnX8_node dX8_onE_254) (fun y19 h17 g18 H => ?_)
            refine V_istore_n (l1 := [(1, .int y19), (0, .ref (ad D 115))]) dX8_onE_257 rfl (by decide) rfl ?_
            refine V_aload_n dX8_onE_258 rfl 1 rfl ?_
            refine V_bipush (v := 18) dX8_onE_259 (by decide) ?_
            refine V_iload_n dX8_onE_261 rfl 0 rfl ?_
            refine H_callv (av := [.ref (ad D 115), .int 18, .int y19]) (rest := []) H mqX8_push q88 (by decide) (Nat.le_of_ble_eq_true rfl) (k_resV (ci := 7) (av := [.int 18, .int y19]) (rest := []) (fs_115 hF) (by decide) rfl rfl q1783 q1785 qs39 q1786 mhX8_push mnX8_push dX8_onE_262) (fun h20 g21 H => ?_)
            refine V_aload_n dX8_onE_265 rfl 1 rfl ?_
            refine V_bipush (v := 17) dX8_onE_266 (by decide) ?_
            refine V_iload_n dX8_onE_268 rfl 0 rfl ?_
            refine H_callv (av := [.ref (ad D 115), .int 17, .int y19]) (rest := []) H mqX8_push q88 (by decide) (Nat.le_of_ble_eq_true rfl) (k_resV (ci := 7) (av := [.int 17, .int y19]) (rest := []) (fs_115 hF) (by decide) rfl rfl q1783 q1785 qs39 q1786 mhX8_push mnX8_push dX8_onE_269) (fun h22 g23 H => ?_)
            refine V_aload_n dX8_onE_272 rfl 1 rfl ?_
            refine V_iconst (v := 4) dX8_onE_273 (by decide) ?_
            refine V_iconst (v := 0) dX8_onE_274 (by decide) ?_
            refine H_callv (av := [.ref (ad D 115), .int 4, .int 0]) (rest := []) H mqX8_push q88 (by decide) (Nat.le_of_ble_eq_true rfl) (k_resV (ci := 7) (av := [.int 4, .int 0]) (rest := []) (fs_115 hF) (by decide) rfl rfl q1783 q1785 qs39 q1786 mhX8_push mnX8_push dX8_onE_275) (fun h24 g25 H => ?_)
            refine V_aload_n dX8_onE_278 rfl 1 rfl ?_
            refine V_iconst (v := 1) dX8_onE_279 (by decide) ?_
            refine V_iconst (v := 4) dX8_onE_280 (by decide) ?_
            refine H_callv (av := [.ref (ad D 115), .int 1, .int 4]) (rest := []) H mqX8_push q88 (by decide) (Nat.le_of_ble_eq_true rfl) (k_resV (ci := 7) (av := [.int 1, .int 4]) (rest := []) (fs_115 hF) (by decide) rfl rfl q1783 q1785 qs39 q1786 mhX8_push mnX8_push dX8_onE_281) (fun h26 g27 H => ?_)
            refine V_aload_n dX8_onE_284 rfl 1 rfl ?_
            refine V_bipush (v := 16) dX8_onE_285 (by decide) ?_
            refine V_iload_n dX8_onE_287 rfl 0 rfl ?_
            refine H_callv (av := [.ref (ad D 115), .int 16, .int y19]) (rest := []) H mqX8_push q88 (by decide) (Nat.le_of_ble_eq_true rfl) (k_resV (ci := 7) (av := [.int 16, .int y19]) (rest := []) (fs_115 hF) (by decide) rfl rfl q1783 q1785 qs39 q1786 mhX8_push mnX8_push dX8_onE_288) (fun h28 g29 H => ?_)
            refine V_aload_n dX8_onE_291 rfl 1 rfl ?_
            refine V_iconst (v := 4) dX8_onE_292 (by decide) ?_
            refine V_iconst (v := 0) dX8_onE_293 (by decide) ?_
            refine H_callv (av := [.ref (ad D 115), .int 4, .int 0]) (rest := []) H mqX8_push q88 (by decide) (Nat.le_of_ble_eq_true rfl) (k_resV (ci := 7) (av := [.int 4, .int 0]) (rest := []) (fs_115 hF) (by decide) rfl rfl q1783 q1785 qs39 q1786 mhX8_push mnX8_push dX8_onE_294) (fun h30 g31 H => ?_)
            refine V_aload_n dX8_onE_297 rfl 1 rfl ?_
            refine V_iconst (v := 1) dX8_onE_298 (by decide) ?_
            refine V_iconst (v := 3) dX8_onE_299 (by decide) ?_
            refine H_callv (av := [.ref (ad D 115), .int 1, .int 3]) (rest := []) H mqX8_push q88 (by decide) (Nat.le_of_ble_eq_true rfl) (k_resV (ci := 7) (av := [.int 1, .int 3]) (rest := []) (fs_115 hF) (by decide) rfl rfl q1783 q1785 qs39 q1786 mhX8_push mnX8_push dX8_onE_300) (fun h32 g33 H => ?_)
            refine V_aload_n dX8_onE_303 rfl 1 rfl ?_
            refine V_bipush (v := 15) dX8_onE_304 (by decide) ?_
            refine V_iload_n dX8_onE_306 rfl 0 rfl ?_
            refine H_callv (av := [.ref (ad D 115), .int 15, .int y19]) (rest := []) H mqX8_push q88 (by decide) (Nat.le_of_ble_eq_true rfl) (k_resV (ci := 7) (av := [.int 15, .int y19]) (rest := []) (fs_115 hF) (by decide) rfl rfl q1783 q1785 qs39 q1786 mhX8_push mnX8_push dX8_onE_307) (fun h34 g35 H => ?_)
            refine V_aload_n dX8_onE_310 rfl 1 rfl ?_
            refine V_iconst (v := 4) dX8_onE_311 (by decide) ?_
            refine V_iconst (v := 0) dX8_onE_312 (by decide) ?_
            refine H_callv (av := [.ref (ad D 115), .int 4, .int 0]) (rest := []) H mqX8_push q88 (by decide) (Nat.le_of_ble_eq_true rfl) (k_resV (ci := 7) (av := [.int 4, .int 0]) (rest := []) (fs_115 hF) (by decide) rfl rfl q1783 q1785 qs39 q1786 mhX8_push mnX8_push dX8_onE_313) (fun h36 g37 H => ?_)
            refine V_aload_n dX8_onE_316 rfl 1 rfl ?_
            refine H_callv (av := [.ref (ad D 115)]) (rest := []) H mqX8_pass q88 (by decide) (Nat.le_of_ble_eq_true rfl) (k_resV (ci := 7) (av := []) (rest := []) (fs_115 hF) (by decide) rfl rfl q1759 q1761 qs33 q1762 mhX8_pass mnX8_pass dX8_onE_317) (fun h38 g39 H => ?_)
            refine V_goto (tgt := 337) dX8_onE_320 (by decide) ?_
            exact H_vret rfl dX8_onE_337 H
        · have H := H.2 c11
          refine V_aload_n dX8_onE_141 rfl 0 rfl ?_
          refine V_iconst (v := 4) dX8_onE_142 (by decide) ?_
          refine V_aload_n dX8_onE_143 rfl 0 rfl ?_
          refine H_geti ck7 5 (by decide) (fs_115 hF) (by decide) rfl q1463 dX8_onE_144 ?_
          refine H_calli (av := [.ref (ad D 115), .int 4, .int (h8 115 5)]) (rest := []) H mqX8_node q88 (by decide) (Nat.le_of_ble_eq_true rfl) (k_resV (ci := 7) (av := [.int 4, .int (h8 115 5)]) (rest := []) (fs_115 hF) (by decide) rfl rfl q1802 q1804 qs43 q1805 mhX8_node mnX8_node dX8_onE_147) (fun y42 h40 g41 H => ?_)
          refine V_istore_n (l1 := [(1, .int y42), (0, .ref (ad D 115))]) dX8_onE_150 rfl (by decide) rfl ?_
          refine V_aload_n dX8_onE_151 rfl 1 rfl ?_
          refine V_bipush (v := 18) dX8_onE_152 (by decide) ?_
          refine V_iload_n dX8_onE_154 rfl 0 rfl ?_
          refine H_callv (av := [.ref (ad D 115), .int 18, .int y42]) (rest := []) H mqX8_push q88 (by decide) (Nat.le_of_ble_eq_true rfl) (k_resV (ci := 7) (av := [.int 18, .int y42]) (rest := []) (fs_115 hF) (by decide) rfl rfl q1783 q1785 qs39 q1786 mhX8_push mnX8_push dX8_onE_155) (fun h43 g44 H => ?_)
          refine V_aload_n dX8_onE_158 rfl 1 rfl ?_
          refine V_bipush (v := 16) dX8_onE_159 (by decide) ?_
          refine V_iload_n dX8_onE_161 rfl 0 rfl ?_
          refine H_callv (av := [.ref (ad D 115), .int 16, .int y42]) (rest := []) H mqX8_push q88 (by decide) (Nat.le_of_ble_eq_true rfl) (k_resV (ci := 7) (av := [.int 16, .int y42]) (rest := []) (fs_115 hF) (by decide) rfl rfl q1783 q1785 qs39 q1786 mhX8_push mnX8_push dX8_onE_162) (fun h45 g46 H => ?_)
          refine V_aload_n dX8_onE_165 rfl 1 rfl ?_
          refine V_iconst (v := 4) dX8_onE_166 (by decide) ?_
          refine V_iconst (v := 0) dX8_onE_167 (by decide) ?_
          refine H_callv (av := [.ref (ad D 115), .int 4, .int 0]) (rest := []) H mqX8_push q88 (by decide) (Nat.le_of_ble_eq_true rfl) (k_resV (ci := 7) (av := [.int 4, .int 0]) (rest := []) (fs_115 hF) (by decide) rfl rfl q1783 q1785 qs39 q1786 mhX8_push mnX8_push dX8_onE_168) (fun h47 g48 H => ?_)
          refine V_aload_n dX8_onE_171 rfl 1 rfl ?_
          refine V_iconst (v := 1) dX8_onE_172 (by decide) ?_
          refine V_bipush (v := 6) dX8_onE_173 (by decide) ?_
          refine H_callv (av := [.ref (ad D 115), .int 1, .int 6]) (rest := []) H mqX8_push q88 (by decide) (Nat.le_of_ble_eq_true rfl) (k_resV (ci := 7) (av := [.int 1, .int 6]) (rest := []) (fs_115 hF) (by decide) rfl rfl q1783 q1785 qs39 q1786 mhX8_push mnX8_push dX8_onE_175) (fun h49 g50 H => ?_)
          refine V_aload_n dX8_onE_178 rfl 1 rfl ?_
          refine V_iconst (v := 1) dX8_onE_179 (by decide) ?_
          refine V_bipush (v := 15) dX8_onE_180 (by decide) ?_
          refine H_callv (av := [.ref (ad D 115), .int 1, .int 15]) (rest := []) H mqX8_push q88 (by decide) (Nat.le_of_ble_eq_true rfl) (k_resV (ci := 7) (av := [.int 1, .int 15]) (rest := []) (fs_115 hF) (by decide) rfl rfl q1783 q1785 qs39 q1786 mhX8_push mnX8_push dX8_onE_182) (fun h51 g52 H => ?_)
          refine V_aload_n dX8_onE_185 rfl 1 rfl ?_
          refine V_bipush (v := 14) dX8_onE_186 (by decide) ?_
          refine V_iload_n dX8_onE_188 rfl 0 rfl ?_
          refine H_callv (av := [.ref (ad D 115), .int 14, .int y42]) (rest := []) H mqX8_push q88 (by decide) (Nat.le_of_ble_eq_true rfl) (k_resV (ci := 7) (av := [.int 14, .int y42]) (rest := []) (fs_115 hF) (by decide) rfl rfl q1783 q1785 qs39 q1786 mhX8_push mnX8_push dX8_onE_189) (fun h53 g54 H => ?_)
          refine V_aload_n dX8_onE_192 rfl 1 rfl ?_
          refine V_iconst (v := 1) dX8_onE_193 (by decide) ?_
          refine V_bipush (v := 16) dX8_onE_194 (by decide) ?_
          refine H_callv (av := [.ref (ad D 115), .int 1, .int 16]) (rest := []) H mqX8_push q88 (by decide) (Nat.le_of_ble_eq_true rfl) (k_resV (ci := 7) (av := [.int 1, .int 16]) (rest := []) (fs_115 hF) (by decide) rfl rfl q1783 q1785 qs39 q1786 mhX8_push mnX8_push dX8_onE_196) (fun h55 g56 H => ?_)
          refine V_aload_n dX8_onE_199 rfl 1 rfl ?_
          refine V_bipush (v := 13) dX8_onE_200 (by decide) ?_
          refine V_iload_n dX8_onE_202 rfl 0 rfl ?_
          refine H_callv (av := [.ref (ad D 115), .int 13, .int y42]) (rest := []) H mqX8_push q88 (by decide) (Nat.le_of_ble_eq_true rfl) (k_resV (ci := 7) (av := [.int 13, .int y42]) (rest := []) (fs_115 hF) (by decide) rfl rfl q1783 q1785 qs39 q1786 mhX8_push mnX8_push dX8_onE_203) (fun h57 g58 H => ?_)
          refine V_aload_n dX8_onE_206 rfl 1 rfl ?_
          refine V_iconst (v := 1) dX8_onE_207 (by decide) ?_
          refine V_bipush (v := 14) dX8_onE_208 (by decide) ?_
          refine H_callv (av := [.ref (ad D 115), .int 1, .int 14]) (rest := []) H mqX8_push q88 (by decide) (Nat.le_of_ble_eq_true rfl) (k_resV (ci := 7) (av := [.int 1, .int 14]) (rest := []) (fs_115 hF) (by decide) rfl rfl q1783 q1785 qs39 q1786 mhX8_push mnX8_push dX8_onE_210) (fun h59 g60 H => ?_)
          refine V_aload_n dX8_onE_213 rfl 1 rfl ?_
          refine V_iconst (v := 1) dX8_onE_214 (by decide) ?_
          refine V_bipush (v := 8) dX8_onE_215 (by decide) ?_
          refine H_callv (av := [.ref (ad D 115), .int 1, .int 8]) (rest := []) H mqX8_push q88 (by decide) (Nat.le_of_ble_eq_true rfl) (k_resV (ci := 7) (av := [.int 1, .int 8]) (rest := []) (fs_115 hF) (by decide) rfl rfl q1783 q1785 qs39 q1786 mhX8_push mnX8_push dX8_onE_217) (fun h61 g62 H => ?_)
          refine V_aload_n dX8_onE_220 rfl 1 rfl ?_
          refine V_bipush (v := 15) dX8_onE_221 (by decide) ?_
          refine V_iload_n dX8_onE_223 rfl 0 rfl ?_
          refine H_callv (av := [.ref (ad D 115), .int 15, .int y42]) (rest := []) H mqX8_push q88 (by decide) (Nat.le_of_ble_eq_true rfl) (k_resV (ci := 7) (av := [.int 15, .int y42]) (rest := []) (fs_115 hF) (by decide) rfl rfl q1783 q1785 qs39 q1786 mhX8_push mnX8_push dX8_onE_224) (fun h63 g64 H => ?_)
          refine V_aload_n dX8_onE_227 rfl 1 rfl ?_
          refine V_iconst (v := 4) dX8_onE_228 (by decide) ?_
          refine V_iconst (v := 0) dX8_onE_229 (by decide) ?_
          refine H_callv (av := [.ref (ad D 115), .int 4, .int 0]) (rest := []) H mqX8_push q88 (by decide) (Nat.le_of_ble_eq_true rfl) (k_resV (ci := 7) (av := [.int 4, .int 0]) (rest := []) (fs_115 hF) (by decide) rfl rfl q1783 q1785 qs39 q1786 mhX8_push mnX8_push dX8_onE_230) (fun h65 g66 H => ?_)
          refine V_aload_n dX8_onE_233 rfl 1 rfl ?_
          refine H_callv (av := [.ref (ad D 115)]) (rest := []) H mqX8_pass q88 (by decide) (Nat.le_of_ble_eq_true rfl) (k_resV (ci := 7) (av := []) (rest := []) (fs_115 hF) (by decide) rfl rfl q1759 q1761 qs33 q1762 mhX8_pass mnX8_pass dX8_onE_234) (fun h67 g68 H => ?_)
          refine V_goto (tgt := 337) dX8_onE_237 (by decide) ?_
          exact H_vret rfl dX8_onE_337 H
      · have H := H.2 c10
        refine V_aload_n dX8_onE_61 rfl 0 rfl ?_
        refine V_iconst (v := 3) dX8_onE_62 (by decide) ?_
        refine V_aload_n dX8_onE_63 rfl 0 rfl ?_
        refine H_geti ck7 5 (by decide) (fs_115 hF) (by decide) rfl q1463 dX8_onE_64 ?_
        refine H_calli (av := [.ref (ad D 115), .int 3, .int (h8 115 5)]) (rest := []) H mqX8_node q88 (by decide) (Nat.le_of_ble_eq_true rfl) (k_resV (ci := 7) (av := [.int 3, .int (h8 115 5)]) (rest := []) (fs_115 hF) (by decide) rfl rfl q1802 q1804 qs43 q1805 mhX8_node mnX8_node dX8_onE_67) (fun y71 h69 g70 H => ?_)
        refine V_istore_n (l1 := [(1, .int y71), (0, .ref (ad D 115))]) dX8_onE_70 rfl (by decide) rfl ?_
        refine V_aload_n dX8_onE_71 rfl 1 rfl ?_
        refine V_bipush (v := 18) dX8_onE_72 (by decide) ?_
        refine V_iload_n dX8_onE_74 rfl 0 rfl ?_
        refine H_callv (av := [.ref (ad D 115), .int 18, .int y71]) (rest := []) H mqX8_push q88 (by decide) (Nat.le_of_ble_eq_true rfl) (k_resV (ci := 7) (av := [.int 18, .int y71]) (rest := []) (fs_115 hF) (by decide) rfl rfl q1783 q1785 qs39 q1786 mhX8_push mnX8_push dX8_onE_75) (fun h72 g73 H => ?_)
        refine V_aload_n dX8_onE_78 rfl 1 rfl ?_
        refine V_bipush (v := 16) dX8_onE_79 (by decide) ?_
        refine V_iload_n dX8_onE_81 rfl 0 rfl ?_
        refine H_callv (av := [.ref (ad D 115), .int 16, .int y71]) (rest := []) H mqX8_push q88 (by decide) (Nat.le_of_ble_eq_true rfl) (k_resV (ci := 7) (av := [.int 16, .int y71]) (rest := []) (fs_115 hF) (by decide) rfl rfl q1783 q1785 qs39 q1786 mhX8_push mnX8_push dX8_onE_82) (fun h74 g75 H => ?_)
        refine V_aload_n dX8_onE_85 rfl 1 rfl ?_
        refine V_iconst (v := 4) dX8_onE_86 (by decide) ?_
        refine V_iconst (v := 0) dX8_onE_87 (by decide) ?_
        refine H_callv (av := [.ref (ad D 115), .int 4, .int 0]) (rest := []) H mqX8_push q88 (by decide) (Nat.le_of_ble_eq_true rfl) (k_resV (ci := 7) (av := [.int 4, .int 0]) (rest := []) (fs_115 hF) (by decide) rfl rfl q1783 q1785 qs39 q1786 mhX8_push mnX8_push dX8_onE_88) (fun h76 g77 H => ?_)
        refine V_aload_n dX8_onE_91 rfl 1 rfl ?_
        refine V_iconst (v := 1) dX8_onE_92 (by decide) ?_
        refine V_bipush (v := 6) dX8_onE_93 (by decide) ?_
        refine H_callv (av := [.ref (ad D 115), .int 1, .int 6]) (rest := []) H mqX8_push q88 (by decide) (Nat.le_of_ble_eq_true rfl) (k_resV (ci := 7) (av := [.int 1, .int 6]) (rest := []) (fs_115 hF) (by decide) rfl rfl q1783 q1785 qs39 q1786 mhX8_push mnX8_push dX8_onE_95) (fun h78 g79 H => ?_)
        refine V_aload_n dX8_onE_98 rfl 1 rfl ?_
        refine V_bipush (v := 15) dX8_onE_99 (by decide) ?_
        refine V_iload_n dX8_onE_101 rfl 0 rfl ?_
        refine H_callv (av := [.ref (ad D 115), .int 15, .int y71]) (rest := []) H mqX8_push q88 (by decide) (Nat.le_of_ble_eq_true rfl) (k_resV (ci := 7) (av := [.int 15, .int y71]) (rest := []) (fs_115 hF) (by decide) rfl rfl q1783 q1785 qs39 q1786 mhX8_push mnX8_push dX8_onE_102) (fun h80 g81 H => ?_)
        refine V_aload_n dX8_onE_105 rfl 1 rfl ?_
        refine V_iconst (v := 4) dX8_onE_106 (by decide) ?_
        refine V_iconst (v := 0) dX8_onE_107 (by decide) ?_
        refine H_callv (av := [.ref (ad D 115), .int 4, .int 0]) (rest := []) H mqX8_push q88 (by decide) (Nat.le_of_ble_eq_true rfl) (k_resV (ci := 7) (av := [.int 4, .int 0]) (rest := []) (fs_115 hF) (by decide) rfl rfl q1783 q1785 qs39 q1786 mhX8_push mnX8_push dX8_onE_108) (fun h82 g83 H => ?_)
        refine V_aload_n dX8_onE_111 rfl 1 rfl ?_
        refine V_iconst (v := 1) dX8_onE_112 (by decide) ?_
        refine V_bipush (v := 13) dX8_onE_113 (by decide) ?_
        refine H_callv (av := [.ref (ad D 115), .int 1, .int 13]) (rest := []) H mqX8_push q88 (by decide) (Nat.le_of_ble_eq_true rfl) (k_resV (ci := 7) (av := [.int 1, .int 13]) (rest := []) (fs_115 hF) (by decide) rfl rfl q1783 q1785 qs39 q1786 mhX8_push mnX8_push dX8_onE_115) (fun h84 g85 H => ?_)
        refine V_aload_n dX8_onE_118 rfl 1 rfl ?_
        refine V_bipush (v := 13) dX8_onE_119 (by decide) ?_
        refine V_iload_n dX8_onE_121 rfl 0 rfl ?_
        refine H_callv (av := [.ref (ad D 115), .int 13, .int y71]) (rest := []) H mqX8_push q88 (by decide) (Nat.le_of_ble_eq_true rfl) (k_resV (ci := 7) (av := [.int 13, .int y71]) (rest := []) (fs_115 hF) (by decide) rfl rfl q1783 q1785 qs39 q1786 mhX8_push mnX8_push dX8_onE_122) (fun h86 g87 H => ?_)
        refine V_aload_n dX8_onE_125 rfl 1 rfl ?_
        refine H_callv (av := [.ref (ad D 115)]) (rest := []) H mqX8_pass q88 (by decide) (Nat.le_of_ble_eq_true rfl) (k_resV (ci := 7) (av := []) (rest := []) (fs_115 hF) (by decide) rfl rfl q1759 q1761 qs33 q1762 mhX8_pass mnX8_pass dX8_onE_126) (fun h88 g89 H => ?_)
        refine V_goto (tgt := 337) dX8_onE_129 (by decide) ?_
        exact H_vret rfl dX8_onE_337 H
    · have H := H.2 c5
      refine V_aload_n dX8_onE_26 rfl 0 rfl ?_
      refine V_bipush (v := 6) dX8_onE_27 (by decide) ?_
      refine V_aload_n dX8_onE_29 rfl 0 rfl ?_
      refine H_geti ck7 5 (by decide) (fs_115 hF) (by decide) rfl q1463 dX8_onE_30 ?_
      refine H_callv (av := [.ref (ad D 115), .int 6, .int (h1 115 5)]) (rest := []) H mqX8_stop q88 (by decide) (Nat.le_of_ble_eq_true rfl) (k_resV (ci := 7) (av := [.int 6, .int (h1 115 5)]) (rest := []) (fs_115 hF) (by decide) rfl rfl q1751 q1753 qs31 q1754 mhX8_stop mnX8_stop dX8_onE_33) (fun h90 g91 H => ?_)
      exact H_vret rfl dX8_onE_36 H
  · have H := H.2 c4
    refine V_aload_n dX8_onE_7 rfl 0 rfl ?_
    refine V_iconst (v := 2) dX8_onE_8 (by decide) ?_
    refine V_aload_n dX8_onE_9 rfl 0 rfl ?_
    refine H_geti ck7 5 (by decide) (fs_115 hF) (by decide) rfl q1463 dX8_onE_10 ?_
    refine H_callv (av := [.ref (ad D 115), .int 2, .int (h1 115 5)]) (rest := []) H mqX8_stop q88 (by decide) (Nat.le_of_ble_eq_true rfl) (k_resV (ci := 7) (av := [.int 2, .int (h1 115 5)]) (rest := []) (fs_115 hF) (by decide) rfl rfl q1751 q1753 qs31 q1754 mhX8_stop mnX8_stop dX8_onE_13) (fun h92 g93 H => ?_)
    exact H_vret rfl dX8_onE_16 H
theorem wX8_onE {D : DE} {f : Nat} {Q : HI → HL → Prop} {F : Frm} {h : HI} {g : HL} (hF : k_Fix F)  (H : JX8_onE_0 D f Q F h g ) : Sv D (f + 1) mX8_onE [.ref (ad D 115)] F h g Q := Cl.ofV (by decide) (Nat.le_of_ble_eq_true rfl) rfl (bX8_onE_0 hF  H)
