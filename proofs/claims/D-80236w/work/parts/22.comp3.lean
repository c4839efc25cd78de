/-! walks of the component, printed by gen/mkcomp.py -/
set_option maxRecDepth 100000
theorem dX3_program_0 : decode cX3_program 0 = .ok (.aload_n 0, 1) := by decide +kernel
theorem dX3_program_1 : decode cX3_program 1 = .ok (.iconst 0, 1) := by decide +kernel
theorem dX3_program_2 : decode cX3_program 2 = .ok (.putfield 21, 3) := by decide +kernel
theorem dX3_program_5 : decode cX3_program 5 = .ok (.aload_n 0, 1) := by decide +kernel
theorem dX3_program_6 : decode cX3_program 6 = .ok (.getfield 17, 3) := by decide +kernel
theorem dX3_program_9 : decode cX3_program 9 = .ok (.invokevirtual 25, 3) := by decide +kernel
theorem dX3_program_12 : decode cX3_program 12 = .ok (.aload_n 0, 1) := by decide +kernel
theorem dX3_program_13 : decode cX3_program 13 = .ok (.invokevirtual 30, 3) := by decide +kernel
theorem dX3_program_16 : decode cX3_program 16 = .ok (.aload_n 0, 1) := by decide +kernel
theorem dX3_program_17 : decode cX3_program 17 = .ok (.getfield 17, 3) := by decide +kernel
theorem dX3_program_20 : decode cX3_program 20 = .ok (.getfield 33, 3) := by decide +kernel
theorem dX3_program_23 : decode cX3_program 23 = .ok (.iconst 1, 1) := by decide +kernel
theorem dX3_program_24 : decode cX3_program 24 = .ok (.if_icmp .ne (-12), 3) := by decide +kernel
theorem dX3_program_27 : decode cX3_program 27 = .ok (.return_, 1) := by decide +kernel
abbrev JX3_program_12 (D : DE) (f : Nat) (Q : Frm → HI → HL → Prop) (T : Nat → Frm → HI → HL → Prop) (F : Frm) (h : HI) (g : HL) : Prop := Gv D f mX3_function [.ref (ad D 5)] F h g (fun F3 h1 g2 => ((¬ (h1 1 5) = 1 → V D mX3_program (f + 1) (gv Q T) 12 [(0, .ref (ad D 5))] [] (F3, h1, g2)) ∧ ((h1 1 5) = 1 → Q F3 h1 g2))) T
theorem bX3_program_12 {D : DE} {f : Nat} {Q : Frm → HI → HL → Prop} {T : Nat → Frm → HI → HL → Prop} {F : Frm} {h : HI} {g : HL} (hF : k_Fix F)  (H : JX3_program_12 D f Q T F h g ) : V D mX3_program (f + 1) (gv Q T) 12 [(0, .ref (ad D 5))] [] (F, h, g) := by
  refine V_aload_n dX3_program_12 rfl 0 rfl ?_
  refine G_callv (av := [.ref (ad D 5)]) (rest := []) H mqX3_function q83 (by decide) (Nat.le_of_ble_eq_true rfl) (k_resV (ci := 2) (av := []) (rest := []) (fs_5 hF) (by decide) rfl rfl q566 q568 qs4 q569 mhX3_function mnX3_function dX3_program_13) (fun F3 h1 g2 hF4 H => ?_) (fun a e F1 h1 g1 hF1 ha ht => GT_v hF1 rfl ha ht)
  refine V_aload_n dX3_program_16 rfl 0 rfl ?_
  refine H_getr ck2 0 (by decide) (fs_5 hF4) (by decide) rfl (fr_5_0 hF4) q180 dX3_program_17 ?_
  refine H_getiN ck1 5 (by decide) (fs_1 hF4) (by decide) rfl q136 dX3_program_20 ?_
  refine V_iconst (v := 1) dX3_program_23 (by decide) ?_
  refine V_icmp_ne (tgt := 12) dX3_program_24 (by decide) (fun c6 => ?_) (fun c6 => ?_)
  · have H := H.1 c6
    exact H
  · have H := H.2 c6
    exact G_vret hF4 rfl dX3_program_27 H
abbrev JX3_program_0 (D : DE) (f : Nat) (Q : Frm → HI → HL → Prop) (T : Nat → Frm → HI → HL → Prop) (F : Frm) (h : HI) (g : HL) : Prop := ∀ h1, h1 = up2 h 5 2 0 → Sv D f mX2_begin [.ref (ad D 1)] F h1 g (fun h3 g4 => V D mX3_program (f + 1) (gv Q T) 12 [(0, .ref (ad D 5))] [] (F, h3, g4))
theorem bX3_program_0 {D : DE} {f : Nat} {Q : Frm → HI → HL → Prop} {T : Nat → Frm → HI → HL → Prop} {F : Frm} {h : HI} {g : HL} (hF : k_Fix F)  (H : JX3_program_0 D f Q T F h g ) : V D mX3_program (f + 1) (gv Q T) 0 [(0, .ref (ad D 5))] [] (F, h, g) := by
  refine V_aload_n dX3_program_0 rfl 0 rfl ?_
  refine V_iconst (v := 0) dX3_program_1 (by decide) ?_
  refine H_puti ck2 2 (by decide) (fs_5 hF) (by decide) rfl rfl q183 dX3_program_2 (fun h1 e2 => ?_)
  have H := H h1 e2
  refine V_aload_n dX3_program_5 rfl 0 rfl ?_
  refine H_getr ck2 0 (by decide) (fs_5 hF) (by decide) rfl (fr_5_0 hF) q180 dX3_program_6 ?_
  refine H_callv (av := [.ref (ad D 1)]) (rest := []) H mqX2_begin q82 (by decide) (Nat.le_of_ble_eq_true rfl) (k_resV (ci := 1) (av := []) (rest := []) (fs_1 hF) (by decide) rfl rfl q431 q432 q433 q434 mhX2_begin mnX2_begin dX3_program_9) (fun h3 g4 H => ?_)
  exact H
theorem wX3_program {D : DE} {f : Nat} {Q : Frm → HI → HL → Prop} {T : Nat → Frm → HI → HL → Prop} {F : Frm} {h : HI} {g : HL} (hF : k_Fix F)  (H : JX3_program_0 D f Q T F h g ) : Gv D (f + 1) mX3_program [.ref (ad D 5)] F h g Q T := Cl.ofV (by decide) (Nat.le_of_ble_eq_true rfl) rfl (bX3_program_0 hF  H)
theorem dX3_name_0 : decode cX3_name 0 = .ok (.aload_n 0, 1) := by decide +kernel
theorem dX3_name_1 : decode cX3_name 1 = .ok (.getfield 17, 3) := by decide +kernel
theorem dX3_name_4 : decode cX3_name 4 = .ok (.invokevirtual 36, 3) := by decide +kernel
theorem dX3_name_7 : decode cX3_name 7 = .ok (.istore_n 1, 1) := by decide +kernel
theorem dX3_name_8 : decode cX3_name 8 = .ok (.aload_n 0, 1) := by decide +kernel
theorem dX3_name_9 : decode cX3_name 9 = .ok (.getfield 17, 3) := by decide +kernel
theorem dX3_name_12 : decode cX3_name 12 = .ok (.invokevirtual 40, 3) := by decide +kernel
theorem dX3_name_15 : decode cX3_name 15 = .ok (.aload_n 0, 1) := by decide +kernel
theorem dX3_name_16 : decode cX3_name 16 = .ok (.getfield 17, 3) := by decide +kernel
theorem dX3_name_19 : decode cX3_name 19 = .ok (.invokevirtual 43, 3) := by decide +kernel
theorem dX3_name_22 : decode cX3_name 22 = .ok (.iload_n 1, 1) := by decide +kernel
theorem dX3_name_23 : decode cX3_name 23 = .ok (.ireturn, 1) := by decide +kernel
abbrev JX3_name_0 (D : DE) (f : Nat) (Q : Int32 → Frm → HI → HL → Prop) (T : Nat → Frm → HI → HL → Prop) (F : Frm) (h : HI) (g : HL) : Prop := Si D f mX2_token [.ref (ad D 1)] F h g (fun y1 h2 g3 => Gv D f mX2_room [.ref (ad D 1)] F h2 g3 (fun F6 h4 g5 => Sv D f mX2_next [.ref (ad D 1)] F6 h4 g5 (fun h9 g10 => Q y1 F6 h9 g10)) T)
theorem bX3_name_0 {D : DE} {f : Nat} {Q : Int32 → Frm → HI → HL → Prop} {T : Nat → Frm → HI → HL → Prop} {F : Frm} {h : HI} {g : HL} (hF : k_Fix F)  (H : JX3_name_0 D f Q T F h g ) : V D mX3_name (f + 1) (gi Q T) 0 [(0, .ref (ad D 5))] [] (F, h, g) := by
  refine V_aload_n dX3_name_0 rfl 0 rfl ?_
  refine H_getr ck2 0 (by decide) (fs_5 hF) (by decide) rfl (fr_5_0 hF) q180 dX3_name_1 ?_
  refine H_calli (av := [.ref (ad D 1)]) (rest := []) H mqX2_token q82 (by decide) (Nat.le_of_ble_eq_true rfl) (k_resV (ci := 1) (av := []) (rest := []) (fs_1 hF) (by decide) rfl rfl q646 q647 q648 q649 mhX2_token mnX2_token dX3_name_4) (fun y1 h2 g3 H => ?_)
  refine V_istore_n (l1 := [(1, .int y1), (0, .ref (ad D 5))]) dX3_name_7 rfl (by decide) rfl ?_
  refine V_aload_n dX3_name_8 rfl 1 rfl ?_
  refine H_getr ck2 0 (by decide) (fs_5 hF) (by decide) rfl (fr_5_0 hF) q180 dX3_name_9 ?_
  refine G_callv (av := [.ref (ad D 1)]) (rest := []) H mqX2_room q82 (by decide) (Nat.le_of_ble_eq_true rfl) (k_resV (ci := 1) (av := []) (rest := []) (fs_1 hF) (by decide) rfl rfl q723 q724 q725 q726 mhX2_room mnX2_room dX3_name_12) (fun F6 h4 g5 hF7 H => ?_) (fun a e F1 h1 g1 hF1 ha ht => GT_i hF1 rfl ha ht)
  refine V_aload_n dX3_name_15 rfl 1 rfl ?_
  refine H_getr ck2 0 (by decide) (fs_5 hF7) (by decide) rfl (fr_5_0 hF7) q180 dX3_name_16 ?_
  refine H_callv (av := [.ref (ad D 1)]) (rest := []) H mqX2_next q82 (by decide) (Nat.le_of_ble_eq_true rfl) (k_resV (ci := 1) (av := []) (rest := []) (fs_1 hF7) (by decide) rfl rfl q727 q436 q437 q438 mhX2_next mnX2_next dX3_name_19) (fun h9 g10 H => ?_)
  refine V_iload_n dX3_name_22 rfl 0 rfl ?_
  exact G_iret hF7 rfl dX3_name_23 H
theorem wX3_name {D : DE} {f : Nat} {Q : Int32 → Frm → HI → HL → Prop} {T : Nat → Frm → HI → HL → Prop} {F : Frm} {h : HI} {g : HL} (hF : k_Fix F)  (H : JX3_name_0 D f Q T F h g ) : Gi D (f + 1) mX3_name [.ref (ad D 5)] F h g Q T := Cl.ofV (by decide) (Nat.le_of_ble_eq_true rfl) rfl (bX3_name_0 hF  H)
theorem dX3_function_0 : decode cX3_function 0 = .ok (.aload_n 0, 1) := by decide +kernel
theorem dX3_function_1 : decode cX3_function 1 = .ok (.getfield 17, 3) := by decide +kernel
theorem dX3_function_4 : decode cX3_function 4 = .ok (.aload_n 0, 1) := by decide +kernel
theorem dX3_function_5 : decode cX3_function 5 = .ok (.getfield 17, 3) := by decide +kernel
theorem dX3_function_8 : decode cX3_function 8 = .ok (.getfield 33, 3) := by decide +kernel
theorem dX3_function_11 : decode cX3_function 11 = .ok (.iconst 3, 1) := by decide +kernel
theorem dX3_function_12 : decode cX3_function 12 = .ok (.if_icmp .ne 7, 3) := by decide +kernel
theorem dX3_function_15 : decode cX3_function 15 = .ok (.iconst 1, 1) := by decide +kernel
theorem dX3_function_16 : decode cX3_function 16 = .ok (.goto 4, 3) := by decide +kernel
theorem dX3_function_19 : decode cX3_function 19 = .ok (.iconst 0, 1) := by decide +kernel
theorem dX3_function_20 : decode cX3_function 20 = .ok (.invokevirtual 46, 3) := by decide +kernel
theorem dX3_function_23 : decode cX3_function 23 = .ok (.iconst 0, 1) := by decide +kernel
theorem dX3_function_24 : decode cX3_function 24 = .ok (.istore_n 1, 1) := by decide +kernel
theorem dX3_function_25 : decode cX3_function 25 = .ok (.iload_n 1, 1) := by decide +kernel
theorem dX3_function_26 : decode cX3_function 26 = .ok (.aload_n 0, 1) := by decide +kernel
theorem dX3_function_27 : decode cX3_function 27 = .ok (.getfield 21, 3) := by decide +kernel
theorem dX3_function_30 : decode cX3_function 30 = .ok (.if_icmp .ge 55, 3) := by decide +kernel
theorem dX3_function_33 : decode cX3_function 33 = .ok (.aload_n 0, 1) := by decide +kernel
theorem dX3_function_34 : decode cX3_function 34 = .ok (.getfield 17, 3) := by decide +kernel
theorem dX3_function_37 : decode cX3_function 37 = .ok (.aload_n 0, 1) := by decide +kernel
theorem dX3_function_38 : decode cX3_function 38 = .ok (.getfield 17, 3) := by decide +kernel
theorem dX3_function_41 : decode cX3_function 41 = .ok (.aload_n 0, 1) := by decide +kernel
theorem dX3_function_42 : decode cX3_function 42 = .ok (.getfield 11, 3) := by decide +kernel
theorem dX3_function_45 : decode cX3_function 45 = .ok (.iload_n 1, 1) := by decide +kernel
theorem dX3_function_46 : decode cX3_function 46 = .ok (.aaload, 1) := by decide +kernel
theorem dX3_function_47 : decode cX3_function 47 = .ok (.getfield 50, 3) := by decide +kernel
theorem dX3_function_50 : decode cX3_function 50 = .ok (.aload_n 0, 1) := by decide +kernel
theorem dX3_function_51 : decode cX3_function 51 = .ok (.getfield 17, 3) := by decide +kernel
theorem dX3_function_54 : decode cX3_function 54 = .ok (.invokevirtual 36, 3) := by decide +kernel
theorem dX3_function_57 : decode cX3_function 57 = .ok (.invokevirtual 52, 3) := by decide +kernel
theorem dX3_function_60 : decode cX3_function 60 = .ok (.ifCond .ne 7, 3) := by decide +kernel
theorem dX3_function_63 : decode cX3_function 63 = .ok (.iconst 1, 1) := by decide +kernel
theorem dX3_function_64 : decode cX3_function 64 = .ok (.goto 4, 3) := by decide +kernel
theorem dX3_function_67 : decode cX3_function 67 = .ok (.iconst 0, 1) := by decide +kernel
theorem dX3_function_68 : decode cX3_function 68 = .ok (.iconst 3, 1) := by decide +kernel
theorem dX3_function_69 : decode cX3_function 69 = .ok (.aload_n 0, 1) := by decide +kernel
theorem dX3_function_70 : decode cX3_function 70 = .ok (.getfield 17, 3) := by decide +kernel
theorem dX3_function_73 : decode cX3_function 73 = .ok (.getfield 56, 3) := by decide +kernel
theorem dX3_function_76 : decode cX3_function 76 = .ok (.invokevirtual 59, 3) := by decide +kernel
theorem dX3_function_79 : decode cX3_function 79 = .ok (.iinc 1 1, 3) := by decide +kernel
theorem dX3_function_82 : decode cX3_function 82 = .ok (.goto (-57), 3) := by decide +kernel
theorem dX3_function_85 : decode cX3_function 85 = .ok (.aload_n 0, 1) := by decide +kernel
theorem dX3_function_86 : decode cX3_function 86 = .ok (.getfield 17, 3) := by decide +kernel
theorem dX3_function_89 : decode cX3_function 89 = .ok (.aload_n 0, 1) := by decide +kernel
theorem dX3_function_90 : decode cX3_function 90 = .ok (.getfield 21, 3) := by decide +kernel
theorem dX3_function_93 : decode cX3_function 93 = .ok (.bipush 12, 2) := by decide +kernel
theorem dX3_function_95 : decode cX3_function 95 = .ok (.if_icmp .ge 7, 3) := by decide +kernel
theorem dX3_function_98 : decode cX3_function 98 = .ok (.iconst 1, 1) := by decide +kernel
theorem dX3_function_99 : decode cX3_function 99 = .ok (.goto 4, 3) := by decide +kernel
theorem dX3_function_102 : decode cX3_function 102 = .ok (.iconst 0, 1) := by decide +kernel
theorem dX3_function_103 : decode cX3_function 103 = .ok (.bipush 6, 2) := by decide +kernel
theorem dX3_function_105 : decode cX3_function 105 = .ok (.aload_n 0, 1) := by decide +kernel
theorem dX3_function_106 : decode cX3_function 106 = .ok (.getfield 17, 3) := by decide +kernel
theorem dX3_function_109 : decode cX3_function 109 = .ok (.getfield 56, 3) := by decide +kernel
theorem dX3_function_112 : decode cX3_function 112 = .ok (.invokevirtual 59, 3) := by decide +kernel
theorem dX3_function_115 : decode cX3_function 115 = .ok (.aload_n 0, 1) := by decide +kernel
theorem dX3_function_116 : decode cX3_function 116 = .ok (.new 9, 3) := by decide +kernel
theorem dX3_function_119 : decode cX3_function 119 = .ok (.dup, 1) := by decide +kernel
theorem dX3_function_120 : decode cX3_function 120 = .ok (.invokespecial 63, 3) := by decide +kernel
theorem dX3_function_123 : decode cX3_function 123 = .ok (.putfield 64, 3) := by decide +kernel
theorem dX3_function_126 : decode cX3_function 126 = .ok (.aload_n 0, 1) := by decide +kernel
theorem dX3_function_127 : decode cX3_function 127 = .ok (.getfield 64, 3) := by decide +kernel
theorem dX3_function_130 : decode cX3_function 130 = .ok (.aload_n 0, 1) := by decide +kernel
theorem dX3_function_131 : decode cX3_function 131 = .ok (.invokevirtual 68, 3) := by decide +kernel
theorem dX3_function_134 : decode cX3_function 134 = .ok (.putfield 50, 3) := by decide +kernel
theorem dX3_function_137 : decode cX3_function 137 = .ok (.aload_n 0, 1) := by decide +kernel
theorem dX3_function_138 : decode cX3_function 138 = .ok (.getfield 11, 3) := by decide +kernel
theorem dX3_function_141 : decode cX3_function 141 = .ok (.aload_n 0, 1) := by decide +kernel
theorem dX3_function_142 : decode cX3_function 142 = .ok (.getfield 21, 3) := by decide +kernel
theorem dX3_function_145 : decode cX3_function 145 = .ok (.aload_n 0, 1) := by decide +kernel
theorem dX3_function_146 : decode cX3_function 146 = .ok (.getfield 64, 3) := by decide +kernel
theorem dX3_function_149 : decode cX3_function 149 = .ok (.aastore, 1) := by decide +kernel
theorem dX3_function_150 : decode cX3_function 150 = .ok (.aload_n 0, 1) := by decide +kernel
theorem dX3_function_151 : decode cX3_function 151 = .ok (.dup, 1) := by decide +kernel
theorem dX3_function_152 : decode cX3_function 152 = .ok (.getfield 21, 3) := by decide +kernel
theorem dX3_function_155 : decode cX3_function 155 = .ok (.iconst 1, 1) := by decide +kernel
theorem dX3_function_156 : decode cX3_function 156 = .ok (.iadd, 1) := by decide +kernel
theorem dX3_function_157 : decode cX3_function 157 = .ok (.putfield 21, 3) := by decide +kernel
theorem dX3_function_160 : decode cX3_function 160 = .ok (.aload_n 0, 1) := by decide +kernel
theorem dX3_function_161 : decode cX3_function 161 = .ok (.getfield 17, 3) := by decide +kernel
theorem dX3_function_164 : decode cX3_function 164 = .ok (.iconst 0, 1) := by decide +kernel
theorem dX3_function_165 : decode cX3_function 165 = .ok (.invokevirtual 71, 3) := by decide +kernel
theorem dX3_function_168 : decode cX3_function 168 = .ok (.aload_n 0, 1) := by decide +kernel
theorem dX3_function_169 : decode cX3_function 169 = .ok (.getfield 17, 3) := by decide +kernel
theorem dX3_function_172 : decode cX3_function 172 = .ok (.iconst 1, 1) := by decide +kernel
theorem dX3_function_173 : decode cX3_function 173 = .ok (.invokevirtual 75, 3) := by decide +kernel
theorem dX3_function_176 : decode cX3_function 176 = .ok (.ifCond .ne 33, 3) := by decide +kernel
theorem dX3_function_179 : decode cX3_function 179 = .ok (.aload_n 0, 1) := by decide +kernel
theorem dX3_function_180 : decode cX3_function 180 = .ok (.invokevirtual 79, 3) := by decide +kernel
theorem dX3_function_183 : decode cX3_function 183 = .ok (.aload_n 0, 1) := by decide +kernel
theorem dX3_function_184 : decode cX3_function 184 = .ok (.getfield 17, 3) := by decide +kernel
theorem dX3_function_187 : decode cX3_function 187 = .ok (.iconst 2, 1) := by decide +kernel
theorem dX3_function_188 : decode cX3_function 188 = .ok (.invokevirtual 75, 3) := by decide +kernel
theorem dX3_function_191 : decode cX3_function 191 = .ok (.ifCond .eq 18, 3) := by decide +kernel
theorem dX3_function_194 : decode cX3_function 194 = .ok (.aload_n 0, 1) := by decide +kernel
theorem dX3_function_195 : decode cX3_function 195 = .ok (.getfield 17, 3) := by decide +kernel
theorem dX3_function_198 : decode cX3_function 198 = .ok (.iconst 2, 1) := by decide +kernel
theorem dX3_function_199 : decode cX3_function 199 = .ok (.invokevirtual 71, 3) := by decide +kernel
theorem dX3_function_202 : decode cX3_function 202 = .ok (.aload_n 0, 1) := by decide +kernel
theorem dX3_function_203 : decode cX3_function 203 = .ok (.invokevirtual 79, 3) := by decide +kernel
theorem dX3_function_206 : decode cX3_function 206 = .ok (.goto (-23), 3) := by decide +kernel
theorem dX3_function_209 : decode cX3_function 209 = .ok (.aload_n 0, 1) := by decide +kernel
theorem dX3_function_210 : decode cX3_function 210 = .ok (.getfield 17, 3) := by decide +kernel
theorem dX3_function_213 : decode cX3_function 213 = .ok (.iconst 1, 1) := by decide +kernel
theorem dX3_function_214 : decode cX3_function 214 = .ok (.invokevirtual 71, 3) := by decide +kernel
theorem dX3_function_217 : decode cX3_function 217 = .ok (.aload_n 0, 1) := by decide +kernel
theorem dX3_function_218 : decode cX3_function 218 = .ok (.getfield 17, 3) := by decide +kernel
theorem dX3_function_221 : decode cX3_function 221 = .ok (.iconst 4, 1) := by decide +kernel
theorem dX3_function_222 : decode cX3_function 222 = .ok (.invokevirtual 71, 3) := by decide +kernel
theorem dX3_function_225 : decode cX3_function 225 = .ok (.aload_n 0, 1) := by decide +kernel
theorem dX3_function_226 : decode cX3_function 226 = .ok (.getfield 64, 3) := by decide +kernel
theorem dX3_function_229 : decode cX3_function 229 = .ok (.aload_n 0, 1) := by decide +kernel
theorem dX3_function_230 : decode cX3_function 230 = .ok (.iconst 0, 1) := by decide +kernel
theorem dX3_function_231 : decode cX3_function 231 = .ok (.invokevirtual 82, 3) := by decide +kernel
theorem dX3_function_234 : decode cX3_function 234 = .ok (.putfield 86, 3) := by decide +kernel
theorem dX3_function_237 : decode cX3_function 237 = .ok (.aload_n 0, 1) := by decide +kernel
theorem dX3_function_238 : decode cX3_function 238 = .ok (.getfield 17, 3) := by decide +kernel
theorem dX3_function_241 : decode cX3_function 241 = .ok (.iconst 5, 1) := by decide +kernel
theorem dX3_function_242 : decode cX3_function 242 = .ok (.invokevirtual 71, 3) := by decide +kernel
theorem dX3_function_245 : decode cX3_function 245 = .ok (.aload_n 0, 1) := by decide +kernel
theorem dX3_function_246 : decode cX3_function 246 = .ok (.iconst 0, 1) := by decide +kernel
theorem dX3_function_247 : decode cX3_function 247 = .ok (.putfield 88, 3) := by decide +kernel
theorem dX3_function_250 : decode cX3_function 250 = .ok (.aload_n 0, 1) := by decide +kernel
theorem dX3_function_251 : decode cX3_function 251 = .ok (.getfield 64, 3) := by decide +kernel
theorem dX3_function_254 : decode cX3_function 254 = .ok (.aload_n 0, 1) := by decide +kernel
theorem dX3_function_255 : decode cX3_function 255 = .ok (.invokevirtual 91, 3) := by decide +kernel
theorem dX3_function_258 : decode cX3_function 258 = .ok (.putfield 95, 3) := by decide +kernel
theorem dX3_function_261 : decode cX3_function 261 = .ok (.aload_n 0, 1) := by decide +kernel
theorem dX3_function_262 : decode cX3_function 262 = .ok (.getfield 17, 3) := by decide +kernel
theorem dX3_function_265 : decode cX3_function 265 = .ok (.iconst 3, 1) := by decide +kernel
theorem dX3_function_266 : decode cX3_function 266 = .ok (.invokevirtual 71, 3) := by decide +kernel
theorem dX3_function_269 : decode cX3_function 269 = .ok (.return_, 1) := by decide +kernel
abbrev JX3_function_209 (D : DE) (f : Nat) (Q : Frm → HI → HL → Prop) (T : Nat → Frm → HI → HL → Prop) (F : Frm) (h : HI) (g : HL) : Prop := Gv D f mX2_sign [.ref (ad D 1), .int 1] F h g (fun F3 h1 g2 => Gv D f mX2_sign [.ref (ad D 1), .int 4] F3 h1 g2 (fun F8 h6 g7 => ∃ b11 : Nat, F8.2.2 5 3 = some b11 ∧ Gi D f mX3_type [.ref (ad D 5), .int 0] F8 h6 g7 (fun y13 F16 h14 g15 => F16.2.1 b11 = (18, 0) ∧ ∀ h20, h20 = up2 h14 b11 3 y13 → Gv D f mX2_sign [.ref (ad D 1), .int 5] F16 h20 g15 (fun F24 h22 g23 => ∀ h27, h27 = up2 h22 5 4 0 → ∃ b29 : Nat, F24.2.2 5 3 = some b29 ∧ Gr D f mX3_expression [.ref (ad D 5)] F24 h27 g23 (fun b31 F34 h32 g33 => F34.2.1 b29 = (18, 0) ∧ ∀ F38, F38 = fwr F34 b29 6 (some b31) → 160 ≤ b29 ∧ Gv D f mX2_sign [.ref (ad D 1), .int 3] F38 h32 g33 (fun F45 h43 g44 => Q F45 h43 g44) T) T) T) T) T) T
theorem bX3_function_209 {D : DE} {f : Nat} {Q : Frm → HI → HL → Prop} {T : Nat → Frm → HI → HL → Prop} {F : Frm} {h : HI} {g : HL} (hF : k_Fix F)  (H : JX3_function_209 D f Q T F h g ) : V D mX3_function (f + 1) (gv Q T) 209 [(0, .ref (ad D 5))] [] (F, h, g) := by
  refine V_aload_n dX3_function_209 rfl 0 rfl ?_
  refine H_getr ck2 0 (by decide) (fs_5 hF) (by decide) rfl (fr_5_0 hF) q180 dX3_function_210 ?_
  refine V_iconst (v := 1) dX3_function_213 (by decide) ?_
  refine G_callv (av := [.ref (ad D 1), .int 1]) (rest := []) H mqX2_sign q82 (by decide) (Nat.le_of_ble_eq_true rfl) (k_resV (ci := 1) (av := [.int 1]) (rest := []) (fs_1 hF) (by decide) rfl rfl q728 q729 q730 q731 mhX2_sign mnX2_sign dX3_function_214) (fun F3 h1 g2 hF4 H => ?_) (fun a e F1 h1 g1 hF1 ha ht => GT_v hF1 rfl ha ht)
  refine V_aload_n dX3_function_217 rfl 0 rfl ?_
  refine H_getr ck2 0 (by decide) (fs_5 hF4) (by decide) rfl (fr_5_0 hF4) q180 dX3_function_218 ?_
  refine V_iconst (v := 4) dX3_function_221 (by decide) ?_
  refine G_callv (av := [.ref (ad D 1), .int 4]) (rest := []) H mqX2_sign q82 (by decide) (Nat.le_of_ble_eq_true rfl) (k_resV (ci := 1) (av := [.int 4]) (rest := []) (fs_1 hF4) (by decide) rfl rfl q728 q729 q730 q731 mhX2_sign mnX2_sign dX3_function_222) (fun F8 h6 g7 hF9 H => ?_) (fun a e F1 h1 g1 hF1 ha ht => GT_v hF1 rfl ha ht)
  refine V_aload_n dX3_function_225 rfl 0 rfl ?_
  obtain ⟨b11, z12, H⟩ := H
  refine H_getr ck2 3 (by decide) (fs_5 hF9) (by decide) rfl z12 q185 dX3_function_226 ?_
  refine V_aload_n dX3_function_229 rfl 0 rfl ?_
  refine V_iconst (v := 0) dX3_function_230 (by decide) ?_
  refine G_calli (av := [.ref (ad D 5), .int 0]) (rest := [.ref (ad D b11)]) H mqX3_type q83 (by decide) (Nat.le_of_ble_eq_true rfl) (k_resV (ci := 2) (av := [.int 0]) (rest := [.ref (ad D b11)]) (fs_5 hF9) (by decide) rfl rfl q747 q749 qs9 q750 mhX3_type mnX3_type dX3_function_231) (fun y13 F16 h14 g15 hF17 H => ?_) (fun a e F1 h1 g1 hF1 ha ht => GT_v hF1 rfl ha ht)
  obtain ⟨z19, H⟩ := H
  refine H_putiN ck8 3 (by decide) z19 (by decide) rfl rfl q673 dX3_function_234 (fun h20 e21 => ?_)
  have H := H h20 e21
  refine V_aload_n dX3_function_237 rfl 0 rfl ?_
  refine H_getr ck2 0 (by decide) (fs_5 hF17) (by decide) rfl (fr_5_0 hF17) q180 dX3_function_238 ?_
  refine V_iconst (v := 5) dX3_function_241 (by decide) ?_
  refine G_callv (av := [.ref (ad D 1), .int 5]) (rest := []) H mqX2_sign q82 (by decide) (Nat.le_of_ble_eq_true rfl) (k_resV (ci := 1) (av := [.int 5]) (rest := []) (fs_1 hF17) (by decide) rfl rfl q728 q729 q730 q731 mhX2_sign mnX2_sign dX3_function_242) (fun F24 h22 g23 hF25 H => ?_) (fun a e F1 h1 g1 hF1 ha ht => GT_v hF1 rfl ha ht)
  refine V_aload_n dX3_function_245 rfl 0 rfl ?_
  refine V_iconst (v := 0) dX3_function_246 (by decide) ?_
  refine H_puti ck2 4 (by decide) (fs_5 hF25) (by decide) rfl rfl q186 dX3_function_247 (fun h27 e28 => ?_)
  have H := H h27 e28
  refine V_aload_n dX3_function_250 rfl 0 rfl ?_
  obtain ⟨b29, z30, H⟩ := H
  refine H_getr ck2 3 (by decide) (fs_5 hF25) (by decide) rfl z30 q185 dX3_function_251 ?_
  refine V_aload_n dX3_function_254 rfl 0 rfl ?_
  refine G_callr (av := [.ref (ad D 5)]) (rest := [.ref (ad D b29)]) H mqX3_expression q83 (by decide) (Nat.le_of_ble_eq_true rfl) (k_resV (ci := 2) (av := []) (rest := [.ref (ad D b29)]) (fs_5 hF25) (by decide) rfl rfl q763 q765 qs10 q766 mhX3_expression mnX3_expression dX3_function_255) (fun b31 F34 h32 g33 hF35 H => ?_) (fun a e F1 h1 g1 hF1 ha ht => GT_v hF1 rfl ha ht)
  obtain ⟨z37, H⟩ := H
  refine G_putrN ck8 6 (by decide) z37 (by decide) rfl (fun _ => rfl) (fun _ => rfl) rfl q692 dX3_function_258 (fun F38 e39 => ?_)
  have H := H F38 e39
  obtain ⟨z41, H⟩ := H
  have hF40 : k_Fix F38 := by rw [e39]; exact k_Fix.wr hF35 (fx_okD z41) _
  have z42 : F38.2.1 b29 = (18, 0) := by rw [e39]; exact z37
  refine V_aload_n dX3_function_261 rfl 0 rfl ?_
  refine H_getr ck2 0 (by decide) (fs_5 hF40) (by decide) rfl (fr_5_0 hF40) q180 dX3_function_262 ?_
  refine V_iconst (v := 3) dX3_function_265 (by decide) ?_
  refine G_callv (av := [.ref (ad D 1), .int 3]) (rest := []) H mqX2_sign q82 (by decide) (Nat.le_of_ble_eq_true rfl) (k_resV (ci := 1) (av := [.int 3]) (rest := []) (fs_1 hF40) (by decide) rfl rfl q728 q729 q730 q731 mhX2_sign mnX2_sign dX3_function_266) (fun F45 h43 g44 hF46 H => ?_) (fun a e F1 h1 g1 hF1 ha ht => GT_v hF1 rfl ha ht)
  exact G_vret hF46 rfl dX3_function_269 H
abbrev JX3_function_183 (D : DE) (f : Nat) (Q : Frm → HI → HL → Prop) (T : Nat → Frm → HI → HL → Prop) (F : Frm) (h : HI) (g : HL) : Prop := Si D f mX2_isSign [.ref (ad D 1), .int 2] F h g (fun y1 h2 g3 => ((y1 = 0 → JX3_function_209 D f Q T F h2 g3) ∧ (¬ y1 = 0 → Gv D f mX2_sign [.ref (ad D 1), .int 2] F h2 g3 (fun F7 h5 g6 => Gv D f mX3_param [.ref (ad D 5)] F7 h5 g6 (fun F12 h10 g11 => V D mX3_function (f + 1) (gv Q T) 183 [(0, .ref (ad D 5))] [] (F12, h10, g11)) T) T)))
theorem bX3_function_183 {D : DE} {f : Nat} {Q : Frm → HI → HL → Prop} {T : Nat → Frm → HI → HL → Prop} {F : Frm} {h : HI} {g : HL} (hF : k_Fix F)  (H : JX3_function_183 D f Q T F h g ) : V D mX3_function (f + 1) (gv Q T) 183 [(0, .ref (ad D 5))] [] (F, h, g) := by
  refine V_aload_n dX3_function_183 rfl 0 rfl ?_
  refine H_getr ck2 0 (by decide) (fs_5 hF) (by decide) rfl (fr_5_0 hF) q180 dX3_function_184 ?_
  refine V_iconst (v := 2) dX3_function_187 (by decide) ?_
  refine H_calli (av := [.ref (ad D 1), .int 2]) (rest := []) H mqX2_isSign q82 (by decide) (Nat.le_of_ble_eq_true rfl) (k_resV (ci := 1) (av := [.int 2]) (rest := []) (fs_1 hF) (by decide) rfl rfl q738 q733 q734 q735 mhX2_isSign mnX2_isSign dX3_function_188) (fun y1 h2 g3 H => ?_)
  refine V_if_eq (tgt := 209) dX3_function_191 (by decide) (fun c4 => ?_) (fun c4 => ?_)
  · have H := H.1 c4
    exact bX3_function_209 hF  H
  · have H := H.2 c4
    refine V_aload_n dX3_function_194 rfl 0 rfl ?_
    refine H_getr ck2 0 (by decide) (fs_5 hF) (by decide) rfl (fr_5_0 hF) q180 dX3_function_195 ?_
    refine V_iconst (v := 2) dX3_function_198 (by decide) ?_
    refine G_callv (av := [.ref (ad D 1), .int 2]) (rest := []) H mqX2_sign q82 (by decide) (Nat.le_of_ble_eq_true rfl) (k_resV (ci := 1) (av := [.int 2]) (rest := []) (fs_1 hF) (by decide) rfl rfl q728 q729 q730 q731 mhX2_sign mnX2_sign dX3_function_199) (fun F7 h5 g6 hF8 H => ?_) (fun a e F1 h1 g1 hF1 ha ht => GT_v hF1 rfl ha ht)
    refine V_aload_n dX3_function_202 rfl 0 rfl ?_
    refine G_callv (av := [.ref (ad D 5)]) (rest := []) H mqX3_param q83 (by decide) (Nat.le_of_ble_eq_true rfl) (k_resV (ci := 2) (av := []) (rest := []) (fs_5 hF8) (by decide) rfl rfl q739 q741 qs7 q742 mhX3_param mnX3_param dX3_function_203) (fun F12 h10 g11 hF13 H => ?_) (fun a e F1 h1 g1 hF1 ha ht => GT_v hF1 rfl ha ht)
    refine V_goto (tgt := 183) dX3_function_206 (by decide) ?_
    exact H
abbrev JX3_function_103 (D : DE) (f : Nat) (Q : Frm → HI → HL → Prop) (T : Nat → Frm → HI → HL → Prop) (F : Frm) (h : HI) (g : HL) (s1 : Int32) : Prop := Gv D f mX2_want [.ref (ad D 1), .int s1, .int 6, .int (h 1 8)] F h g (fun F3 h1 g2 => 160 ≤ F3.1.1 ∧ ∀ F7 h8 g9, F7 = fnw F3 (18, 0) 9 → h8 = up1 h1 F3.1.1 (fun _ => 0) → g9 = up1 g2 F3.1.1 (fun _ => 0) → Gv D f mX9_init [.ref (ad D F3.1.1)] F7 h8 g9 (fun F17 h15 g16 => ∀ F20, F20 = fwr F17 5 3 (some F3.1.1) → ∃ b23 : Nat, F20.2.2 5 3 = some b23 ∧ Gi D f mX3_name [.ref (ad D 5)] F20 h15 g16 (fun y25 F28 h26 g27 => F28.2.1 b23 = (18, 0) ∧ ∀ h32, h32 = up2 h26 b23 0 y25 → ∃ b34 : Nat, F28.2.2 5 3 = some b34 ∧ vp_in (h32 5 2) 12 ∧ F28.2.1 b34 = (18, 0) ∧ ∀ F37, F37 = fwr F28 6 (ix (h32 5 2)) (some b34) → ∀ h43, h43 = up2 h32 5 2 ((h32 5 2) + 1) → Gv D f mX2_sign [.ref (ad D 1), .int 0] F37 h43 g27 (fun F47 h45 g46 => Si D f mX2_isSign [.ref (ad D 1), .int 1] F47 h45 g46 (fun y50 h51 g52 => ((¬ y50 = 0 → JX3_function_209 D f Q T F47 h51 g52) ∧ (y50 = 0 → Gv D f mX3_param [.ref (ad D 5)] F47 h51 g52 (fun F56 h54 g55 => V D mX3_function (f + 1) (gv Q T) 183 [(0, .ref (ad D 5))] [] (F56, h54, g55)) T)))) T) T) T) T
theorem bX3_function_103 {D : DE} {f : Nat} {Q : Frm → HI → HL → Prop} {T : Nat → Frm → HI → HL → Prop} {F : Frm} {h : HI} {g : HL} (hF : k_Fix F) (s1 : Int32) (H : JX3_function_103 D f Q T F h g s1) : V D mX3_function (f + 1) (gv Q T) 103 [(0, .ref (ad D 5))] [.int s1, .ref (ad D 1)] (F, h, g) := by
  refine V_bipush (v := 6) dX3_function_103 (by decide) ?_
  refine V_aload_n dX3_function_105 rfl 0 rfl ?_
  refine H_getr ck2 0 (by decide) (fs_5 hF) (by decide) rfl (fr_5_0 hF) q180 dX3_function_106 ?_
  refine H_getiN ck1 8 (by decide) (fs_1 hF) (by decide) rfl q141 dX3_function_109 ?_
  refine G_callv (av := [.ref (ad D 1), .int s1, .int 6, .int (h 1 8)]) (rest := []) H mqX2_want q82 (by decide) (Nat.le_of_ble_eq_true rfl) (k_resV (ci := 1) (av := [.int s1, .int 6, .int (h 1 8)]) (rest := []) (fs_1 hF) (by decide) rfl rfl q654 q575 q576 q577 mhX2_want mnX2_want dX3_function_112) (fun F3 h1 g2 hF4 H => ?_) (fun a e F1 h1 g1 hF1 ha ht => GT_v hF1 rfl ha ht)
  refine V_aload_n dX3_function_115 rfl 0 rfl ?_
  obtain ⟨z6, H⟩ := H
  refine G_new ck8 (by decide) k_df8 q178 q655 q101 dX3_function_116 (fun F7 h8 g9 e10 e11 e12 => ?_)
  have H := H F7 h8 g9 e10 e11 e12
  have hF13 : k_Fix F7 := by rw [e10]; exact k_Fix.new hF4 z6 _ _
  have z14 : F7.2.1 F3.1.1 = (18, 0) := by rw [e10]; simp [fnw, up0]
  refine V_dup dX3_function_119 rfl ?_
  refine G_callv (av := [.ref (ad D F3.1.1)]) (rest := [.ref (ad D F3.1.1), .ref (ad D 5)]) H mqX9_init q101 (by decide) (Nat.le_of_ble_eq_true rfl) (k_resIN (av := []) (rest := [.ref (ad D F3.1.1), .ref (ad D 5)]) rfl q656 q657 q658 mhX9_init mnX9_init dX3_function_120) (fun F17 h15 g16 hF18 H => ?_) (fun a e F1 h1 g1 hF1 ha ht => GT_v hF1 rfl ha ht)
  refine G_putr ck2 3 (by decide) (fs_5 hF18) (by decide) rfl (fun _ => rfl) (fun _ => rfl) rfl q185 dX3_function_123 (fun F20 e21 => ?_)
  have H := H F20 e21
  have hF22 : k_Fix F20 := by rw [e21]; exact k_Fix.wr hF18 (by decide +kernel) _
  refine V_aload_n dX3_function_126 rfl 0 rfl ?_
  obtain ⟨b23, z24, H⟩ := H
  refine H_getr ck2 3 (by decide) (fs_5 hF22) (by decide) rfl z24 q185 dX3_function_127 ?_
  refine V_aload_n dX3_function_130 rfl 0 rfl ?_
  refine G_calli (av := [.ref (ad D 5)]) (rest := [.ref (ad D b23)]) H mqX3_name q83 (by decide) (Nat.le_of_ble_eq_true rfl) (k_resV (ci := 2) (av := []) (rest := [.ref (ad D b23)]) (fs_5 hF22) (by decide) rfl rfl q719 q721 qs6 q722 mhX3_name mnX3_name dX3_function_131) (fun y25 F28 h26 g27 hF29 H => ?_) (fun a e F1 h1 g1 hF1 ha ht => GT_v hF1 rfl ha ht)
  obtain ⟨z31, H⟩ := H
  refine H_putiN ck8 0 (by decide) z31 (by decide) rfl rfl q660 dX3_function_134 (fun h32 e33 => ?_)
  have H := H h32 e33
  refine V_aload_n dX3_function_137 rfl 0 rfl ?_
  refine H_getr ck2 1 (by decide) (fs_5 hF29) (by decide) rfl (fr_5_1 hF29) q181 dX3_function_138 ?_
  refine V_aload_n dX3_function_141 rfl 0 rfl ?_
  refine H_geti ck2 2 (by decide) (fs_5 hF29) (by decide) rfl q183 dX3_function_142 ?_
  refine V_aload_n dX3_function_145 rfl 0 rfl ?_
  obtain ⟨b34, z35, H⟩ := H
  refine H_getr ck2 3 (by decide) (fs_5 hF29) (by decide) rfl z35 q185 dX3_function_146 ?_
  obtain ⟨i36, H⟩ := H
  obtain ⟨z39, H⟩ := H
  refine G_aast (cb := 8) (fs_6 hF29) (by decide) (by decide) rfl i36 z39 (by decide) rfl (k_asgS rfl) dX3_function_149 (fun F37 e38 => ?_)
  have H := H F37 e38
  have hF40 : k_Fix F37 := by rw [e38]; exact k_Fix.wr hF29 (fx_okA (by decide +kernel)) _
  have z41 : F37.2.1 b23 = (18, 0) := by rw [e38]; exact z31
  have z42 : F37.2.1 b34 = (18, 0) := by rw [e38]; exact z39
  refine V_aload_n dX3_function_150 rfl 0 rfl ?_
  refine V_dup dX3_function_151 rfl ?_
  refine H_geti ck2 2 (by decide) (fs_5 hF40) (by decide) rfl q183 dX3_function_152 ?_
  refine V_iconst (v := 1) dX3_function_155 (by decide) ?_
  refine V_iadd dX3_function_156 ?_
  refine H_puti ck2 2 (by decide) (fs_5 hF40) (by decide) rfl rfl q183 dX3_function_157 (fun h43 e44 => ?_)
  have H := H h43 e44
  refine V_aload_n dX3_function_160 rfl 0 rfl ?_
  refine H_getr ck2 0 (by decide) (fs_5 hF40) (by decide) rfl (fr_5_0 hF40) q180 dX3_function_161 ?_
  refine V_iconst (v := 0) dX3_function_164 (by decide) ?_
  refine G_callv (av := [.ref (ad D 1), .int 0]) (rest := []) H mqX2_sign q82 (by decide) (Nat.le_of_ble_eq_true rfl) (k_resV (ci := 1) (av := [.int 0]) (rest := []) (fs_1 hF40) (by decide) rfl rfl q728 q729 q730 q731 mhX2_sign mnX2_sign dX3_function_165) (fun F47 h45 g46 hF48 H => ?_) (fun a e F1 h1 g1 hF1 ha ht => GT_v hF1 rfl ha ht)
  refine V_aload_n dX3_function_168 rfl 0 rfl ?_
  refine H_getr ck2 0 (by decide) (fs_5 hF48) (by decide) rfl (fr_5_0 hF48) q180 dX3_function_169 ?_
  refine V_iconst (v := 1) dX3_function_172 (by decide) ?_
  refine H_calli (av := [.ref (ad D 1), .int 1]) (rest := []) H mqX2_isSign q82 (by decide) (Nat.le_of_ble_eq_true rfl) (k_resV (ci := 1) (av := [.int 1]) (rest := []) (fs_1 hF48) (by decide) rfl rfl q738 q733 q734 q735 mhX2_isSign mnX2_isSign dX3_function_173) (fun y50 h51 g52 H => ?_)
  refine V_if_ne (tgt := 209) dX3_function_176 (by decide) (fun c53 => ?_) (fun c53 => ?_)
  · have H := H.1 c53
    exact bX3_function_209 hF48  H
  · have H := H.2 c53
    refine V_aload_n dX3_function_179 rfl 0 rfl ?_
    refine G_callv (av := [.ref (ad D 5)]) (rest := []) H mqX3_param q83 (by decide) (Nat.le_of_ble_eq_true rfl) (k_resV (ci := 2) (av := []) (rest := []) (fs_5 hF48) (by decide) rfl rfl q739 q741 qs7 q742 mhX3_param mnX3_param dX3_function_180) (fun F56 h54 g55 hF57 H => ?_) (fun a e F1 h1 g1 hF1 ha ht => GT_v hF1 rfl ha ht)
    exact H
abbrev JX3_function_68 (D : DE) (f : Nat) (Q : Frm → HI → HL → Prop) (T : Nat → Frm → HI → HL → Prop) (F : Frm) (h : HI) (g : HL) (x1 : Int32) (s1 : Int32) : Prop := Gv D f mX2_want [.ref (ad D 1), .int s1, .int 3, .int (h 1 8)] F h g (fun F3 h1 g2 => ∀ y6 : Int32, y6 = x1 + 1 → V D mX3_function (f + 1) (gv Q T) 25 [(0, .ref (ad D 5)), (1, .int y6)] [] (F3, h1, g2)) T
theorem bX3_function_68 {D : DE} {f : Nat} {Q : Frm → HI → HL → Prop} {T : Nat → Frm → HI → HL → Prop} {F : Frm} {h : HI} {g : HL} (hF : k_Fix F) (x1 : Int32) (s1 : Int32) (H : JX3_function_68 D f Q T F h g x1 s1) : V D mX3_function (f + 1) (gv Q T) 68 [(0, .ref (ad D 5)), (1, .int x1)] [.int s1, .ref (ad D 1)] (F, h, g) := by
  refine V_iconst (v := 3) dX3_function_68 (by decide) ?_
  refine V_aload_n dX3_function_69 rfl 0 rfl ?_
  refine H_getr ck2 0 (by decide) (fs_5 hF) (by decide) rfl (fr_5_0 hF) q180 dX3_function_70 ?_
  refine H_getiN ck1 8 (by decide) (fs_1 hF) (by decide) rfl q141 dX3_function_73 ?_
  refine G_callv (av := [.ref (ad D 1), .int s1, .int 3, .int (h 1 8)]) (rest := []) H mqX2_want q82 (by decide) (Nat.le_of_ble_eq_true rfl) (k_resV (ci := 1) (av := [.int s1, .int 3, .int (h 1 8)]) (rest := []) (fs_1 hF) (by decide) rfl rfl q654 q575 q576 q577 mhX2_want mnX2_want dX3_function_76) (fun F3 h1 g2 hF4 H => ?_) (fun a e F1 h1 g1 hF1 ha ht => GT_v hF1 rfl ha ht)
  obtain ⟨y6, e7⟩ : ∃ y : Int32, y = x1 + 1 := ⟨_, rfl⟩
  have H := H y6 e7
  refine V_iinc (j := 1) (v := y6) (l1 := [(1, .int y6), (0, .ref (ad D 5))]) dX3_function_79 rfl (by rw [e7]; rfl) (by decide) rfl ?_
  refine V_goto (tgt := 25) dX3_function_82 (by decide) ?_
  refine V.sub [1, 0] rfl ?_
  exact H
abbrev JX3_function_25 (D : DE) (f : Nat) (Q : Frm → HI → HL → Prop) (T : Nat → Frm → HI → HL → Prop) (F : Frm) (h : HI) (g : HL) (x1 : Int32) : Prop := (((h 5 2) ≤ x1 → ((12 ≤ (h 5 2) → JX3_function_103 D f Q T F h g 0) ∧ (¬ 12 ≤ (h 5 2) → JX3_function_103 D f Q T F h g 1))) ∧ (¬ (h 5 2) ≤ x1 → vp_in x1 12 ∧ ∃ b4 : Nat, F.2.2 6 (ix x1) = some b4 ∧ F.2.1 b4 = (18, 0) ∧ Si D f mX2_token [.ref (ad D 1)] F h g (fun y7 h8 g9 => Si D f mX2_same [.ref (ad D 1), .int (h b4 0), .int y7] F h8 g9 (fun y10 h11 g12 => ((¬ y10 = 0 → JX3_function_68 D f Q T F h11 g12 x1 0) ∧ (y10 = 0 → JX3_function_68 D f Q T F h11 g12 x1 1))))))
theorem bX3_function_25 {D : DE} {f : Nat} {Q : Frm → HI → HL → Prop} {T : Nat → Frm → HI → HL → Prop} {F : Frm} {h : HI} {g : HL} (hF : k_Fix F) (x1 : Int32) (H : JX3_function_25 D f Q T F h g x1) : V D mX3_function (f + 1) (gv Q T) 25 [(0, .ref (ad D 5)), (1, .int x1)] [] (F, h, g) := by
  refine V_iload_n dX3_function_25 rfl 1 rfl ?_
  refine V_aload_n dX3_function_26 rfl 0 rfl ?_
  refine H_geti ck2 2 (by decide) (fs_5 hF) (by decide) rfl q183 dX3_function_27 ?_
  refine V_icmp_ge (tgt := 85) dX3_function_30 (by decide) (fun c1 => ?_) (fun c1 => ?_)
  · have H := H.1 c1
    refine V_aload_n dX3_function_85 rfl 0 rfl ?_
    refine H_getr ck2 0 (by decide) (fs_5 hF) (by decide) rfl (fr_5_0 hF) q180 dX3_function_86 ?_
    refine V_aload_n dX3_function_89 rfl 0 rfl ?_
    refine H_geti ck2 2 (by decide) (fs_5 hF) (by decide) rfl q183 dX3_function_90 ?_
    refine V_bipush (v := 12) dX3_function_93 (by decide) ?_
    refine V_icmp_ge (tgt := 102) dX3_function_95 (by decide) (fun c2 => ?_) (fun c2 => ?_)
    · have H := H.1 c2
      refine V_iconst (v := 0) dX3_function_102 (by decide) ?_
      refine V.sub [0] rfl ?_
      exact bX3_function_103 hF 0 H
    · have H := H.2 c2
      refine V_iconst (v := 1) dX3_function_98 (by decide) ?_
      refine V_goto (tgt := 103) dX3_function_99 (by decide) ?_
      refine V.sub [0] rfl ?_
      exact bX3_function_103 hF 1 H
  · have H := H.2 c1
    refine V_aload_n dX3_function_33 rfl 0 rfl ?_
    refine H_getr ck2 0 (by decide) (fs_5 hF) (by decide) rfl (fr_5_0 hF) q180 dX3_function_34 ?_
    refine V_aload_n dX3_function_37 rfl 0 rfl ?_
    refine H_getr ck2 0 (by decide) (fs_5 hF) (by decide) rfl (fr_5_0 hF) q180 dX3_function_38 ?_
    refine V_aload_n dX3_function_41 rfl 0 rfl ?_
    refine H_getr ck2 1 (by decide) (fs_5 hF) (by decide) rfl (fr_5_1 hF) q181 dX3_function_42 ?_
    refine V_iload_n dX3_function_45 rfl 1 rfl ?_
    obtain ⟨i3, H⟩ := H
    obtain ⟨b4, z5, H⟩ := H
    refine H_aald (fs_6 hF) (by decide) (by decide) rfl i3 z5 dX3_function_46 ?_
    obtain ⟨z6, H⟩ := H
    refine H_getiN ck8 0 (by decide) z6 (by decide) rfl q660 dX3_function_47 ?_
    refine V_aload_n dX3_function_50 rfl 0 rfl ?_
    refine H_getr ck2 0 (by decide) (fs_5 hF) (by decide) rfl (fr_5_0 hF) q180 dX3_function_51 ?_
    refine H_calli (av := [.ref (ad D 1)]) (rest := [.int (h b4 0), .ref (ad D 1), .ref (ad D 1)]) H mqX2_token q82 (by decide) (Nat.le_of_ble_eq_true rfl) (k_resV (ci := 1) (av := []) (rest := [.int (h b4 0), .ref (ad D 1), .ref (ad D 1)]) (fs_1 hF) (by decide) rfl rfl q646 q647 q648 q649 mhX2_token mnX2_token dX3_function_54) (fun y7 h8 g9 H => ?_)
    refine H_calli (av := [.ref (ad D 1), .int (h b4 0), .int y7]) (rest := [.ref (ad D 1)]) H mqX2_same q82 (by decide) (Nat.le_of_ble_eq_true rfl) (k_resV (ci := 1) (av := [.int (h b4 0), .int y7]) (rest := [.ref (ad D 1)]) (fs_1 hF) (by decide) rfl rfl q650 q651 q652 q653 mhX2_same mnX2_same dX3_function_57) (fun y10 h11 g12 H => ?_)
    refine V_if_ne (tgt := 67) dX3_function_60 (by decide) (fun c13 => ?_) (fun c13 => ?_)
    · have H := H.1 c13
      refine V_iconst (v := 0) dX3_function_67 (by decide) ?_
      exact bX3_function_68 hF x1 0 H
    · have H := H.2 c13
      refine V_iconst (v := 1) dX3_function_63 (by decide) ?_
      refine V_goto (tgt := 68) dX3_function_64 (by decide) ?_
      exact bX3_function_68 hF x1 1 H
abbrev JX3_function_20 (D : DE) (f : Nat) (Q : Frm → HI → HL → Prop) (T : Nat → Frm → HI → HL → Prop) (F : Frm) (h : HI) (g : HL) (s1 : Int32) : Prop := Gv D f mX2_stands [.ref (ad D 1), .int s1] F h g (fun F3 h1 g2 => V D mX3_function (f + 1) (gv Q T) 25 [(0, .ref (ad D 5)), (1, .int 0)] [] (F3, h1, g2)) T
theorem bX3_function_20 {D : DE} {f : Nat} {Q : Frm → HI → HL → Prop} {T : Nat → Frm → HI → HL → Prop} {F : Frm} {h : HI} {g : HL} (hF : k_Fix F) (s1 : Int32) (H : JX3_function_20 D f Q T F h g s1) : V D mX3_function (f + 1) (gv Q T) 20 [(0, .ref (ad D 5))] [.int s1, .ref (ad D 1)] (F, h, g) := by
  refine G_callv (av := [.ref (ad D 1), .int s1]) (rest := []) H mqX2_stands q82 (by decide) (Nat.le_of_ble_eq_true rfl) (k_resV (ci := 1) (av := [.int s1]) (rest := []) (fs_1 hF) (by decide) rfl rfl q570 q571 q572 q573 mhX2_stands mnX2_stands dX3_function_20) (fun F3 h1 g2 hF4 H => ?_) (fun a e F1 h1 g1 hF1 ha ht => GT_v hF1 rfl ha ht)
  refine V_iconst (v := 0) dX3_function_23 (by decide) ?_
  refine V_istore_n (l1 := [(1, .int 0), (0, .ref (ad D 5))]) dX3_function_24 rfl (by decide) rfl ?_
  refine V.sub [1, 0] rfl ?_
  exact H
abbrev JX3_function_0 (D : DE) (f : Nat) (Q : Frm → HI → HL → Prop) (T : Nat → Frm → HI → HL → Prop) (F : Frm) (h : HI) (g : HL) : Prop := ((¬ (h 1 5) = 3 → JX3_function_20 D f Q T F h g 0) ∧ ((h 1 5) = 3 → JX3_function_20 D f Q T F h g 1))
theorem bX3_function_0 {D : DE} {f : Nat} {Q : Frm → HI → HL → Prop} {T : Nat → Frm → HI → HL → Prop} {F : Frm} {h : HI} {g : HL} (hF : k_Fix F)  (H : JX3_function_0 D f Q T F h g ) : V D mX3_function (f + 1) (gv Q T) 0 [(0, .ref (ad D 5))] [] (F, h, g) := by
  refine V_aload_n dX3_function_0 rfl 0 rfl ?_
  refine H_getr ck2 0 (by decide) (fs_5 hF) (by decide) rfl (fr_5_0 hF) q180 dX3_function_1 ?_
  refine V_aload_n dX3_function_4 rfl 0 rfl ?_
  refine H_getr ck2 0 (by decide) (fs_5 hF) (by decide) rfl (fr_5_0 hF) q180 dX3_function_5 ?_
  refine H_getiN ck1 5 (by decide) (fs_1 hF) (by decide) rfl q136 dX3_function_8 ?_
  refine V_iconst (v := 3) dX3_function_11 (by decide) ?_
  refine V_icmp_ne (tgt := 19) dX3_function_12 (by decide) (fun c1 => ?_) (fun c1 => ?_)
  · have H := H.1 c1
    refine V_iconst (v := 0) dX3_function_19 (by decide) ?_
    exact bX3_function_20 hF 0 H
  · have H := H.2 c1
    refine V_iconst (v := 1) dX3_function_15 (by decide) ?_
    refine V_goto (tgt := 20) dX3_function_16 (by decide) ?_
    exact bX3_function_20 hF 1 H
theorem wX3_function {D : DE} {f : Nat} {Q : Frm → HI → HL → Prop} {T : Nat → Frm → HI → HL → Prop} {F : Frm} {h : HI} {g : HL} (hF : k_Fix F)  (H : JX3_function_0 D f Q T F h g ) : Gv D (f + 1) mX3_function [.ref (ad D 5)] F h g Q T := Cl.ofV (by decide) (Nat.le_of_ble_eq_true rfl) rfl (bX3_function_0 hF  H)
theorem dX3_param_0 : decode cX3_param 0 = .ok (.aload_n 0, 1) := by decide +kernel
theorem dX3_param_1 : decode cX3_param 1 = .ok (.getfield 17, 3) := by decide +kernel
theorem dX3_param_4 : decode cX3_param 4 = .ok (.aload_n 0, 1) := by decide +kernel
theorem dX3_param_5 : decode cX3_param 5 = .ok (.getfield 17, 3) := by decide +kernel
theorem dX3_param_8 : decode cX3_param 8 = .ok (.getfield 33, 3) := by decide +kernel
theorem dX3_param_11 : decode cX3_param 11 = .ok (.iconst 3, 1) := by decide +kernel
theorem dX3_param_12 : decode cX3_param 12 = .ok (.if_icmp .ne 7, 3) := by decide +kernel
theorem dX3_param_15 : decode cX3_param 15 = .ok (.iconst 1, 1) := by decide +kernel
theorem dX3_param_16 : decode cX3_param 16 = .ok (.goto 4, 3) := by decide +kernel
theorem dX3_param_19 : decode cX3_param 19 = .ok (.iconst 0, 1) := by decide +kernel
theorem dX3_param_20 : decode cX3_param 20 = .ok (.invokevirtual 46, 3) := by decide +kernel
theorem dX3_param_23 : decode cX3_param 23 = .ok (.iconst 0, 1) := by decide +kernel
theorem dX3_param_24 : decode cX3_param 24 = .ok (.istore_n 1, 1) := by decide +kernel
theorem dX3_param_25 : decode cX3_param 25 = .ok (.iload_n 1, 1) := by decide +kernel
theorem dX3_param_26 : decode cX3_param 26 = .ok (.aload_n 0, 1) := by decide +kernel
theorem dX3_param_27 : decode cX3_param 27 = .ok (.getfield 64, 3) := by decide +kernel
theorem dX3_param_30 : decode cX3_param 30 = .ok (.getfield 99, 3) := by decide +kernel
theorem dX3_param_33 : decode cX3_param 33 = .ok (.if_icmp .ge 55, 3) := by decide +kernel
theorem dX3_param_36 : decode cX3_param 36 = .ok (.aload_n 0, 1) := by decide +kernel
theorem dX3_param_37 : decode cX3_param 37 = .ok (.getfield 17, 3) := by decide +kernel
theorem dX3_param_40 : decode cX3_param 40 = .ok (.aload_n 0, 1) := by decide +kernel
theorem dX3_param_41 : decode cX3_param 41 = .ok (.getfield 17, 3) := by decide +kernel
theorem dX3_param_44 : decode cX3_param 44 = .ok (.aload_n 0, 1) := by decide +kernel
theorem dX3_param_45 : decode cX3_param 45 = .ok (.getfield 64, 3) := by decide +kernel
theorem dX3_param_48 : decode cX3_param 48 = .ok (.getfield 102, 3) := by decide +kernel
theorem dX3_param_51 : decode cX3_param 51 = .ok (.iload_n 1, 1) := by decide +kernel
theorem dX3_param_52 : decode cX3_param 52 = .ok (.iaload, 1) := by decide +kernel
theorem dX3_param_53 : decode cX3_param 53 = .ok (.aload_n 0, 1) := by decide +kernel
theorem dX3_param_54 : decode cX3_param 54 = .ok (.getfield 17, 3) := by decide +kernel
theorem dX3_param_57 : decode cX3_param 57 = .ok (.invokevirtual 36, 3) := by decide +kernel
theorem dX3_param_60 : decode cX3_param 60 = .ok (.invokevirtual 52, 3) := by decide +kernel
theorem dX3_param_63 : decode cX3_param 63 = .ok (.ifCond .ne 7, 3) := by decide +kernel
theorem dX3_param_66 : decode cX3_param 66 = .ok (.iconst 1, 1) := by decide +kernel
theorem dX3_param_67 : decode cX3_param 67 = .ok (.goto 4, 3) := by decide +kernel
theorem dX3_param_70 : decode cX3_param 70 = .ok (.iconst 0, 1) := by decide +kernel
theorem dX3_param_71 : decode cX3_param 71 = .ok (.iconst 3, 1) := by decide +kernel
theorem dX3_param_72 : decode cX3_param 72 = .ok (.aload_n 0, 1) := by decide +kernel
theorem dX3_param_73 : decode cX3_param 73 = .ok (.getfield 17, 3) := by decide +kernel
theorem dX3_param_76 : decode cX3_param 76 = .ok (.getfield 56, 3) := by decide +kernel
theorem dX3_param_79 : decode cX3_param 79 = .ok (.invokevirtual 59, 3) := by decide +kernel
theorem dX3_param_82 : decode cX3_param 82 = .ok (.iinc 1 1, 3) := by decide +kernel
theorem dX3_param_85 : decode cX3_param 85 = .ok (.goto (-60), 3) := by decide +kernel
theorem dX3_param_88 : decode cX3_param 88 = .ok (.aload_n 0, 1) := by decide +kernel
theorem dX3_param_89 : decode cX3_param 89 = .ok (.getfield 17, 3) := by decide +kernel
theorem dX3_param_92 : decode cX3_param 92 = .ok (.aload_n 0, 1) := by decide +kernel
theorem dX3_param_93 : decode cX3_param 93 = .ok (.getfield 64, 3) := by decide +kernel
theorem dX3_param_96 : decode cX3_param 96 = .ok (.getfield 106, 3) := by decide +kernel
theorem dX3_param_99 : decode cX3_param 99 = .ok (.iconst 4, 1) := by decide +kernel
theorem dX3_param_100 : decode cX3_param 100 = .ok (.if_icmp .ge 7, 3) := by decide +kernel
theorem dX3_param_103 : decode cX3_param 103 = .ok (.iconst 1, 1) := by decide +kernel
theorem dX3_param_104 : decode cX3_param 104 = .ok (.goto 4, 3) := by decide +kernel
theorem dX3_param_107 : decode cX3_param 107 = .ok (.iconst 0, 1) := by decide +kernel
theorem dX3_param_108 : decode cX3_param 108 = .ok (.bipush 6, 2) := by decide +kernel
theorem dX3_param_110 : decode cX3_param 110 = .ok (.aload_n 0, 1) := by decide +kernel
theorem dX3_param_111 : decode cX3_param 111 = .ok (.getfield 17, 3) := by decide +kernel
theorem dX3_param_114 : decode cX3_param 114 = .ok (.getfield 56, 3) := by decide +kernel
theorem dX3_param_117 : decode cX3_param 117 = .ok (.invokevirtual 59, 3) := by decide +kernel
theorem dX3_param_120 : decode cX3_param 120 = .ok (.aload_n 0, 1) := by decide +kernel
theorem dX3_param_121 : decode cX3_param 121 = .ok (.invokevirtual 109, 3) := by decide +kernel
theorem dX3_param_124 : decode cX3_param 124 = .ok (.istore_n 1, 1) := by decide +kernel
theorem dX3_param_125 : decode cX3_param 125 = .ok (.aload_n 0, 1) := by decide +kernel
theorem dX3_param_126 : decode cX3_param 126 = .ok (.getfield 64, 3) := by decide +kernel
theorem dX3_param_129 : decode cX3_param 129 = .ok (.dup, 1) := by decide +kernel
theorem dX3_param_130 : decode cX3_param 130 = .ok (.getfield 106, 3) := by decide +kernel
theorem dX3_param_133 : decode cX3_param 133 = .ok (.iconst 1, 1) := by decide +kernel
theorem dX3_param_134 : decode cX3_param 134 = .ok (.iadd, 1) := by decide +kernel
theorem dX3_param_135 : decode cX3_param 135 = .ok (.putfield 106, 3) := by decide +kernel
theorem dX3_param_138 : decode cX3_param 138 = .ok (.aload_n 0, 1) := by decide +kernel
theorem dX3_param_139 : decode cX3_param 139 = .ok (.getfield 17, 3) := by decide +kernel
theorem dX3_param_142 : decode cX3_param 142 = .ok (.iconst 4, 1) := by decide +kernel
theorem dX3_param_143 : decode cX3_param 143 = .ok (.invokevirtual 71, 3) := by decide +kernel
theorem dX3_param_146 : decode cX3_param 146 = .ok (.aload_n 0, 1) := by decide +kernel
theorem dX3_param_147 : decode cX3_param 147 = .ok (.getfield 64, 3) := by decide +kernel
theorem dX3_param_150 : decode cX3_param 150 = .ok (.getfield 112, 3) := by decide +kernel
theorem dX3_param_153 : decode cX3_param 153 = .ok (.iload_n 1, 1) := by decide +kernel
theorem dX3_param_154 : decode cX3_param 154 = .ok (.aload_n 0, 1) := by decide +kernel
theorem dX3_param_155 : decode cX3_param 155 = .ok (.iconst 0, 1) := by decide +kernel
theorem dX3_param_156 : decode cX3_param 156 = .ok (.invokevirtual 82, 3) := by decide +kernel
theorem dX3_param_159 : decode cX3_param 159 = .ok (.iastore, 1) := by decide +kernel
theorem dX3_param_160 : decode cX3_param 160 = .ok (.return_, 1) := by decide +kernel
abbrev JX3_param_108 (D : DE) (f : Nat) (Q : Frm → HI → HL → Prop) (T : Nat → Frm → HI → HL → Prop) (F : Frm) (h : HI) (g : HL) (s1 : Int32) : Prop := Gv D f mX2_want [.ref (ad D 1), .int s1, .int 6, .int (h 1 8)] F h g (fun F3 h1 g2 => Gi D f mX3_slot [.ref (ad D 5)] F3 h1 g2 (fun y6 F9 h7 g8 => ∃ b12 : Nat, F9.2.2 5 3 = some b12 ∧ F9.2.1 b12 = (18, 0) ∧ ∀ h15, h15 = up2 h7 b12 1 ((h7 b12 1) + 1) → Gv D f mX2_sign [.ref (ad D 1), .int 4] F9 h15 g8 (fun F19 h17 g18 => ∃ b22 : Nat, F19.2.2 5 3 = some b22 ∧ F19.2.1 b22 = (18, 0) ∧ ∃ b25 : Nat, F19.2.2 b22 5 = some b25 ∧ Gi D f mX3_type [.ref (ad D 5), .int 0] F19 h17 g18 (fun y27 F30 h28 g29 => ∃ m33 : Nat, F30.2.1 b25 = (0, m33) ∧ vp_in y6 m33 ∧ ∀ h36, h36 = up2 h28 b25 (ix y6) y27 → Q F30 h36 g29) T) T) T) T
theorem bX3_param_108 {D : DE} {f : Nat} {Q : Frm → HI → HL → Prop} {T : Nat → Frm → HI → HL → Prop} {F : Frm} {h : HI} {g : HL} (hF : k_Fix F) (s1 : Int32) (H : JX3_param_108 D f Q T F h g s1) : V D mX3_param (f + 1) (gv Q T) 108 [(0, .ref (ad D 5))] [.int s1, .ref (ad D 1)] (F, h, g) := by
  refine V_bipush (v := 6) dX3_param_108 (by decide) ?_
  refine V_aload_n dX3_param_110 rfl 0 rfl ?_
  refine H_getr ck2 0 (by decide) (fs_5 hF) (by decide) rfl (fr_5_0 hF) q180 dX3_param_111 ?_
  refine H_getiN ck1 8 (by decide) (fs_1 hF) (by decide) rfl q141 dX3_param_114 ?_
  refine G_callv (av := [.ref (ad D 1), .int s1, .int 6, .int (h 1 8)]) (rest := []) H mqX2_want q82 (by decide) (Nat.le_of_ble_eq_true rfl) (k_resV (ci := 1) (av := [.int s1, .int 6, .int (h 1 8)]) (rest := []) (fs_1 hF) (by decide) rfl rfl q654 q575 q576 q577 mhX2_want mnX2_want dX3_param_117) (fun F3 h1 g2 hF4 H => ?_) (fun a e F1 h1 g1 hF1 ha ht => GT_v hF1 rfl ha ht)
  refine V_aload_n dX3_param_120 rfl 0 rfl ?_
  refine G_calli (av := [.ref (ad D 5)]) (rest := []) H mqX3_slot q83 (by decide) (Nat.le_of_ble_eq_true rfl) (k_resV (ci := 2) (av := []) (rest := []) (fs_5 hF4) (by decide) rfl rfl q743 q745 qs8 q746 mhX3_slot mnX3_slot dX3_param_121) (fun y6 F9 h7 g8 hF10 H => ?_) (fun a e F1 h1 g1 hF1 ha ht => GT_v hF1 rfl ha ht)
  refine V_istore_n (l1 := [(1, .int y6), (0, .ref (ad D 5))]) dX3_param_124 rfl (by decide) rfl ?_
  refine V_aload_n dX3_param_125 rfl 1 rfl ?_
  obtain ⟨b12, z13, H⟩ := H
  refine H_getr ck2 3 (by decide) (fs_5 hF10) (by decide) rfl z13 q185 dX3_param_126 ?_
  refine V_dup dX3_param_129 rfl ?_
  obtain ⟨z14, H⟩ := H
  refine H_getiN ck8 1 (by decide) z14 (by decide) rfl q665 dX3_param_130 ?_
  refine V_iconst (v := 1) dX3_param_133 (by decide) ?_
  refine V_iadd dX3_param_134 ?_
  refine H_putiN ck8 1 (by decide) z14 (by decide) rfl rfl q665 dX3_param_135 (fun h15 e16 => ?_)
  have H := H h15 e16
  refine V_aload_n dX3_param_138 rfl 1 rfl ?_
  refine H_getr ck2 0 (by decide) (fs_5 hF10) (by decide) rfl (fr_5_0 hF10) q180 dX3_param_139 ?_
  refine V_iconst (v := 4) dX3_param_142 (by decide) ?_
  refine G_callv (av := [.ref (ad D 1), .int 4]) (rest := []) H mqX2_sign q82 (by decide) (Nat.le_of_ble_eq_true rfl) (k_resV (ci := 1) (av := [.int 4]) (rest := []) (fs_1 hF10) (by decide) rfl rfl q728 q729 q730 q731 mhX2_sign mnX2_sign dX3_param_143) (fun F19 h17 g18 hF20 H => ?_) (fun a e F1 h1 g1 hF1 ha ht => GT_v hF1 rfl ha ht)
  refine V_aload_n dX3_param_146 rfl 1 rfl ?_
  obtain ⟨b22, z23, H⟩ := H
  refine H_getr ck2 3 (by decide) (fs_5 hF20) (by decide) rfl z23 q185 dX3_param_147 ?_
  obtain ⟨z24, H⟩ := H
  obtain ⟨b25, z26, H⟩ := H
  refine H_getrN ck8 5 (by decide) z24 (by decide) rfl z26 q686 dX3_param_150 ?_
  refine V_iload_n dX3_param_153 rfl 0 rfl ?_
  refine V_aload_n dX3_param_154 rfl 1 rfl ?_
  refine V_iconst (v := 0) dX3_param_155 (by decide) ?_
  refine G_calli (av := [.ref (ad D 5), .int 0]) (rest := [.int y6, .ref (ad D b25)]) H mqX3_type q83 (by decide) (Nat.le_of_ble_eq_true rfl) (k_resV (ci := 2) (av := [.int 0]) (rest := [.int y6, .ref (ad D b25)]) (fs_5 hF20) (by decide) rfl rfl q747 q749 qs9 q750 mhX3_type mnX3_type dX3_param_156) (fun y27 F30 h28 g29 hF31 H => ?_) (fun a e F1 h1 g1 hF1 ha ht => GT_v hF1 rfl ha ht)
  obtain ⟨m33, z34, H⟩ := H
  obtain ⟨i35, H⟩ := H
  refine H_iast z34 i35 dX3_param_159 (fun h36 e37 => ?_)
  have H := H h36 e37
  exact G_vret hF31 rfl dX3_param_160 H
abbrev JX3_param_71 (D : DE) (f : Nat) (Q : Frm → HI → HL → Prop) (T : Nat → Frm → HI → HL → Prop) (F : Frm) (h : HI) (g : HL) (x1 : Int32) (s1 : Int32) : Prop := Gv D f mX2_want [.ref (ad D 1), .int s1, .int 3, .int (h 1 8)] F h g (fun F3 h1 g2 => ∀ y6 : Int32, y6 = x1 + 1 → V D mX3_param (f + 1) (gv Q T) 25 [(0, .ref (ad D 5)), (1, .int y6)] [] (F3, h1, g2)) T
theorem bX3_param_71 {D : DE} {f : Nat} {Q : Frm → HI → HL → Prop} {T : Nat → Frm → HI → HL → Prop} {F : Frm} {h : HI} {g : HL} (hF : k_Fix F) (x1 : Int32) (s1 : Int32) (H : JX3_param_71 D f Q T F h g x1 s1) : V D mX3_param (f + 1) (gv Q T) 71 [(0, .ref (ad D 5)), (1, .int x1)] [.int s1, .ref (ad D 1)] (F, h, g) := by
  refine V_iconst (v := 3) dX3_param_71 (by decide) ?_
  refine V_aload_n dX3_param_72 rfl 0 rfl ?_
  refine H_getr ck2 0 (by decide) (fs_5 hF) (by decide) rfl (fr_5_0 hF) q180 dX3_param_73 ?_
  refine H_getiN ck1 8 (by decide) (fs_1 hF) (by decide) rfl q141 dX3_param_76 ?_
  refine G_callv (av := [.ref (ad D 1), .int s1, .int 3, .int (h 1 8)]) (rest := []) H mqX2_want q82 (by decide) (Nat.le_of_ble_eq_true rfl) (k_resV (ci := 1) (av := [.int s1, .int 3, .int (h 1 8)]) (rest := []) (fs_1 hF) (by decide) rfl rfl q654 q575 q576 q577 mhX2_want mnX2_want dX3_param_79) (fun F3 h1 g2 hF4 H => ?_) (fun a e F1 h1 g1 hF1 ha ht => GT_v hF1 rfl ha ht)
  obtain ⟨y6, e7⟩ : ∃ y : Int32, y = x1 + 1 := ⟨_, rfl⟩
  have H := H y6 e7
  refine V_iinc (j := 1) (v := y6) (l1 := [(1, .int y6), (0, .ref (ad D 5))]) dX3_param_82 rfl (by rw [e7]; rfl) (by decide) rfl ?_
  refine V_goto (tgt := 25) dX3_param_85 (by decide) ?_
  refine V.sub [1, 0] rfl ?_
  exact H
abbrev JX3_param_25 (D : DE) (f : Nat) (Q : Frm → HI → HL → Prop) (T : Nat → Frm → HI → HL → Prop) (F : Frm) (h : HI) (g : HL) (x1 : Int32) : Prop := ∃ b1 : Nat, F.2.2 5 3 = some b1 ∧ F.2.1 b1 = (18, 0) ∧ (((h b1 2) ≤ x1 → ∃ b5 : Nat, F.2.2 5 3 = some b5 ∧ F.2.1 b5 = (18, 0) ∧ ((4 ≤ (h b5 1) → JX3_param_108 D f Q T F h g 0) ∧ (¬ 4 ≤ (h b5 1) → JX3_param_108 D f Q T F h g 1))) ∧ (¬ (h b1 2) ≤ x1 → ∃ b9 : Nat, F.2.2 5 3 = some b9 ∧ F.2.1 b9 = (18, 0) ∧ ∃ b12 : Nat, F.2.2 b9 4 = some b12 ∧ ∃ m14 : Nat, F.2.1 b12 = (0, m14) ∧ vp_in x1 m14 ∧ Si D f mX2_token [.ref (ad D 1)] F h g (fun y17 h18 g19 => Si D f mX2_same [.ref (ad D 1), .int (h b12 (ix x1)), .int y17] F h18 g19 (fun y20 h21 g22 => ((¬ y20 = 0 → JX3_param_71 D f Q T F h21 g22 x1 0) ∧ (y20 = 0 → JX3_param_71 D f Q T F h21 g22 x1 1))))))
theorem bX3_param_25 {D : DE} {f : Nat} {Q : Frm → HI → HL → Prop} {T : Nat → Frm → HI → HL → Prop} {F : Frm} {h : HI} {g : HL} (hF : k_Fix F) (x1 : Int32) (H : JX3_param_25 D f Q T F h g x1) : V D mX3_param (f + 1) (gv Q T) 25 [(0, .ref (ad D 5)), (1, .int x1)] [] (F, h, g) := by
  refine V_iload_n dX3_param_25 rfl 1 rfl ?_
  refine V_aload_n dX3_param_26 rfl 0 rfl ?_
  obtain ⟨b1, z2, H⟩ := H
  refine H_getr ck2 3 (by decide) (fs_5 hF) (by decide) rfl z2 q185 dX3_param_27 ?_
  obtain ⟨z3, H⟩ := H
  refine H_getiN ck8 2 (by decide) z3 (by decide) rfl q669 dX3_param_30 ?_
  refine V_icmp_ge (tgt := 88) dX3_param_33 (by decide) (fun c4 => ?_) (fun c4 => ?_)
  · have H := H.1 c4
    refine V_aload_n dX3_param_88 rfl 0 rfl ?_
    refine H_getr ck2 0 (by decide) (fs_5 hF) (by decide) rfl (fr_5_0 hF) q180 dX3_param_89 ?_
    refine V_aload_n dX3_param_92 rfl 0 rfl ?_
    obtain ⟨b5, z6, H⟩ := H
    refine H_getr ck2 3 (by decide) (fs_5 hF) (by decide) rfl z6 q185 dX3_param_93 ?_
    obtain ⟨z7, H⟩ := H
    refine H_getiN ck8 1 (by decide) z7 (by decide) rfl q665 dX3_param_96 ?_
    refine V_iconst (v := 4) dX3_param_99 (by decide) ?_
    refine V_icmp_ge (tgt := 107) dX3_param_100 (by decide) (fun c8 => ?_) (fun c8 => ?_)
    · have H := H.1 c8
      refine V_iconst (v := 0) dX3_param_107 (by decide) ?_
      refine V.sub [0] rfl ?_
      exact bX3_param_108 hF 0 H
    · have H := H.2 c8
      refine V_iconst (v := 1) dX3_param_103 (by decide) ?_
      refine V_goto (tgt := 108) dX3_param_104 (by decide) ?_
      refine V.sub [0] rfl ?_
      exact bX3_param_108 hF 1 H
  · have H := H.2 c4
    refine V_aload_n dX3_param_36 rfl 0 rfl ?_
    refine H_getr ck2 0 (by decide) (fs_5 hF) (by decide) rfl (fr_5_0 hF) q180 dX3_param_37 ?_
    refine V_aload_n dX3_param_40 rfl 0 rfl ?_
    refine H_getr ck2 0 (by decide) (fs_5 hF) (by decide) rfl (fr_5_0 hF) q180 dX3_param_41 ?_
    refine V_aload_n dX3_param_44 rfl 0 rfl ?_
    obtain ⟨b9, z10, H⟩ := H
    refine H_getr ck2 3 (by decide) (fs_5 hF) (by decide) rfl z10 q185 dX3_param_45 ?_
    obtain ⟨z11, H⟩ := H
    obtain ⟨b12, z13, H⟩ := H
    refine H_getrN ck8 4 (by decide) z11 (by decide) rfl z13 q677 dX3_param_48 ?_
    refine V_iload_n dX3_param_51 rfl 1 rfl ?_
    obtain ⟨m14, z15, H⟩ := H
    obtain ⟨i16, H⟩ := H
    refine H_iald z15 i16 dX3_param_52 ?_
    refine V_aload_n dX3_param_53 rfl 0 rfl ?_
    refine H_getr ck2 0 (by decide) (fs_5 hF) (by decide) rfl (fr_5_0 hF) q180 dX3_param_54 ?_
    refine H_calli (av := [.ref (ad D 1)]) (rest := [.int (h b12 (ix x1)), .ref (ad D 1), .ref (ad D 1)]) H mqX2_token q82 (by decide) (Nat.le_of_ble_eq_true rfl) (k_resV (ci := 1) (av := []) (rest := [.int (h b12 (ix x1)), .ref (ad D 1), .ref (ad D 1)]) (fs_1 hF) (by decide) rfl rfl q646 q647 q648 q649 mhX2_token mnX2_token dX3_param_57) (fun y17 h18 g19 H => ?_)
    refine H_calli (av := [.ref (ad D 1), .int (h b12 (ix x1)), .int y17]) (rest := [.ref (ad D 1)]) H mqX2_same q82 (by decide) (Nat.le_of_ble_eq_true rfl) (k_resV (ci := 1) (av := [.int (h b12 (ix x1)), .int y17]) (rest := [.ref (ad D 1)]) (fs_1 hF) (by decide) rfl rfl q650 q651 q652 q653 mhX2_same mnX2_same dX3_param_60) (fun y20 h21 g22 H => ?_)
    refine V_if_ne (tgt := 70) dX3_param_63 (by decide) (fun c23 => ?_) (fun c23 => ?_)
    · have H := H.1 c23
      refine V_iconst (v := 0) dX3_param_70 (by decide) ?_
      exact bX3_param_71 hF x1 0 H
    · have H := H.2 c23
      refine V_iconst (v := 1) dX3_param_66 (by decide) ?_
      refine V_goto (tgt := 71) dX3_param_67 (by decide) ?_
      exact bX3_param_71 hF x1 1 H
abbrev JX3_param_20 (D : DE) (f : Nat) (Q : Frm → HI → HL → Prop) (T : Nat → Frm → HI → HL → Prop) (F : Frm) (h : HI) (g : HL) (s1 : Int32) : Prop := Gv D f mX2_stands [.ref (ad D 1), .int s1] F h g (fun F3 h1 g2 => V D mX3_param (f + 1) (gv Q T) 25 [(0, .ref (ad D 5)), (1, .int 0)] [] (F3, h1, g2)) T
theorem bX3_param_20 {D : DE} {f : Nat} {Q : Frm → HI → HL → Prop} {T : Nat → Frm → HI → HL → Prop} {F : Frm} {h : HI} {g : HL} (hF : k_Fix F) (s1 : Int32) (H : JX3_param_20 D f Q T F h g s1) : V D mX3_param (f + 1) (gv Q T) 20 [(0, .ref (ad D 5))] [.int s1, .ref (ad D 1)] (F, h, g) := by
  refine G_callv (av := [.ref (ad D 1), .int s1]) (rest := []) H mqX2_stands q82 (by decide) (Nat.le_of_ble_eq_true rfl) (k_resV (ci := 1) (av := [.int s1]) (rest := []) (fs_1 hF) (by decide) rfl rfl q570 q571 q572 q573 mhX2_stands mnX2_stands dX3_param_20) (fun F3 h1 g2 hF4 H => ?_) (fun a e F1 h1 g1 hF1 ha ht => GT_v hF1 rfl ha ht)
  refine V_iconst (v := 0) dX3_param_23 (by decide) ?_
  refine V_istore_n (l1 := [(1, .int 0), (0, .ref (ad D 5))]) dX3_param_24 rfl (by decide) rfl ?_
  refine V.sub [1, 0] rfl ?_
  exact H
abbrev JX3_param_0 (D : DE) (f : Nat) (Q : Frm → HI → HL → Prop) (T : Nat → Frm → HI → HL → Prop) (F : Frm) (h : HI) (g : HL) : Prop := ((¬ (h 1 5) = 3 → JX3_param_20 D f Q T F h g 0) ∧ ((h 1 5) = 3 → JX3_param_20 D f Q T F h g 1))
theorem bX3_param_0 {D : DE} {f : Nat} {Q : Frm → HI → HL → Prop} {T : Nat → Frm → HI → HL → Prop} {F : Frm} {h : HI} {g : HL} (hF : k_Fix F)  (H : JX3_param_0 D f Q T F h g ) : V D mX3_param (f + 1) (gv Q T) 0 [(0, .ref (ad D 5))] [] (F, h, g) := by
  refine V_aload_n dX3_param_0 rfl 0 rfl ?_
  refine H_getr ck2 0 (by decide) (fs_5 hF) (by decide) rfl (fr_5_0 hF) q180 dX3_param_1 ?_
  refine V_aload_n dX3_param_4 rfl 0 rfl ?_
  refine H_getr ck2 0 (by decide) (fs_5 hF) (by decide) rfl (fr_5_0 hF) q180 dX3_param_5 ?_
  refine H_getiN ck1 5 (by decide) (fs_1 hF) (by decide) rfl q136 dX3_param_8 ?_
  refine V_iconst (v := 3) dX3_param_11 (by decide) ?_
  refine V_icmp_ne (tgt := 19) dX3_param_12 (by decide) (fun c1 => ?_) (fun c1 => ?_)
  · have H := H.1 c1
    refine V_iconst (v := 0) dX3_param_19 (by decide) ?_
    exact bX3_param_20 hF 0 H
  · have H := H.2 c1
    refine V_iconst (v := 1) dX3_param_15 (by decide) ?_
    refine V_goto (tgt := 20) dX3_param_16 (by decide) ?_
    exact bX3_param_20 hF 1 H
theorem wX3_param {D : DE} {f : Nat} {Q : Frm → HI → HL → Prop} {T : Nat → Frm → HI → HL → Prop} {F : Frm} {h : HI} {g : HL} (hF : k_Fix F)  (H : JX3_param_0 D f Q T F h g ) : Gv D (f + 1) mX3_param [.ref (ad D 5)] F h g Q T := Cl.ofV (by decide) (Nat.le_of_ble_eq_true rfl) rfl (bX3_param_0 hF  H)
theorem dX3_slot_0 : decode cX3_slot 0 = .ok (.aload_n 0, 1) := by decide +kernel
theorem dX3_slot_1 : decode cX3_slot 1 = .ok (.getfield 17, 3) := by decide +kernel
theorem dX3_slot_4 : decode cX3_slot 4 = .ok (.aload_n 0, 1) := by decide +kernel
theorem dX3_slot_5 : decode cX3_slot 5 = .ok (.getfield 64, 3) := by decide +kernel
theorem dX3_slot_8 : decode cX3_slot 8 = .ok (.getfield 99, 3) := by decide +kernel
theorem dX3_slot_11 : decode cX3_slot 11 = .ok (.bipush 16, 2) := by decide +kernel
theorem dX3_slot_13 : decode cX3_slot 13 = .ok (.if_icmp .ge 7, 3) := by decide +kernel
theorem dX3_slot_16 : decode cX3_slot 16 = .ok (.iconst 1, 1) := by decide +kernel
theorem dX3_slot_17 : decode cX3_slot 17 = .ok (.goto 4, 3) := by decide +kernel
theorem dX3_slot_20 : decode cX3_slot 20 = .ok (.iconst 0, 1) := by decide +kernel
theorem dX3_slot_21 : decode cX3_slot 21 = .ok (.bipush 6, 2) := by decide +kernel
theorem dX3_slot_23 : decode cX3_slot 23 = .ok (.aload_n 0, 1) := by decide +kernel
theorem dX3_slot_24 : decode cX3_slot 24 = .ok (.getfield 17, 3) := by decide +kernel
theorem dX3_slot_27 : decode cX3_slot 27 = .ok (.getfield 56, 3) := by decide +kernel
theorem dX3_slot_30 : decode cX3_slot 30 = .ok (.invokevirtual 59, 3) := by decide +kernel
theorem dX3_slot_33 : decode cX3_slot 33 = .ok (.aload_n 0, 1) := by decide +kernel
theorem dX3_slot_34 : decode cX3_slot 34 = .ok (.getfield 64, 3) := by decide +kernel
theorem dX3_slot_37 : decode cX3_slot 37 = .ok (.getfield 102, 3) := by decide +kernel
theorem dX3_slot_40 : decode cX3_slot 40 = .ok (.aload_n 0, 1) := by decide +kernel
theorem dX3_slot_41 : decode cX3_slot 41 = .ok (.getfield 64, 3) := by decide +kernel
theorem dX3_slot_44 : decode cX3_slot 44 = .ok (.getfield 99, 3) := by decide +kernel
theorem dX3_slot_47 : decode cX3_slot 47 = .ok (.aload_n 0, 1) := by decide +kernel
theorem dX3_slot_48 : decode cX3_slot 48 = .ok (.invokevirtual 68, 3) := by decide +kernel
theorem dX3_slot_51 : decode cX3_slot 51 = .ok (.iastore, 1) := by decide +kernel
theorem dX3_slot_52 : decode cX3_slot 52 = .ok (.aload_n 0, 1) := by decide +kernel
theorem dX3_slot_53 : decode cX3_slot 53 = .ok (.getfield 64, 3) := by decide +kernel
theorem dX3_slot_56 : decode cX3_slot 56 = .ok (.dup, 1) := by decide +kernel
theorem dX3_slot_57 : decode cX3_slot 57 = .ok (.getfield 99, 3) := by decide +kernel
theorem dX3_slot_60 : decode cX3_slot 60 = .ok (.iconst 1, 1) := by decide +kernel
theorem dX3_slot_61 : decode cX3_slot 61 = .ok (.iadd, 1) := by decide +kernel
theorem dX3_slot_62 : decode cX3_slot 62 = .ok (.putfield 99, 3) := by decide +kernel
theorem dX3_slot_65 : decode cX3_slot 65 = .ok (.aload_n 0, 1) := by decide +kernel
theorem dX3_slot_66 : decode cX3_slot 66 = .ok (.getfield 64, 3) := by decide +kernel
theorem dX3_slot_69 : decode cX3_slot 69 = .ok (.getfield 99, 3) := by decide +kernel
theorem dX3_slot_72 : decode cX3_slot 72 = .ok (.iconst 1, 1) := by decide +kernel
theorem dX3_slot_73 : decode cX3_slot 73 = .ok (.isub, 1) := by decide +kernel
theorem dX3_slot_74 : decode cX3_slot 74 = .ok (.ireturn, 1) := by decide +kernel
abbrev JX3_slot_21 (D : DE) (f : Nat) (Q : Int32 → Frm → HI → HL → Prop) (T : Nat → Frm → HI → HL → Prop) (F : Frm) (h : HI) (g : HL) (s1 : Int32) : Prop := Gv D f mX2_want [.ref (ad D 1), .int s1, .int 6, .int (h 1 8)] F h g (fun F3 h1 g2 => ∃ b6 : Nat, F3.2.2 5 3 = some b6 ∧ F3.2.1 b6 = (18, 0) ∧ ∃ b9 : Nat, F3.2.2 b6 4 = some b9 ∧ ∃ b11 : Nat, F3.2.2 5 3 = some b11 ∧ F3.2.1 b11 = (18, 0) ∧ Gi D f mX3_name [.ref (ad D 5)] F3 h1 g2 (fun y14 F17 h15 g16 => ∃ m20 : Nat, F17.2.1 b9 = (0, m20) ∧ vp_in (h1 b11 2) m20 ∧ ∀ h23, h23 = up2 h15 b9 (ix (h1 b11 2)) y14 → ∃ b25 : Nat, F17.2.2 5 3 = some b25 ∧ F17.2.1 b25 = (18, 0) ∧ ∀ h28, h28 = up2 h23 b25 2 ((h23 b25 2) + 1) → ∃ b30 : Nat, F17.2.2 5 3 = some b30 ∧ F17.2.1 b30 = (18, 0) ∧ Q ((h28 b30 2) - 1) F17 h28 g16) T) T
theorem bX3_slot_21 {D : DE} {f : Nat} {Q : Int32 → Frm → HI → HL → Prop} {T : Nat → Frm → HI → HL → Prop} {F : Frm} {h : HI} {g : HL} (hF : k_Fix F) (s1 : Int32) (H : JX3_slot_21 D f Q T F h g s1) : V D mX3_slot (f + 1) (gi Q T) 21 [(0, .ref (ad D 5))] [.int s1, .ref (ad D 1)] (F, h, g) := by
  refine V_bipush (v := 6) dX3_slot_21 (by decide) ?_
  refine V_aload_n dX3_slot_23 rfl 0 rfl ?_
  refine H_getr ck2 0 (by decide) (fs_5 hF) (by decide) rfl (fr_5_0 hF) q180 dX3_slot_24 ?_
  refine H_getiN ck1 8 (by decide) (fs_1 hF) (by decide) rfl q141 dX3_slot_27 ?_
  refine G_callv (av := [.ref (ad D 1), .int s1, .int 6, .int (h 1 8)]) (rest := []) H mqX2_want q82 (by decide) (Nat.le_of_ble_eq_true rfl) (k_resV (ci := 1) (av := [.int s1, .int 6, .int (h 1 8)]) (rest := []) (fs_1 hF) (by decide) rfl rfl q654 q575 q576 q577 mhX2_want mnX2_want dX3_slot_30) (fun F3 h1 g2 hF4 H => ?_) (fun a e F1 h1 g1 hF1 ha ht => GT_i hF1 rfl ha ht)
  refine V_aload_n dX3_slot_33 rfl 0 rfl ?_
  obtain ⟨b6, z7, H⟩ := H
  refine H_getr ck2 3 (by decide) (fs_5 hF4) (by decide) rfl z7 q185 dX3_slot_34 ?_
  obtain ⟨z8, H⟩ := H
  obtain ⟨b9, z10, H⟩ := H
  refine H_getrN ck8 4 (by decide) z8 (by decide) rfl z10 q677 dX3_slot_37 ?_
  refine V_aload_n dX3_slot_40 rfl 0 rfl ?_
  obtain ⟨b11, z12, H⟩ := H
  refine H_getr ck2 3 (by decide) (fs_5 hF4) (by decide) rfl z12 q185 dX3_slot_41 ?_
  obtain ⟨z13, H⟩ := H
  refine H_getiN ck8 2 (by decide) z13 (by decide) rfl q669 dX3_slot_44 ?_
  refine V_aload_n dX3_slot_47 rfl 0 rfl ?_
  refine G_calli (av := [.ref (ad D 5)]) (rest := [.int (h1 b11 2), .ref (ad D b9)]) H mqX3_name q83 (by decide) (Nat.le_of_ble_eq_true rfl) (k_resV (ci := 2) (av := []) (rest := [.int (h1 b11 2), .ref (ad D b9)]) (fs_5 hF4) (by decide) rfl rfl q719 q721 qs6 q722 mhX3_name mnX3_name dX3_slot_48) (fun y14 F17 h15 g16 hF18 H => ?_) (fun a e F1 h1 g1 hF1 ha ht => GT_i hF1 rfl ha ht)
  obtain ⟨m20, z21, H⟩ := H
  obtain ⟨i22, H⟩ := H
  refine H_iast z21 i22 dX3_slot_51 (fun h23 e24 => ?_)
  have H := H h23 e24
  refine V_aload_n dX3_slot_52 rfl 0 rfl ?_
  obtain ⟨b25, z26, H⟩ := H
  refine H_getr ck2 3 (by decide) (fs_5 hF18) (by decide) rfl z26 q185 dX3_slot_53 ?_
  refine V_dup dX3_slot_56 rfl ?_
  obtain ⟨z27, H⟩ := H
  refine H_getiN ck8 2 (by decide) z27 (by decide) rfl q669 dX3_slot_57 ?_
  refine V_iconst (v := 1) dX3_slot_60 (by decide) ?_
  refine V_iadd dX3_slot_61 ?_
  refine H_putiN ck8 2 (by decide) z27 (by decide) rfl rfl q669 dX3_slot_62 (fun h28 e29 => ?_)
  have H := H h28 e29
  refine V_aload_n dX3_slot_65 rfl 0 rfl ?_
  obtain ⟨b30, z31, H⟩ := H
  refine H_getr ck2 3 (by decide) (fs_5 hF18) (by decide) rfl z31 q185 dX3_slot_66 ?_
  obtain ⟨z32, H⟩ := H
  refine H_getiN ck8 2 (by decide) z32 (by decide) rfl q669 dX3_slot_69 ?_
  refine V_iconst (v := 1) dX3_slot_72 (by decide) ?_
  refine V_isub dX3_slot_73 ?_
  exact G_iret hF18 rfl dX3_slot_74 H
abbrev JX3_slot_0 (D : DE) (f : Nat) (Q : Int32 → Frm → HI → HL → Prop) (T : Nat → Frm → HI → HL → Prop) (F : Frm) (h : HI) (g : HL) : Prop := ∃ b1 : Nat, F.2.2 5 3 = some b1 ∧ F.2.1 b1 = (18, 0) ∧ ((16 ≤ (h b1 2) → JX3_slot_21 D f Q T F h g 0) ∧ (¬ 16 ≤ (h b1 2) → JX3_slot_21 D f Q T F h g 1))
theorem bX3_slot_0 {D : DE} {f : Nat} {Q : Int32 → Frm → HI → HL → Prop} {T : Nat → Frm → HI → HL → Prop} {F : Frm} {h : HI} {g : HL} (hF : k_Fix F)  (H : JX3_slot_0 D f Q T F h g ) : V D mX3_slot (f + 1) (gi Q T) 0 [(0, .ref (ad D 5))] [] (F, h, g) := by
  refine V_aload_n dX3_slot_0 rfl 0 rfl ?_
  refine H_getr ck2 0 (by decide) (fs_5 hF) (by decide) rfl (fr_5_0 hF) q180 dX3_slot_1 ?_
  refine V_aload_n dX3_slot_4 rfl 0 rfl ?_
  obtain ⟨b1, z2, H⟩ := H
  refine H_getr ck2 3 (by decide) (fs_5 hF) (by decide) rfl z2 q185 dX3_slot_5 ?_
  obtain ⟨z3, H⟩ := H
  refine H_getiN ck8 2 (by decide) z3 (by decide) rfl q669 dX3_slot_8 ?_
  refine V_bipush (v := 16) dX3_slot_11 (by decide) ?_
  refine V_icmp_ge (tgt := 20) dX3_slot_13 (by decide) (fun c4 => ?_) (fun c4 => ?_)
  · have H := H.1 c4
    refine V_iconst (v := 0) dX3_slot_20 (by decide) ?_
    exact bX3_slot_21 hF 0 H
  · have H := H.2 c4
    refine V_iconst (v := 1) dX3_slot_16 (by decide) ?_
    refine V_goto (tgt := 21) dX3_slot_17 (by decide) ?_
    exact bX3_slot_21 hF 1 H
theorem wX3_slot {D : DE} {f : Nat} {Q : Int32 → Frm → HI → HL → Prop} {T : Nat → Frm → HI → HL → Prop} {F : Frm} {h : HI} {g : HL} (hF : k_Fix F)  (H : JX3_slot_0 D f Q T F h g ) : Gi D (f + 1) mX3_slot [.ref (ad D 5)] F h g Q T := Cl.ofV (by decide) (Nat.le_of_ble_eq_true rfl) rfl (bX3_slot_0 hF  H)
theorem dX3_type_0 : decode cX3_type 0 = .ok (.aload_n 0, 1) := by decide +kernel
theorem dX3_type_1 : decode cX3_type 1 = .ok (.getfield 17, 3) := by decide +kernel
theorem dX3_type_4 : decode cX3_type 4 = .ok (.aload_n 0, 1) := by decide +kernel
theorem dX3_type_5 : decode cX3_type 5 = .ok (.getfield 17, 3) := by decide +kernel
theorem dX3_type_8 : decode cX3_type 8 = .ok (.iconst 0, 1) := by decide +kernel
theorem dX3_type_9 : decode cX3_type 9 = .ok (.invokevirtual 115, 3) := by decide +kernel
theorem dX3_type_12 : decode cX3_type 12 = .ok (.ifCond .ne 14, 3) := by decide +kernel
theorem dX3_type_15 : decode cX3_type 15 = .ok (.aload_n 0, 1) := by decide +kernel
theorem dX3_type_16 : decode cX3_type 16 = .ok (.getfield 17, 3) := by decide +kernel
theorem dX3_type_19 : decode cX3_type 19 = .ok (.iconst 0, 1) := by decide +kernel
theorem dX3_type_20 : decode cX3_type 20 = .ok (.invokevirtual 75, 3) := by decide +kernel
theorem dX3_type_23 : decode cX3_type 23 = .ok (.ifCond .eq 7, 3) := by decide +kernel
theorem dX3_type_26 : decode cX3_type 26 = .ok (.iconst 1, 1) := by decide +kernel
theorem dX3_type_27 : decode cX3_type 27 = .ok (.goto 4, 3) := by decide +kernel
theorem dX3_type_30 : decode cX3_type 30 = .ok (.iconst 0, 1) := by decide +kernel
theorem dX3_type_31 : decode cX3_type 31 = .ok (.invokevirtual 46, 3) := by decide +kernel
theorem dX3_type_34 : decode cX3_type 34 = .ok (.aload_n 0, 1) := by decide +kernel
theorem dX3_type_35 : decode cX3_type 35 = .ok (.getfield 17, 3) := by decide +kernel
theorem dX3_type_38 : decode cX3_type 38 = .ok (.iconst 0, 1) := by decide +kernel
theorem dX3_type_39 : decode cX3_type 39 = .ok (.invokevirtual 115, 3) := by decide +kernel
theorem dX3_type_42 : decode cX3_type 42 = .ok (.ifCond .eq 13, 3) := by decide +kernel
theorem dX3_type_45 : decode cX3_type 45 = .ok (.aload_n 0, 1) := by decide +kernel
theorem dX3_type_46 : decode cX3_type 46 = .ok (.getfield 17, 3) := by decide +kernel
theorem dX3_type_49 : decode cX3_type 49 = .ok (.iconst 0, 1) := by decide +kernel
theorem dX3_type_50 : decode cX3_type 50 = .ok (.invokevirtual 118, 3) := by decide +kernel
theorem dX3_type_53 : decode cX3_type 53 = .ok (.iconst 0, 1) := by decide +kernel
theorem dX3_type_54 : decode cX3_type 54 = .ok (.ireturn, 1) := by decide +kernel
theorem dX3_type_55 : decode cX3_type 55 = .ok (.aload_n 0, 1) := by decide +kernel
theorem dX3_type_56 : decode cX3_type 56 = .ok (.getfield 17, 3) := by decide +kernel
theorem dX3_type_59 : decode cX3_type 59 = .ok (.iload_n 1, 1) := by decide +kernel
theorem dX3_type_60 : decode cX3_type 60 = .ok (.iconst 2, 1) := by decide +kernel
theorem dX3_type_61 : decode cX3_type 61 = .ok (.if_icmp .ge 7, 3) := by decide +kernel
theorem dX3_type_64 : decode cX3_type 64 = .ok (.iconst 1, 1) := by decide +kernel
theorem dX3_type_65 : decode cX3_type 65 = .ok (.goto 4, 3) := by decide +kernel
theorem dX3_type_68 : decode cX3_type 68 = .ok (.iconst 0, 1) := by decide +kernel
theorem dX3_type_69 : decode cX3_type 69 = .ok (.bipush 6, 2) := by decide +kernel
theorem dX3_type_71 : decode cX3_type 71 = .ok (.aload_n 0, 1) := by decide +kernel
theorem dX3_type_72 : decode cX3_type 72 = .ok (.getfield 17, 3) := by decide +kernel
theorem dX3_type_75 : decode cX3_type 75 = .ok (.getfield 56, 3) := by decide +kernel
theorem dX3_type_78 : decode cX3_type 78 = .ok (.invokevirtual 59, 3) := by decide +kernel
theorem dX3_type_81 : decode cX3_type 81 = .ok (.aload_n 0, 1) := by decide +kernel
theorem dX3_type_82 : decode cX3_type 82 = .ok (.getfield 17, 3) := by decide +kernel
theorem dX3_type_85 : decode cX3_type 85 = .ok (.iconst 0, 1) := by decide +kernel
theorem dX3_type_86 : decode cX3_type 86 = .ok (.invokevirtual 71, 3) := by decide +kernel
theorem dX3_type_89 : decode cX3_type 89 = .ok (.aload_n 0, 1) := by decide +kernel
theorem dX3_type_90 : decode cX3_type 90 = .ok (.iload_n 1, 1) := by decide +kernel
theorem dX3_type_91 : decode cX3_type 91 = .ok (.iconst 1, 1) := by decide +kernel
theorem dX3_type_92 : decode cX3_type 92 = .ok (.iadd, 1) := by decide +kernel
theorem dX3_type_93 : decode cX3_type 93 = .ok (.invokevirtual 82, 3) := by decide +kernel
theorem dX3_type_96 : decode cX3_type 96 = .ok (.istore_n 2, 1) := by decide +kernel
theorem dX3_type_97 : decode cX3_type 97 = .ok (.aload_n 0, 1) := by decide +kernel
theorem dX3_type_98 : decode cX3_type 98 = .ok (.getfield 17, 3) := by decide +kernel
theorem dX3_type_101 : decode cX3_type 101 = .ok (.iconst 2, 1) := by decide +kernel
theorem dX3_type_102 : decode cX3_type 102 = .ok (.invokevirtual 71, 3) := by decide +kernel
theorem dX3_type_105 : decode cX3_type 105 = .ok (.aload_n 0, 1) := by decide +kernel
theorem dX3_type_106 : decode cX3_type 106 = .ok (.iload_n 1, 1) := by decide +kernel
theorem dX3_type_107 : decode cX3_type 107 = .ok (.iconst 1, 1) := by decide +kernel
theorem dX3_type_108 : decode cX3_type 108 = .ok (.iadd, 1) := by decide +kernel
theorem dX3_type_109 : decode cX3_type 109 = .ok (.invokevirtual 82, 3) := by decide +kernel
theorem dX3_type_112 : decode cX3_type 112 = .ok (.istore_n 3, 1) := by decide +kernel
theorem dX3_type_113 : decode cX3_type 113 = .ok (.aload_n 0, 1) := by decide +kernel
theorem dX3_type_114 : decode cX3_type 114 = .ok (.getfield 17, 3) := by decide +kernel
theorem dX3_type_117 : decode cX3_type 117 = .ok (.iconst 1, 1) := by decide +kernel
theorem dX3_type_118 : decode cX3_type 118 = .ok (.invokevirtual 71, 3) := by decide +kernel
theorem dX3_type_121 : decode cX3_type 121 = .ok (.iload_n 2, 1) := by decide +kernel
theorem dX3_type_122 : decode cX3_type 122 = .ok (.iload_n 3, 1) := by decide +kernel
theorem dX3_type_123 : decode cX3_type 123 = .ok (.invokestatic 121, 3) := by decide +kernel
theorem dX3_type_126 : decode cX3_type 126 = .ok (.ireturn, 1) := by decide +kernel
abbrev JX3_type_69 (D : DE) (f : Nat) (Q : Int32 → Frm → HI → HL → Prop) (T : Nat → Frm → HI → HL → Prop) (F : Frm) (h : HI) (g : HL) (x1 : Int32) (s1 : Int32) : Prop := Gv D f mX2_want [.ref (ad D 1), .int s1, .int 6, .int (h 1 8)] F h g (fun F3 h1 g2 => Gv D f mX2_sign [.ref (ad D 1), .int 0] F3 h1 g2 (fun F8 h6 g7 => Gi D f mX3_type [.ref (ad D 5), .int (x1 + 1)] F8 h6 g7 (fun y11 F14 h12 g13 => Gv D f mX2_sign [.ref (ad D 1), .int 2] F14 h12 g13 (fun F19 h17 g18 => Gi D f mX3_type [.ref (ad D 5), .int (x1 + 1)] F19 h17 g18 (fun y22 F25 h23 g24 => Gv D f mX2_sign [.ref (ad D 1), .int 1] F25 h23 g24 (fun F30 h28 g29 => Si D f mX1_pairOf [.int y11, .int y22] F30 h28 g29 (fun y33 h34 g35 => Q y33 F30 h34 g35)) T) T) T) T) T) T
theorem bX3_type_69 {D : DE} {f : Nat} {Q : Int32 → Frm → HI → HL → Prop} {T : Nat → Frm → HI → HL → Prop} {F : Frm} {h : HI} {g : HL} (hF : k_Fix F) (x1 : Int32) (s1 : Int32) (H : JX3_type_69 D f Q T F h g x1 s1) : V D mX3_type (f + 1) (gi Q T) 69 [(0, .ref (ad D 5)), (1, .int x1)] [.int s1, .ref (ad D 1)] (F, h, g) := by
  refine V_bipush (v := 6) dX3_type_69 (by decide) ?_
  refine V_aload_n dX3_type_71 rfl 0 rfl ?_
  refine H_getr ck2 0 (by decide) (fs_5 hF) (by decide) rfl (fr_5_0 hF) q180 dX3_type_72 ?_
  refine H_getiN ck1 8 (by decide) (fs_1 hF) (by decide) rfl q141 dX3_type_75 ?_
  refine G_callv (av := [.ref (ad D 1), .int s1, .int 6, .int (h 1 8)]) (rest := []) H mqX2_want q82 (by decide) (Nat.le_of_ble_eq_true rfl) (k_resV (ci := 1) (av := [.int s1, .int 6, .int (h 1 8)]) (rest := []) (fs_1 hF) (by decide) rfl rfl q654 q575 q576 q577 mhX2_want mnX2_want dX3_type_78) (fun F3 h1 g2 hF4 H => ?_) (fun a e F1 h1 g1 hF1 ha ht => GT_i hF1 rfl ha ht)
  refine V_aload_n dX3_type_81 rfl 0 rfl ?_
  refine H_getr ck2 0 (by decide) (fs_5 hF4) (by decide) rfl (fr_5_0 hF4) q180 dX3_type_82 ?_
  refine V_iconst (v := 0) dX3_type_85 (by decide) ?_
  refine G_callv (av := [.ref (ad D 1), .int 0]) (rest := []) H mqX2_sign q82 (by decide) (Nat.le_of_ble_eq_true rfl) (k_resV (ci := 1) (av := [.int 0]) (rest := []) (fs_1 hF4) (by decide) rfl rfl q728 q729 q730 q731 mhX2_sign mnX2_sign dX3_type_86) (fun F8 h6 g7 hF9 H => ?_) (fun a e F1 h1 g1 hF1 ha ht => GT_i hF1 rfl ha ht)
  refine V_aload_n dX3_type_89 rfl 0 rfl ?_
  refine V_iload_n dX3_type_90 rfl 1 rfl ?_
  refine V_iconst (v := 1) dX3_type_91 (by decide) ?_
  refine V_iadd dX3_type_92 ?_
  refine G_calli (av := [.ref (ad D 5), .int (x1 + 1)]) (rest := []) H mqX3_type q83 (by decide) (Nat.le_of_ble_eq_true rfl) (k_resV (ci := 2) (av := [.int (x1 + 1)]) (rest := []) (fs_5 hF9) (by decide) rfl rfl q747 q749 qs9 q750 mhX3_type mnX3_type dX3_type_93) (fun y11 F14 h12 g13 hF15 H => ?_) (fun a e F1 h1 g1 hF1 ha ht => GT_i hF1 rfl ha ht)
  refine V_istore_n (l1 := [(2, .int y11), (0, .ref (ad D 5)), (1, .int x1)]) dX3_type_96 rfl (by decide) rfl ?_
  refine V_aload_n dX3_type_97 rfl 1 rfl ?_
  refine H_getr ck2 0 (by decide) (fs_5 hF15) (by decide) rfl (fr_5_0 hF15) q180 dX3_type_98 ?_
  refine V_iconst (v := 2) dX3_type_101 (by decide) ?_
  refine G_callv (av := [.ref (ad D 1), .int 2]) (rest := []) H mqX2_sign q82 (by decide) (Nat.le_of_ble_eq_true rfl) (k_resV (ci := 1) (av := [.int 2]) (rest := []) (fs_1 hF15) (by decide) rfl rfl q728 q729 q730 q731 mhX2_sign mnX2_sign dX3_type_102) (fun F19 h17 g18 hF20 H => ?_) (fun a e F1 h1 g1 hF1 ha ht => GT_i hF1 rfl ha ht)
  refine V_aload_n dX3_type_105 rfl 1 rfl ?_
  refine V_iload_n dX3_type_106 rfl 2 rfl ?_
  refine V_iconst (v := 1) dX3_type_107 (by decide) ?_
  refine V_iadd dX3_type_108 ?_
  refine G_calli (av := [.ref (ad D 5), .int (x1 + 1)]) (rest := []) H mqX3_type q83 (by decide) (Nat.le_of_ble_eq_true rfl) (k_resV (ci := 2) (av := [.int (x1 + 1)]) (rest := []) (fs_5 hF20) (by decide) rfl rfl q747 q749 qs9 q750 mhX3_type mnX3_type dX3_type_109) (fun y22 F25 h23 g24 hF26 H => ?_) (fun a e F1 h1 g1 hF1 ha ht => GT_i hF1 rfl ha ht)
  refine V_istore_n (l1 := [(3, .int y22), (2, .int y11), (0, .ref (ad D 5)), (1, .int x1)]) dX3_type_112 rfl (by decide) rfl ?_
  refine V_aload_n dX3_type_113 rfl 2 rfl ?_
  refine H_getr ck2 0 (by decide) (fs_5 hF26) (by decide) rfl (fr_5_0 hF26) q180 dX3_type_114 ?_
  refine V_iconst (v := 1) dX3_type_117 (by decide) ?_
  refine G_callv (av := [.ref (ad D 1), .int 1]) (rest := []) H mqX2_sign q82 (by decide) (Nat.le_of_ble_eq_true rfl) (k_resV (ci := 1) (av := [.int 1]) (rest := []) (fs_1 hF26) (by decide) rfl rfl q728 q729 q730 q731 mhX2_sign mnX2_sign dX3_type_118) (fun F30 h28 g29 hF31 H => ?_) (fun a e F1 h1 g1 hF1 ha ht => GT_i hF1 rfl ha ht)
  refine V_iload_n dX3_type_121 rfl 1 rfl ?_
  refine V_iload_n dX3_type_122 rfl 0 rfl ?_
  refine H_calli (av := [.int y11, .int y22]) (rest := []) H mqX1_pairOf q81 (by decide) (Nat.le_of_ble_eq_true rfl) (k_resSN (av := [.int y11, .int y22]) (rest := []) (M1 := mX1_pairOf) rfl q760 q761 q81 mqX1_pairOf (fun _ _ h => mW_named h) mhX1_pairOf mnX1_pairOf dX3_type_123) (fun y33 h34 g35 H => ?_)
  exact G_iret hF31 rfl dX3_type_126 H
abbrev JX3_type_31 (D : DE) (f : Nat) (Q : Int32 → Frm → HI → HL → Prop) (T : Nat → Frm → HI → HL → Prop) (F : Frm) (h : HI) (g : HL) (x1 : Int32) (s1 : Int32) : Prop := Gv D f mX2_stands [.ref (ad D 1), .int s1] F h g (fun F3 h1 g2 => Si D f mX2_isWord [.ref (ad D 1), .int 0] F3 h1 g2 (fun y6 h7 g8 => ((y6 = 0 → ((2 ≤ x1 → JX3_type_69 D f Q T F3 h7 g8 x1 0) ∧ (¬ 2 ≤ x1 → JX3_type_69 D f Q T F3 h7 g8 x1 1))) ∧ (¬ y6 = 0 → Gv D f mX2_word_2 [.ref (ad D 1), .int 0] F3 h7 g8 (fun F13 h11 g12 => Q 0 F13 h11 g12) T)))) T
theorem bX3_type_31 {D : DE} {f : Nat} {Q : Int32 → Frm → HI → HL → Prop} {T : Nat → Frm → HI → HL → Prop} {F : Frm} {h : HI} {g : HL} (hF : k_Fix F) (x1 : Int32) (s1 : Int32) (H : JX3_type_31 D f Q T F h g x1 s1) : V D mX3_type (f + 1) (gi Q T) 31 [(0, .ref (ad D 5)), (1, .int x1)] [.int s1, .ref (ad D 1)] (F, h, g) := by
  refine G_callv (av := [.ref (ad D 1), .int s1]) (rest := []) H mqX2_stands q82 (by decide) (Nat.le_of_ble_eq_true rfl) (k_resV (ci := 1) (av := [.int s1]) (rest := []) (fs_1 hF) (by decide) rfl rfl q570 q571 q572 q573 mhX2_stands mnX2_stands dX3_type_31) (fun F3 h1 g2 hF4 H => ?_) (fun a e F1 h1 g1 hF1 ha ht => GT_i hF1 rfl ha ht)
  refine V_aload_n dX3_type_34 rfl 0 rfl ?_
  refine H_getr ck2 0 (by decide) (fs_5 hF4) (by decide) rfl (fr_5_0 hF4) q180 dX3_type_35 ?_
  refine V_iconst (v := 0) dX3_type_38 (by decide) ?_
  refine H_calli (av := [.ref (ad D 1), .int 0]) (rest := []) H mqX2_isWord q82 (by decide) (Nat.le_of_ble_eq_true rfl) (k_resV (ci := 1) (av := [.int 0]) (rest := []) (fs_1 hF4) (by decide) rfl rfl q751 q752 q753 q754 mhX2_isWord mnX2_isWord dX3_type_39) (fun y6 h7 g8 H => ?_)
  refine V_if_eq (tgt := 55) dX3_type_42 (by decide) (fun c9 => ?_) (fun c9 => ?_)
  · have H := H.1 c9
    refine V_aload_n dX3_type_55 rfl 0 rfl ?_
    refine H_getr ck2 0 (by decide) (fs_5 hF4) (by decide) rfl (fr_5_0 hF4) q180 dX3_type_56 ?_
    refine V_iload_n dX3_type_59 rfl 1 rfl ?_
    refine V_iconst (v := 2) dX3_type_60 (by decide) ?_
    refine V_icmp_ge (tgt := 68) dX3_type_61 (by decide) (fun c10 => ?_) (fun c10 => ?_)
    · have H := H.1 c10
      refine V_iconst (v := 0) dX3_type_68 (by decide) ?_
      exact bX3_type_69 hF4 x1 0 H
    · have H := H.2 c10
      refine V_iconst (v := 1) dX3_type_64 (by decide) ?_
      refine V_goto (tgt := 69) dX3_type_65 (by decide) ?_
      exact bX3_type_69 hF4 x1 1 H
  · have H := H.2 c9
    refine V_aload_n dX3_type_45 rfl 0 rfl ?_
    refine H_getr ck2 0 (by decide) (fs_5 hF4) (by decide) rfl (fr_5_0 hF4) q180 dX3_type_46 ?_
    refine V_iconst (v := 0) dX3_type_49 (by decide) ?_
    refine G_callv (av := [.ref (ad D 1), .int 0]) (rest := []) H mqX2_word_2 q82 (by decide) (Nat.le_of_ble_eq_true rfl) (k_resV (ci := 1) (av := [.int 0]) (rest := []) (fs_1 hF4) (by decide) rfl rfl q755 q756 q757 q758 mhX2_word_2 mnX2_word_2 dX3_type_50) (fun F13 h11 g12 hF14 H => ?_) (fun a e F1 h1 g1 hF1 ha ht => GT_i hF1 rfl ha ht)
    refine V_iconst (v := 0) dX3_type_53 (by decide) ?_
    exact G_iret hF14 rfl dX3_type_54 H
abbrev JX3_type_26 (D : DE) (f : Nat) (Q : Int32 → Frm → HI → HL → Prop) (T : Nat → Frm → HI → HL → Prop) (F : Frm) (h : HI) (g : HL) (x1 : Int32) : Prop := JX3_type_31 D f Q T F h g x1 1
theorem bX3_type_26 {D : DE} {f : Nat} {Q : Int32 → Frm → HI → HL → Prop} {T : Nat → Frm → HI → HL → Prop} {F : Frm} {h : HI} {g : HL} (hF : k_Fix F) (x1 : Int32) (H : JX3_type_26 D f Q T F h g x1) : V D mX3_type (f + 1) (gi Q T) 26 [(0, .ref (ad D 5)), (1, .int x1)] [.ref (ad D 1)] (F, h, g) := by
  refine V_iconst (v := 1) dX3_type_26 (by decide) ?_
  refine V_goto (tgt := 31) dX3_type_27 (by decide) ?_
  exact bX3_type_31 hF x1 1 H
abbrev JX3_type_0 (D : DE) (f : Nat) (Q : Int32 → Frm → HI → HL → Prop) (T : Nat → Frm → HI → HL → Prop) (F : Frm) (h : HI) (g : HL) (x1 : Int32) : Prop := Si D f mX2_isWord [.ref (ad D 1), .int 0] F h g (fun y1 h2 g3 => ((¬ y1 = 0 → JX3_type_26 D f Q T F h2 g3 x1) ∧ (y1 = 0 → Si D f mX2_isSign [.ref (ad D 1), .int 0] F h2 g3 (fun y5 h6 g7 => ((y5 = 0 → JX3_type_31 D f Q T F h6 g7 x1 0) ∧ (¬ y5 = 0 → JX3_type_26 D f Q T F h6 g7 x1))))))
theorem bX3_type_0 {D : DE} {f : Nat} {Q : Int32 → Frm → HI → HL → Prop} {T : Nat → Frm → HI → HL → Prop} {F : Frm} {h : HI} {g : HL} (hF : k_Fix F) (x1 : Int32) (H : JX3_type_0 D f Q T F h g x1) : V D mX3_type (f + 1) (gi Q T) 0 [(0, .ref (ad D 5)), (1, .int x1)] [] (F, h, g) := by
  refine V_aload_n dX3_type_0 rfl 0 rfl ?_
  refine H_getr ck2 0 (by decide) (fs_5 hF) (by decide) rfl (fr_5_0 hF) q180 dX3_type_1 ?_
  refine V_aload_n dX3_type_4 rfl 0 rfl ?_
  refine H_getr ck2 0 (by decide) (fs_5 hF) (by decide) rfl (fr_5_0 hF) q180 dX3_type_5 ?_
  refine V_iconst (v := 0) dX3_type_8 (by decide) ?_
  refine H_calli (av := [.ref (ad D 1), .int 0]) (rest := [.ref (ad D 1)]) H mqX2_isWord q82 (by decide) (Nat.le_of_ble_eq_true rfl) (k_resV (ci := 1) (av := [.int 0]) (rest := [.ref (ad D 1)]) (fs_1 hF) (by decide) rfl rfl q751 q752 q753 q754 mhX2_isWord mnX2_isWord dX3_type_9) (fun y1 h2 g3 H => ?_)
  refine V_if_ne (tgt := 26) dX3_type_12 (by decide) (fun c4 => ?_) (fun c4 => ?_)
  · have H := H.1 c4
    exact bX3_type_26 hF x1 H
  · have H := H.2 c4
    refine V_aload_n dX3_type_15 rfl 0 rfl ?_
    refine H_getr ck2 0 (by decide) (fs_5 hF) (by decide) rfl (fr_5_0 hF) q180 dX3_type_16 ?_
    refine V_iconst (v := 0) dX3_type_19 (by decide) ?_
    refine H_calli (av := [.ref (ad D 1), .int 0]) (rest := [.ref (ad D 1)]) H mqX2_isSign q82 (by decide) (Nat.le_of_ble_eq_true rfl) (k_resV (ci := 1) (av := [.int 0]) (rest := [.ref (ad D 1)]) (fs_1 hF) (by decide) rfl rfl q738 q733 q734 q735 mhX2_isSign mnX2_isSign dX3_type_20) (fun y5 h6 g7 H => ?_)
    refine V_if_eq (tgt := 30) dX3_type_23 (by decide) (fun c8 => ?_) (fun c8 => ?_)
    · have H := H.1 c8
      refine V_iconst (v := 0) dX3_type_30 (by decide) ?_
      exact bX3_type_31 hF x1 0 H
    · have H := H.2 c8
      exact bX3_type_26 hF x1 H
theorem wX3_type {D : DE} {f : Nat} {Q : Int32 → Frm → HI → HL → Prop} {T : Nat → Frm → HI → HL → Prop} {F : Frm} {h : HI} {g : HL} (hF : k_Fix F) (x1 : Int32) (H : JX3_type_0 D f Q T F h g x1) : Gi D (f + 1) mX3_type [.ref (ad D 5), .int x1] F h g Q T := Cl.ofV (by decide) (Nat.le_of_ble_eq_true rfl) rfl (bX3_type_0 hF x1 H)
theorem dX3_begins_0 : decode cX3_begins 0 = .ok (.aload_n 0, 1) := by decide +kernel
theorem dX3_begins_1 : decode cX3_begins 1 = .ok (.getfield 17, 3) := by decide +kernel
theorem dX3_begins_4 : decode cX3_begins 4 = .ok (.getfield 33, 3) := by decide +kernel
theorem dX3_begins_7 : decode cX3_begins 7 = .ok (.iconst 4, 1) := by decide +kernel
theorem dX3_begins_8 : decode cX3_begins 8 = .ok (.if_icmp .eq 37, 3) := by decide +kernel
theorem dX3_begins_11 : decode cX3_begins 11 = .ok (.aload_n 0, 1) := by decide +kernel
theorem dX3_begins_12 : decode cX3_begins 12 = .ok (.getfield 17, 3) := by decide +kernel
theorem dX3_begins_15 : decode cX3_begins 15 = .ok (.getfield 33, 3) := by decide +kernel
theorem dX3_begins_18 : decode cX3_begins 18 = .ok (.iconst 3, 1) := by decide +kernel
theorem dX3_begins_19 : decode cX3_begins 19 = .ok (.if_icmp .eq 26, 3) := by decide +kernel
theorem dX3_begins_22 : decode cX3_begins 22 = .ok (.aload_n 0, 1) := by decide +kernel
theorem dX3_begins_23 : decode cX3_begins 23 = .ok (.getfield 17, 3) := by decide +kernel
theorem dX3_begins_26 : decode cX3_begins 26 = .ok (.iconst 0, 1) := by decide +kernel
theorem dX3_begins_27 : decode cX3_begins 27 = .ok (.invokevirtual 75, 3) := by decide +kernel
theorem dX3_begins_30 : decode cX3_begins 30 = .ok (.ifCond .ne 15, 3) := by decide +kernel
theorem dX3_begins_33 : decode cX3_begins 33 = .ok (.aload_n 0, 1) := by decide +kernel
theorem dX3_begins_34 : decode cX3_begins 34 = .ok (.getfield 17, 3) := by decide +kernel
theorem dX3_begins_37 : decode cX3_begins 37 = .ok (.bipush 8, 2) := by decide +kernel
theorem dX3_begins_39 : decode cX3_begins 39 = .ok (.invokevirtual 115, 3) := by decide +kernel
theorem dX3_begins_42 : decode cX3_begins 42 = .ok (.ifCond .eq 7, 3) := by decide +kernel
theorem dX3_begins_45 : decode cX3_begins 45 = .ok (.iconst 1, 1) := by decide +kernel
theorem dX3_begins_46 : decode cX3_begins 46 = .ok (.goto 4, 3) := by decide +kernel
theorem dX3_begins_49 : decode cX3_begins 49 = .ok (.iconst 0, 1) := by decide +kernel
theorem dX3_begins_50 : decode cX3_begins 50 = .ok (.ireturn, 1) := by decide +kernel
abbrev JX3_begins_0 (D : DE) (f : Nat) (Q : Int32 → HI → HL → Prop) (F : Frm) (h : HI) (g : HL) : Prop := (((h 1 5) = 4 → Q 1 h g) ∧ (¬ (h 1 5) = 4 → (((h 1 5) = 3 → Q 1 h g) ∧ (¬ (h 1 5) = 3 → Si D f mX2_isSign [.ref (ad D 1), .int 0] F h g (fun y3 h4 g5 => ((¬ y3 = 0 → Q 1 h4 g5) ∧ (y3 = 0 → Si D f mX2_isWord [.ref (ad D 1), .int 8] F h4 g5 (fun y7 h8 g9 => ((y7 = 0 → Q 0 h8 g9) ∧ (¬ y7 = 0 → Q 1 h8 g9))))))))))
theorem bX3_begins_0 {D : DE} {f : Nat} {Q : Int32 → HI → HL → Prop} {F : Frm} {h : HI} {g : HL} (hF : k_Fix F)  (H : JX3_begins_0 D f Q F h g ) : V D mX3_begins (f + 1) (qi F Q) 0 [(0, .ref (ad D 5))] [] (F, h, g) := by
  refine V_aload_n dX3_begins_0 rfl 0 rfl ?_
  refine H_getr ck2 0 (by decide) (fs_5 hF) (by decide) rfl (fr_5_0 hF) q180 dX3_begins_1 ?_
  refine H_getiN ck1 5 (by decide) (fs_1 hF) (by decide) rfl q136 dX3_begins_4 ?_
  refine V_iconst (v := 4) dX3_begins_7 (by decide) ?_
  refine V_icmp_eq (tgt := 45) dX3_begins_8 (by decide) (fun c1 => ?_) (fun c1 => ?_)
  · have H := H.1 c1
    refine V_iconst (v := 1) dX3_begins_45 (by decide) ?_
    refine V_goto (tgt := 50) dX3_begins_46 (by decide) ?_
    exact H_zret rfl isB1 dX3_begins_50 H
  · have H := H.2 c1
    refine V_aload_n dX3_begins_11 rfl 0 rfl ?_
    refine H_getr ck2 0 (by decide) (fs_5 hF) (by decide) rfl (fr_5_0 hF) q180 dX3_begins_12 ?_
    refine H_getiN ck1 5 (by decide) (fs_1 hF) (by decide) rfl q136 dX3_begins_15 ?_
    refine V_iconst (v := 3) dX3_begins_18 (by decide) ?_
    refine V_icmp_eq (tgt := 45) dX3_begins_19 (by decide) (fun c2 => ?_) (fun c2 => ?_)
    · have H := H.1 c2
      refine V_iconst (v := 1) dX3_begins_45 (by decide) ?_
      refine V_goto (tgt := 50) dX3_begins_46 (by decide) ?_
      exact H_zret rfl isB1 dX3_begins_50 H
    · have H := H.2 c2
      refine V_aload_n dX3_begins_22 rfl 0 rfl ?_
      refine H_getr ck2 0 (by decide) (fs_5 hF) (by decide) rfl (fr_5_0 hF) q180 dX3_begins_23 ?_
      refine V_iconst (v := 0) dX3_begins_26 (by decide) ?_
      refine H_calli (av := [.ref (ad D 1), .int 0]) (rest := []) H mqX2_isSign q82 (by decide) (Nat.le_of_ble_eq_true rfl) (k_resV (ci := 1) (av := [.int 0]) (rest := []) (fs_1 hF) (by decide) rfl rfl q738 q733 q734 q735 mhX2_isSign mnX2_isSign dX3_begins_27) (fun y3 h4 g5 H => ?_)
      refine V_if_ne (tgt := 45) dX3_begins_30 (by decide) (fun c6 => ?_) (fun c6 => ?_)
      · have H := H.1 c6
        refine V_iconst (v := 1) dX3_begins_45 (by decide) ?_
        refine V_goto (tgt := 50) dX3_begins_46 (by decide) ?_
        exact H_zret rfl isB1 dX3_begins_50 H
      · have H := H.2 c6
        refine V_aload_n dX3_begins_33 rfl 0 rfl ?_
        refine H_getr ck2 0 (by decide) (fs_5 hF) (by decide) rfl (fr_5_0 hF) q180 dX3_begins_34 ?_
        refine V_bipush (v := 8) dX3_begins_37 (by decide) ?_
        refine H_calli (av := [.ref (ad D 1), .int 8]) (rest := []) H mqX2_isWord q82 (by decide) (Nat.le_of_ble_eq_true rfl) (k_resV (ci := 1) (av := [.int 8]) (rest := []) (fs_1 hF) (by decide) rfl rfl q751 q752 q753 q754 mhX2_isWord mnX2_isWord dX3_begins_39) (fun y7 h8 g9 H => ?_)
        refine V_if_eq (tgt := 49) dX3_begins_42 (by decide) (fun c10 => ?_) (fun c10 => ?_)
        · have H := H.1 c10
          refine V_iconst (v := 0) dX3_begins_49 (by decide) ?_
          exact H_zret rfl isB0 dX3_begins_50 H
        · have H := H.2 c10
          refine V_iconst (v := 1) dX3_begins_45 (by decide) ?_
          refine V_goto (tgt := 50) dX3_begins_46 (by decide) ?_
          exact H_zret rfl isB1 dX3_begins_50 H
theorem wX3_begins {D : DE} {f : Nat} {Q : Int32 → HI → HL → Prop} {F : Frm} {h : HI} {g : HL} (hF : k_Fix F)  (H : JX3_begins_0 D f Q F h g ) : Si D (f + 1) mX3_begins [.ref (ad D 5)] F h g Q := Cl.ofV (by decide) (Nat.le_of_ble_eq_true rfl) rfl (bX3_begins_0 hF  H)
theorem dX3_expression_0 : decode cX3_expression 0 = .ok (.aload_n 0, 1) := by decide +kernel
theorem dX3_expression_1 : decode cX3_expression 1 = .ok (.getfield 17, 3) := by decide +kernel
theorem dX3_expression_4 : decode cX3_expression 4 = .ok (.aload_n 0, 1) := by decide +kernel
theorem dX3_expression_5 : decode cX3_expression 5 = .ok (.invokevirtual 125, 3) := by decide +kernel
theorem dX3_expression_8 : decode cX3_expression 8 = .ok (.ifCond .ne 37, 3) := by decide +kernel
theorem dX3_expression_11 : decode cX3_expression 11 = .ok (.aload_n 0, 1) := by decide +kernel
theorem dX3_expression_12 : decode cX3_expression 12 = .ok (.getfield 17, 3) := by decide +kernel
theorem dX3_expression_15 : decode cX3_expression 15 = .ok (.iconst 4, 1) := by decide +kernel
theorem dX3_expression_16 : decode cX3_expression 16 = .ok (.invokevirtual 115, 3) := by decide +kernel
theorem dX3_expression_19 : decode cX3_expression 19 = .ok (.ifCond .ne 26, 3) := by decide +kernel
theorem dX3_expression_22 : decode cX3_expression 22 = .ok (.aload_n 0, 1) := by decide +kernel
theorem dX3_expression_23 : decode cX3_expression 23 = .ok (.getfield 17, 3) := by decide +kernel
theorem dX3_expression_26 : decode cX3_expression 26 = .ok (.bipush 6, 2) := by decide +kernel
theorem dX3_expression_28 : decode cX3_expression 28 = .ok (.invokevirtual 115, 3) := by decide +kernel
theorem dX3_expression_31 : decode cX3_expression 31 = .ok (.ifCond .ne 14, 3) := by decide +kernel
theorem dX3_expression_34 : decode cX3_expression 34 = .ok (.aload_n 0, 1) := by decide +kernel
theorem dX3_expression_35 : decode cX3_expression 35 = .ok (.getfield 17, 3) := by decide +kernel
theorem dX3_expression_38 : decode cX3_expression 38 = .ok (.iconst 1, 1) := by decide +kernel
theorem dX3_expression_39 : decode cX3_expression 39 = .ok (.invokevirtual 115, 3) := by decide +kernel
theorem dX3_expression_42 : decode cX3_expression 42 = .ok (.ifCond .eq 7, 3) := by decide +kernel
theorem dX3_expression_45 : decode cX3_expression 45 = .ok (.iconst 1, 1) := by decide +kernel
theorem dX3_expression_46 : decode cX3_expression 46 = .ok (.goto 4, 3) := by decide +kernel
theorem dX3_expression_49 : decode cX3_expression 49 = .ok (.iconst 0, 1) := by decide +kernel
theorem dX3_expression_50 : decode cX3_expression 50 = .ok (.invokevirtual 46, 3) := by decide +kernel
theorem dX3_expression_53 : decode cX3_expression 53 = .ok (.aload_n 0, 1) := by decide +kernel
theorem dX3_expression_54 : decode cX3_expression 54 = .ok (.getfield 17, 3) := by decide +kernel
theorem dX3_expression_57 : decode cX3_expression 57 = .ok (.aload_n 0, 1) := by decide +kernel
theorem dX3_expression_58 : decode cX3_expression 58 = .ok (.getfield 88, 3) := by decide +kernel
theorem dX3_expression_61 : decode cX3_expression 61 = .ok (.bipush 20, 2) := by decide +kernel
theorem dX3_expression_63 : decode cX3_expression 63 = .ok (.if_icmp .ge 7, 3) := by decide +kernel
theorem dX3_expression_66 : decode cX3_expression 66 = .ok (.iconst 1, 1) := by decide +kernel
theorem dX3_expression_67 : decode cX3_expression 67 = .ok (.goto 4, 3) := by decide +kernel
theorem dX3_expression_70 : decode cX3_expression 70 = .ok (.iconst 0, 1) := by decide +kernel
theorem dX3_expression_71 : decode cX3_expression 71 = .ok (.bipush 6, 2) := by decide +kernel
theorem dX3_expression_73 : decode cX3_expression 73 = .ok (.aload_n 0, 1) := by decide +kernel
theorem dX3_expression_74 : decode cX3_expression 74 = .ok (.getfield 17, 3) := by decide +kernel
theorem dX3_expression_77 : decode cX3_expression 77 = .ok (.getfield 56, 3) := by decide +kernel
theorem dX3_expression_80 : decode cX3_expression 80 = .ok (.invokevirtual 59, 3) := by decide +kernel
theorem dX3_expression_83 : decode cX3_expression 83 = .ok (.aload_n 0, 1) := by decide +kernel
theorem dX3_expression_84 : decode cX3_expression 84 = .ok (.dup, 1) := by decide +kernel
theorem dX3_expression_85 : decode cX3_expression 85 = .ok (.getfield 88, 3) := by decide +kernel
theorem dX3_expression_88 : decode cX3_expression 88 = .ok (.iconst 1, 1) := by decide +kernel
theorem dX3_expression_89 : decode cX3_expression 89 = .ok (.iadd, 1) := by decide +kernel
theorem dX3_expression_90 : decode cX3_expression 90 = .ok (.putfield 88, 3) := by decide +kernel
theorem dX3_expression_93 : decode cX3_expression 93 = .ok (.aload_n 0, 1) := by decide +kernel
theorem dX3_expression_94 : decode cX3_expression 94 = .ok (.getfield 17, 3) := by decide +kernel
theorem dX3_expression_97 : decode cX3_expression 97 = .ok (.iconst 4, 1) := by decide +kernel
theorem dX3_expression_98 : decode cX3_expression 98 = .ok (.invokevirtual 115, 3) := by decide +kernel
theorem dX3_expression_101 : decode cX3_expression 101 = .ok (.ifCond .eq 10, 3) := by decide +kernel
theorem dX3_expression_104 : decode cX3_expression 104 = .ok (.aload_n 0, 1) := by decide +kernel
theorem dX3_expression_105 : decode cX3_expression 105 = .ok (.invokevirtual 129, 3) := by decide +kernel
theorem dX3_expression_108 : decode cX3_expression 108 = .ok (.goto 44, 3) := by decide +kernel
theorem dX3_expression_111 : decode cX3_expression 111 = .ok (.aload_n 0, 1) := by decide +kernel
theorem dX3_expression_112 : decode cX3_expression 112 = .ok (.getfield 17, 3) := by decide +kernel
theorem dX3_expression_115 : decode cX3_expression 115 = .ok (.bipush 6, 2) := by decide +kernel
theorem dX3_expression_117 : decode cX3_expression 117 = .ok (.invokevirtual 115, 3) := by decide +kernel
theorem dX3_expression_120 : decode cX3_expression 120 = .ok (.ifCond .eq 10, 3) := by decide +kernel
theorem dX3_expression_123 : decode cX3_expression 123 = .ok (.aload_n 0, 1) := by decide +kernel
theorem dX3_expression_124 : decode cX3_expression 124 = .ok (.invokevirtual 132, 3) := by decide +kernel
theorem dX3_expression_127 : decode cX3_expression 127 = .ok (.goto 25, 3) := by decide +kernel
theorem dX3_expression_130 : decode cX3_expression 130 = .ok (.aload_n 0, 1) := by decide +kernel
theorem dX3_expression_131 : decode cX3_expression 131 = .ok (.getfield 17, 3) := by decide +kernel
theorem dX3_expression_134 : decode cX3_expression 134 = .ok (.iconst 1, 1) := by decide +kernel
theorem dX3_expression_135 : decode cX3_expression 135 = .ok (.invokevirtual 115, 3) := by decide +kernel
theorem dX3_expression_138 : decode cX3_expression 138 = .ok (.ifCond .eq 10, 3) := by decide +kernel
theorem dX3_expression_141 : decode cX3_expression 141 = .ok (.aload_n 0, 1) := by decide +kernel
theorem dX3_expression_142 : decode cX3_expression 142 = .ok (.invokevirtual 135, 3) := by decide +kernel
theorem dX3_expression_145 : decode cX3_expression 145 = .ok (.goto 7, 3) := by decide +kernel
theorem dX3_expression_148 : decode cX3_expression 148 = .ok (.aload_n 0, 1) := by decide +kernel
theorem dX3_expression_149 : decode cX3_expression 149 = .ok (.invokevirtual 138, 3) := by decide +kernel
theorem dX3_expression_152 : decode cX3_expression 152 = .ok (.astore_n 1, 1) := by decide +kernel
theorem dX3_expression_153 : decode cX3_expression 153 = .ok (.aload_n 0, 1) := by decide +kernel
theorem dX3_expression_154 : decode cX3_expression 154 = .ok (.dup, 1) := by decide +kernel
theorem dX3_expression_155 : decode cX3_expression 155 = .ok (.getfield 88, 3) := by decide +kernel
theorem dX3_expression_158 : decode cX3_expression 158 = .ok (.iconst 1, 1) := by decide +kernel
theorem dX3_expression_159 : decode cX3_expression 159 = .ok (.isub, 1) := by decide +kernel
theorem dX3_expression_160 : decode cX3_expression 160 = .ok (.putfield 88, 3) := by decide +kernel
theorem dX3_expression_163 : decode cX3_expression 163 = .ok (.aload_n 1, 1) := by decide +kernel
theorem dX3_expression_164 : decode cX3_expression 164 = .ok (.areturn, 1) := by decide +kernel
abbrev JX3_expression_152 (D : DE) (f : Nat) (Q : Nat → Frm → HI → HL → Prop) (T : Nat → Frm → HI → HL → Prop) (F : Frm) (h : HI) (g : HL) (s0 : Nat) : Prop := ∀ h1, h1 = up2 h 5 4 ((h 5 4) - 1) → Q s0 F h1 g
theorem bX3_expression_152 {D : DE} {f : Nat} {Q : Nat → Frm → HI → HL → Prop} {T : Nat → Frm → HI → HL → Prop} {F : Frm} {h : HI} {g : HL} (hF : k_Fix F) (s0 : Nat) (H : JX3_expression_152 D f Q T F h g s0) : V D mX3_expression (f + 1) (gr D Q T) 152 [(0, .ref (ad D 5))] [.ref (ad D s0)] (F, h, g) := by
  refine V_astore_n (l1 := [(1, .ref (ad D s0)), (0, .ref (ad D 5))]) dX3_expression_152 rfl (by decide) rfl ?_
  refine V_aload_n dX3_expression_153 rfl 1 rfl ?_
  refine V_dup dX3_expression_154 rfl ?_
  refine H_geti ck2 4 (by decide) (fs_5 hF) (by decide) rfl q186 dX3_expression_155 ?_
  refine V_iconst (v := 1) dX3_expression_158 (by decide) ?_
  refine V_isub dX3_expression_159 ?_
  refine H_puti ck2 4 (by decide) (fs_5 hF) (by decide) rfl rfl q186 dX3_expression_160 (fun h1 e2 => ?_)
  have H := H h1 e2
  refine V_aload_n dX3_expression_163 rfl 0 rfl ?_
  exact G_aret hF rfl dX3_expression_164 H
abbrev JX3_expression_71 (D : DE) (f : Nat) (Q : Nat → Frm → HI → HL → Prop) (T : Nat → Frm → HI → HL → Prop) (F : Frm) (h : HI) (g : HL) (s1 : Int32) : Prop := Gv D f mX2_want [.ref (ad D 1), .int s1, .int 6, .int (h 1 8)] F h g (fun F3 h1 g2 => ∀ h6, h6 = up2 h1 5 4 ((h1 5 4) + 1) → Si D f mX2_isWord [.ref (ad D 1), .int 4] F3 h6 g2 (fun y8 h9 g10 => ((y8 = 0 → Si D f mX2_isWord [.ref (ad D 1), .int 6] F3 h9 g10 (fun y12 h13 g14 => ((y12 = 0 → Si D f mX2_isWord [.ref (ad D 1), .int 1] F3 h13 g14 (fun y16 h17 g18 => ((y16 = 0 → Gr D f mX3_compared [.ref (ad D 5)] F3 h17 g18 (fun b20 F23 h21 g22 => JX3_expression_152 D f Q T F23 h21 g22 b20) T) ∧ (¬ y16 = 0 → Gr D f mX3_ofIf [.ref (ad D 5)] F3 h17 g18 (fun b26 F29 h27 g28 => JX3_expression_152 D f Q T F29 h27 g28 b26) T)))) ∧ (¬ y12 = 0 → Gr D f mX3_ofCase [.ref (ad D 5)] F3 h13 g14 (fun b32 F35 h33 g34 => JX3_expression_152 D f Q T F35 h33 g34 b32) T)))) ∧ (¬ y8 = 0 → Gr D f mX3_let [.ref (ad D 5)] F3 h9 g10 (fun b38 F41 h39 g40 => JX3_expression_152 D f Q T F41 h39 g40 b38) T)))) T
theorem bX3_expression_71 {D : DE} {f : Nat} {Q : Nat → Frm → HI → HL → Prop} {T : Nat → Frm → HI → HL → Prop} {F : Frm} {h : HI} {g : HL} (hF : k_Fix F) (s1 : Int32) (H : JX3_expression_71 D f Q T F h g s1) : V D mX3_expression (f + 1) (gr D Q T) 71 [(0, .ref (ad D 5))] [.int s1, .ref (ad D 1)] (F, h, g) := by
  refine V_bipush (v := 6) dX3_expression_71 (by decide) ?_
  refine V_aload_n dX3_expression_73 rfl 0 rfl ?_
  refine H_getr ck2 0 (by decide) (fs_5 hF) (by decide) rfl (fr_5_0 hF) q180 dX3_expression_74 ?_
  refine H_getiN ck1 8 (by decide) (fs_1 hF) (by decide) rfl q141 dX3_expression_77 ?_
  refine G_callv (av := [.ref (ad D 1), .int s1, .int 6, .int (h 1 8)]) (rest := []) H mqX2_want q82 (by decide) (Nat.le_of_ble_eq_true rfl) (k_resV (ci := 1) (av := [.int s1, .int 6, .int (h 1 8)]) (rest := []) (fs_1 hF) (by decide) rfl rfl q654 q575 q576 q577 mhX2_want mnX2_want dX3_expression_80) (fun F3 h1 g2 hF4 H => ?_) (fun a e F1 h1 g1 hF1 ha ht => GT_r hF1 rfl ha ht)
  refine V_aload_n dX3_expression_83 rfl 0 rfl ?_
  refine V_dup dX3_expression_84 rfl ?_
  refine H_geti ck2 4 (by decide) (fs_5 hF4) (by decide) rfl q186 dX3_expression_85 ?_
  refine V_iconst (v := 1) dX3_expression_88 (by decide) ?_
  refine V_iadd dX3_expression_89 ?_
  refine H_puti ck2 4 (by decide) (fs_5 hF4) (by decide) rfl rfl q186 dX3_expression_90 (fun h6 e7 => ?_)
  have H := H h6 e7
  refine V_aload_n dX3_expression_93 rfl 0 rfl ?_
  refine H_getr ck2 0 (by decide) (fs_5 hF4) (by decide) rfl (fr_5_0 hF4) q180 dX3_expression_94 ?_
  refine V_iconst (v := 4) dX3_expression_97 (by decide) ?_
  refine H_calli (av := [.ref (ad D 1), .int 4]) (rest := []) H mqX2_isWord q82 (by decide) (Nat.le_of_ble_eq_true rfl) (k_resV (ci := 1) (av := [.int 4]) (rest := []) (fs_1 hF4) (by decide) rfl rfl q751 q752 q753 q754 mhX2_isWord mnX2_isWord dX3_expression_98) (fun y8 h9 g10 H => ?_)
  refine V_if_eq (tgt := 111) dX3_expression_101 (by decide) (fun c11 => ?_) (fun c11 => ?_)
  · have H := H.1 c11
    refine V_aload_n dX3_expression_111 rfl 0 rfl ?_
    refine H_getr ck2 0 (by decide) (fs_5 hF4) (by decide) rfl (fr_5_0 hF4) q180 dX3_expression_112 ?_
    refine V_bipush (v := 6) dX3_expression_115 (by decide) ?_
    refine H_calli (av := [.ref (ad D 1), .int 6]) (rest := []) H mqX2_isWord q82 (by decide) (Nat.le_of_ble_eq_true rfl) (k_resV (ci := 1) (av := [.int 6]) (rest := []) (fs_1 hF4) (by decide) rfl rfl q751 q752 q753 q754 mhX2_isWord mnX2_isWord dX3_expression_117) (fun y12 h13 g14 H => ?_)
    refine V_if_eq (tgt := 130) dX3_expression_120 (by decide) (fun c15 => ?_) (fun c15 => ?_)
    · have H := H.1 c15
      refine V_aload_n dX3_expression_130 rfl 0 rfl ?_
      refine H_getr ck2 0 (by decide) (fs_5 hF4) (by decide) rfl (fr_5_0 hF4) q180 dX3_expression_131 ?_
      refine V_iconst (v := 1) dX3_expression_134 (by decide) ?_
      refine H_calli (av := [.ref (ad D 1), .int 1]) (rest := []) H mqX2_isWord q82 (by decide) (Nat.le_of_ble_eq_true rfl) (k_resV (ci := 1) (av := [.int 1]) (rest := []) (fs_1 hF4) (by decide) rfl rfl q751 q752 q753 q754 mhX2_isWord mnX2_isWord dX3_expression_135) (fun y16 h17 g18 H => ?_)
      refine V_if_eq (tgt := 148) dX3_expression_138 (by decide) (fun c19 => ?_) (fun c19 => ?_)
      · have H := H.1 c19
        refine V_aload_n dX3_expression_148 rfl 0 rfl ?_
        refine G_callr (av := [.ref (ad D 5)]) (rest := []) H mqX3_compared q83 (by decide) (Nat.le_of_ble_eq_true rfl) (k_resV (ci := 2) (av := []) (rest := []) (fs_5 hF4) (by decide) rfl rfl q855 q857 qs15 q858 mhX3_compared mnX3_compared dX3_expression_149) (fun b20 F23 h21 g22 hF24 H => ?_) (fun a e F1 h1 g1 hF1 ha ht => GT_r hF1 rfl ha ht)
        exact bX3_expression_152 hF24 b20 H
      · have H := H.2 c19
        refine V_aload_n dX3_expression_141 rfl 0 rfl ?_
        refine G_callr (av := [.ref (ad D 5)]) (rest := []) H mqX3_ofIf q83 (by decide) (Nat.le_of_ble_eq_true rfl) (k_resV (ci := 2) (av := []) (rest := []) (fs_5 hF4) (by decide) rfl rfl q833 q835 qs14 q836 mhX3_ofIf mnX3_ofIf dX3_expression_142) (fun b26 F29 h27 g28 hF30 H => ?_) (fun a e F1 h1 g1 hF1 ha ht => GT_r hF1 rfl ha ht)
        refine V_goto (tgt := 152) dX3_expression_145 (by decide) ?_
        exact bX3_expression_152 hF30 b26 H
    · have H := H.2 c15
      refine V_aload_n dX3_expression_123 rfl 0 rfl ?_
      refine G_callr (av := [.ref (ad D 5)]) (rest := []) H mqX3_ofCase q83 (by decide) (Nat.le_of_ble_eq_true rfl) (k_resV (ci := 2) (av := []) (rest := []) (fs_5 hF4) (by decide) rfl rfl q811 q813 qs13 q814 mhX3_ofCase mnX3_ofCase dX3_expression_124) (fun b32 F35 h33 g34 hF36 H => ?_) (fun a e F1 h1 g1 hF1 ha ht => GT_r hF1 rfl ha ht)
      refine V_goto (tgt := 152) dX3_expression_127 (by decide) ?_
      exact bX3_expression_152 hF36 b32 H
  · have H := H.2 c11
    refine V_aload_n dX3_expression_104 rfl 0 rfl ?_
    refine G_callr (av := [.ref (ad D 5)]) (rest := []) H mqX3_let q83 (by decide) (Nat.le_of_ble_eq_true rfl) (k_resV (ci := 2) (av := []) (rest := []) (fs_5 hF4) (by decide) rfl rfl q771 q773 qs12 q774 mhX3_let mnX3_let dX3_expression_105) (fun b38 F41 h39 g40 hF42 H => ?_) (fun a e F1 h1 g1 hF1 ha ht => GT_r hF1 rfl ha ht)
    refine V_goto (tgt := 152) dX3_expression_108 (by decide) ?_
    exact bX3_expression_152 hF42 b38 H
abbrev JX3_expression_50 (D : DE) (f : Nat) (Q : Nat → Frm → HI → HL → Prop) (T : Nat → Frm → HI → HL → Prop) (F : Frm) (h : HI) (g : HL) (s1 : Int32) : Prop := Gv D f mX2_stands [.ref (ad D 1), .int s1] F h g (fun F3 h1 g2 => ((20 ≤ (h1 5 4) → JX3_expression_71 D f Q T F3 h1 g2 0) ∧ (¬ 20 ≤ (h1 5 4) → JX3_expression_71 D f Q T F3 h1 g2 1))) T
theorem bX3_expression_50 {D : DE} {f : Nat} {Q : Nat → Frm → HI → HL → Prop} {T : Nat → Frm → HI → HL → Prop} {F : Frm} {h : HI} {g : HL} (hF : k_Fix F) (s1 : Int32) (H : JX3_expression_50 D f Q T F h g s1) : V D mX3_expression (f + 1) (gr D Q T) 50 [(0, .ref (ad D 5))] [.int s1, .ref (ad D 1)] (F, h, g) := by
  refine G_callv (av := [.ref (ad D 1), .int s1]) (rest := []) H mqX2_stands q82 (by decide) (Nat.le_of_ble_eq_true rfl) (k_resV (ci := 1) (av := [.int s1]) (rest := []) (fs_1 hF) (by decide) rfl rfl q570 q571 q572 q573 mhX2_stands mnX2_stands dX3_expression_50) (fun F3 h1 g2 hF4 H => ?_) (fun a e F1 h1 g1 hF1 ha ht => GT_r hF1 rfl ha ht)
  refine V_aload_n dX3_expression_53 rfl 0 rfl ?_
  refine H_getr ck2 0 (by decide) (fs_5 hF4) (by decide) rfl (fr_5_0 hF4) q180 dX3_expression_54 ?_
  refine V_aload_n dX3_expression_57 rfl 0 rfl ?_
  refine H_geti ck2 4 (by decide) (fs_5 hF4) (by decide) rfl q186 dX3_expression_58 ?_
  refine V_bipush (v := 20) dX3_expression_61 (by decide) ?_
  refine V_icmp_ge (tgt := 70) dX3_expression_63 (by decide) (fun c6 => ?_) (fun c6 => ?_)
  · have H := H.1 c6
    refine V_iconst (v := 0) dX3_expression_70 (by decide) ?_
    exact bX3_expression_71 hF4 0 H
  · have H := H.2 c6
    refine V_iconst (v := 1) dX3_expression_66 (by decide) ?_
    refine V_goto (tgt := 71) dX3_expression_67 (by decide) ?_
    exact bX3_expression_71 hF4 1 H
abbrev JX3_expression_45 (D : DE) (f : Nat) (Q : Nat → Frm → HI → HL → Prop) (T : Nat → Frm → HI → HL → Prop) (F : Frm) (h : HI) (g : HL) : Prop := JX3_expression_50 D f Q T F h g 1
theorem bX3_expression_45 {D : DE} {f : Nat} {Q : Nat → Frm → HI → HL → Prop} {T : Nat → Frm → HI → HL → Prop} {F : Frm} {h : HI} {g : HL} (hF : k_Fix F)  (H : JX3_expression_45 D f Q T F h g ) : V D mX3_expression (f + 1) (gr D Q T) 45 [(0, .ref (ad D 5))] [.ref (ad D 1)] (F, h, g) := by
  refine V_iconst (v := 1) dX3_expression_45 (by decide) ?_
  refine V_goto (tgt := 50) dX3_expression_46 (by decide) ?_
  exact bX3_expression_50 hF 1 H
abbrev JX3_expression_0 (D : DE) (f : Nat) (Q : Nat → Frm → HI → HL → Prop) (T : Nat → Frm → HI → HL → Prop) (F : Frm) (h : HI) (g : HL) : Prop := Si D f mX3_begins [.ref (ad D 5)] F h g (fun y1 h2 g3 => ((¬ y1 = 0 → JX3_expression_45 D f Q T F h2 g3) ∧ (y1 = 0 → Si D f mX2_isWord [.ref (ad D 1), .int 4] F h2 g3 (fun y5 h6 g7 => ((¬ y5 = 0 → JX3_expression_45 D f Q T F h6 g7) ∧ (y5 = 0 → Si D f mX2_isWord [.ref (ad D 1), .int 6] F h6 g7 (fun y9 h10 g11 => ((¬ y9 = 0 → JX3_expression_45 D f Q T F h10 g11) ∧ (y9 = 0 → Si D f mX2_isWord [.ref (ad D 1), .int 1] F h10 g11 (fun y13 h14 g15 => ((y13 = 0 → JX3_expression_50 D f Q T F h14 g15 0) ∧ (¬ y13 = 0 → JX3_expression_45 D f Q T F h14 g15))))))))))))
theorem bX3_expression_0 {D : DE} {f : Nat} {Q : Nat → Frm → HI → HL → Prop} {T : Nat → Frm → HI → HL → Prop} {F : Frm} {h : HI} {g : HL} (hF : k_Fix F)  (H : JX3_expression_0 D f Q T F h g ) : V D mX3_expression (f + 1) (gr D Q T) 0 [(0, .ref (ad D 5))] [] (F, h, g) := by
  refine V_aload_n dX3_expression_0 rfl 0 rfl ?_
  refine H_getr ck2 0 (by decide) (fs_5 hF) (by decide) rfl (fr_5_0 hF) q180 dX3_expression_1 ?_
  refine V_aload_n dX3_expression_4 rfl 0 rfl ?_
  refine H_calli (av := [.ref (ad D 5)]) (rest := [.ref (ad D 1)]) H mqX3_begins q83 (by decide) (Nat.le_of_ble_eq_true rfl) (k_resV (ci := 2) (av := []) (rest := [.ref (ad D 1)]) (fs_5 hF) (by decide) rfl rfl q767 q769 qs11 q770 mhX3_begins mnX3_begins dX3_expression_5) (fun y1 h2 g3 H => ?_)
  refine V_if_ne (tgt := 45) dX3_expression_8 (by decide) (fun c4 => ?_) (fun c4 => ?_)
  · have H := H.1 c4
    exact bX3_expression_45 hF  H
  · have H := H.2 c4
    refine V_aload_n dX3_expression_11 rfl 0 rfl ?_
    refine H_getr ck2 0 (by decide) (fs_5 hF) (by decide) rfl (fr_5_0 hF) q180 dX3_expression_12 ?_
    refine V_iconst (v := 4) dX3_expression_15 (by decide) ?_
    refine H_calli (av := [.ref (ad D 1), .int 4]) (rest := [.ref (ad D 1)]) H mqX2_isWord q82 (by decide) (Nat.le_of_ble_eq_true rfl) (k_resV (ci := 1) (av := [.int 4]) (rest := [.ref (ad D 1)]) (fs_1 hF) (by decide) rfl rfl q751 q752 q753 q754 mhX2_isWord mnX2_isWord dX3_expression_16) (fun y5 h6 g7 H => ?_)
    refine V_if_ne (tgt := 45) dX3_expression_19 (by decide) (fun c8 => ?_) (fun c8 => ?_)
    · have H := H.1 c8
      exact bX3_expression_45 hF  H
    · have H := H.2 c8
      refine V_aload_n dX3_expression_22 rfl 0 rfl ?_
      refine H_getr ck2 0 (by decide) (fs_5 hF) (by decide) rfl (fr_5_0 hF) q180 dX3_expression_23 ?_
      refine V_bipush (v := 6) dX3_expression_26 (by decide) ?_
      refine H_calli (av := [.ref (ad D 1), .int 6]) (rest := [.ref (ad D 1)]) H mqX2_isWord q82 (by decide) (Nat.le_of_ble_eq_true rfl) (k_resV (ci := 1) (av := [.int 6]) (rest := [.ref (ad D 1)]) (fs_1 hF) (by decide) rfl rfl q751 q752 q753 q754 mhX2_isWord mnX2_isWord dX3_expression_28) (fun y9 h10 g11 H => ?_)
      refine V_if_ne (tgt := 45) dX3_expression_31 (by decide) (fun c12 => ?_) (fun c12 => ?_)
      · have H := H.1 c12
        exact bX3_expression_45 hF  H
      · have H := H.2 c12
        refine V_aload_n dX3_expression_34 rfl 0 rfl ?_
        refine H_getr ck2 0 (by decide) (fs_5 hF) (by decide) rfl (fr_5_0 hF) q180 dX3_expression_35 ?_
        refine V_iconst (v := 1) dX3_expression_38 (by decide) ?_
        refine H_calli (av := [.ref (ad D 1), .int 1]) (rest := [.ref (ad D 1)]) H mqX2_isWord q82 (by decide) (Nat.le_of_ble_eq_true rfl) (k_resV (ci := 1) (av := [.int 1]) (rest := [.ref (ad D 1)]) (fs_1 hF) (by decide) rfl rfl q751 q752 q753 q754 mhX2_isWord mnX2_isWord dX3_expression_39) (fun y13 h14 g15 H => ?_)
        refine V_if_eq (tgt := 49) dX3_expression_42 (by decide) (fun c16 => ?_) (fun c16 => ?_)
        · have H := H.1 c16
          refine V_iconst (v := 0) dX3_expression_49 (by decide) ?_
          exact bX3_expression_50 hF 0 H
        · have H := H.2 c16
          exact bX3_expression_45 hF  H
theorem wX3_expression {D : DE} {f : Nat} {Q : Nat → Frm → HI → HL → Prop} {T : Nat → Frm → HI → HL → Prop} {F : Frm} {h : HI} {g : HL} (hF : k_Fix F)  (H : JX3_expression_0 D f Q T F h g ) : Gr D (f + 1) mX3_expression [.ref (ad D 5)] F h g Q T := Cl.ofV (by decide) (Nat.le_of_ble_eq_true rfl) rfl (bX3_expression_0 hF  H)
theorem dX3_let_0 : decode cX3_let 0 = .ok (.aload_n 0, 1) := by decide +kernel
theorem dX3_let_1 : decode cX3_let 1 = .ok (.getfield 17, 3) := by decide +kernel
theorem dX3_let_4 : decode cX3_let 4 = .ok (.invokevirtual 36, 3) := by decide +kernel
theorem dX3_let_7 : decode cX3_let 7 = .ok (.istore_n 1, 1) := by decide +kernel
theorem dX3_let_8 : decode cX3_let 8 = .ok (.aload_n 0, 1) := by decide +kernel
theorem dX3_let_9 : decode cX3_let 9 = .ok (.getfield 17, 3) := by decide +kernel
theorem dX3_let_12 : decode cX3_let 12 = .ok (.iconst 4, 1) := by decide +kernel
theorem dX3_let_13 : decode cX3_let 13 = .ok (.invokevirtual 118, 3) := by decide +kernel
theorem dX3_let_16 : decode cX3_let 16 = .ok (.aload_n 0, 1) := by decide +kernel
theorem dX3_let_17 : decode cX3_let 17 = .ok (.getfield 17, 3) := by decide +kernel
theorem dX3_let_20 : decode cX3_let 20 = .ok (.aload_n 0, 1) := by decide +kernel
theorem dX3_let_21 : decode cX3_let 21 = .ok (.getfield 17, 3) := by decide +kernel
theorem dX3_let_24 : decode cX3_let 24 = .ok (.getfield 33, 3) := by decide +kernel
theorem dX3_let_27 : decode cX3_let 27 = .ok (.iconst 3, 1) := by decide +kernel
theorem dX3_let_28 : decode cX3_let 28 = .ok (.if_icmp .ne 7, 3) := by decide +kernel
theorem dX3_let_31 : decode cX3_let 31 = .ok (.iconst 1, 1) := by decide +kernel
theorem dX3_let_32 : decode cX3_let 32 = .ok (.goto 4, 3) := by decide +kernel
theorem dX3_let_35 : decode cX3_let 35 = .ok (.iconst 0, 1) := by decide +kernel
theorem dX3_let_36 : decode cX3_let 36 = .ok (.invokevirtual 46, 3) := by decide +kernel
theorem dX3_let_39 : decode cX3_let 39 = .ok (.aload_n 0, 1) := by decide +kernel
theorem dX3_let_40 : decode cX3_let 40 = .ok (.invokevirtual 109, 3) := by decide +kernel
theorem dX3_let_43 : decode cX3_let 43 = .ok (.istore_n 2, 1) := by decide +kernel
theorem dX3_let_44 : decode cX3_let 44 = .ok (.aload_n 0, 1) := by decide +kernel
theorem dX3_let_45 : decode cX3_let 45 = .ok (.getfield 17, 3) := by decide +kernel
theorem dX3_let_48 : decode cX3_let 48 = .ok (.iconst 5, 1) := by decide +kernel
theorem dX3_let_49 : decode cX3_let 49 = .ok (.invokevirtual 71, 3) := by decide +kernel
theorem dX3_let_52 : decode cX3_let 52 = .ok (.aload_n 0, 1) := by decide +kernel
theorem dX3_let_53 : decode cX3_let 53 = .ok (.invokevirtual 91, 3) := by decide +kernel
theorem dX3_let_56 : decode cX3_let 56 = .ok (.astore_n 3, 1) := by decide +kernel
theorem dX3_let_57 : decode cX3_let 57 = .ok (.aload_n 0, 1) := by decide +kernel
theorem dX3_let_58 : decode cX3_let 58 = .ok (.getfield 17, 3) := by decide +kernel
theorem dX3_let_61 : decode cX3_let 61 = .ok (.iconst 5, 1) := by decide +kernel
theorem dX3_let_62 : decode cX3_let 62 = .ok (.invokevirtual 118, 3) := by decide +kernel
theorem dX3_let_65 : decode cX3_let 65 = .ok (.new 141, 3) := by decide +kernel
theorem dX3_let_68 : decode cX3_let 68 = .ok (.dup, 1) := by decide +kernel
theorem dX3_let_69 : decode cX3_let 69 = .ok (.iload_n 1, 1) := by decide +kernel
theorem dX3_let_70 : decode cX3_let 70 = .ok (.iload_n 2, 1) := by decide +kernel
theorem dX3_let_71 : decode cX3_let 71 = .ok (.aload_n 3, 1) := by decide +kernel
theorem dX3_let_72 : decode cX3_let 72 = .ok (.aload_n 0, 1) := by decide +kernel
theorem dX3_let_73 : decode cX3_let 73 = .ok (.invokevirtual 91, 3) := by decide +kernel
theorem dX3_let_76 : decode cX3_let 76 = .ok (.invokespecial 143, 3) := by decide +kernel
theorem dX3_let_79 : decode cX3_let 79 = .ok (.areturn, 1) := by decide +kernel
abbrev JX3_let_36 (D : DE) (f : Nat) (Q : Nat → Frm → HI → HL → Prop) (T : Nat → Frm → HI → HL → Prop) (F : Frm) (h : HI) (g : HL) (x1 : Int32) (s1 : Int32) : Prop := Gv D f mX2_stands [.ref (ad D 1), .int s1] F h g (fun F3 h1 g2 => Gi D f mX3_slot [.ref (ad D 5)] F3 h1 g2 (fun y6 F9 h7 g8 => Gv D f mX2_sign [.ref (ad D 1), .int 5] F9 h7 g8 (fun F14 h12 g13 => Gr D f mX3_expression [.ref (ad D 5)] F14 h12 g13 (fun b17 F20 h18 g19 => Gv D f mX2_word_2 [.ref (ad D 1), .int 5] F20 h18 g19 (fun F25 h23 g24 => 160 ≤ F25.1.1 ∧ ∀ F29 h30 g31, F29 = fnw F25 (19, 0) 5 → h30 = up1 h23 F25.1.1 (fun _ => 0) → g31 = up1 g24 F25.1.1 (fun _ => 0) → Gr D f mX3_expression [.ref (ad D 5)] F29 h30 g31 (fun b38 F41 h39 g40 => Gv D f mX11_init [.ref (ad D F25.1.1), .int x1, .int y6, .ref (ad D b17), .ref (ad D b38)] F41 h39 g40 (fun F46 h44 g45 => Q F25.1.1 F46 h44 g45) T) T) T) T) T) T) T
theorem bX3_let_36 {D : DE} {f : Nat} {Q : Nat → Frm → HI → HL → Prop} {T : Nat → Frm → HI → HL → Prop} {F : Frm} {h : HI} {g : HL} (hF : k_Fix F) (x1 : Int32) (s1 : Int32) (H : JX3_let_36 D f Q T F h g x1 s1) : V D mX3_let (f + 1) (gr D Q T) 36 [(0, .ref (ad D 5)), (1, .int x1)] [.int s1, .ref (ad D 1)] (F, h, g) := by
  refine G_callv (av := [.ref (ad D 1), .int s1]) (rest := []) H mqX2_stands q82 (by decide) (Nat.le_of_ble_eq_true rfl) (k_resV (ci := 1) (av := [.int s1]) (rest := []) (fs_1 hF) (by decide) rfl rfl q570 q571 q572 q573 mhX2_stands mnX2_stands dX3_let_36) (fun F3 h1 g2 hF4 H => ?_) (fun a e F1 h1 g1 hF1 ha ht => GT_r hF1 rfl ha ht)
  refine V_aload_n dX3_let_39 rfl 0 rfl ?_
  refine G_calli (av := [.ref (ad D 5)]) (rest := []) H mqX3_slot q83 (by decide) (Nat.le_of_ble_eq_true rfl) (k_resV (ci := 2) (av := []) (rest := []) (fs_5 hF4) (by decide) rfl rfl q743 q745 qs8 q746 mhX3_slot mnX3_slot dX3_let_40) (fun y6 F9 h7 g8 hF10 H => ?_) (fun a e F1 h1 g1 hF1 ha ht => GT_r hF1 rfl ha ht)
  refine V_istore_n (l1 := [(2, .int y6), (0, .ref (ad D 5)), (1, .int x1)]) dX3_let_43 rfl (by decide) rfl ?_
  refine V_aload_n dX3_let_44 rfl 1 rfl ?_
  refine H_getr ck2 0 (by decide) (fs_5 hF10) (by decide) rfl (fr_5_0 hF10) q180 dX3_let_45 ?_
  refine V_iconst (v := 5) dX3_let_48 (by decide) ?_
  refine G_callv (av := [.ref (ad D 1), .int 5]) (rest := []) H mqX2_sign q82 (by decide) (Nat.le_of_ble_eq_true rfl) (k_resV (ci := 1) (av := [.int 5]) (rest := []) (fs_1 hF10) (by decide) rfl rfl q728 q729 q730 q731 mhX2_sign mnX2_sign dX3_let_49) (fun F14 h12 g13 hF15 H => ?_) (fun a e F1 h1 g1 hF1 ha ht => GT_r hF1 rfl ha ht)
  refine V_aload_n dX3_let_52 rfl 1 rfl ?_
  refine G_callr (av := [.ref (ad D 5)]) (rest := []) H mqX3_expression q83 (by decide) (Nat.le_of_ble_eq_true rfl) (k_resV (ci := 2) (av := []) (rest := []) (fs_5 hF15) (by decide) rfl rfl q763 q765 qs10 q766 mhX3_expression mnX3_expression dX3_let_53) (fun b17 F20 h18 g19 hF21 H => ?_) (fun a e F1 h1 g1 hF1 ha ht => GT_r hF1 rfl ha ht)
  refine V_astore_n (l1 := [(3, .ref (ad D b17)), (2, .int y6), (0, .ref (ad D 5)), (1, .int x1)]) dX3_let_56 rfl (by decide) rfl ?_
  refine V_aload_n dX3_let_57 rfl 2 rfl ?_
  refine H_getr ck2 0 (by decide) (fs_5 hF21) (by decide) rfl (fr_5_0 hF21) q180 dX3_let_58 ?_
  refine V_iconst (v := 5) dX3_let_61 (by decide) ?_
  refine G_callv (av := [.ref (ad D 1), .int 5]) (rest := []) H mqX2_word_2 q82 (by decide) (Nat.le_of_ble_eq_true rfl) (k_resV (ci := 1) (av := [.int 5]) (rest := []) (fs_1 hF21) (by decide) rfl rfl q755 q756 q757 q758 mhX2_word_2 mnX2_word_2 dX3_let_62) (fun F25 h23 g24 hF26 H => ?_) (fun a e F1 h1 g1 hF1 ha ht => GT_r hF1 rfl ha ht)
  obtain ⟨z28, H⟩ := H
  refine G_new ck9 (by decide) k_df9 q775 q776 q103 dX3_let_65 (fun F29 h30 g31 e32 e33 e34 => ?_)
  have H := H F29 h30 g31 e32 e33 e34
  have hF35 : k_Fix F29 := by rw [e32]; exact k_Fix.new hF26 z28 _ _
  have z36 : F29.2.1 F25.1.1 = (19, 0) := by rw [e32]; simp [fnw, up0]
  have z37 : isE F29 F25.1.1 9 := ⟨z36, by decide, by decide⟩
  refine V_dup dX3_let_68 rfl ?_
  refine V_iload_n dX3_let_69 rfl 3 rfl ?_
  refine V_iload_n dX3_let_70 rfl 1 rfl ?_
  refine V_aload_n dX3_let_71 rfl 0 rfl ?_
  refine V_aload_n dX3_let_72 rfl 2 rfl ?_
  refine G_callr (av := [.ref (ad D 5)]) (rest := [.ref (ad D b17), .int y6, .int x1, .ref (ad D F25.1.1), .ref (ad D F25.1.1)]) H mqX3_expression q83 (by decide) (Nat.le_of_ble_eq_true rfl) (k_resV (ci := 2) (av := []) (rest := [.ref (ad D b17), .int y6, .int x1, .ref (ad D F25.1.1), .ref (ad D F25.1.1)]) (fs_5 hF35) (by decide) rfl rfl q763 q765 qs10 q766 mhX3_expression mnX3_expression dX3_let_73) (fun b38 F41 h39 g40 hF42 H => ?_) (fun a e F1 h1 g1 hF1 ha ht => GT_r hF1 rfl ha ht)
  refine G_callv (av := [.ref (ad D F25.1.1), .int x1, .int y6, .ref (ad D b17), .ref (ad D b38)]) (rest := [.ref (ad D F25.1.1)]) H mqX11_init q103 (by decide) (Nat.le_of_ble_eq_true rfl) (k_resI (av := [.int x1, .int y6, .ref (ad D b17), .ref (ad D b38)]) (rest := [.ref (ad D F25.1.1)]) rfl q777 q778 q779 mhX11_init mnX11_init dX3_let_76) (fun F46 h44 g45 hF47 H => ?_) (fun a e F1 h1 g1 hF1 ha ht => GT_r hF1 rfl ha ht)
  exact G_aret hF47 rfl dX3_let_79 H
abbrev JX3_let_0 (D : DE) (f : Nat) (Q : Nat → Frm → HI → HL → Prop) (T : Nat → Frm → HI → HL → Prop) (F : Frm) (h : HI) (g : HL) : Prop := Si D f mX2_token [.ref (ad D 1)] F h g (fun y1 h2 g3 => Gv D f mX2_word_2 [.ref (ad D 1), .int 4] F h2 g3 (fun F6 h4 g5 => ((¬ (h4 1 5) = 3 → JX3_let_36 D f Q T F6 h4 g5 y1 0) ∧ ((h4 1 5) = 3 → JX3_let_36 D f Q T F6 h4 g5 y1 1))) T)
theorem bX3_let_0 {D : DE} {f : Nat} {Q : Nat → Frm → HI → HL → Prop} {T : Nat → Frm → HI → HL → Prop} {F : Frm} {h : HI} {g : HL} (hF : k_Fix F)  (H : JX3_let_0 D f Q T F h g ) : V D mX3_let (f + 1) (gr D Q T) 0 [(0, .ref (ad D 5))] [] (F, h, g) := by
  refine V_aload_n dX3_let_0 rfl 0 rfl ?_
  refine H_getr ck2 0 (by decide) (fs_5 hF) (by decide) rfl (fr_5_0 hF) q180 dX3_let_1 ?_
  refine H_calli (av := [.ref (ad D 1)]) (rest := []) H mqX2_token q82 (by decide) (Nat.le_of_ble_eq_true rfl) (k_resV (ci := 1) (av := []) (rest := []) (fs_1 hF) (by decide) rfl rfl q646 q647 q648 q649 mhX2_token mnX2_token dX3_let_4) (fun y1 h2 g3 H => ?_)
  refine V_istore_n (l1 := [(1, .int y1), (0, .ref (ad D 5))]) dX3_let_7 rfl (by decide) rfl ?_
  refine V_aload_n dX3_let_8 rfl 1 rfl ?_
  refine H_getr ck2 0 (by decide) (fs_5 hF) (by decide) rfl (fr_5_0 hF) q180 dX3_let_9 ?_
  refine V_iconst (v := 4) dX3_let_12 (by decide) ?_
  refine G_callv (av := [.ref (ad D 1), .int 4]) (rest := []) H mqX2_word_2 q82 (by decide) (Nat.le_of_ble_eq_true rfl) (k_resV (ci := 1) (av := [.int 4]) (rest := []) (fs_1 hF) (by decide) rfl rfl q755 q756 q757 q758 mhX2_word_2 mnX2_word_2 dX3_let_13) (fun F6 h4 g5 hF7 H => ?_) (fun a e F1 h1 g1 hF1 ha ht => GT_r hF1 rfl ha ht)
  refine V_aload_n dX3_let_16 rfl 1 rfl ?_
  refine H_getr ck2 0 (by decide) (fs_5 hF7) (by decide) rfl (fr_5_0 hF7) q180 dX3_let_17 ?_
  refine V_aload_n dX3_let_20 rfl 1 rfl ?_
  refine H_getr ck2 0 (by decide) (fs_5 hF7) (by decide) rfl (fr_5_0 hF7) q180 dX3_let_21 ?_
  refine H_getiN ck1 5 (by decide) (fs_1 hF7) (by decide) rfl q136 dX3_let_24 ?_
  refine V_iconst (v := 3) dX3_let_27 (by decide) ?_
  refine V_icmp_ne (tgt := 35) dX3_let_28 (by decide) (fun c9 => ?_) (fun c9 => ?_)
  · have H := H.1 c9
    refine V_iconst (v := 0) dX3_let_35 (by decide) ?_
    refine V.sub [1, 0] rfl ?_
    exact bX3_let_36 hF7 y1 0 H
  · have H := H.2 c9
    refine V_iconst (v := 1) dX3_let_31 (by decide) ?_
    refine V_goto (tgt := 36) dX3_let_32 (by decide) ?_
    refine V.sub [1, 0] rfl ?_
    exact bX3_let_36 hF7 y1 1 H
theorem wX3_let {D : DE} {f : Nat} {Q : Nat → Frm → HI → HL → Prop} {T : Nat → Frm → HI → HL → Prop} {F : Frm} {h : HI} {g : HL} (hF : k_Fix F)  (H : JX3_let_0 D f Q T F h g ) : Gr D (f + 1) mX3_let [.ref (ad D 5)] F h g Q T := Cl.ofV (by decide) (Nat.le_of_ble_eq_true rfl) rfl (bX3_let_0 hF  H)
theorem dX3_ofCase_0 : decode cX3_ofCase 0 = .ok (.aload_n 0, 1) := by decide +kernel
theorem dX3_ofCase_1 : decode cX3_ofCase 1 = .ok (.getfield 17, 3) := by decide +kernel
theorem dX3_ofCase_4 : decode cX3_ofCase 4 = .ok (.invokevirtual 36, 3) := by decide +kernel
theorem dX3_ofCase_7 : decode cX3_ofCase 7 = .ok (.istore_n 1, 1) := by decide +kernel
theorem dX3_ofCase_8 : decode cX3_ofCase 8 = .ok (.aload_n 0, 1) := by decide +kernel
theorem dX3_ofCase_9 : decode cX3_ofCase 9 = .ok (.getfield 17, 3) := by decide +kernel
theorem dX3_ofCase_12 : decode cX3_ofCase 12 = .ok (.bipush 6, 2) := by decide +kernel
theorem dX3_ofCase_14 : decode cX3_ofCase 14 = .ok (.invokevirtual 118, 3) := by decide +kernel
theorem dX3_ofCase_17 : decode cX3_ofCase 17 = .ok (.aload_n 0, 1) := by decide +kernel
theorem dX3_ofCase_18 : decode cX3_ofCase 18 = .ok (.invokevirtual 91, 3) := by decide +kernel
theorem dX3_ofCase_21 : decode cX3_ofCase 21 = .ok (.astore_n 2, 1) := by decide +kernel
theorem dX3_ofCase_22 : decode cX3_ofCase 22 = .ok (.aload_n 0, 1) := by decide +kernel
theorem dX3_ofCase_23 : decode cX3_ofCase 23 = .ok (.getfield 17, 3) := by decide +kernel
theorem dX3_ofCase_26 : decode cX3_ofCase 26 = .ok (.bipush 7, 2) := by decide +kernel
theorem dX3_ofCase_28 : decode cX3_ofCase 28 = .ok (.invokevirtual 118, 3) := by decide +kernel
theorem dX3_ofCase_31 : decode cX3_ofCase 31 = .ok (.aload_n 0, 1) := by decide +kernel
theorem dX3_ofCase_32 : decode cX3_ofCase 32 = .ok (.getfield 17, 3) := by decide +kernel
theorem dX3_ofCase_35 : decode cX3_ofCase 35 = .ok (.iconst 0, 1) := by decide +kernel
theorem dX3_ofCase_36 : decode cX3_ofCase 36 = .ok (.invokevirtual 71, 3) := by decide +kernel
theorem dX3_ofCase_39 : decode cX3_ofCase 39 = .ok (.aload_n 0, 1) := by decide +kernel
theorem dX3_ofCase_40 : decode cX3_ofCase 40 = .ok (.getfield 17, 3) := by decide +kernel
theorem dX3_ofCase_43 : decode cX3_ofCase 43 = .ok (.aload_n 0, 1) := by decide +kernel
theorem dX3_ofCase_44 : decode cX3_ofCase 44 = .ok (.getfield 17, 3) := by decide +kernel
theorem dX3_ofCase_47 : decode cX3_ofCase 47 = .ok (.getfield 33, 3) := by decide +kernel
theorem dX3_ofCase_50 : decode cX3_ofCase 50 = .ok (.iconst 3, 1) := by decide +kernel
theorem dX3_ofCase_51 : decode cX3_ofCase 51 = .ok (.if_icmp .ne 7, 3) := by decide +kernel
theorem dX3_ofCase_54 : decode cX3_ofCase 54 = .ok (.iconst 1, 1) := by decide +kernel
theorem dX3_ofCase_55 : decode cX3_ofCase 55 = .ok (.goto 4, 3) := by decide +kernel
theorem dX3_ofCase_58 : decode cX3_ofCase 58 = .ok (.iconst 0, 1) := by decide +kernel
theorem dX3_ofCase_59 : decode cX3_ofCase 59 = .ok (.invokevirtual 46, 3) := by decide +kernel
theorem dX3_ofCase_62 : decode cX3_ofCase 62 = .ok (.aload_n 0, 1) := by decide +kernel
theorem dX3_ofCase_63 : decode cX3_ofCase 63 = .ok (.invokevirtual 109, 3) := by decide +kernel
theorem dX3_ofCase_66 : decode cX3_ofCase 66 = .ok (.istore_n 3, 1) := by decide +kernel
theorem dX3_ofCase_67 : decode cX3_ofCase 67 = .ok (.aload_n 0, 1) := by decide +kernel
theorem dX3_ofCase_68 : decode cX3_ofCase 68 = .ok (.getfield 17, 3) := by decide +kernel
theorem dX3_ofCase_71 : decode cX3_ofCase 71 = .ok (.iconst 2, 1) := by decide +kernel
theorem dX3_ofCase_72 : decode cX3_ofCase 72 = .ok (.invokevirtual 71, 3) := by decide +kernel
theorem dX3_ofCase_75 : decode cX3_ofCase 75 = .ok (.aload_n 0, 1) := by decide +kernel
theorem dX3_ofCase_76 : decode cX3_ofCase 76 = .ok (.getfield 17, 3) := by decide +kernel
theorem dX3_ofCase_79 : decode cX3_ofCase 79 = .ok (.aload_n 0, 1) := by decide +kernel
theorem dX3_ofCase_80 : decode cX3_ofCase 80 = .ok (.getfield 17, 3) := by decide +kernel
theorem dX3_ofCase_83 : decode cX3_ofCase 83 = .ok (.getfield 33, 3) := by decide +kernel
theorem dX3_ofCase_86 : decode cX3_ofCase 86 = .ok (.iconst 3, 1) := by decide +kernel
theorem dX3_ofCase_87 : decode cX3_ofCase 87 = .ok (.if_icmp .ne 7, 3) := by decide +kernel
theorem dX3_ofCase_90 : decode cX3_ofCase 90 = .ok (.iconst 1, 1) := by decide +kernel
theorem dX3_ofCase_91 : decode cX3_ofCase 91 = .ok (.goto 4, 3) := by decide +kernel
theorem dX3_ofCase_94 : decode cX3_ofCase 94 = .ok (.iconst 0, 1) := by decide +kernel
theorem dX3_ofCase_95 : decode cX3_ofCase 95 = .ok (.invokevirtual 46, 3) := by decide +kernel
theorem dX3_ofCase_98 : decode cX3_ofCase 98 = .ok (.aload_n 0, 1) := by decide +kernel
theorem dX3_ofCase_99 : decode cX3_ofCase 99 = .ok (.getfield 17, 3) := by decide +kernel
theorem dX3_ofCase_102 : decode cX3_ofCase 102 = .ok (.aload_n 0, 1) := by decide +kernel
theorem dX3_ofCase_103 : decode cX3_ofCase 103 = .ok (.getfield 17, 3) := by decide +kernel
theorem dX3_ofCase_106 : decode cX3_ofCase 106 = .ok (.aload_n 0, 1) := by decide +kernel
theorem dX3_ofCase_107 : decode cX3_ofCase 107 = .ok (.getfield 64, 3) := by decide +kernel
theorem dX3_ofCase_110 : decode cX3_ofCase 110 = .ok (.getfield 102, 3) := by decide +kernel
theorem dX3_ofCase_113 : decode cX3_ofCase 113 = .ok (.iload_n 3, 1) := by decide +kernel
theorem dX3_ofCase_114 : decode cX3_ofCase 114 = .ok (.iaload, 1) := by decide +kernel
theorem dX3_ofCase_115 : decode cX3_ofCase 115 = .ok (.aload_n 0, 1) := by decide +kernel
theorem dX3_ofCase_116 : decode cX3_ofCase 116 = .ok (.getfield 17, 3) := by decide +kernel
theorem dX3_ofCase_119 : decode cX3_ofCase 119 = .ok (.invokevirtual 36, 3) := by decide +kernel
theorem dX3_ofCase_122 : decode cX3_ofCase 122 = .ok (.invokevirtual 52, 3) := by decide +kernel
theorem dX3_ofCase_125 : decode cX3_ofCase 125 = .ok (.ifCond .ne 7, 3) := by decide +kernel
theorem dX3_ofCase_128 : decode cX3_ofCase 128 = .ok (.iconst 1, 1) := by decide +kernel
theorem dX3_ofCase_129 : decode cX3_ofCase 129 = .ok (.goto 4, 3) := by decide +kernel
theorem dX3_ofCase_132 : decode cX3_ofCase 132 = .ok (.iconst 0, 1) := by decide +kernel
theorem dX3_ofCase_133 : decode cX3_ofCase 133 = .ok (.iconst 3, 1) := by decide +kernel
theorem dX3_ofCase_134 : decode cX3_ofCase 134 = .ok (.aload_n 0, 1) := by decide +kernel
theorem dX3_ofCase_135 : decode cX3_ofCase 135 = .ok (.getfield 17, 3) := by decide +kernel
theorem dX3_ofCase_138 : decode cX3_ofCase 138 = .ok (.getfield 56, 3) := by decide +kernel
theorem dX3_ofCase_141 : decode cX3_ofCase 141 = .ok (.invokevirtual 59, 3) := by decide +kernel
theorem dX3_ofCase_144 : decode cX3_ofCase 144 = .ok (.aload_n 0, 1) := by decide +kernel
theorem dX3_ofCase_145 : decode cX3_ofCase 145 = .ok (.invokevirtual 109, 3) := by decide +kernel
theorem dX3_ofCase_148 : decode cX3_ofCase 148 = .ok (.istore 4, 2) := by decide +kernel
theorem dX3_ofCase_150 : decode cX3_ofCase 150 = .ok (.aload_n 0, 1) := by decide +kernel
theorem dX3_ofCase_151 : decode cX3_ofCase 151 = .ok (.getfield 17, 3) := by decide +kernel
theorem dX3_ofCase_154 : decode cX3_ofCase 154 = .ok (.iconst 1, 1) := by decide +kernel
theorem dX3_ofCase_155 : decode cX3_ofCase 155 = .ok (.invokevirtual 71, 3) := by decide +kernel
theorem dX3_ofCase_158 : decode cX3_ofCase 158 = .ok (.aload_n 0, 1) := by decide +kernel
theorem dX3_ofCase_159 : decode cX3_ofCase 159 = .ok (.getfield 17, 3) := by decide +kernel
theorem dX3_ofCase_162 : decode cX3_ofCase 162 = .ok (.iconst 5, 1) := by decide +kernel
theorem dX3_ofCase_163 : decode cX3_ofCase 163 = .ok (.invokevirtual 118, 3) := by decide +kernel
theorem dX3_ofCase_166 : decode cX3_ofCase 166 = .ok (.new 146, 3) := by decide +kernel
theorem dX3_ofCase_169 : decode cX3_ofCase 169 = .ok (.dup, 1) := by decide +kernel
theorem dX3_ofCase_170 : decode cX3_ofCase 170 = .ok (.iload_n 1, 1) := by decide +kernel
theorem dX3_ofCase_171 : decode cX3_ofCase 171 = .ok (.iload_n 3, 1) := by decide +kernel
theorem dX3_ofCase_172 : decode cX3_ofCase 172 = .ok (.aload_n 2, 1) := by decide +kernel
theorem dX3_ofCase_173 : decode cX3_ofCase 173 = .ok (.aload_n 0, 1) := by decide +kernel
theorem dX3_ofCase_174 : decode cX3_ofCase 174 = .ok (.invokevirtual 91, 3) := by decide +kernel
theorem dX3_ofCase_177 : decode cX3_ofCase 177 = .ok (.invokespecial 148, 3) := by decide +kernel
theorem dX3_ofCase_180 : decode cX3_ofCase 180 = .ok (.areturn, 1) := by decide +kernel
abbrev JX3_ofCase_133 (D : DE) (f : Nat) (Q : Nat → Frm → HI → HL → Prop) (T : Nat → Frm → HI → HL → Prop) (F : Frm) (h : HI) (g : HL) (x1 : Int32) (x2 : Nat) (x3 : Int32) (s1 : Int32) : Prop := Gv D f mX2_want [.ref (ad D 1), .int s1, .int 3, .int (h 1 8)] F h g (fun F3 h1 g2 => Gi D f mX3_slot [.ref (ad D 5)] F3 h1 g2 (fun y6 F9 h7 g8 => Gv D f mX2_sign [.ref (ad D 1), .int 1] F9 h7 g8 (fun F14 h12 g13 => Gv D f mX2_word_2 [.ref (ad D 1), .int 5] F14 h12 g13 (fun F19 h17 g18 => 160 ≤ F19.1.1 ∧ ∀ F23 h24 g25, F23 = fnw F19 (20, 0) 5 → h24 = up1 h17 F19.1.1 (fun _ => 0) → g25 = up1 g18 F19.1.1 (fun _ => 0) → Gr D f mX3_expression [.ref (ad D 5)] F23 h24 g25 (fun b32 F35 h33 g34 => Gv D f mX12_init [.ref (ad D F19.1.1), .int x1, .int x3, .ref (ad D x2), .ref (ad D b32)] F35 h33 g34 (fun F40 h38 g39 => Q F19.1.1 F40 h38 g39) T) T) T) T) T) T
theorem bX3_ofCase_133 {D : DE} {f : Nat} {Q : Nat → Frm → HI → HL → Prop} {T : Nat → Frm → HI → HL → Prop} {F : Frm} {h : HI} {g : HL} (hF : k_Fix F) (x1 : Int32) (x2 : Nat) (x3 : Int32) (s1 : Int32) (H : JX3_ofCase_133 D f Q T F h g x1 x2 x3 s1) : V D mX3_ofCase (f + 1) (gr D Q T) 133 [(0, .ref (ad D 5)), (1, .int x1), (2, .ref (ad D x2)), (3, .int x3)] [.int s1, .ref (ad D 1)] (F, h, g) := by
  refine V_iconst (v := 3) dX3_ofCase_133 (by decide) ?_
  refine V_aload_n dX3_ofCase_134 rfl 0 rfl ?_
  refine H_getr ck2 0 (by decide) (fs_5 hF) (by decide) rfl (fr_5_0 hF) q180 dX3_ofCase_135 ?_
  refine H_getiN ck1 8 (by decide) (fs_1 hF) (by decide) rfl q141 dX3_ofCase_138 ?_
  refine G_callv (av := [.ref (ad D 1), .int s1, .int 3, .int (h 1 8)]) (rest := []) H mqX2_want q82 (by decide) (Nat.le_of_ble_eq_true rfl) (k_resV (ci := 1) (av := [.int s1, .int 3, .int (h 1 8)]) (rest := []) (fs_1 hF) (by decide) rfl rfl q654 q575 q576 q577 mhX2_want mnX2_want dX3_ofCase_141) (fun F3 h1 g2 hF4 H => ?_) (fun a e F1 h1 g1 hF1 ha ht => GT_r hF1 rfl ha ht)
  refine V_aload_n dX3_ofCase_144 rfl 0 rfl ?_
  refine G_calli (av := [.ref (ad D 5)]) (rest := []) H mqX3_slot q83 (by decide) (Nat.le_of_ble_eq_true rfl) (k_resV (ci := 2) (av := []) (rest := []) (fs_5 hF4) (by decide) rfl rfl q743 q745 qs8 q746 mhX3_slot mnX3_slot dX3_ofCase_145) (fun y6 F9 h7 g8 hF10 H => ?_) (fun a e F1 h1 g1 hF1 ha ht => GT_r hF1 rfl ha ht)
  refine V_istore (l1 := [(4, .int y6), (0, .ref (ad D 5)), (1, .int x1), (2, .ref (ad D x2)), (3, .int x3)]) dX3_ofCase_148 (by decide) rfl ?_
  refine V_aload_n dX3_ofCase_150 rfl 1 rfl ?_
  refine H_getr ck2 0 (by decide) (fs_5 hF10) (by decide) rfl (fr_5_0 hF10) q180 dX3_ofCase_151 ?_
  refine V_iconst (v := 1) dX3_ofCase_154 (by decide) ?_
  refine G_callv (av := [.ref (ad D 1), .int 1]) (rest := []) H mqX2_sign q82 (by decide) (Nat.le_of_ble_eq_true rfl) (k_resV (ci := 1) (av := [.int 1]) (rest := []) (fs_1 hF10) (by decide) rfl rfl q728 q729 q730 q731 mhX2_sign mnX2_sign dX3_ofCase_155) (fun F14 h12 g13 hF15 H => ?_) (fun a e F1 h1 g1 hF1 ha ht => GT_r hF1 rfl ha ht)
  refine V_aload_n dX3_ofCase_158 rfl 1 rfl ?_
  refine H_getr ck2 0 (by decide) (fs_5 hF15) (by decide) rfl (fr_5_0 hF15) q180 dX3_ofCase_159 ?_
  refine V_iconst (v := 5) dX3_ofCase_162 (by decide) ?_
  refine G_callv (av := [.ref (ad D 1), .int 5]) (rest := []) H mqX2_word_2 q82 (by decide) (Nat.le_of_ble_eq_true rfl) (k_resV (ci := 1) (av := [.int 5]) (rest := []) (fs_1 hF15) (by decide) rfl rfl q755 q756 q757 q758 mhX2_word_2 mnX2_word_2 dX3_ofCase_163) (fun F19 h17 g18 hF20 H => ?_) (fun a e F1 h1 g1 hF1 ha ht => GT_r hF1 rfl ha ht)
  obtain ⟨z22, H⟩ := H
  refine G_new ck10 (by decide) k_df10 q815 q816 q104 dX3_ofCase_166 (fun F23 h24 g25 e26 e27 e28 => ?_)
  have H := H F23 h24 g25 e26 e27 e28
  have hF29 : k_Fix F23 := by rw [e26]; exact k_Fix.new hF20 z22 _ _
  have z30 : F23.2.1 F19.1.1 = (20, 0) := by rw [e26]; simp [fnw, up0]
  have z31 : isE F23 F19.1.1 10 := ⟨z30, by decide, by decide⟩
  refine V_dup dX3_ofCase_169 rfl ?_
  refine V_iload_n dX3_ofCase_170 rfl 2 rfl ?_
  refine V_iload_n dX3_ofCase_171 rfl 4 rfl ?_
  refine V_aload_n dX3_ofCase_172 rfl 3 rfl ?_
  refine V_aload_n dX3_ofCase_173 rfl 1 rfl ?_
  refine G_callr (av := [.ref (ad D 5)]) (rest := [.ref (ad D x2), .int x3, .int x1, .ref (ad D F19.1.1), .ref (ad D F19.1.1)]) H mqX3_expression q83 (by decide) (Nat.le_of_ble_eq_true rfl) (k_resV (ci := 2) (av := []) (rest := [.ref (ad D x2), .int x3, .int x1, .ref (ad D F19.1.1), .ref (ad D F19.1.1)]) (fs_5 hF29) (by decide) rfl rfl q763 q765 qs10 q766 mhX3_expression mnX3_expression dX3_ofCase_174) (fun b32 F35 h33 g34 hF36 H => ?_) (fun a e F1 h1 g1 hF1 ha ht => GT_r hF1 rfl ha ht)
  refine G_callv (av := [.ref (ad D F19.1.1), .int x1, .int x3, .ref (ad D x2), .ref (ad D b32)]) (rest := [.ref (ad D F19.1.1)]) H mqX12_init q104 (by decide) (Nat.le_of_ble_eq_true rfl) (k_resI (av := [.int x1, .int x3, .ref (ad D x2), .ref (ad D b32)]) (rest := [.ref (ad D F19.1.1)]) rfl q817 q818 q819 mhX12_init mnX12_init dX3_ofCase_177) (fun F40 h38 g39 hF41 H => ?_) (fun a e F1 h1 g1 hF1 ha ht => GT_r hF1 rfl ha ht)
  exact G_aret hF41 rfl dX3_ofCase_180 H
abbrev JX3_ofCase_95 (D : DE) (f : Nat) (Q : Nat → Frm → HI → HL → Prop) (T : Nat → Frm → HI → HL → Prop) (F : Frm) (h : HI) (g : HL) (x1 : Int32) (x2 : Nat) (x3 : Int32) (s1 : Int32) : Prop := Gv D f mX2_stands [.ref (ad D 1), .int s1] F h g (fun F3 h1 g2 => ∃ b6 : Nat, F3.2.2 5 3 = some b6 ∧ F3.2.1 b6 = (18, 0) ∧ ∃ b9 : Nat, F3.2.2 b6 4 = some b9 ∧ ∃ m11 : Nat, F3.2.1 b9 = (0, m11) ∧ vp_in x3 m11 ∧ Si D f mX2_token [.ref (ad D 1)] F3 h1 g2 (fun y14 h15 g16 => Si D f mX2_same [.ref (ad D 1), .int (h1 b9 (ix x3)), .int y14] F3 h15 g16 (fun y17 h18 g19 => ((¬ y17 = 0 → JX3_ofCase_133 D f Q T F3 h18 g19 x1 x2 x3 0) ∧ (y17 = 0 → JX3_ofCase_133 D f Q T F3 h18 g19 x1 x2 x3 1))))) T
theorem bX3_ofCase_95 {D : DE} {f : Nat} {Q : Nat → Frm → HI → HL → Prop} {T : Nat → Frm → HI → HL → Prop} {F : Frm} {h : HI} {g : HL} (hF : k_Fix F) (x1 : Int32) (x2 : Nat) (x3 : Int32) (s1 : Int32) (H : JX3_ofCase_95 D f Q T F h g x1 x2 x3 s1) : V D mX3_ofCase (f + 1) (gr D Q T) 95 [(0, .ref (ad D 5)), (1, .int x1), (2, .ref (ad D x2)), (3, .int x3)] [.int s1, .ref (ad D 1)] (F, h, g) := by
  refine G_callv (av := [.ref (ad D 1), .int s1]) (rest := []) H mqX2_stands q82 (by decide) (Nat.le_of_ble_eq_true rfl) (k_resV (ci := 1) (av := [.int s1]) (rest := []) (fs_1 hF) (by decide) rfl rfl q570 q571 q572 q573 mhX2_stands mnX2_stands dX3_ofCase_95) (fun F3 h1 g2 hF4 H => ?_) (fun a e F1 h1 g1 hF1 ha ht => GT_r hF1 rfl ha ht)
  refine V_aload_n dX3_ofCase_98 rfl 0 rfl ?_
  refine H_getr ck2 0 (by decide) (fs_5 hF4) (by decide) rfl (fr_5_0 hF4) q180 dX3_ofCase_99 ?_
  refine V_aload_n dX3_ofCase_102 rfl 0 rfl ?_
  refine H_getr ck2 0 (by decide) (fs_5 hF4) (by decide) rfl (fr_5_0 hF4) q180 dX3_ofCase_103 ?_
  refine V_aload_n dX3_ofCase_106 rfl 0 rfl ?_
  obtain ⟨b6, z7, H⟩ := H
  refine H_getr ck2 3 (by decide) (fs_5 hF4) (by decide) rfl z7 q185 dX3_ofCase_107 ?_
  obtain ⟨z8, H⟩ := H
  obtain ⟨b9, z10, H⟩ := H
  refine H_getrN ck8 4 (by decide) z8 (by decide) rfl z10 q677 dX3_ofCase_110 ?_
  refine V_iload_n dX3_ofCase_113 rfl 3 rfl ?_
  obtain ⟨m11, z12, H⟩ := H
  obtain ⟨i13, H⟩ := H
  refine H_iald z12 i13 dX3_ofCase_114 ?_
  refine V_aload_n dX3_ofCase_115 rfl 0 rfl ?_
  refine H_getr ck2 0 (by decide) (fs_5 hF4) (by decide) rfl (fr_5_0 hF4) q180 dX3_ofCase_116 ?_
  refine H_calli (av := [.ref (ad D 1)]) (rest := [.int (h1 b9 (ix x3)), .ref (ad D 1), .ref (ad D 1)]) H mqX2_token q82 (by decide) (Nat.le_of_ble_eq_true rfl) (k_resV (ci := 1) (av := []) (rest := [.int (h1 b9 (ix x3)), .ref (ad D 1), .ref (ad D 1)]) (fs_1 hF4) (by decide) rfl rfl q646 q647 q648 q649 mhX2_token mnX2_token dX3_ofCase_119) (fun y14 h15 g16 H => ?_)
  refine H_calli (av := [.ref (ad D 1), .int (h1 b9 (ix x3)), .int y14]) (rest := [.ref (ad D 1)]) H mqX2_same q82 (by decide) (Nat.le_of_ble_eq_true rfl) (k_resV (ci := 1) (av := [.int (h1 b9 (ix x3)), .int y14]) (rest := [.ref (ad D 1)]) (fs_1 hF4) (by decide) rfl rfl q650 q651 q652 q653 mhX2_same mnX2_same dX3_ofCase_122) (fun y17 h18 g19 H => ?_)
  refine V_if_ne (tgt := 132) dX3_ofCase_125 (by decide) (fun c20 => ?_) (fun c20 => ?_)
  · have H := H.1 c20
    refine V_iconst (v := 0) dX3_ofCase_132 (by decide) ?_
    exact bX3_ofCase_133 hF4 x1 x2 x3 0 H
  · have H := H.2 c20
    refine V_iconst (v := 1) dX3_ofCase_128 (by decide) ?_
    refine V_goto (tgt := 133) dX3_ofCase_129 (by decide) ?_
    exact bX3_ofCase_133 hF4 x1 x2 x3 1 H
abbrev JX3_ofCase_59 (D : DE) (f : Nat) (Q : Nat → Frm → HI → HL → Prop) (T : Nat → Frm → HI → HL → Prop) (F : Frm) (h : HI) (g : HL) (x1 : Int32) (x2 : Nat) (s1 : Int32) : Prop := Gv D f mX2_stands [.ref (ad D 1), .int s1] F h g (fun F3 h1 g2 => Gi D f mX3_slot [.ref (ad D 5)] F3 h1 g2 (fun y6 F9 h7 g8 => Gv D f mX2_sign [.ref (ad D 1), .int 2] F9 h7 g8 (fun F14 h12 g13 => ((¬ (h12 1 5) = 3 → JX3_ofCase_95 D f Q T F14 h12 g13 x1 x2 y6 0) ∧ ((h12 1 5) = 3 → JX3_ofCase_95 D f Q T F14 h12 g13 x1 x2 y6 1))) T) T) T
theorem bX3_ofCase_59 {D : DE} {f : Nat} {Q : Nat → Frm → HI → HL → Prop} {T : Nat → Frm → HI → HL → Prop} {F : Frm} {h : HI} {g : HL} (hF : k_Fix F) (x1 : Int32) (x2 : Nat) (s1 : Int32) (H : JX3_ofCase_59 D f Q T F h g x1 x2 s1) : V D mX3_ofCase (f + 1) (gr D Q T) 59 [(0, .ref (ad D 5)), (1, .int x1), (2, .ref (ad D x2))] [.int s1, .ref (ad D 1)] (F, h, g) := by
  refine G_callv (av := [.ref (ad D 1), .int s1]) (rest := []) H mqX2_stands q82 (by decide) (Nat.le_of_ble_eq_true rfl) (k_resV (ci := 1) (av := [.int s1]) (rest := []) (fs_1 hF) (by decide) rfl rfl q570 q571 q572 q573 mhX2_stands mnX2_stands dX3_ofCase_59) (fun F3 h1 g2 hF4 H => ?_) (fun a e F1 h1 g1 hF1 ha ht => GT_r hF1 rfl ha ht)
  refine V_aload_n dX3_ofCase_62 rfl 0 rfl ?_
  refine G_calli (av := [.ref (ad D 5)]) (rest := []) H mqX3_slot q83 (by decide) (Nat.le_of_ble_eq_true rfl) (k_resV (ci := 2) (av := []) (rest := []) (fs_5 hF4) (by decide) rfl rfl q743 q745 qs8 q746 mhX3_slot mnX3_slot dX3_ofCase_63) (fun y6 F9 h7 g8 hF10 H => ?_) (fun a e F1 h1 g1 hF1 ha ht => GT_r hF1 rfl ha ht)
  refine V_istore_n (l1 := [(3, .int y6), (0, .ref (ad D 5)), (1, .int x1), (2, .ref (ad D x2))]) dX3_ofCase_66 rfl (by decide) rfl ?_
  refine V_aload_n dX3_ofCase_67 rfl 1 rfl ?_
  refine H_getr ck2 0 (by decide) (fs_5 hF10) (by decide) rfl (fr_5_0 hF10) q180 dX3_ofCase_68 ?_
  refine V_iconst (v := 2) dX3_ofCase_71 (by decide) ?_
  refine G_callv (av := [.ref (ad D 1), .int 2]) (rest := []) H mqX2_sign q82 (by decide) (Nat.le_of_ble_eq_true rfl) (k_resV (ci := 1) (av := [.int 2]) (rest := []) (fs_1 hF10) (by decide) rfl rfl q728 q729 q730 q731 mhX2_sign mnX2_sign dX3_ofCase_72) (fun F14 h12 g13 hF15 H => ?_) (fun a e F1 h1 g1 hF1 ha ht => GT_r hF1 rfl ha ht)
  refine V_aload_n dX3_ofCase_75 rfl 1 rfl ?_
  refine H_getr ck2 0 (by decide) (fs_5 hF15) (by decide) rfl (fr_5_0 hF15) q180 dX3_ofCase_76 ?_
  refine V_aload_n dX3_ofCase_79 rfl 1 rfl ?_
  refine H_getr ck2 0 (by decide) (fs_5 hF15) (by decide) rfl (fr_5_0 hF15) q180 dX3_ofCase_80 ?_
  refine H_getiN ck1 5 (by decide) (fs_1 hF15) (by decide) rfl q136 dX3_ofCase_83 ?_
  refine V_iconst (v := 3) dX3_ofCase_86 (by decide) ?_
  refine V_icmp_ne (tgt := 94) dX3_ofCase_87 (by decide) (fun c17 => ?_) (fun c17 => ?_)
  · have H := H.1 c17
    refine V_iconst (v := 0) dX3_ofCase_94 (by decide) ?_
    refine V.sub [1, 2, 3, 0] rfl ?_
    exact bX3_ofCase_95 hF15 x1 x2 y6 0 H
  · have H := H.2 c17
    refine V_iconst (v := 1) dX3_ofCase_90 (by decide) ?_
    refine V_goto (tgt := 95) dX3_ofCase_91 (by decide) ?_
    refine V.sub [1, 2, 3, 0] rfl ?_
    exact bX3_ofCase_95 hF15 x1 x2 y6 1 H
abbrev JX3_ofCase_0 (D : DE) (f : Nat) (Q : Nat → Frm → HI → HL → Prop) (T : Nat → Frm → HI → HL → Prop) (F : Frm) (h : HI) (g : HL) : Prop := Si D f mX2_token [.ref (ad D 1)] F h g (fun y1 h2 g3 => Gv D f mX2_word_2 [.ref (ad D 1), .int 6] F h2 g3 (fun F6 h4 g5 => Gr D f mX3_expression [.ref (ad D 5)] F6 h4 g5 (fun b9 F12 h10 g11 => Gv D f mX2_word_2 [.ref (ad D 1), .int 7] F12 h10 g11 (fun F17 h15 g16 => Gv D f mX2_sign [.ref (ad D 1), .int 0] F17 h15 g16 (fun F22 h20 g21 => ((¬ (h20 1 5) = 3 → JX3_ofCase_59 D f Q T F22 h20 g21 y1 b9 0) ∧ ((h20 1 5) = 3 → JX3_ofCase_59 D f Q T F22 h20 g21 y1 b9 1))) T) T) T) T)
theorem bX3_ofCase_0 {D : DE} {f : Nat} {Q : Nat → Frm → HI → HL → Prop} {T : Nat → Frm → HI → HL → Prop} {F : Frm} {h : HI} {g : HL} (hF : k_Fix F)  (H : JX3_ofCase_0 D f Q T F h g ) : V D mX3_ofCase (f + 1) (gr D Q T) 0 [(0, .ref (ad D 5))] [] (F, h, g) := by
  refine V_aload_n dX3_ofCase_0 rfl 0 rfl ?_
  refine H_getr ck2 0 (by decide) (fs_5 hF) (by decide) rfl (fr_5_0 hF) q180 dX3_ofCase_1 ?_
  refine H_calli (av := [.ref (ad D 1)]) (rest := []) H mqX2_token q82 (by decide) (Nat.le_of_ble_eq_true rfl) (k_resV (ci := 1) (av := []) (rest := []) (fs_1 hF) (by decide) rfl rfl q646 q647 q648 q649 mhX2_token mnX2_token dX3_ofCase_4) (fun y1 h2 g3 H => ?_)
  refine V_istore_n (l1 := [(1, .int y1), (0, .ref (ad D 5))]) dX3_ofCase_7 rfl (by decide) rfl ?_
  refine V_aload_n dX3_ofCase_8 rfl 1 rfl ?_
  refine H_getr ck2 0 (by decide) (fs_5 hF) (by decide) rfl (fr_5_0 hF) q180 dX3_ofCase_9 ?_
  refine V_bipush (v := 6) dX3_ofCase_12 (by decide) ?_
  refine G_callv (av := [.ref (ad D 1), .int 6]) (rest := []) H mqX2_word_2 q82 (by decide) (Nat.le_of_ble_eq_true rfl) (k_resV (ci := 1) (av := [.int 6]) (rest := []) (fs_1 hF) (by decide) rfl rfl q755 q756 q757 q758 mhX2_word_2 mnX2_word_2 dX3_ofCase_14) (fun F6 h4 g5 hF7 H => ?_) (fun a e F1 h1 g1 hF1 ha ht => GT_r hF1 rfl ha ht)
  refine V_aload_n dX3_ofCase_17 rfl 1 rfl ?_
  refine G_callr (av := [.ref (ad D 5)]) (rest := []) H mqX3_expression q83 (by decide) (Nat.le_of_ble_eq_true rfl) (k_resV (ci := 2) (av := []) (rest := []) (fs_5 hF7) (by decide) rfl rfl q763 q765 qs10 q766 mhX3_expression mnX3_expression dX3_ofCase_18) (fun b9 F12 h10 g11 hF13 H => ?_) (fun a e F1 h1 g1 hF1 ha ht => GT_r hF1 rfl ha ht)
  refine V_astore_n (l1 := [(2, .ref (ad D b9)), (1, .int y1), (0, .ref (ad D 5))]) dX3_ofCase_21 rfl (by decide) rfl ?_
  refine V_aload_n dX3_ofCase_22 rfl 2 rfl ?_
  refine H_getr ck2 0 (by decide) (fs_5 hF13) (by decide) rfl (fr_5_0 hF13) q180 dX3_ofCase_23 ?_
  refine V_bipush (v := 7) dX3_ofCase_26 (by decide) ?_
  refine G_callv (av := [.ref (ad D 1), .int 7]) (rest := []) H mqX2_word_2 q82 (by decide) (Nat.le_of_ble_eq_true rfl) (k_resV (ci := 1) (av := [.int 7]) (rest := []) (fs_1 hF13) (by decide) rfl rfl q755 q756 q757 q758 mhX2_word_2 mnX2_word_2 dX3_ofCase_28) (fun F17 h15 g16 hF18 H => ?_) (fun a e F1 h1 g1 hF1 ha ht => GT_r hF1 rfl ha ht)
  refine V_aload_n dX3_ofCase_31 rfl 2 rfl ?_
  refine H_getr ck2 0 (by decide) (fs_5 hF18) (by decide) rfl (fr_5_0 hF18) q180 dX3_ofCase_32 ?_
  refine V_iconst (v := 0) dX3_ofCase_35 (by decide) ?_
  refine G_callv (av := [.ref (ad D 1), .int 0]) (rest := []) H mqX2_sign q82 (by decide) (Nat.le_of_ble_eq_true rfl) (k_resV (ci := 1) (av := [.int 0]) (rest := []) (fs_1 hF18) (by decide) rfl rfl q728 q729 q730 q731 mhX2_sign mnX2_sign dX3_ofCase_36) (fun F22 h20 g21 hF23 H => ?_) (fun a e F1 h1 g1 hF1 ha ht => GT_r hF1 rfl ha ht)
  refine V_aload_n dX3_ofCase_39 rfl 2 rfl ?_
  refine H_getr ck2 0 (by decide) (fs_5 hF23) (by decide) rfl (fr_5_0 hF23) q180 dX3_ofCase_40 ?_
  refine V_aload_n dX3_ofCase_43 rfl 2 rfl ?_
  refine H_getr ck2 0 (by decide) (fs_5 hF23) (by decide) rfl (fr_5_0 hF23) q180 dX3_ofCase_44 ?_
  refine H_getiN ck1 5 (by decide) (fs_1 hF23) (by decide) rfl q136 dX3_ofCase_47 ?_
  refine V_iconst (v := 3) dX3_ofCase_50 (by decide) ?_
  refine V_icmp_ne (tgt := 58) dX3_ofCase_51 (by decide) (fun c25 => ?_) (fun c25 => ?_)
  · have H := H.1 c25
    refine V_iconst (v := 0) dX3_ofCase_58 (by decide) ?_
    refine V.sub [2, 1, 0] rfl ?_
    exact bX3_ofCase_59 hF23 y1 b9 0 H
  · have H := H.2 c25
    refine V_iconst (v := 1) dX3_ofCase_54 (by decide) ?_
    refine V_goto (tgt := 59) dX3_ofCase_55 (by decide) ?_
    refine V.sub [2, 1, 0] rfl ?_
    exact bX3_ofCase_59 hF23 y1 b9 1 H
theorem wX3_ofCase {D : DE} {f : Nat} {Q : Nat → Frm → HI → HL → Prop} {T : Nat → Frm → HI → HL → Prop} {F : Frm} {h : HI} {g : HL} (hF : k_Fix F)  (H : JX3_ofCase_0 D f Q T F h g ) : Gr D (f + 1) mX3_ofCase [.ref (ad D 5)] F h g Q T := Cl.ofV (by decide) (Nat.le_of_ble_eq_true rfl) rfl (bX3_ofCase_0 hF  H)
theorem dX3_ofIf_0 : decode cX3_ofIf 0 = .ok (.aload_n 0, 1) := by decide +kernel
theorem dX3_ofIf_1 : decode cX3_ofIf 1 = .ok (.getfield 17, 3) := by decide +kernel
theorem dX3_ofIf_4 : decode cX3_ofIf 4 = .ok (.invokevirtual 36, 3) := by decide +kernel
theorem dX3_ofIf_7 : decode cX3_ofIf 7 = .ok (.istore_n 1, 1) := by decide +kernel
theorem dX3_ofIf_8 : decode cX3_ofIf 8 = .ok (.aload_n 0, 1) := by decide +kernel
theorem dX3_ofIf_9 : decode cX3_ofIf 9 = .ok (.getfield 17, 3) := by decide +kernel
theorem dX3_ofIf_12 : decode cX3_ofIf 12 = .ok (.iconst 1, 1) := by decide +kernel
theorem dX3_ofIf_13 : decode cX3_ofIf 13 = .ok (.invokevirtual 118, 3) := by decide +kernel
theorem dX3_ofIf_16 : decode cX3_ofIf 16 = .ok (.aload_n 0, 1) := by decide +kernel
theorem dX3_ofIf_17 : decode cX3_ofIf 17 = .ok (.invokevirtual 91, 3) := by decide +kernel
theorem dX3_ofIf_20 : decode cX3_ofIf 20 = .ok (.astore_n 2, 1) := by decide +kernel
theorem dX3_ofIf_21 : decode cX3_ofIf 21 = .ok (.aload_n 0, 1) := by decide +kernel
theorem dX3_ofIf_22 : decode cX3_ofIf 22 = .ok (.getfield 17, 3) := by decide +kernel
theorem dX3_ofIf_25 : decode cX3_ofIf 25 = .ok (.iconst 2, 1) := by decide +kernel
theorem dX3_ofIf_26 : decode cX3_ofIf 26 = .ok (.invokevirtual 118, 3) := by decide +kernel
theorem dX3_ofIf_29 : decode cX3_ofIf 29 = .ok (.aload_n 0, 1) := by decide +kernel
theorem dX3_ofIf_30 : decode cX3_ofIf 30 = .ok (.invokevirtual 91, 3) := by decide +kernel
theorem dX3_ofIf_33 : decode cX3_ofIf 33 = .ok (.astore_n 3, 1) := by decide +kernel
theorem dX3_ofIf_34 : decode cX3_ofIf 34 = .ok (.aload_n 0, 1) := by decide +kernel
theorem dX3_ofIf_35 : decode cX3_ofIf 35 = .ok (.getfield 17, 3) := by decide +kernel
theorem dX3_ofIf_38 : decode cX3_ofIf 38 = .ok (.iconst 3, 1) := by decide +kernel
theorem dX3_ofIf_39 : decode cX3_ofIf 39 = .ok (.invokevirtual 118, 3) := by decide +kernel
theorem dX3_ofIf_42 : decode cX3_ofIf 42 = .ok (.new 149, 3) := by decide +kernel
theorem dX3_ofIf_45 : decode cX3_ofIf 45 = .ok (.dup, 1) := by decide +kernel
theorem dX3_ofIf_46 : decode cX3_ofIf 46 = .ok (.iload_n 1, 1) := by decide +kernel
theorem dX3_ofIf_47 : decode cX3_ofIf 47 = .ok (.aload_n 2, 1) := by decide +kernel
theorem dX3_ofIf_48 : decode cX3_ofIf 48 = .ok (.aload_n 3, 1) := by decide +kernel
theorem dX3_ofIf_49 : decode cX3_ofIf 49 = .ok (.aload_n 0, 1) := by decide +kernel
theorem dX3_ofIf_50 : decode cX3_ofIf 50 = .ok (.invokevirtual 91, 3) := by decide +kernel
theorem dX3_ofIf_53 : decode cX3_ofIf 53 = .ok (.invokespecial 151, 3) := by decide +kernel
theorem dX3_ofIf_56 : decode cX3_ofIf 56 = .ok (.areturn, 1) := by decide +kernel
abbrev JX3_ofIf_0 (D : DE) (f : Nat) (Q : Nat → Frm → HI → HL → Prop) (T : Nat → Frm → HI → HL → Prop) (F : Frm) (h : HI) (g : HL) : Prop := Si D f mX2_token [.ref (ad D 1)] F h g (fun y1 h2 g3 => Gv D f mX2_word_2 [.ref (ad D 1), .int 1] F h2 g3 (fun F6 h4 g5 => Gr D f mX3_expression [.ref (ad D 5)] F6 h4 g5 (fun b9 F12 h10 g11 => Gv D f mX2_word_2 [.ref (ad D 1), .int 2] F12 h10 g11 (fun F17 h15 g16 => Gr D f mX3_expression [.ref (ad D 5)] F17 h15 g16 (fun b20 F23 h21 g22 => Gv D f mX2_word_2 [.ref (ad D 1), .int 3] F23 h21 g22 (fun F28 h26 g27 => 160 ≤ F28.1.1 ∧ ∀ F32 h33 g34, F32 = fnw F28 (21, 0) 5 → h33 = up1 h26 F28.1.1 (fun _ => 0) → g34 = up1 g27 F28.1.1 (fun _ => 0) → Gr D f mX3_expression [.ref (ad D 5)] F32 h33 g34 (fun b41 F44 h42 g43 => Gv D f mX13_init [.ref (ad D F28.1.1), .int y1, .ref (ad D b9), .ref (ad D b20), .ref (ad D b41)] F44 h42 g43 (fun F49 h47 g48 => Q F28.1.1 F49 h47 g48) T) T) T) T) T) T) T)
theorem bX3_ofIf_0 {D : DE} {f : Nat} {Q : Nat → Frm → HI → HL → Prop} {T : Nat → Frm → HI → HL → Prop} {F : Frm} {h : HI} {g : HL} (hF : k_Fix F)  (H : JX3_ofIf_0 D f Q T F h g ) : V D mX3_ofIf (f + 1) (gr D Q T) 0 [(0, .ref (ad D 5))] [] (F, h, g) := by
  refine V_aload_n dX3_ofIf_0 rfl 0 rfl ?_
  refine H_getr ck2 0 (by decide) (fs_5 hF) (by decide) rfl (fr_5_0 hF) q180 dX3_ofIf_1 ?_
  refine H_calli (av := [.ref (ad D 1)]) (rest := []) H mqX2_token q82 (by decide) (Nat.le_of_ble_eq_true rfl) (k_resV (ci := 1) (av := []) (rest := []) (fs_1 hF) (by decide) rfl rfl q646 q647 q648 q649 mhX2_token mnX2_token dX3_ofIf_4) (fun y1 h2 g3 H => ?_)
  refine V_istore_n (l1 := [(1, .int y1), (0, .ref (ad D 5))]) dX3_ofIf_7 rfl (by decide) rfl ?_
  refine V_aload_n dX3_ofIf_8 rfl 1 rfl ?_
  refine H_getr ck2 0 (by decide) (fs_5 hF) (by decide) rfl (fr_5_0 hF) q180 dX3_ofIf_9 ?_
  refine V_iconst (v := 1) dX3_ofIf_12 (by decide) ?_
  refine G_callv (av := [.ref (ad D 1), .int 1]) (rest := []) H mqX2_word_2 q82 (by decide) (Nat.le_of_ble_eq_true rfl) (k_resV (ci := 1) (av := [.int 1]) (rest := []) (fs_1 hF) (by decide) rfl rfl q755 q756 q757 q758 mhX2_word_2 mnX2_word_2 dX3_ofIf_13) (fun F6 h4 g5 hF7 H => ?_) (fun a e F1 h1 g1 hF1 ha ht => GT_r hF1 rfl ha ht)
  refine V_aload_n dX3_ofIf_16 rfl 1 rfl ?_
  refine G_callr (av := [.ref (ad D 5)]) (rest := []) H mqX3_expression q83 (by decide) (Nat.le_of_ble_eq_true rfl) (k_resV (ci := 2) (av := []) (rest := []) (fs_5 hF7) (by decide) rfl rfl q763 q765 qs10 q766 mhX3_expression mnX3_expression dX3_ofIf_17) (fun b9 F12 h10 g11 hF13 H => ?_) (fun a e F1 h1 g1 hF1 ha ht => GT_r hF1 rfl ha ht)
  refine V_astore_n (l1 := [(2, .ref (ad D b9)), (1, .int y1), (0, .ref (ad D 5))]) dX3_ofIf_20 rfl (by decide) rfl ?_
  refine V_aload_n dX3_ofIf_21 rfl 2 rfl ?_
  refine H_getr ck2 0 (by decide) (fs_5 hF13) (by decide) rfl (fr_5_0 hF13) q180 dX3_ofIf_22 ?_
  refine V_iconst (v := 2) dX3_ofIf_25 (by decide) ?_
  refine G_callv (av := [.ref (ad D 1), .int 2]) (rest := []) H mqX2_word_2 q82 (by decide) (Nat.le_of_ble_eq_true rfl) (k_resV (ci := 1) (av := [.int 2]) (rest := []) (fs_1 hF13) (by decide) rfl rfl q755 q756 q757 q758 mhX2_word_2 mnX2_word_2 dX3_ofIf_26) (fun F17 h15 g16 hF18 H => ?_) (fun a e F1 h1 g1 hF1 ha ht => GT_r hF1 rfl ha ht)
  refine V_aload_n dX3_ofIf_29 rfl 2 rfl ?_
  refine G_callr (av := [.ref (ad D 5)]) (rest := []) H mqX3_expression q83 (by decide) (Nat.le_of_ble_eq_true rfl) (k_resV (ci := 2) (av := []) (rest := []) (fs_5 hF18) (by decide) rfl rfl q763 q765 qs10 q766 mhX3_expression mnX3_expression dX3_ofIf_30) (fun b20 F23 h21 g22 hF24 H => ?_) (fun a e F1 h1 g1 hF1 ha ht => GT_r hF1 rfl ha ht)
  refine V_astore_n (l1 := [(3, .ref (ad D b20)), (2, .ref (ad D b9)), (1, .int y1), (0, .ref (ad D 5))]) dX3_ofIf_33 rfl (by decide) rfl ?_
  refine V_aload_n dX3_ofIf_34 rfl 3 rfl ?_
  refine H_getr ck2 0 (by decide) (fs_5 hF24) (by decide) rfl (fr_5_0 hF24) q180 dX3_ofIf_35 ?_
  refine V_iconst (v := 3) dX3_ofIf_38 (by decide) ?_
  refine G_callv (av := [.ref (ad D 1), .int 3]) (rest := []) H mqX2_word_2 q82 (by decide) (Nat.le_of_ble_eq_true rfl) (k_resV (ci := 1) (av := [.int 3]) (rest := []) (fs_1 hF24) (by decide) rfl rfl q755 q756 q757 q758 mhX2_word_2 mnX2_word_2 dX3_ofIf_39) (fun F28 h26 g27 hF29 H => ?_) (fun a e F1 h1 g1 hF1 ha ht => GT_r hF1 rfl ha ht)
  obtain ⟨z31, H⟩ := H
  refine G_new ck11 (by decide) k_df11 q837 q838 q105 dX3_ofIf_42 (fun F32 h33 g34 e35 e36 e37 => ?_)
  have H := H F32 h33 g34 e35 e36 e37
  have hF38 : k_Fix F32 := by rw [e35]; exact k_Fix.new hF29 z31 _ _
  have z39 : F32.2.1 F28.1.1 = (21, 0) := by rw [e35]; simp [fnw, up0]
  have z40 : isE F32 F28.1.1 11 := ⟨z39, by decide, by decide⟩
  refine V_dup dX3_ofIf_45 rfl ?_
  refine V_iload_n dX3_ofIf_46 rfl 2 rfl ?_
  refine V_aload_n dX3_ofIf_47 rfl 1 rfl ?_
  refine V_aload_n dX3_ofIf_48 rfl 0 rfl ?_
  refine V_aload_n dX3_ofIf_49 rfl 3 rfl ?_
  refine G_callr (av := [.ref (ad D 5)]) (rest := [.ref (ad D b20), .ref (ad D b9), .int y1, .ref (ad D F28.1.1), .ref (ad D F28.1.1)]) H mqX3_expression q83 (by decide) (Nat.le_of_ble_eq_true rfl) (k_resV (ci := 2) (av := []) (rest := [.ref (ad D b20), .ref (ad D b9), .int y1, .ref (ad D F28.1.1), .ref (ad D F28.1.1)]) (fs_5 hF38) (by decide) rfl rfl q763 q765 qs10 q766 mhX3_expression mnX3_expression dX3_ofIf_50) (fun b41 F44 h42 g43 hF45 H => ?_) (fun a e F1 h1 g1 hF1 ha ht => GT_r hF1 rfl ha ht)
  refine G_callv (av := [.ref (ad D F28.1.1), .int y1, .ref (ad D b9), .ref (ad D b20), .ref (ad D b41)]) (rest := [.ref (ad D F28.1.1)]) H mqX13_init q105 (by decide) (Nat.le_of_ble_eq_true rfl) (k_resI (av := [.int y1, .ref (ad D b9), .ref (ad D b20), .ref (ad D b41)]) (rest := [.ref (ad D F28.1.1)]) rfl q839 q840 q841 mhX13_init mnX13_init dX3_ofIf_53) (fun F49 h47 g48 hF50 H => ?_) (fun a e F1 h1 g1 hF1 ha ht => GT_r hF1 rfl ha ht)
  exact G_aret hF50 rfl dX3_ofIf_56 H
theorem wX3_ofIf {D : DE} {f : Nat} {Q : Nat → Frm → HI → HL → Prop} {T : Nat → Frm → HI → HL → Prop} {F : Frm} {h : HI} {g : HL} (hF : k_Fix F)  (H : JX3_ofIf_0 D f Q T F h g ) : Gr D (f + 1) mX3_ofIf [.ref (ad D 5)] F h g Q T := Cl.ofV (by decide) (Nat.le_of_ble_eq_true rfl) rfl (bX3_ofIf_0 hF  H)
theorem dX3_compared_0 : decode cX3_compared 0 = .ok (.aload_n 0, 1) := by decide +kernel
theorem dX3_compared_1 : decode cX3_compared 1 = .ok (.invokevirtual 154, 3) := by decide +kernel
theorem dX3_compared_4 : decode cX3_compared 4 = .ok (.astore_n 1, 1) := by decide +kernel
theorem dX3_compared_5 : decode cX3_compared 5 = .ok (.aload_n 0, 1) := by decide +kernel
theorem dX3_compared_6 : decode cX3_compared 6 = .ok (.getfield 17, 3) := by decide +kernel
theorem dX3_compared_9 : decode cX3_compared 9 = .ok (.bipush 9, 2) := by decide +kernel
theorem dX3_compared_11 : decode cX3_compared 11 = .ok (.invokevirtual 75, 3) := by decide +kernel
theorem dX3_compared_14 : decode cX3_compared 14 = .ok (.ifCond .ne 15, 3) := by decide +kernel
theorem dX3_compared_17 : decode cX3_compared 17 = .ok (.aload_n 0, 1) := by decide +kernel
theorem dX3_compared_18 : decode cX3_compared 18 = .ok (.getfield 17, 3) := by decide +kernel
theorem dX3_compared_21 : decode cX3_compared 21 = .ok (.bipush 10, 2) := by decide +kernel
theorem dX3_compared_23 : decode cX3_compared 23 = .ok (.invokevirtual 75, 3) := by decide +kernel
theorem dX3_compared_26 : decode cX3_compared 26 = .ok (.ifCond .eq 33, 3) := by decide +kernel
theorem dX3_compared_29 : decode cX3_compared 29 = .ok (.aload_n 0, 1) := by decide +kernel
theorem dX3_compared_30 : decode cX3_compared 30 = .ok (.getfield 17, 3) := by decide +kernel
theorem dX3_compared_33 : decode cX3_compared 33 = .ok (.getfield 157, 3) := by decide +kernel
theorem dX3_compared_36 : decode cX3_compared 36 = .ok (.istore_n 2, 1) := by decide +kernel
theorem dX3_compared_37 : decode cX3_compared 37 = .ok (.aload_n 0, 1) := by decide +kernel
theorem dX3_compared_38 : decode cX3_compared 38 = .ok (.getfield 17, 3) := by decide +kernel
theorem dX3_compared_41 : decode cX3_compared 41 = .ok (.iload_n 2, 1) := by decide +kernel
theorem dX3_compared_42 : decode cX3_compared 42 = .ok (.invokevirtual 71, 3) := by decide +kernel
theorem dX3_compared_45 : decode cX3_compared 45 = .ok (.new 160, 3) := by decide +kernel
theorem dX3_compared_48 : decode cX3_compared 48 = .ok (.dup, 1) := by decide +kernel
theorem dX3_compared_49 : decode cX3_compared 49 = .ok (.iload_n 2, 1) := by decide +kernel
theorem dX3_compared_50 : decode cX3_compared 50 = .ok (.aload_n 1, 1) := by decide +kernel
theorem dX3_compared_51 : decode cX3_compared 51 = .ok (.aload_n 0, 1) := by decide +kernel
theorem dX3_compared_52 : decode cX3_compared 52 = .ok (.invokevirtual 154, 3) := by decide +kernel
theorem dX3_compared_55 : decode cX3_compared 55 = .ok (.invokespecial 162, 3) := by decide +kernel
theorem dX3_compared_58 : decode cX3_compared 58 = .ok (.astore_n 1, 1) := by decide +kernel
theorem dX3_compared_59 : decode cX3_compared 59 = .ok (.aload_n 1, 1) := by decide +kernel
theorem dX3_compared_60 : decode cX3_compared 60 = .ok (.areturn, 1) := by decide +kernel
abbrev JX3_compared_29 (D : DE) (f : Nat) (Q : Nat → Frm → HI → HL → Prop) (T : Nat → Frm → HI → HL → Prop) (F : Frm) (h : HI) (g : HL) (x1 : Nat) : Prop := ∀ y1 : Int32, y1 = (h 1 6) → Gv D f mX2_sign [.ref (ad D 1), .int y1] F h g (fun F5 h3 g4 => 160 ≤ F5.1.1 ∧ ∀ F9 h10 g11, F9 = fnw F5 (27, 0) 5 → h10 = up1 h3 F5.1.1 (fun _ => 0) → g11 = up1 g4 F5.1.1 (fun _ => 0) → Gr D f mX3_sum [.ref (ad D 5)] F9 h10 g11 (fun b18 F21 h19 g20 => Gv D f mX19_init [.ref (ad D F5.1.1), .int y1, .ref (ad D x1), .ref (ad D b18)] F21 h19 g20 (fun F26 h24 g25 => Q F5.1.1 F26 h24 g25) T) T) T
theorem bX3_compared_29 {D : DE} {f : Nat} {Q : Nat → Frm → HI → HL → Prop} {T : Nat → Frm → HI → HL → Prop} {F : Frm} {h : HI} {g : HL} (hF : k_Fix F) (x1 : Nat) (H : JX3_compared_29 D f Q T F h g x1) : V D mX3_compared (f + 1) (gr D Q T) 29 [(0, .ref (ad D 5)), (1, .ref (ad D x1))] [] (F, h, g) := by
  refine V_aload_n dX3_compared_29 rfl 0 rfl ?_
  refine H_getr ck2 0 (by decide) (fs_5 hF) (by decide) rfl (fr_5_0 hF) q180 dX3_compared_30 ?_
  refine H_getiN ck1 6 (by decide) (fs_1 hF) (by decide) rfl q139 dX3_compared_33 ?_
  refine V_topi (fun y1 e2 => ?_)
  have H := H y1 e2
  refine V_istore_n (l1 := [(2, .int y1), (0, .ref (ad D 5)), (1, .ref (ad D x1))]) dX3_compared_36 rfl (by decide) rfl ?_
  refine V_aload_n dX3_compared_37 rfl 1 rfl ?_
  refine H_getr ck2 0 (by decide) (fs_5 hF) (by decide) rfl (fr_5_0 hF) q180 dX3_compared_38 ?_
  refine V_iload_n dX3_compared_41 rfl 0 rfl ?_
  refine G_callv (av := [.ref (ad D 1), .int y1]) (rest := []) H mqX2_sign q82 (by decide) (Nat.le_of_ble_eq_true rfl) (k_resV (ci := 1) (av := [.int y1]) (rest := []) (fs_1 hF) (by decide) rfl rfl q728 q729 q730 q731 mhX2_sign mnX2_sign dX3_compared_42) (fun F5 h3 g4 hF6 H => ?_) (fun a e F1 h1 g1 hF1 ha ht => GT_r hF1 rfl ha ht)
  obtain ⟨z8, H⟩ := H
  refine G_new ck17 (by decide) k_df17 q952 q953 q111 dX3_compared_45 (fun F9 h10 g11 e12 e13 e14 => ?_)
  have H := H F9 h10 g11 e12 e13 e14
  have hF15 : k_Fix F9 := by rw [e12]; exact k_Fix.new hF6 z8 _ _
  have z16 : F9.2.1 F5.1.1 = (27, 0) := by rw [e12]; simp [fnw, up0]
  have z17 : isE F9 F5.1.1 17 := ⟨z16, by decide, by decide⟩
  refine V_dup dX3_compared_48 rfl ?_
  refine V_iload_n dX3_compared_49 rfl 0 rfl ?_
  refine V_aload_n dX3_compared_50 rfl 2 rfl ?_
  refine V_aload_n dX3_compared_51 rfl 1 rfl ?_
  refine G_callr (av := [.ref (ad D 5)]) (rest := [.ref (ad D x1), .int y1, .ref (ad D F5.1.1), .ref (ad D F5.1.1)]) H mqX3_sum q83 (by decide) (Nat.le_of_ble_eq_true rfl) (k_resV (ci := 2) (av := []) (rest := [.ref (ad D x1), .int y1, .ref (ad D F5.1.1), .ref (ad D F5.1.1)]) (fs_5 hF15) (by decide) rfl rfl q859 q861 qs16 q862 mhX3_sum mnX3_sum dX3_compared_52) (fun b18 F21 h19 g20 hF22 H => ?_) (fun a e F1 h1 g1 hF1 ha ht => GT_r hF1 rfl ha ht)
  refine G_callv (av := [.ref (ad D F5.1.1), .int y1, .ref (ad D x1), .ref (ad D b18)]) (rest := [.ref (ad D F5.1.1)]) H mqX19_init q111 (by decide) (Nat.le_of_ble_eq_true rfl) (k_resI (av := [.int y1, .ref (ad D x1), .ref (ad D b18)]) (rest := [.ref (ad D F5.1.1)]) rfl q954 q955 q956 mhX19_init mnX19_init dX3_compared_55) (fun F26 h24 g25 hF27 H => ?_) (fun a e F1 h1 g1 hF1 ha ht => GT_r hF1 rfl ha ht)
  refine V_astore_n (l1 := [(1, .ref (ad D F5.1.1)), (2, .int y1), (0, .ref (ad D 5))]) dX3_compared_58 rfl (by decide) rfl ?_
  refine V_aload_n dX3_compared_59 rfl 0 rfl ?_
  exact G_aret hF27 rfl dX3_compared_60 H
abbrev JX3_compared_0 (D : DE) (f : Nat) (Q : Nat → Frm → HI → HL → Prop) (T : Nat → Frm → HI → HL → Prop) (F : Frm) (h : HI) (g : HL) : Prop := Gr D f mX3_sum [.ref (ad D 5)] F h g (fun b1 F4 h2 g3 => Si D f mX2_isSign [.ref (ad D 1), .int 9] F4 h2 g3 (fun y7 h8 g9 => ((¬ y7 = 0 → JX3_compared_29 D f Q T F4 h8 g9 b1) ∧ (y7 = 0 → Si D f mX2_isSign [.ref (ad D 1), .int 10] F4 h8 g9 (fun y11 h12 g13 => ((y11 = 0 → Q b1 F4 h12 g13) ∧ (¬ y11 = 0 → JX3_compared_29 D f Q T F4 h12 g13 b1))))))) T
theorem bX3_compared_0 {D : DE} {f : Nat} {Q : Nat → Frm → HI → HL → Prop} {T : Nat → Frm → HI → HL → Prop} {F : Frm} {h : HI} {g : HL} (hF : k_Fix F)  (H : JX3_compared_0 D f Q T F h g ) : V D mX3_compared (f + 1) (gr D Q T) 0 [(0, .ref (ad D 5))] [] (F, h, g) := by
  refine V_aload_n dX3_compared_0 rfl 0 rfl ?_
  refine G_callr (av := [.ref (ad D 5)]) (rest := []) H mqX3_sum q83 (by decide) (Nat.le_of_ble_eq_true rfl) (k_resV (ci := 2) (av := []) (rest := []) (fs_5 hF) (by decide) rfl rfl q859 q861 qs16 q862 mhX3_sum mnX3_sum dX3_compared_1) (fun b1 F4 h2 g3 hF5 H => ?_) (fun a e F1 h1 g1 hF1 ha ht => GT_r hF1 rfl ha ht)
  refine V_astore_n (l1 := [(1, .ref (ad D b1)), (0, .ref (ad D 5))]) dX3_compared_4 rfl (by decide) rfl ?_
  refine V_aload_n dX3_compared_5 rfl 1 rfl ?_
  refine H_getr ck2 0 (by decide) (fs_5 hF5) (by decide) rfl (fr_5_0 hF5) q180 dX3_compared_6 ?_
  refine V_bipush (v := 9) dX3_compared_9 (by decide) ?_
  refine H_calli (av := [.ref (ad D 1), .int 9]) (rest := []) H mqX2_isSign q82 (by decide) (Nat.le_of_ble_eq_true rfl) (k_resV (ci := 1) (av := [.int 9]) (rest := []) (fs_1 hF5) (by decide) rfl rfl q738 q733 q734 q735 mhX2_isSign mnX2_isSign dX3_compared_11) (fun y7 h8 g9 H => ?_)
  refine V_if_ne (tgt := 29) dX3_compared_14 (by decide) (fun c10 => ?_) (fun c10 => ?_)
  · have H := H.1 c10
    refine V.sub [1, 0] rfl ?_
    exact bX3_compared_29 hF5 b1 H
  · have H := H.2 c10
    refine V_aload_n dX3_compared_17 rfl 1 rfl ?_
    refine H_getr ck2 0 (by decide) (fs_5 hF5) (by decide) rfl (fr_5_0 hF5) q180 dX3_compared_18 ?_
    refine V_bipush (v := 10) dX3_compared_21 (by decide) ?_
    refine H_calli (av := [.ref (ad D 1), .int 10]) (rest := []) H mqX2_isSign q82 (by decide) (Nat.le_of_ble_eq_true rfl) (k_resV (ci := 1) (av := [.int 10]) (rest := []) (fs_1 hF5) (by decide) rfl rfl q738 q733 q734 q735 mhX2_isSign mnX2_isSign dX3_compared_23) (fun y11 h12 g13 H => ?_)
    refine V_if_eq (tgt := 59) dX3_compared_26 (by decide) (fun c14 => ?_) (fun c14 => ?_)
    · have H := H.1 c14
      refine V_aload_n dX3_compared_59 rfl 0 rfl ?_
      exact G_aret hF5 rfl dX3_compared_60 H
    · have H := H.2 c14
      refine V.sub [1, 0] rfl ?_
      exact bX3_compared_29 hF5 b1 H
theorem wX3_compared {D : DE} {f : Nat} {Q : Nat → Frm → HI → HL → Prop} {T : Nat → Frm → HI → HL → Prop} {F : Frm} {h : HI} {g : HL} (hF : k_Fix F)  (H : JX3_compared_0 D f Q T F h g ) : Gr D (f + 1) mX3_compared [.ref (ad D 5)] F h g Q T := Cl.ofV (by decide) (Nat.le_of_ble_eq_true rfl) rfl (bX3_compared_0 hF  H)
theorem dX3_sum_0 : decode cX3_sum 0 = .ok (.aload_n 0, 1) := by decide +kernel
theorem dX3_sum_1 : decode cX3_sum 1 = .ok (.invokevirtual 165, 3) := by decide +kernel
theorem dX3_sum_4 : decode cX3_sum 4 = .ok (.astore_n 1, 1) := by decide +kernel
theorem dX3_sum_5 : decode cX3_sum 5 = .ok (.aload_n 0, 1) := by decide +kernel
theorem dX3_sum_6 : decode cX3_sum 6 = .ok (.getfield 17, 3) := by decide +kernel
theorem dX3_sum_9 : decode cX3_sum 9 = .ok (.bipush 6, 2) := by decide +kernel
theorem dX3_sum_11 : decode cX3_sum 11 = .ok (.invokevirtual 75, 3) := by decide +kernel
theorem dX3_sum_14 : decode cX3_sum 14 = .ok (.ifCond .ne 15, 3) := by decide +kernel
theorem dX3_sum_17 : decode cX3_sum 17 = .ok (.aload_n 0, 1) := by decide +kernel
theorem dX3_sum_18 : decode cX3_sum 18 = .ok (.getfield 17, 3) := by decide +kernel
theorem dX3_sum_21 : decode cX3_sum 21 = .ok (.bipush 7, 2) := by decide +kernel
theorem dX3_sum_23 : decode cX3_sum 23 = .ok (.invokevirtual 75, 3) := by decide +kernel
theorem dX3_sum_26 : decode cX3_sum 26 = .ok (.ifCond .eq 33, 3) := by decide +kernel
theorem dX3_sum_29 : decode cX3_sum 29 = .ok (.aload_n 0, 1) := by decide +kernel
theorem dX3_sum_30 : decode cX3_sum 30 = .ok (.getfield 17, 3) := by decide +kernel
theorem dX3_sum_33 : decode cX3_sum 33 = .ok (.getfield 157, 3) := by decide +kernel
theorem dX3_sum_36 : decode cX3_sum 36 = .ok (.istore_n 2, 1) := by decide +kernel
theorem dX3_sum_37 : decode cX3_sum 37 = .ok (.aload_n 0, 1) := by decide +kernel
theorem dX3_sum_38 : decode cX3_sum 38 = .ok (.getfield 17, 3) := by decide +kernel
theorem dX3_sum_41 : decode cX3_sum 41 = .ok (.iload_n 2, 1) := by decide +kernel
theorem dX3_sum_42 : decode cX3_sum 42 = .ok (.invokevirtual 71, 3) := by decide +kernel
theorem dX3_sum_45 : decode cX3_sum 45 = .ok (.new 160, 3) := by decide +kernel
theorem dX3_sum_48 : decode cX3_sum 48 = .ok (.dup, 1) := by decide +kernel
theorem dX3_sum_49 : decode cX3_sum 49 = .ok (.iload_n 2, 1) := by decide +kernel
theorem dX3_sum_50 : decode cX3_sum 50 = .ok (.aload_n 1, 1) := by decide +kernel
theorem dX3_sum_51 : decode cX3_sum 51 = .ok (.aload_n 0, 1) := by decide +kernel
theorem dX3_sum_52 : decode cX3_sum 52 = .ok (.invokevirtual 165, 3) := by decide +kernel
theorem dX3_sum_55 : decode cX3_sum 55 = .ok (.invokespecial 162, 3) := by decide +kernel
theorem dX3_sum_58 : decode cX3_sum 58 = .ok (.astore_n 1, 1) := by decide +kernel
theorem dX3_sum_59 : decode cX3_sum 59 = .ok (.aload_n 1, 1) := by decide +kernel
theorem dX3_sum_60 : decode cX3_sum 60 = .ok (.areturn, 1) := by decide +kernel
abbrev JX3_sum_29 (D : DE) (f : Nat) (Q : Nat → Frm → HI → HL → Prop) (T : Nat → Frm → HI → HL → Prop) (F : Frm) (h : HI) (g : HL) (x1 : Nat) : Prop := ∀ y1 : Int32, y1 = (h 1 6) → Gv D f mX2_sign [.ref (ad D 1), .int y1] F h g (fun F5 h3 g4 => 160 ≤ F5.1.1 ∧ ∀ F9 h10 g11, F9 = fnw F5 (27, 0) 5 → h10 = up1 h3 F5.1.1 (fun _ => 0) → g11 = up1 g4 F5.1.1 (fun _ => 0) → Gr D f mX3_product [.ref (ad D 5)] F9 h10 g11 (fun b18 F21 h19 g20 => Gv D f mX19_init [.ref (ad D F5.1.1), .int y1, .ref (ad D x1), .ref (ad D b18)] F21 h19 g20 (fun F26 h24 g25 => Q F5.1.1 F26 h24 g25) T) T) T
theorem bX3_sum_29 {D : DE} {f : Nat} {Q : Nat → Frm → HI → HL → Prop} {T : Nat → Frm → HI → HL → Prop} {F : Frm} {h : HI} {g : HL} (hF : k_Fix F) (x1 : Nat) (H : JX3_sum_29 D f Q T F h g x1) : V D mX3_sum (f + 1) (gr D Q T) 29 [(0, .ref (ad D 5)), (1, .ref (ad D x1))] [] (F, h, g) := by
  refine V_aload_n dX3_sum_29 rfl 0 rfl ?_
  refine H_getr ck2 0 (by decide) (fs_5 hF) (by decide) rfl (fr_5_0 hF) q180 dX3_sum_30 ?_
  refine H_getiN ck1 6 (by decide) (fs_1 hF) (by decide) rfl q139 dX3_sum_33 ?_
  refine V_topi (fun y1 e2 => ?_)
  have H := H y1 e2
  refine V_istore_n (l1 := [(2, .int y1), (0, .ref (ad D 5)), (1, .ref (ad D x1))]) dX3_sum_36 rfl (by decide) rfl ?_
  refine V_aload_n dX3_sum_37 rfl 1 rfl ?_
  refine H_getr ck2 0 (by decide) (fs_5 hF) (by decide) rfl (fr_5_0 hF) q180 dX3_sum_38 ?_
  refine V_iload_n dX3_sum_41 rfl 0 rfl ?_
  refine G_callv (av := [.ref (ad D 1), .int y1]) (rest := []) H mqX2_sign q82 (by decide) (Nat.le_of_ble_eq_true rfl) (k_resV (ci := 1) (av := [.int y1]) (rest := []) (fs_1 hF) (by decide) rfl rfl q728 q729 q730 q731 mhX2_sign mnX2_sign dX3_sum_42) (fun F5 h3 g4 hF6 H => ?_) (fun a e F1 h1 g1 hF1 ha ht => GT_r hF1 rfl ha ht)
  obtain ⟨z8, H⟩ := H
  refine G_new ck17 (by decide) k_df17 q952 q953 q111 dX3_sum_45 (fun F9 h10 g11 e12 e13 e14 => ?_)
  have H := H F9 h10 g11 e12 e13 e14
  have hF15 : k_Fix F9 := by rw [e12]; exact k_Fix.new hF6 z8 _ _
  have z16 : F9.2.1 F5.1.1 = (27, 0) := by rw [e12]; simp [fnw, up0]
  have z17 : isE F9 F5.1.1 17 := ⟨z16, by decide, by decide⟩
  refine V_dup dX3_sum_48 rfl ?_
  refine V_iload_n dX3_sum_49 rfl 0 rfl ?_
  refine V_aload_n dX3_sum_50 rfl 2 rfl ?_
  refine V_aload_n dX3_sum_51 rfl 1 rfl ?_
  refine G_callr (av := [.ref (ad D 5)]) (rest := [.ref (ad D x1), .int y1, .ref (ad D F5.1.1), .ref (ad D F5.1.1)]) H mqX3_product q83 (by decide) (Nat.le_of_ble_eq_true rfl) (k_resV (ci := 2) (av := []) (rest := [.ref (ad D x1), .int y1, .ref (ad D F5.1.1), .ref (ad D F5.1.1)]) (fs_5 hF15) (by decide) rfl rfl q863 q865 qs17 q866 mhX3_product mnX3_product dX3_sum_52) (fun b18 F21 h19 g20 hF22 H => ?_) (fun a e F1 h1 g1 hF1 ha ht => GT_r hF1 rfl ha ht)
  refine G_callv (av := [.ref (ad D F5.1.1), .int y1, .ref (ad D x1), .ref (ad D b18)]) (rest := [.ref (ad D F5.1.1)]) H mqX19_init q111 (by decide) (Nat.le_of_ble_eq_true rfl) (k_resI (av := [.int y1, .ref (ad D x1), .ref (ad D b18)]) (rest := [.ref (ad D F5.1.1)]) rfl q954 q955 q956 mhX19_init mnX19_init dX3_sum_55) (fun F26 h24 g25 hF27 H => ?_) (fun a e F1 h1 g1 hF1 ha ht => GT_r hF1 rfl ha ht)
  refine V_astore_n (l1 := [(1, .ref (ad D F5.1.1)), (2, .int y1), (0, .ref (ad D 5))]) dX3_sum_58 rfl (by decide) rfl ?_
  refine V_aload_n dX3_sum_59 rfl 0 rfl ?_
  exact G_aret hF27 rfl dX3_sum_60 H
abbrev JX3_sum_0 (D : DE) (f : Nat) (Q : Nat → Frm → HI → HL → Prop) (T : Nat → Frm → HI → HL → Prop) (F : Frm) (h : HI) (g : HL) : Prop := Gr D f mX3_product [.ref (ad D 5)] F h g (fun b1 F4 h2 g3 => Si D f mX2_isSign [.ref (ad D 1), .int 6] F4 h2 g3 (fun y7 h8 g9 => ((¬ y7 = 0 → JX3_sum_29 D f Q T F4 h8 g9 b1) ∧ (y7 = 0 → Si D f mX2_isSign [.ref (ad D 1), .int 7] F4 h8 g9 (fun y11 h12 g13 => ((y11 = 0 → Q b1 F4 h12 g13) ∧ (¬ y11 = 0 → JX3_sum_29 D f Q T F4 h12 g13 b1))))))) T
theorem bX3_sum_0 {D : DE} {f : Nat} {Q : Nat → Frm → HI → HL → Prop} {T : Nat → Frm → HI → HL → Prop} {F : Frm} {h : HI} {g : HL} (hF : k_Fix F)  (H : JX3_sum_0 D f Q T F h g ) : V D mX3_sum (f + 1) (gr D Q T) 0 [(0, .ref (ad D 5))] [] (F, h, g) := by
  refine V_aload_n dX3_sum_0 rfl 0 rfl ?_
  refine G_callr (av := [.ref (ad D 5)]) (rest := []) H mqX3_product q83 (by decide) (Nat.le_of_ble_eq_true rfl) (k_resV (ci := 2) (av := []) (rest := []) (fs_5 hF) (by decide) rfl rfl q863 q865 qs17 q866 mhX3_product mnX3_product dX3_sum_1) (fun b1 F4 h2 g3 hF5 H => ?_) (fun a e F1 h1 g1 hF1 ha ht => GT_r hF1 rfl ha ht)
  refine V_astore_n (l1 := [(1, .ref (ad D b1)), (0, .ref (ad D 5))]) dX3_sum_4 rfl (by decide) rfl ?_
  refine V_aload_n dX3_sum_5 rfl 1 rfl ?_
  refine H_getr ck2 0 (by decide) (fs_5 hF5) (by decide) rfl (fr_5_0 hF5) q180 dX3_sum_6 ?_
  refine V_bipush (v := 6) dX3_sum_9 (by decide) ?_
  refine H_calli (av := [.ref (ad D 1), .int 6]) (rest := []) H mqX2_isSign q82 (by decide) (Nat.le_of_ble_eq_true rfl) (k_resV (ci := 1) (av := [.int 6]) (rest := []) (fs_1 hF5) (by decide) rfl rfl q738 q733 q734 q735 mhX2_isSign mnX2_isSign dX3_sum_11) (fun y7 h8 g9 H => ?_)
  refine V_if_ne (tgt := 29) dX3_sum_14 (by decide) (fun c10 => ?_) (fun c10 => ?_)
  · have H := H.1 c10
    refine V.sub [1, 0] rfl ?_
    exact bX3_sum_29 hF5 b1 H
  · have H := H.2 c10
    refine V_aload_n dX3_sum_17 rfl 1 rfl ?_
    refine H_getr ck2 0 (by decide) (fs_5 hF5) (by decide) rfl (fr_5_0 hF5) q180 dX3_sum_18 ?_
    refine V_bipush (v := 7) dX3_sum_21 (by decide) ?_
    refine H_calli (av := [.ref (ad D 1), .int 7]) (rest := []) H mqX2_isSign q82 (by decide) (Nat.le_of_ble_eq_true rfl) (k_resV (ci := 1) (av := [.int 7]) (rest := []) (fs_1 hF5) (by decide) rfl rfl q738 q733 q734 q735 mhX2_isSign mnX2_isSign dX3_sum_23) (fun y11 h12 g13 H => ?_)
    refine V_if_eq (tgt := 59) dX3_sum_26 (by decide) (fun c14 => ?_) (fun c14 => ?_)
    · have H := H.1 c14
      refine V_aload_n dX3_sum_59 rfl 0 rfl ?_
      exact G_aret hF5 rfl dX3_sum_60 H
    · have H := H.2 c14
      refine V.sub [1, 0] rfl ?_
      exact bX3_sum_29 hF5 b1 H
theorem wX3_sum {D : DE} {f : Nat} {Q : Nat → Frm → HI → HL → Prop} {T : Nat → Frm → HI → HL → Prop} {F : Frm} {h : HI} {g : HL} (hF : k_Fix F)  (H : JX3_sum_0 D f Q T F h g ) : Gr D (f + 1) mX3_sum [.ref (ad D 5)] F h g Q T := Cl.ofV (by decide) (Nat.le_of_ble_eq_true rfl) rfl (bX3_sum_0 hF  H)
theorem dX3_product_0 : decode cX3_product 0 = .ok (.aload_n 0, 1) := by decide +kernel
theorem dX3_product_1 : decode cX3_product 1 = .ok (.invokevirtual 168, 3) := by decide +kernel
theorem dX3_product_4 : decode cX3_product 4 = .ok (.astore_n 1, 1) := by decide +kernel
theorem dX3_product_5 : decode cX3_product 5 = .ok (.aload_n 0, 1) := by decide +kernel
theorem dX3_product_6 : decode cX3_product 6 = .ok (.getfield 17, 3) := by decide +kernel
theorem dX3_product_9 : decode cX3_product 9 = .ok (.bipush 8, 2) := by decide +kernel
theorem dX3_product_11 : decode cX3_product 11 = .ok (.invokevirtual 75, 3) := by decide +kernel
theorem dX3_product_14 : decode cX3_product 14 = .ok (.ifCond .eq 27, 3) := by decide +kernel
theorem dX3_product_17 : decode cX3_product 17 = .ok (.aload_n 0, 1) := by decide +kernel
theorem dX3_product_18 : decode cX3_product 18 = .ok (.getfield 17, 3) := by decide +kernel
theorem dX3_product_21 : decode cX3_product 21 = .ok (.bipush 8, 2) := by decide +kernel
theorem dX3_product_23 : decode cX3_product 23 = .ok (.invokevirtual 71, 3) := by decide +kernel
theorem dX3_product_26 : decode cX3_product 26 = .ok (.new 160, 3) := by decide +kernel
theorem dX3_product_29 : decode cX3_product 29 = .ok (.dup, 1) := by decide +kernel
theorem dX3_product_30 : decode cX3_product 30 = .ok (.bipush 8, 2) := by decide +kernel
theorem dX3_product_32 : decode cX3_product 32 = .ok (.aload_n 1, 1) := by decide +kernel
theorem dX3_product_33 : decode cX3_product 33 = .ok (.aload_n 0, 1) := by decide +kernel
theorem dX3_product_34 : decode cX3_product 34 = .ok (.invokevirtual 168, 3) := by decide +kernel
theorem dX3_product_37 : decode cX3_product 37 = .ok (.invokespecial 162, 3) := by decide +kernel
theorem dX3_product_40 : decode cX3_product 40 = .ok (.astore_n 1, 1) := by decide +kernel
theorem dX3_product_41 : decode cX3_product 41 = .ok (.aload_n 1, 1) := by decide +kernel
theorem dX3_product_42 : decode cX3_product 42 = .ok (.areturn, 1) := by decide +kernel
abbrev JX3_product_0 (D : DE) (f : Nat) (Q : Nat → Frm → HI → HL → Prop) (T : Nat → Frm → HI → HL → Prop) (F : Frm) (h : HI) (g : HL) : Prop := Gr D f mX3_atom [.ref (ad D 5)] F h g (fun b1 F4 h2 g3 => Si D f mX2_isSign [.ref (ad D 1), .int 8] F4 h2 g3 (fun y7 h8 g9 => ((y7 = 0 → Q b1 F4 h8 g9) ∧ (¬ y7 = 0 → Gv D f mX2_sign [.ref (ad D 1), .int 8] F4 h8 g9 (fun F13 h11 g12 => 160 ≤ F13.1.1 ∧ ∀ F17 h18 g19, F17 = fnw F13 (27, 0) 5 → h18 = up1 h11 F13.1.1 (fun _ => 0) → g19 = up1 g12 F13.1.1 (fun _ => 0) → Gr D f mX3_atom [.ref (ad D 5)] F17 h18 g19 (fun b26 F29 h27 g28 => Gv D f mX19_init [.ref (ad D F13.1.1), .int 8, .ref (ad D b1), .ref (ad D b26)] F29 h27 g28 (fun F34 h32 g33 => Q F13.1.1 F34 h32 g33) T) T) T)))) T
theorem bX3_product_0 {D : DE} {f : Nat} {Q : Nat → Frm → HI → HL → Prop} {T : Nat → Frm → HI → HL → Prop} {F : Frm} {h : HI} {g : HL} (hF : k_Fix F)  (H : JX3_product_0 D f Q T F h g ) : V D mX3_product (f + 1) (gr D Q T) 0 [(0, .ref (ad D 5))] [] (F, h, g) := by
  refine V_aload_n dX3_product_0 rfl 0 rfl ?_
  refine G_callr (av := [.ref (ad D 5)]) (rest := []) H mqX3_atom q83 (by decide) (Nat.le_of_ble_eq_true rfl) (k_resV (ci := 2) (av := []) (rest := []) (fs_5 hF) (by decide) rfl rfl q867 q869 qs18 q870 mhX3_atom mnX3_atom dX3_product_1) (fun b1 F4 h2 g3 hF5 H => ?_) (fun a e F1 h1 g1 hF1 ha ht => GT_r hF1 rfl ha ht)
  refine V_astore_n (l1 := [(1, .ref (ad D b1)), (0, .ref (ad D 5))]) dX3_product_4 rfl (by decide) rfl ?_
  refine V_aload_n dX3_product_5 rfl 1 rfl ?_
  refine H_getr ck2 0 (by decide) (fs_5 hF5) (by decide) rfl (fr_5_0 hF5) q180 dX3_product_6 ?_
  refine V_bipush (v := 8) dX3_product_9 (by decide) ?_
  refine H_calli (av := [.ref (ad D 1), .int 8]) (rest := []) H mqX2_isSign q82 (by decide) (Nat.le_of_ble_eq_true rfl) (k_resV (ci := 1) (av := [.int 8]) (rest := []) (fs_1 hF5) (by decide) rfl rfl q738 q733 q734 q735 mhX2_isSign mnX2_isSign dX3_product_11) (fun y7 h8 g9 H => ?_)
  refine V_if_eq (tgt := 41) dX3_product_14 (by decide) (fun c10 => ?_) (fun c10 => ?_)
  · have H := H.1 c10
    refine V_aload_n dX3_product_41 rfl 0 rfl ?_
    exact G_aret hF5 rfl dX3_product_42 H
  · have H := H.2 c10
    refine V_aload_n dX3_product_17 rfl 1 rfl ?_
    refine H_getr ck2 0 (by decide) (fs_5 hF5) (by decide) rfl (fr_5_0 hF5) q180 dX3_product_18 ?_
    refine V_bipush (v := 8) dX3_product_21 (by decide) ?_
    refine G_callv (av := [.ref (ad D 1), .int 8]) (rest := []) H mqX2_sign q82 (by decide) (Nat.le_of_ble_eq_true rfl) (k_resV (ci := 1) (av := [.int 8]) (rest := []) (fs_1 hF5) (by decide) rfl rfl q728 q729 q730 q731 mhX2_sign mnX2_sign dX3_product_23) (fun F13 h11 g12 hF14 H => ?_) (fun a e F1 h1 g1 hF1 ha ht => GT_r hF1 rfl ha ht)
    obtain ⟨z16, H⟩ := H
    refine G_new ck17 (by decide) k_df17 q952 q953 q111 dX3_product_26 (fun F17 h18 g19 e20 e21 e22 => ?_)
    have H := H F17 h18 g19 e20 e21 e22
    have hF23 : k_Fix F17 := by rw [e20]; exact k_Fix.new hF14 z16 _ _
    have z24 : F17.2.1 F13.1.1 = (27, 0) := by rw [e20]; simp [fnw, up0]
    have z25 : isE F17 F13.1.1 17 := ⟨z24, by decide, by decide⟩
    refine V_dup dX3_product_29 rfl ?_
    refine V_bipush (v := 8) dX3_product_30 (by decide) ?_
    refine V_aload_n dX3_product_32 rfl 0 rfl ?_
    refine V_aload_n dX3_product_33 rfl 1 rfl ?_
    refine G_callr (av := [.ref (ad D 5)]) (rest := [.ref (ad D b1), .int 8, .ref (ad D F13.1.1), .ref (ad D F13.1.1)]) H mqX3_atom q83 (by decide) (Nat.le_of_ble_eq_true rfl) (k_resV (ci := 2) (av := []) (rest := [.ref (ad D b1), .int 8, .ref (ad D F13.1.1), .ref (ad D F13.1.1)]) (fs_5 hF23) (by decide) rfl rfl q867 q869 qs18 q870 mhX3_atom mnX3_atom dX3_product_34) (fun b26 F29 h27 g28 hF30 H => ?_) (fun a e F1 h1 g1 hF1 ha ht => GT_r hF1 rfl ha ht)
    refine G_callv (av := [.ref (ad D F13.1.1), .int 8, .ref (ad D b1), .ref (ad D b26)]) (rest := [.ref (ad D F13.1.1)]) H mqX19_init q111 (by decide) (Nat.le_of_ble_eq_true rfl) (k_resI (av := [.int 8, .ref (ad D b1), .ref (ad D b26)]) (rest := [.ref (ad D F13.1.1)]) rfl q954 q955 q956 mhX19_init mnX19_init dX3_product_37) (fun F34 h32 g33 hF35 H => ?_) (fun a e F1 h1 g1 hF1 ha ht => GT_r hF1 rfl ha ht)
    refine V_astore_n (l1 := [(1, .ref (ad D F13.1.1)), (0, .ref (ad D 5))]) dX3_product_40 rfl (by decide) rfl ?_
    refine V_aload_n dX3_product_41 rfl 0 rfl ?_
    exact G_aret hF35 rfl dX3_product_42 H
theorem wX3_product {D : DE} {f : Nat} {Q : Nat → Frm → HI → HL → Prop} {T : Nat → Frm → HI → HL → Prop} {F : Frm} {h : HI} {g : HL} (hF : k_Fix F)  (H : JX3_product_0 D f Q T F h g ) : Gr D (f + 1) mX3_product [.ref (ad D 5)] F h g Q T := Cl.ofV (by decide) (Nat.le_of_ble_eq_true rfl) rfl (bX3_product_0 hF  H)
theorem dX3_atom_0 : decode cX3_atom 0 = .ok (.aload_n 0, 1) := by decide +kernel
theorem dX3_atom_1 : decode cX3_atom 1 = .ok (.getfield 17, 3) := by decide +kernel
theorem dX3_atom_4 : decode cX3_atom 4 = .ok (.aload_n 0, 1) := by decide +kernel
theorem dX3_atom_5 : decode cX3_atom 5 = .ok (.invokevirtual 125, 3) := by decide +kernel
theorem dX3_atom_8 : decode cX3_atom 8 = .ok (.invokevirtual 46, 3) := by decide +kernel
theorem dX3_atom_11 : decode cX3_atom 11 = .ok (.aload_n 0, 1) := by decide +kernel
theorem dX3_atom_12 : decode cX3_atom 12 = .ok (.getfield 17, 3) := by decide +kernel
theorem dX3_atom_15 : decode cX3_atom 15 = .ok (.invokevirtual 40, 3) := by decide +kernel
theorem dX3_atom_18 : decode cX3_atom 18 = .ok (.aload_n 0, 1) := by decide +kernel
theorem dX3_atom_19 : decode cX3_atom 19 = .ok (.getfield 17, 3) := by decide +kernel
theorem dX3_atom_22 : decode cX3_atom 22 = .ok (.invokevirtual 36, 3) := by decide +kernel
theorem dX3_atom_25 : decode cX3_atom 25 = .ok (.istore_n 1, 1) := by decide +kernel
theorem dX3_atom_26 : decode cX3_atom 26 = .ok (.aload_n 0, 1) := by decide +kernel
theorem dX3_atom_27 : decode cX3_atom 27 = .ok (.getfield 17, 3) := by decide +kernel
theorem dX3_atom_30 : decode cX3_atom 30 = .ok (.getfield 33, 3) := by decide +kernel
theorem dX3_atom_33 : decode cX3_atom 33 = .ok (.iconst 4, 1) := by decide +kernel
theorem dX3_atom_34 : decode cX3_atom 34 = .ok (.if_icmp .ne 28, 3) := by decide +kernel
theorem dX3_atom_37 : decode cX3_atom 37 = .ok (.new 171, 3) := by decide +kernel
theorem dX3_atom_40 : decode cX3_atom 40 = .ok (.dup, 1) := by decide +kernel
theorem dX3_atom_41 : decode cX3_atom 41 = .ok (.iload_n 1, 1) := by decide +kernel
theorem dX3_atom_42 : decode cX3_atom 42 = .ok (.aload_n 0, 1) := by decide +kernel
theorem dX3_atom_43 : decode cX3_atom 43 = .ok (.getfield 17, 3) := by decide +kernel
theorem dX3_atom_46 : decode cX3_atom 46 = .ok (.getfield 157, 3) := by decide +kernel
theorem dX3_atom_49 : decode cX3_atom 49 = .ok (.invokespecial 173, 3) := by decide +kernel
theorem dX3_atom_52 : decode cX3_atom 52 = .ok (.astore_n 2, 1) := by decide +kernel
theorem dX3_atom_53 : decode cX3_atom 53 = .ok (.aload_n 0, 1) := by decide +kernel
theorem dX3_atom_54 : decode cX3_atom 54 = .ok (.getfield 17, 3) := by decide +kernel
theorem dX3_atom_57 : decode cX3_atom 57 = .ok (.invokevirtual 43, 3) := by decide +kernel
theorem dX3_atom_60 : decode cX3_atom 60 = .ok (.aload_n 2, 1) := by decide +kernel
theorem dX3_atom_61 : decode cX3_atom 61 = .ok (.areturn, 1) := by decide +kernel
theorem dX3_atom_62 : decode cX3_atom 62 = .ok (.aload_n 0, 1) := by decide +kernel
theorem dX3_atom_63 : decode cX3_atom 63 = .ok (.getfield 17, 3) := by decide +kernel
theorem dX3_atom_66 : decode cX3_atom 66 = .ok (.bipush 8, 2) := by decide +kernel
theorem dX3_atom_68 : decode cX3_atom 68 = .ok (.invokevirtual 115, 3) := by decide +kernel
theorem dX3_atom_71 : decode cX3_atom 71 = .ok (.ifCond .eq 24, 3) := by decide +kernel
theorem dX3_atom_74 : decode cX3_atom 74 = .ok (.aload_n 0, 1) := by decide +kernel
theorem dX3_atom_75 : decode cX3_atom 75 = .ok (.getfield 17, 3) := by decide +kernel
theorem dX3_atom_78 : decode cX3_atom 78 = .ok (.invokevirtual 43, 3) := by decide +kernel
theorem dX3_atom_81 : decode cX3_atom 81 = .ok (.new 176, 3) := by decide +kernel
theorem dX3_atom_84 : decode cX3_atom 84 = .ok (.dup, 1) := by decide +kernel
theorem dX3_atom_85 : decode cX3_atom 85 = .ok (.iload_n 1, 1) := by decide +kernel
theorem dX3_atom_86 : decode cX3_atom 86 = .ok (.aload_n 0, 1) := by decide +kernel
theorem dX3_atom_87 : decode cX3_atom 87 = .ok (.iconst 0, 1) := by decide +kernel
theorem dX3_atom_88 : decode cX3_atom 88 = .ok (.invokevirtual 82, 3) := by decide +kernel
theorem dX3_atom_91 : decode cX3_atom 91 = .ok (.invokespecial 178, 3) := by decide +kernel
theorem dX3_atom_94 : decode cX3_atom 94 = .ok (.areturn, 1) := by decide +kernel
theorem dX3_atom_95 : decode cX3_atom 95 = .ok (.aload_n 0, 1) := by decide +kernel
theorem dX3_atom_96 : decode cX3_atom 96 = .ok (.getfield 17, 3) := by decide +kernel
theorem dX3_atom_99 : decode cX3_atom 99 = .ok (.iconst 0, 1) := by decide +kernel
theorem dX3_atom_100 : decode cX3_atom 100 = .ok (.invokevirtual 75, 3) := by decide +kernel
theorem dX3_atom_103 : decode cX3_atom 103 = .ok (.ifCond .eq 16, 3) := by decide +kernel
theorem dX3_atom_106 : decode cX3_atom 106 = .ok (.aload_n 0, 1) := by decide +kernel
theorem dX3_atom_107 : decode cX3_atom 107 = .ok (.getfield 17, 3) := by decide +kernel
theorem dX3_atom_110 : decode cX3_atom 110 = .ok (.invokevirtual 43, 3) := by decide +kernel
theorem dX3_atom_113 : decode cX3_atom 113 = .ok (.aload_n 0, 1) := by decide +kernel
theorem dX3_atom_114 : decode cX3_atom 114 = .ok (.iload_n 1, 1) := by decide +kernel
theorem dX3_atom_115 : decode cX3_atom 115 = .ok (.invokevirtual 179, 3) := by decide +kernel
theorem dX3_atom_118 : decode cX3_atom 118 = .ok (.areturn, 1) := by decide +kernel
theorem dX3_atom_119 : decode cX3_atom 119 = .ok (.aload_n 0, 1) := by decide +kernel
theorem dX3_atom_120 : decode cX3_atom 120 = .ok (.getfield 17, 3) := by decide +kernel
theorem dX3_atom_123 : decode cX3_atom 123 = .ok (.invokevirtual 43, 3) := by decide +kernel
theorem dX3_atom_126 : decode cX3_atom 126 = .ok (.aload_n 0, 1) := by decide +kernel
theorem dX3_atom_127 : decode cX3_atom 127 = .ok (.getfield 17, 3) := by decide +kernel
theorem dX3_atom_130 : decode cX3_atom 130 = .ok (.iconst 0, 1) := by decide +kernel
theorem dX3_atom_131 : decode cX3_atom 131 = .ok (.invokevirtual 75, 3) := by decide +kernel
theorem dX3_atom_134 : decode cX3_atom 134 = .ok (.ifCond .eq 11, 3) := by decide +kernel
theorem dX3_atom_137 : decode cX3_atom 137 = .ok (.aload_n 0, 1) := by decide +kernel
theorem dX3_atom_138 : decode cX3_atom 138 = .ok (.iload_n 1, 1) := by decide +kernel
theorem dX3_atom_139 : decode cX3_atom 139 = .ok (.invokevirtual 183, 3) := by decide +kernel
theorem dX3_atom_142 : decode cX3_atom 142 = .ok (.goto 11, 3) := by decide +kernel
theorem dX3_atom_145 : decode cX3_atom 145 = .ok (.new 186, 3) := by decide +kernel
theorem dX3_atom_148 : decode cX3_atom 148 = .ok (.dup, 1) := by decide +kernel
theorem dX3_atom_149 : decode cX3_atom 149 = .ok (.iload_n 1, 1) := by decide +kernel
theorem dX3_atom_150 : decode cX3_atom 150 = .ok (.invokespecial 188, 3) := by decide +kernel
theorem dX3_atom_153 : decode cX3_atom 153 = .ok (.areturn, 1) := by decide +kernel
abbrev JX3_atom_0 (D : DE) (f : Nat) (Q : Nat → Frm → HI → HL → Prop) (T : Nat → Frm → HI → HL → Prop) (F : Frm) (h : HI) (g : HL) : Prop := Si D f mX3_begins [.ref (ad D 5)] F h g (fun y1 h2 g3 => Gv D f mX2_stands [.ref (ad D 1), .int y1] F h2 g3 (fun F6 h4 g5 => Gv D f mX2_room [.ref (ad D 1)] F6 h4 g5 (fun F11 h9 g10 => Si D f mX2_token [.ref (ad D 1)] F11 h9 g10 (fun y14 h15 g16 => ((¬ (h15 1 5) = 4 → Si D f mX2_isWord [.ref (ad D 1), .int 8] F11 h15 g16 (fun y18 h19 g20 => ((y18 = 0 → Si D f mX2_isSign [.ref (ad D 1), .int 0] F11 h19 g20 (fun y22 h23 g24 => ((y22 = 0 → Sv D f mX2_next [.ref (ad D 1)] F11 h23 g24 (fun h26 g27 => Si D f mX2_isSign [.ref (ad D 1), .int 0] F11 h26 g27 (fun y28 h29 g30 => ((y28 = 0 → 160 ≤ F11.1.1 ∧ ∀ F33 h34 g35, F33 = fnw F11 (26, 0) 3 → h34 = up1 h29 F11.1.1 (fun _ => 0) → g35 = up1 g30 F11.1.1 (fun _ => 0) → Sv D f mX18_init [.ref (ad D F11.1.1), .int y14] F33 h34 g35 (fun h42 g43 => Q F11.1.1 F33 h42 g43)) ∧ (¬ y28 = 0 → Gr D f mX3_call [.ref (ad D 5), .int y14] F11 h29 g30 (fun b44 F47 h45 g46 => Q b44 F47 h45 g46) T))))) ∧ (¬ y22 = 0 → Sv D f mX2_next [.ref (ad D 1)] F11 h23 g24 (fun h50 g51 => Gr D f mX3_brackets [.ref (ad D 5), .int y14] F11 h50 g51 (fun b52 F55 h53 g54 => Q b52 F55 h53 g54) T))))) ∧ (¬ y18 = 0 → Sv D f mX2_next [.ref (ad D 1)] F11 h19 g20 (fun h58 g59 => 160 ≤ F11.1.1 ∧ ∀ F61 h62 g63, F61 = fnw F11 (23, 0) 2 → h62 = up1 h58 F11.1.1 (fun _ => 0) → g63 = up1 g59 F11.1.1 (fun _ => 0) → Gi D f mX3_type [.ref (ad D 5), .int 0] F61 h62 g63 (fun y70 F73 h71 g72 => Sv D f mX15_init [.ref (ad D F11.1.1), .int y14, .int y70] F73 h71 g72 (fun h76 g77 => Q F11.1.1 F73 h76 g77)) T))))) ∧ ((h15 1 5) = 4 → 160 ≤ F11.1.1 ∧ ∀ F79 h80 g81, F79 = fnw F11 (22, 0) 3 → h80 = up1 h15 F11.1.1 (fun _ => 0) → g81 = up1 g16 F11.1.1 (fun _ => 0) → Sv D f mX14_init [.ref (ad D F11.1.1), .int y14, .int (h80 1 6)] F79 h80 g81 (fun h88 g89 => Sv D f mX2_next [.ref (ad D 1)] F79 h88 g89 (fun h90 g91 => Q F11.1.1 F79 h90 g91)))))) T) T)
theorem bX3_atom_0 {D : DE} {f : Nat} {Q : Nat → Frm → HI → HL → Prop} {T : Nat → Frm → HI → HL → Prop} {F : Frm} {h : HI} {g : HL} (hF : k_Fix F)  (H : JX3_atom_0 D f Q T F h g ) : V D mX3_atom (f + 1) (gr D Q T) 0 [(0, .ref (ad D 5))] [] (F, h, g) := by
  refine V_aload_n dX3_atom_0 rfl 0 rfl ?_
  refine H_getr ck2 0 (by decide) (fs_5 hF) (by decide) rfl (fr_5_0 hF) q180 dX3_atom_1 ?_
  refine V_aload_n dX3_atom_4 rfl 0 rfl ?_
  refine H_calli (av := [.ref (ad D 5)]) (rest := [.ref (ad D 1)]) H mqX3_begins q83 (by decide) (Nat.le_of_ble_eq_true rfl) (k_resV (ci := 2) (av := []) (rest := [.ref (ad D 1)]) (fs_5 hF) (by decide) rfl rfl q767 q769 qs11 q770 mhX3_begins mnX3_begins dX3_atom_5) (fun y1 h2 g3 H => ?_)
  refine G_callv (av := [.ref (ad D 1), .int y1]) (rest := []) H mqX2_stands q82 (by decide) (Nat.le_of_ble_eq_true rfl) (k_resV (ci := 1) (av := [.int y1]) (rest := []) (fs_1 hF) (by decide) rfl rfl q570 q571 q572 q573 mhX2_stands mnX2_stands dX3_atom_8) (fun F6 h4 g5 hF7 H => ?_) (fun a e F1 h1 g1 hF1 ha ht => GT_r hF1 rfl ha ht)
  refine V_aload_n dX3_atom_11 rfl 0 rfl ?_
  refine H_getr ck2 0 (by decide) (fs_5 hF7) (by decide) rfl (fr_5_0 hF7) q180 dX3_atom_12 ?_
  refine G_callv (av := [.ref (ad D 1)]) (rest := []) H mqX2_room q82 (by decide) (Nat.le_of_ble_eq_true rfl) (k_resV (ci := 1) (av := []) (rest := []) (fs_1 hF7) (by decide) rfl rfl q723 q724 q725 q726 mhX2_room mnX2_room dX3_atom_15) (fun F11 h9 g10 hF12 H => ?_) (fun a e F1 h1 g1 hF1 ha ht => GT_r hF1 rfl ha ht)
  refine V_aload_n dX3_atom_18 rfl 0 rfl ?_
  refine H_getr ck2 0 (by decide) (fs_5 hF12) (by decide) rfl (fr_5_0 hF12) q180 dX3_atom_19 ?_
  refine H_calli (av := [.ref (ad D 1)]) (rest := []) H mqX2_token q82 (by decide) (Nat.le_of_ble_eq_true rfl) (k_resV (ci := 1) (av := []) (rest := []) (fs_1 hF12) (by decide) rfl rfl q646 q647 q648 q649 mhX2_token mnX2_token dX3_atom_22) (fun y14 h15 g16 H => ?_)
  refine V_istore_n (l1 := [(1, .int y14), (0, .ref (ad D 5))]) dX3_atom_25 rfl (by decide) rfl ?_
  refine V_aload_n dX3_atom_26 rfl 1 rfl ?_
  refine H_getr ck2 0 (by decide) (fs_5 hF12) (by decide) rfl (fr_5_0 hF12) q180 dX3_atom_27 ?_
  refine H_getiN ck1 5 (by decide) (fs_1 hF12) (by decide) rfl q136 dX3_atom_30 ?_
  refine V_iconst (v := 4) dX3_atom_33 (by decide) ?_
  refine V_icmp_ne (tgt := 62) dX3_atom_34 (by decide) (fun c17 => ?_) (fun c17 => ?_)
  · have H := H.1 c17
    refine V_aload_n dX3_atom_62 rfl 1 rfl ?_
    refine H_getr ck2 0 (by decide) (fs_5 hF12) (by decide) rfl (fr_5_0 hF12) q180 dX3_atom_63 ?_
    refine V_bipush (v := 8) dX3_atom_66 (by decide) ?_
    refine H_calli (av := [.ref (ad D 1), .int 8]) (rest := []) H mqX2_isWord q82 (by decide) (Nat.le_of_ble_eq_true rfl) (k_resV (ci := 1) (av := [.int 8]) (rest := []) (fs_1 hF12) (by decide) rfl rfl q751 q752 q753 q754 mhX2_isWord mnX2_isWord dX3_atom_68) (fun y18 h19 g20 H => ?_)
    refine V_if_eq (tgt := 95) dX3_atom_71 (by decide) (fun c21 => ?_) (fun c21 => ?_)
    · have H := H.1 c21
      refine V_aload_n dX3_atom_95 rfl 1 rfl ?_
      refine H_getr ck2 0 (by decide) (fs_5 hF12) (by decide) rfl (fr_5_0 hF12) q180 dX3_atom_96 ?_
      refine V_iconst (v := 0) dX3_atom_99 (by decide) ?_
      refine H_calli (av := [.ref (ad D 1), .int 0]) (rest := []) H mqX2_isSign q82 (by decide) (Nat.le_of_ble_eq_true rfl) (k_resV (ci := 1) (av := [.int 0]) (rest := []) (fs_1 hF12) (by decide) rfl rfl q738 q733 q734 q735 mhX2_isSign mnX2_isSign dX3_atom_100) (fun y22 h23 g24 H => ?_)
      refine V_if_eq (tgt := 119) dX3_atom_103 (by decide) (fun c25 => ?_) (fun c25 => ?_)
      · have H := H.1 c25
        refine V_aload_n dX3_atom_119 rfl 1 rfl ?_
        refine H_getr ck2 0 (by decide) (fs_5 hF12) (by decide) rfl (fr_5_0 hF12) q180 dX3_atom_120 ?_
        refine H_callv (av := [.ref (ad D 1)]) (rest := []) H mqX2_next q82 (by decide) (Nat.le_of_ble_eq_true rfl) (k_resV (ci := 1) (av := []) (rest := []) (fs_1 hF12) (by decide) rfl rfl q727 q436 q437 q438 mhX2_next mnX2_next dX3_atom_123) (fun h26 g27 H => ?_)
        refine V_aload_n dX3_atom_126 rfl 1 rfl ?_
        refine H_getr ck2 0 (by decide) (fs_5 hF12) (by decide) rfl (fr_5_0 hF12) q180 dX3_atom_127 ?_
        refine V_iconst (v := 0) dX3_atom_130 (by decide) ?_
        refine H_calli (av := [.ref (ad D 1), .int 0]) (rest := []) H mqX2_isSign q82 (by decide) (Nat.le_of_ble_eq_true rfl) (k_resV (ci := 1) (av := [.int 0]) (rest := []) (fs_1 hF12) (by decide) rfl rfl q738 q733 q734 q735 mhX2_isSign mnX2_isSign dX3_atom_131) (fun y28 h29 g30 H => ?_)
        refine V_if_eq (tgt := 145) dX3_atom_134 (by decide) (fun c31 => ?_) (fun c31 => ?_)
        · have H := H.1 c31
          obtain ⟨z32, H⟩ := H
          refine G_new ck16 (by decide) k_df16 q940 q941 q110 dX3_atom_145 (fun F33 h34 g35 e36 e37 e38 => ?_)
          have H := H F33 h34 g35 e36 e37 e38
          have hF39 : k_Fix F33 := by rw [e36]; exact k_Fix.new hF12 z32 _ _
          have z40 : F33.2.1 F11.1.1 = (26, 0) := by rw [e36]; simp [fnw, up0]
          have z41 : isE F33 F11.1.1 16 := ⟨z40, by decide, by decide⟩
          refine V_dup dX3_atom_148 rfl ?_
          refine V_iload_n dX3_atom_149 rfl 0 rfl ?_
          refine H_callv (av := [.ref (ad D F11.1.1), .int y14]) (rest := [.ref (ad D F11.1.1)]) H mqX18_init q110 (by decide) (Nat.le_of_ble_eq_true rfl) (k_resI (av := [.int y14]) (rest := [.ref (ad D F11.1.1)]) rfl q942 q943 q944 mhX18_init mnX18_init dX3_atom_150) (fun h42 g43 H => ?_)
          exact G_aret hF39 rfl dX3_atom_153 H
        · have H := H.2 c31
          refine V_aload_n dX3_atom_137 rfl 1 rfl ?_
          refine V_iload_n dX3_atom_138 rfl 0 rfl ?_
          refine G_callr (av := [.ref (ad D 5), .int y14]) (rest := []) H mqX3_call q83 (by decide) (Nat.le_of_ble_eq_true rfl) (k_resV (ci := 2) (av := [.int y14]) (rest := []) (fs_5 hF12) (by decide) rfl rfl q911 q913 qs20 q914 mhX3_call mnX3_call dX3_atom_139) (fun b44 F47 h45 g46 hF48 H => ?_) (fun a e F1 h1 g1 hF1 ha ht => GT_r hF1 rfl ha ht)
          refine V_goto (tgt := 153) dX3_atom_142 (by decide) ?_
          exact G_aret hF48 rfl dX3_atom_153 H
      · have H := H.2 c25
        refine V_aload_n dX3_atom_106 rfl 1 rfl ?_
        refine H_getr ck2 0 (by decide) (fs_5 hF12) (by decide) rfl (fr_5_0 hF12) q180 dX3_atom_107 ?_
        refine H_callv (av := [.ref (ad D 1)]) (rest := []) H mqX2_next q82 (by decide) (Nat.le_of_ble_eq_true rfl) (k_resV (ci := 1) (av := []) (rest := []) (fs_1 hF12) (by decide) rfl rfl q727 q436 q437 q438 mhX2_next mnX2_next dX3_atom_110) (fun h50 g51 H => ?_)
        refine V_aload_n dX3_atom_113 rfl 1 rfl ?_
        refine V_iload_n dX3_atom_114 rfl 0 rfl ?_
        refine G_callr (av := [.ref (ad D 5), .int y14]) (rest := []) H mqX3_brackets q83 (by decide) (Nat.le_of_ble_eq_true rfl) (k_resV (ci := 2) (av := [.int y14]) (rest := []) (fs_5 hF12) (by decide) rfl rfl q892 q894 qs19 q895 mhX3_brackets mnX3_brackets dX3_atom_115) (fun b52 F55 h53 g54 hF56 H => ?_) (fun a e F1 h1 g1 hF1 ha ht => GT_r hF1 rfl ha ht)
        exact G_aret hF56 rfl dX3_atom_118 H
    · have H := H.2 c21
      refine V_aload_n dX3_atom_74 rfl 1 rfl ?_
      refine H_getr ck2 0 (by decide) (fs_5 hF12) (by decide) rfl (fr_5_0 hF12) q180 dX3_atom_75 ?_
      refine H_callv (av := [.ref (ad D 1)]) (rest := []) H mqX2_next q82 (by decide) (Nat.le_of_ble_eq_true rfl) (k_resV (ci := 1) (av := []) (rest := []) (fs_1 hF12) (by decide) rfl rfl q727 q436 q437 q438 mhX2_next mnX2_next dX3_atom_78) (fun h58 g59 H => ?_)
      obtain ⟨z60, H⟩ := H
      refine G_new ck13 (by decide) k_df13 q883 q884 q107 dX3_atom_81 (fun F61 h62 g63 e64 e65 e66 => ?_)
      have H := H F61 h62 g63 e64 e65 e66
      have hF67 : k_Fix F61 := by rw [e64]; exact k_Fix.new hF12 z60 _ _
      have z68 : F61.2.1 F11.1.1 = (23, 0) := by rw [e64]; simp [fnw, up0]
      have z69 : isE F61 F11.1.1 13 := ⟨z68, by decide, by decide⟩
      refine V_dup dX3_atom_84 rfl ?_
      refine V_iload_n dX3_atom_85 rfl 0 rfl ?_
      refine V_aload_n dX3_atom_86 rfl 1 rfl ?_
      refine V_iconst (v := 0) dX3_atom_87 (by decide) ?_
      refine G_calli (av := [.ref (ad D 5), .int 0]) (rest := [.int y14, .ref (ad D F11.1.1), .ref (ad D F11.1.1)]) H mqX3_type q83 (by decide) (Nat.le_of_ble_eq_true rfl) (k_resV (ci := 2) (av := [.int 0]) (rest := [.int y14, .ref (ad D F11.1.1), .ref (ad D F11.1.1)]) (fs_5 hF67) (by decide) rfl rfl q747 q749 qs9 q750 mhX3_type mnX3_type dX3_atom_88) (fun y70 F73 h71 g72 hF74 H => ?_) (fun a e F1 h1 g1 hF1 ha ht => GT_r hF1 rfl ha ht)
      refine H_callv (av := [.ref (ad D F11.1.1), .int y14, .int y70]) (rest := [.ref (ad D F11.1.1)]) H mqX15_init q107 (by decide) (Nat.le_of_ble_eq_true rfl) (k_resI (av := [.int y14, .int y70]) (rest := [.ref (ad D F11.1.1)]) rfl q885 q886 q887 mhX15_init mnX15_init dX3_atom_91) (fun h76 g77 H => ?_)
      exact G_aret hF74 rfl dX3_atom_94 H
  · have H := H.2 c17
    obtain ⟨z78, H⟩ := H
    refine G_new ck12 (by decide) k_df12 q871 q872 q106 dX3_atom_37 (fun F79 h80 g81 e82 e83 e84 => ?_)
    have H := H F79 h80 g81 e82 e83 e84
    have hF85 : k_Fix F79 := by rw [e82]; exact k_Fix.new hF12 z78 _ _
    have z86 : F79.2.1 F11.1.1 = (22, 0) := by rw [e82]; simp [fnw, up0]
    have z87 : isE F79 F11.1.1 12 := ⟨z86, by decide, by decide⟩
    refine V_dup dX3_atom_40 rfl ?_
    refine V_iload_n dX3_atom_41 rfl 0 rfl ?_
    refine V_aload_n dX3_atom_42 rfl 1 rfl ?_
    refine H_getr ck2 0 (by decide) (fs_5 hF85) (by decide) rfl (fr_5_0 hF85) q180 dX3_atom_43 ?_
    refine H_getiN ck1 6 (by decide) (fs_1 hF85) (by decide) rfl q139 dX3_atom_46 ?_
    refine H_callv (av := [.ref (ad D F11.1.1), .int y14, .int (h80 1 6)]) (rest := [.ref (ad D F11.1.1)]) H mqX14_init q106 (by decide) (Nat.le_of_ble_eq_true rfl) (k_resI (av := [.int y14, .int (h80 1 6)]) (rest := [.ref (ad D F11.1.1)]) rfl q873 q874 q875 mhX14_init mnX14_init dX3_atom_49) (fun h88 g89 H => ?_)
    refine V_astore_n (l1 := [(2, .ref (ad D F11.1.1)), (1, .int y14), (0, .ref (ad D 5))]) dX3_atom_52 rfl (by decide) rfl ?_
    refine V_aload_n dX3_atom_53 rfl 2 rfl ?_
    refine H_getr ck2 0 (by decide) (fs_5 hF85) (by decide) rfl (fr_5_0 hF85) q180 dX3_atom_54 ?_
    refine H_callv (av := [.ref (ad D 1)]) (rest := []) H mqX2_next q82 (by decide) (Nat.le_of_ble_eq_true rfl) (k_resV (ci := 1) (av := []) (rest := []) (fs_1 hF85) (by decide) rfl rfl q727 q436 q437 q438 mhX2_next mnX2_next dX3_atom_57) (fun h90 g91 H => ?_)
    refine V_aload_n dX3_atom_60 rfl 0 rfl ?_
    exact G_aret hF85 rfl dX3_atom_61 H
theorem wX3_atom {D : DE} {f : Nat} {Q : Nat → Frm → HI → HL → Prop} {T : Nat → Frm → HI → HL → Prop} {F : Frm} {h : HI} {g : HL} (hF : k_Fix F)  (H : JX3_atom_0 D f Q T F h g ) : Gr D (f + 1) mX3_atom [.ref (ad D 5)] F h g Q T := Cl.ofV (by decide) (Nat.le_of_ble_eq_true rfl) rfl (bX3_atom_0 hF  H)
theorem dX3_brackets_0 : decode cX3_brackets 0 = .ok (.aload_n 0, 1) := by decide +kernel
theorem dX3_brackets_1 : decode cX3_brackets 1 = .ok (.invokevirtual 91, 3) := by decide +kernel
theorem dX3_brackets_4 : decode cX3_brackets 4 = .ok (.astore_n 2, 1) := by decide +kernel
theorem dX3_brackets_5 : decode cX3_brackets 5 = .ok (.aload_n 0, 1) := by decide +kernel
theorem dX3_brackets_6 : decode cX3_brackets 6 = .ok (.getfield 17, 3) := by decide +kernel
theorem dX3_brackets_9 : decode cX3_brackets 9 = .ok (.iconst 2, 1) := by decide +kernel
theorem dX3_brackets_10 : decode cX3_brackets 10 = .ok (.invokevirtual 75, 3) := by decide +kernel
theorem dX3_brackets_13 : decode cX3_brackets 13 = .ok (.ifCond .eq 25, 3) := by decide +kernel
theorem dX3_brackets_16 : decode cX3_brackets 16 = .ok (.aload_n 0, 1) := by decide +kernel
theorem dX3_brackets_17 : decode cX3_brackets 17 = .ok (.getfield 17, 3) := by decide +kernel
theorem dX3_brackets_20 : decode cX3_brackets 20 = .ok (.iconst 2, 1) := by decide +kernel
theorem dX3_brackets_21 : decode cX3_brackets 21 = .ok (.invokevirtual 71, 3) := by decide +kernel
theorem dX3_brackets_24 : decode cX3_brackets 24 = .ok (.new 190, 3) := by decide +kernel
theorem dX3_brackets_27 : decode cX3_brackets 27 = .ok (.dup, 1) := by decide +kernel
theorem dX3_brackets_28 : decode cX3_brackets 28 = .ok (.iload_n 1, 1) := by decide +kernel
theorem dX3_brackets_29 : decode cX3_brackets 29 = .ok (.aload_n 2, 1) := by decide +kernel
theorem dX3_brackets_30 : decode cX3_brackets 30 = .ok (.aload_n 0, 1) := by decide +kernel
theorem dX3_brackets_31 : decode cX3_brackets 31 = .ok (.invokevirtual 91, 3) := by decide +kernel
theorem dX3_brackets_34 : decode cX3_brackets 34 = .ok (.invokespecial 192, 3) := by decide +kernel
theorem dX3_brackets_37 : decode cX3_brackets 37 = .ok (.astore_n 2, 1) := by decide +kernel
theorem dX3_brackets_38 : decode cX3_brackets 38 = .ok (.aload_n 0, 1) := by decide +kernel
theorem dX3_brackets_39 : decode cX3_brackets 39 = .ok (.getfield 17, 3) := by decide +kernel
theorem dX3_brackets_42 : decode cX3_brackets 42 = .ok (.iconst 1, 1) := by decide +kernel
theorem dX3_brackets_43 : decode cX3_brackets 43 = .ok (.invokevirtual 71, 3) := by decide +kernel
theorem dX3_brackets_46 : decode cX3_brackets 46 = .ok (.aload_n 2, 1) := by decide +kernel
theorem dX3_brackets_47 : decode cX3_brackets 47 = .ok (.areturn, 1) := by decide +kernel
abbrev JX3_brackets_38 (D : DE) (f : Nat) (Q : Nat → Frm → HI → HL → Prop) (T : Nat → Frm → HI → HL → Prop) (F : Frm) (h : HI) (g : HL) (x2 : Nat) : Prop := Gv D f mX2_sign [.ref (ad D 1), .int 1] F h g (fun F3 h1 g2 => Q x2 F3 h1 g2) T
theorem bX3_brackets_38 {D : DE} {f : Nat} {Q : Nat → Frm → HI → HL → Prop} {T : Nat → Frm → HI → HL → Prop} {F : Frm} {h : HI} {g : HL} (hF : k_Fix F) (x2 : Nat) (H : JX3_brackets_38 D f Q T F h g x2) : V D mX3_brackets (f + 1) (gr D Q T) 38 [(0, .ref (ad D 5)), (2, .ref (ad D x2))] [] (F, h, g) := by
  refine V_aload_n dX3_brackets_38 rfl 0 rfl ?_
  refine H_getr ck2 0 (by decide) (fs_5 hF) (by decide) rfl (fr_5_0 hF) q180 dX3_brackets_39 ?_
  refine V_iconst (v := 1) dX3_brackets_42 (by decide) ?_
  refine G_callv (av := [.ref (ad D 1), .int 1]) (rest := []) H mqX2_sign q82 (by decide) (Nat.le_of_ble_eq_true rfl) (k_resV (ci := 1) (av := [.int 1]) (rest := []) (fs_1 hF) (by decide) rfl rfl q728 q729 q730 q731 mhX2_sign mnX2_sign dX3_brackets_43) (fun F3 h1 g2 hF4 H => ?_) (fun a e F1 h1 g1 hF1 ha ht => GT_r hF1 rfl ha ht)
  refine V_aload_n dX3_brackets_46 rfl 1 rfl ?_
  exact G_aret hF4 rfl dX3_brackets_47 H
abbrev JX3_brackets_0 (D : DE) (f : Nat) (Q : Nat → Frm → HI → HL → Prop) (T : Nat → Frm → HI → HL → Prop) (F : Frm) (h : HI) (g : HL) (x1 : Int32) : Prop := Gr D f mX3_expression [.ref (ad D 5)] F h g (fun b1 F4 h2 g3 => Si D f mX2_isSign [.ref (ad D 1), .int 2] F4 h2 g3 (fun y7 h8 g9 => ((y7 = 0 → JX3_brackets_38 D f Q T F4 h8 g9 b1) ∧ (¬ y7 = 0 → Gv D f mX2_sign [.ref (ad D 1), .int 2] F4 h8 g9 (fun F13 h11 g12 => 160 ≤ F13.1.1 ∧ ∀ F17 h18 g19, F17 = fnw F13 (24, 0) 4 → h18 = up1 h11 F13.1.1 (fun _ => 0) → g19 = up1 g12 F13.1.1 (fun _ => 0) → Gr D f mX3_expression [.ref (ad D 5)] F17 h18 g19 (fun b26 F29 h27 g28 => Gv D f mX16_init [.ref (ad D F13.1.1), .int x1, .ref (ad D b1), .ref (ad D b26)] F29 h27 g28 (fun F34 h32 g33 => JX3_brackets_38 D f Q T F34 h32 g33 F13.1.1) T) T) T)))) T
theorem bX3_brackets_0 {D : DE} {f : Nat} {Q : Nat → Frm → HI → HL → Prop} {T : Nat → Frm → HI → HL → Prop} {F : Frm} {h : HI} {g : HL} (hF : k_Fix F) (x1 : Int32) (H : JX3_brackets_0 D f Q T F h g x1) : V D mX3_brackets (f + 1) (gr D Q T) 0 [(0, .ref (ad D 5)), (1, .int x1)] [] (F, h, g) := by
  refine V_aload_n dX3_brackets_0 rfl 0 rfl ?_
  refine G_callr (av := [.ref (ad D 5)]) (rest := []) H mqX3_expression q83 (by decide) (Nat.le_of_ble_eq_true rfl) (k_resV (ci := 2) (av := []) (rest := []) (fs_5 hF) (by decide) rfl rfl q763 q765 qs10 q766 mhX3_expression mnX3_expression dX3_brackets_1) (fun b1 F4 h2 g3 hF5 H => ?_) (fun a e F1 h1 g1 hF1 ha ht => GT_r hF1 rfl ha ht)
  refine V_astore_n (l1 := [(2, .ref (ad D b1)), (0, .ref (ad D 5)), (1, .int x1)]) dX3_brackets_4 rfl (by decide) rfl ?_
  refine V_aload_n dX3_brackets_5 rfl 1 rfl ?_
  refine H_getr ck2 0 (by decide) (fs_5 hF5) (by decide) rfl (fr_5_0 hF5) q180 dX3_brackets_6 ?_
  refine V_iconst (v := 2) dX3_brackets_9 (by decide) ?_
  refine H_calli (av := [.ref (ad D 1), .int 2]) (rest := []) H mqX2_isSign q82 (by decide) (Nat.le_of_ble_eq_true rfl) (k_resV (ci := 1) (av := [.int 2]) (rest := []) (fs_1 hF5) (by decide) rfl rfl q738 q733 q734 q735 mhX2_isSign mnX2_isSign dX3_brackets_10) (fun y7 h8 g9 H => ?_)
  refine V_if_eq (tgt := 38) dX3_brackets_13 (by decide) (fun c10 => ?_) (fun c10 => ?_)
  · have H := H.1 c10
    refine V.sub [1, 0] rfl ?_
    exact bX3_brackets_38 hF5 b1 H
  · have H := H.2 c10
    refine V_aload_n dX3_brackets_16 rfl 1 rfl ?_
    refine H_getr ck2 0 (by decide) (fs_5 hF5) (by decide) rfl (fr_5_0 hF5) q180 dX3_brackets_17 ?_
    refine V_iconst (v := 2) dX3_brackets_20 (by decide) ?_
    refine G_callv (av := [.ref (ad D 1), .int 2]) (rest := []) H mqX2_sign q82 (by decide) (Nat.le_of_ble_eq_true rfl) (k_resV (ci := 1) (av := [.int 2]) (rest := []) (fs_1 hF5) (by decide) rfl rfl q728 q729 q730 q731 mhX2_sign mnX2_sign dX3_brackets_21) (fun F13 h11 g12 hF14 H => ?_) (fun a e F1 h1 g1 hF1 ha ht => GT_r hF1 rfl ha ht)
    obtain ⟨z16, H⟩ := H
    refine G_new ck14 (by decide) k_df14 q896 q897 q108 dX3_brackets_24 (fun F17 h18 g19 e20 e21 e22 => ?_)
    have H := H F17 h18 g19 e20 e21 e22
    have hF23 : k_Fix F17 := by rw [e20]; exact k_Fix.new hF14 z16 _ _
    have z24 : F17.2.1 F13.1.1 = (24, 0) := by rw [e20]; simp [fnw, up0]
    have z25 : isE F17 F13.1.1 14 := ⟨z24, by decide, by decide⟩
    refine V_dup dX3_brackets_27 rfl ?_
    refine V_iload_n dX3_brackets_28 rfl 2 rfl ?_
    refine V_aload_n dX3_brackets_29 rfl 0 rfl ?_
    refine V_aload_n dX3_brackets_30 rfl 1 rfl ?_
    refine G_callr (av := [.ref (ad D 5)]) (rest := [.ref (ad D b1), .int x1, .ref (ad D F13.1.1), .ref (ad D F13.1.1)]) H mqX3_expression q83 (by decide) (Nat.le_of_ble_eq_true rfl) (k_resV (ci := 2) (av := []) (rest := [.ref (ad D b1), .int x1, .ref (ad D F13.1.1), .ref (ad D F13.1.1)]) (fs_5 hF23) (by decide) rfl rfl q763 q765 qs10 q766 mhX3_expression mnX3_expression dX3_brackets_31) (fun b26 F29 h27 g28 hF30 H => ?_) (fun a e F1 h1 g1 hF1 ha ht => GT_r hF1 rfl ha ht)
    refine G_callv (av := [.ref (ad D F13.1.1), .int x1, .ref (ad D b1), .ref (ad D b26)]) (rest := [.ref (ad D F13.1.1)]) H mqX16_init q108 (by decide) (Nat.le_of_ble_eq_true rfl) (k_resI (av := [.int x1, .ref (ad D b1), .ref (ad D b26)]) (rest := [.ref (ad D F13.1.1)]) rfl q898 q899 q900 mhX16_init mnX16_init dX3_brackets_34) (fun F34 h32 g33 hF35 H => ?_) (fun a e F1 h1 g1 hF1 ha ht => GT_r hF1 rfl ha ht)
    refine V_astore_n (l1 := [(2, .ref (ad D F13.1.1)), (0, .ref (ad D 5)), (1, .int x1)]) dX3_brackets_37 rfl (by decide) rfl ?_
    refine V.sub [1, 0] rfl ?_
    exact bX3_brackets_38 hF35 F13.1.1 H
theorem wX3_brackets {D : DE} {f : Nat} {Q : Nat → Frm → HI → HL → Prop} {T : Nat → Frm → HI → HL → Prop} {F : Frm} {h : HI} {g : HL} (hF : k_Fix F) (x1 : Int32) (H : JX3_brackets_0 D f Q T F h g x1) : Gr D (f + 1) mX3_brackets [.ref (ad D 5), .int x1] F h g Q T := Cl.ofV (by decide) (Nat.le_of_ble_eq_true rfl) rfl (bX3_brackets_0 hF x1 H)
theorem dX3_call_0 : decode cX3_call 0 = .ok (.new 193, 3) := by decide +kernel
theorem dX3_call_3 : decode cX3_call 3 = .ok (.dup, 1) := by decide +kernel
theorem dX3_call_4 : decode cX3_call 4 = .ok (.iload_n 1, 1) := by decide +kernel
theorem dX3_call_5 : decode cX3_call 5 = .ok (.invokespecial 195, 3) := by decide +kernel
theorem dX3_call_8 : decode cX3_call 8 = .ok (.astore_n 2, 1) := by decide +kernel
theorem dX3_call_9 : decode cX3_call 9 = .ok (.aload_n 0, 1) := by decide +kernel
theorem dX3_call_10 : decode cX3_call 10 = .ok (.getfield 17, 3) := by decide +kernel
theorem dX3_call_13 : decode cX3_call 13 = .ok (.iconst 0, 1) := by decide +kernel
theorem dX3_call_14 : decode cX3_call 14 = .ok (.invokevirtual 71, 3) := by decide +kernel
theorem dX3_call_17 : decode cX3_call 17 = .ok (.aload_n 0, 1) := by decide +kernel
theorem dX3_call_18 : decode cX3_call 18 = .ok (.getfield 17, 3) := by decide +kernel
theorem dX3_call_21 : decode cX3_call 21 = .ok (.iconst 1, 1) := by decide +kernel
theorem dX3_call_22 : decode cX3_call 22 = .ok (.invokevirtual 75, 3) := by decide +kernel
theorem dX3_call_25 : decode cX3_call 25 = .ok (.ifCond .ne 35, 3) := by decide +kernel
theorem dX3_call_28 : decode cX3_call 28 = .ok (.aload_n 0, 1) := by decide +kernel
theorem dX3_call_29 : decode cX3_call 29 = .ok (.aload_n 2, 1) := by decide +kernel
theorem dX3_call_30 : decode cX3_call 30 = .ok (.invokevirtual 196, 3) := by decide +kernel
theorem dX3_call_33 : decode cX3_call 33 = .ok (.aload_n 0, 1) := by decide +kernel
theorem dX3_call_34 : decode cX3_call 34 = .ok (.getfield 17, 3) := by decide +kernel
theorem dX3_call_37 : decode cX3_call 37 = .ok (.iconst 2, 1) := by decide +kernel
theorem dX3_call_38 : decode cX3_call 38 = .ok (.invokevirtual 75, 3) := by decide +kernel
theorem dX3_call_41 : decode cX3_call 41 = .ok (.ifCond .eq 19, 3) := by decide +kernel
theorem dX3_call_44 : decode cX3_call 44 = .ok (.aload_n 0, 1) := by decide +kernel
theorem dX3_call_45 : decode cX3_call 45 = .ok (.getfield 17, 3) := by decide +kernel
theorem dX3_call_48 : decode cX3_call 48 = .ok (.iconst 2, 1) := by decide +kernel
theorem dX3_call_49 : decode cX3_call 49 = .ok (.invokevirtual 71, 3) := by decide +kernel
theorem dX3_call_52 : decode cX3_call 52 = .ok (.aload_n 0, 1) := by decide +kernel
theorem dX3_call_53 : decode cX3_call 53 = .ok (.aload_n 2, 1) := by decide +kernel
theorem dX3_call_54 : decode cX3_call 54 = .ok (.invokevirtual 196, 3) := by decide +kernel
theorem dX3_call_57 : decode cX3_call 57 = .ok (.goto (-24), 3) := by decide +kernel
theorem dX3_call_60 : decode cX3_call 60 = .ok (.aload_n 0, 1) := by decide +kernel
theorem dX3_call_61 : decode cX3_call 61 = .ok (.getfield 17, 3) := by decide +kernel
theorem dX3_call_64 : decode cX3_call 64 = .ok (.iconst 1, 1) := by decide +kernel
theorem dX3_call_65 : decode cX3_call 65 = .ok (.invokevirtual 71, 3) := by decide +kernel
theorem dX3_call_68 : decode cX3_call 68 = .ok (.aload_n 2, 1) := by decide +kernel
theorem dX3_call_69 : decode cX3_call 69 = .ok (.areturn, 1) := by decide +kernel
abbrev JX3_call_60 (D : DE) (f : Nat) (Q : Nat → Frm → HI → HL → Prop) (T : Nat → Frm → HI → HL → Prop) (F : Frm) (h : HI) (g : HL) (x2 : Nat) : Prop := Gv D f mX2_sign [.ref (ad D 1), .int 1] F h g (fun F3 h1 g2 => Q x2 F3 h1 g2) T
theorem bX3_call_60 {D : DE} {f : Nat} {Q : Nat → Frm → HI → HL → Prop} {T : Nat → Frm → HI → HL → Prop} {F : Frm} {h : HI} {g : HL} (hF : k_Fix F) (x2 : Nat) (H : JX3_call_60 D f Q T F h g x2) : V D mX3_call (f + 1) (gr D Q T) 60 [(0, .ref (ad D 5)), (2, .ref (ad D x2))] [] (F, h, g) := by
  refine V_aload_n dX3_call_60 rfl 0 rfl ?_
  refine H_getr ck2 0 (by decide) (fs_5 hF) (by decide) rfl (fr_5_0 hF) q180 dX3_call_61 ?_
  refine V_iconst (v := 1) dX3_call_64 (by decide) ?_
  refine G_callv (av := [.ref (ad D 1), .int 1]) (rest := []) H mqX2_sign q82 (by decide) (Nat.le_of_ble_eq_true rfl) (k_resV (ci := 1) (av := [.int 1]) (rest := []) (fs_1 hF) (by decide) rfl rfl q728 q729 q730 q731 mhX2_sign mnX2_sign dX3_call_65) (fun F3 h1 g2 hF4 H => ?_) (fun a e F1 h1 g1 hF1 ha ht => GT_r hF1 rfl ha ht)
  refine V_aload_n dX3_call_68 rfl 1 rfl ?_
  exact G_aret hF4 rfl dX3_call_69 H
abbrev JX3_call_33 (D : DE) (f : Nat) (Q : Nat → Frm → HI → HL → Prop) (T : Nat → Frm → HI → HL → Prop) (F : Frm) (h : HI) (g : HL) (x2 : Nat) : Prop := Si D f mX2_isSign [.ref (ad D 1), .int 2] F h g (fun y1 h2 g3 => ((y1 = 0 → JX3_call_60 D f Q T F h2 g3 x2) ∧ (¬ y1 = 0 → Gv D f mX2_sign [.ref (ad D 1), .int 2] F h2 g3 (fun F7 h5 g6 => Gv D f mX3_argument [.ref (ad D 5), .ref (ad D x2)] F7 h5 g6 (fun F12 h10 g11 => V D mX3_call (f + 1) (gr D Q T) 33 [(0, .ref (ad D 5)), (2, .ref (ad D x2))] [] (F12, h10, g11)) T) T)))
theorem bX3_call_33 {D : DE} {f : Nat} {Q : Nat → Frm → HI → HL → Prop} {T : Nat → Frm → HI → HL → Prop} {F : Frm} {h : HI} {g : HL} (hF : k_Fix F) (x2 : Nat) (H : JX3_call_33 D f Q T F h g x2) : V D mX3_call (f + 1) (gr D Q T) 33 [(0, .ref (ad D 5)), (2, .ref (ad D x2))] [] (F, h, g) := by
  refine V_aload_n dX3_call_33 rfl 0 rfl ?_
  refine H_getr ck2 0 (by decide) (fs_5 hF) (by decide) rfl (fr_5_0 hF) q180 dX3_call_34 ?_
  refine V_iconst (v := 2) dX3_call_37 (by decide) ?_
  refine H_calli (av := [.ref (ad D 1), .int 2]) (rest := []) H mqX2_isSign q82 (by decide) (Nat.le_of_ble_eq_true rfl) (k_resV (ci := 1) (av := [.int 2]) (rest := []) (fs_1 hF) (by decide) rfl rfl q738 q733 q734 q735 mhX2_isSign mnX2_isSign dX3_call_38) (fun y1 h2 g3 H => ?_)
  refine V_if_eq (tgt := 60) dX3_call_41 (by decide) (fun c4 => ?_) (fun c4 => ?_)
  · have H := H.1 c4
    exact bX3_call_60 hF x2 H
  · have H := H.2 c4
    refine V_aload_n dX3_call_44 rfl 0 rfl ?_
    refine H_getr ck2 0 (by decide) (fs_5 hF) (by decide) rfl (fr_5_0 hF) q180 dX3_call_45 ?_
    refine V_iconst (v := 2) dX3_call_48 (by decide) ?_
    refine G_callv (av := [.ref (ad D 1), .int 2]) (rest := []) H mqX2_sign q82 (by decide) (Nat.le_of_ble_eq_true rfl) (k_resV (ci := 1) (av := [.int 2]) (rest := []) (fs_1 hF) (by decide) rfl rfl q728 q729 q730 q731 mhX2_sign mnX2_sign dX3_call_49) (fun F7 h5 g6 hF8 H => ?_) (fun a e F1 h1 g1 hF1 ha ht => GT_r hF1 rfl ha ht)
    refine V_aload_n dX3_call_52 rfl 0 rfl ?_
    refine V_aload_n dX3_call_53 rfl 1 rfl ?_
    refine G_callv (av := [.ref (ad D 5), .ref (ad D x2)]) (rest := []) H mqX3_argument q83 (by decide) (Nat.le_of_ble_eq_true rfl) (k_resV (ci := 2) (av := [.ref (ad D x2)]) (rest := []) (fs_5 hF8) (by decide) rfl rfl q936 q938 qs21 q939 mhX3_argument mnX3_argument dX3_call_54) (fun F12 h10 g11 hF13 H => ?_) (fun a e F1 h1 g1 hF1 ha ht => GT_r hF1 rfl ha ht)
    refine V_goto (tgt := 33) dX3_call_57 (by decide) ?_
    exact H
abbrev JX3_call_0 (D : DE) (f : Nat) (Q : Nat → Frm → HI → HL → Prop) (T : Nat → Frm → HI → HL → Prop) (F : Frm) (h : HI) (g : HL) (x1 : Int32) : Prop := 160 ≤ F.1.1 ∧ ∀ F2 h3 g4, F2 = fnw F (25, 0) 5 → h3 = up1 h F.1.1 (fun _ => 0) → g4 = up1 g F.1.1 (fun _ => 0) → Gv D f mX17_init [.ref (ad D F.1.1), .int x1] F2 h3 g4 (fun F13 h11 g12 => Gv D f mX2_sign [.ref (ad D 1), .int 0] F13 h11 g12 (fun F18 h16 g17 => Si D f mX2_isSign [.ref (ad D 1), .int 1] F18 h16 g17 (fun y21 h22 g23 => ((¬ y21 = 0 → JX3_call_60 D f Q T F18 h22 g23 F.1.1) ∧ (y21 = 0 → Gv D f mX3_argument [.ref (ad D 5), .ref (ad D F.1.1)] F18 h22 g23 (fun F27 h25 g26 => V D mX3_call (f + 1) (gr D Q T) 33 [(0, .ref (ad D 5)), (2, .ref (ad D F.1.1))] [] (F27, h25, g26)) T)))) T) T
theorem bX3_call_0 {D : DE} {f : Nat} {Q : Nat → Frm → HI → HL → Prop} {T : Nat → Frm → HI → HL → Prop} {F : Frm} {h : HI} {g : HL} (hF : k_Fix F) (x1 : Int32) (H : JX3_call_0 D f Q T F h g x1) : V D mX3_call (f + 1) (gr D Q T) 0 [(0, .ref (ad D 5)), (1, .int x1)] [] (F, h, g) := by
  obtain ⟨z1, H⟩ := H
  refine G_new ck15 (by decide) k_df15 q915 q916 q109 dX3_call_0 (fun F2 h3 g4 e5 e6 e7 => ?_)
  have H := H F2 h3 g4 e5 e6 e7
  have hF8 : k_Fix F2 := by rw [e5]; exact k_Fix.new hF z1 _ _
  have z9 : F2.2.1 F.1.1 = (25, 0) := by rw [e5]; simp [fnw, up0]
  have z10 : isE F2 F.1.1 15 := ⟨z9, by decide, by decide⟩
  refine V_dup dX3_call_3 rfl ?_
  refine V_iload_n dX3_call_4 rfl 1 rfl ?_
  refine G_callv (av := [.ref (ad D F.1.1), .int x1]) (rest := [.ref (ad D F.1.1)]) H mqX17_init q109 (by decide) (Nat.le_of_ble_eq_true rfl) (k_resI (av := [.int x1]) (rest := [.ref (ad D F.1.1)]) rfl q917 q918 q919 mhX17_init mnX17_init dX3_call_5) (fun F13 h11 g12 hF14 H => ?_) (fun a e F1 h1 g1 hF1 ha ht => GT_r hF1 rfl ha ht)
  refine V_astore_n (l1 := [(2, .ref (ad D F.1.1)), (0, .ref (ad D 5)), (1, .int x1)]) dX3_call_8 rfl (by decide) rfl ?_
  refine V_aload_n dX3_call_9 rfl 1 rfl ?_
  refine H_getr ck2 0 (by decide) (fs_5 hF14) (by decide) rfl (fr_5_0 hF14) q180 dX3_call_10 ?_
  refine V_iconst (v := 0) dX3_call_13 (by decide) ?_
  refine G_callv (av := [.ref (ad D 1), .int 0]) (rest := []) H mqX2_sign q82 (by decide) (Nat.le_of_ble_eq_true rfl) (k_resV (ci := 1) (av := [.int 0]) (rest := []) (fs_1 hF14) (by decide) rfl rfl q728 q729 q730 q731 mhX2_sign mnX2_sign dX3_call_14) (fun F18 h16 g17 hF19 H => ?_) (fun a e F1 h1 g1 hF1 ha ht => GT_r hF1 rfl ha ht)
  refine V_aload_n dX3_call_17 rfl 1 rfl ?_
  refine H_getr ck2 0 (by decide) (fs_5 hF19) (by decide) rfl (fr_5_0 hF19) q180 dX3_call_18 ?_
  refine V_iconst (v := 1) dX3_call_21 (by decide) ?_
  refine H_calli (av := [.ref (ad D 1), .int 1]) (rest := []) H mqX2_isSign q82 (by decide) (Nat.le_of_ble_eq_true rfl) (k_resV (ci := 1) (av := [.int 1]) (rest := []) (fs_1 hF19) (by decide) rfl rfl q738 q733 q734 q735 mhX2_isSign mnX2_isSign dX3_call_22) (fun y21 h22 g23 H => ?_)
  refine V_if_ne (tgt := 60) dX3_call_25 (by decide) (fun c24 => ?_) (fun c24 => ?_)
  · have H := H.1 c24
    refine V.sub [1, 0] rfl ?_
    exact bX3_call_60 hF19 F.1.1 H
  · have H := H.2 c24
    refine V_aload_n dX3_call_28 rfl 1 rfl ?_
    refine V_aload_n dX3_call_29 rfl 0 rfl ?_
    refine G_callv (av := [.ref (ad D 5), .ref (ad D F.1.1)]) (rest := []) H mqX3_argument q83 (by decide) (Nat.le_of_ble_eq_true rfl) (k_resV (ci := 2) (av := [.ref (ad D F.1.1)]) (rest := []) (fs_5 hF19) (by decide) rfl rfl q936 q938 qs21 q939 mhX3_argument mnX3_argument dX3_call_30) (fun F27 h25 g26 hF28 H => ?_) (fun a e F1 h1 g1 hF1 ha ht => GT_r hF1 rfl ha ht)
    refine V.sub [1, 0] rfl ?_
    exact H
theorem wX3_call {D : DE} {f : Nat} {Q : Nat → Frm → HI → HL → Prop} {T : Nat → Frm → HI → HL → Prop} {F : Frm} {h : HI} {g : HL} (hF : k_Fix F) (x1 : Int32) (H : JX3_call_0 D f Q T F h g x1) : Gr D (f + 1) mX3_call [.ref (ad D 5), .int x1] F h g Q T := Cl.ofV (by decide) (Nat.le_of_ble_eq_true rfl) rfl (bX3_call_0 hF x1 H)
theorem dX3_argument_0 : decode cX3_argument 0 = .ok (.aload_n 0, 1) := by decide +kernel
theorem dX3_argument_1 : decode cX3_argument 1 = .ok (.invokevirtual 91, 3) := by decide +kernel
theorem dX3_argument_4 : decode cX3_argument 4 = .ok (.astore_n 2, 1) := by decide +kernel
theorem dX3_argument_5 : decode cX3_argument 5 = .ok (.aload_n 1, 1) := by decide +kernel
theorem dX3_argument_6 : decode cX3_argument 6 = .ok (.getfield 200, 3) := by decide +kernel
theorem dX3_argument_9 : decode cX3_argument 9 = .ok (.iconst 4, 1) := by decide +kernel
theorem dX3_argument_10 : decode cX3_argument 10 = .ok (.if_icmp .ge 13, 3) := by decide +kernel
theorem dX3_argument_13 : decode cX3_argument 13 = .ok (.aload_n 1, 1) := by decide +kernel
theorem dX3_argument_14 : decode cX3_argument 14 = .ok (.getfield 201, 3) := by decide +kernel
theorem dX3_argument_17 : decode cX3_argument 17 = .ok (.aload_n 1, 1) := by decide +kernel
theorem dX3_argument_18 : decode cX3_argument 18 = .ok (.getfield 200, 3) := by decide +kernel
theorem dX3_argument_21 : decode cX3_argument 21 = .ok (.aload_n 2, 1) := by decide +kernel
theorem dX3_argument_22 : decode cX3_argument 22 = .ok (.aastore, 1) := by decide +kernel
theorem dX3_argument_23 : decode cX3_argument 23 = .ok (.aload_n 1, 1) := by decide +kernel
theorem dX3_argument_24 : decode cX3_argument 24 = .ok (.dup, 1) := by decide +kernel
theorem dX3_argument_25 : decode cX3_argument 25 = .ok (.getfield 200, 3) := by decide +kernel
theorem dX3_argument_28 : decode cX3_argument 28 = .ok (.iconst 1, 1) := by decide +kernel
theorem dX3_argument_29 : decode cX3_argument 29 = .ok (.iadd, 1) := by decide +kernel
theorem dX3_argument_30 : decode cX3_argument 30 = .ok (.putfield 200, 3) := by decide +kernel
theorem dX3_argument_33 : decode cX3_argument 33 = .ok (.return_, 1) := by decide +kernel
abbrev JX3_argument_23 (D : DE) (f : Nat) (Q : Frm → HI → HL → Prop) (T : Nat → Frm → HI → HL → Prop) (F : Frm) (h : HI) (g : HL) (x1 : Nat) : Prop := F.2.1 x1 = (25, 0) ∧ ∀ h2, h2 = up2 h x1 4 ((h x1 4) + 1) → Q F h2 g
theorem bX3_argument_23 {D : DE} {f : Nat} {Q : Frm → HI → HL → Prop} {T : Nat → Frm → HI → HL → Prop} {F : Frm} {h : HI} {g : HL} (hF : k_Fix F) (x1 : Nat) (H : JX3_argument_23 D f Q T F h g x1) : V D mX3_argument (f + 1) (gv Q T) 23 [(1, .ref (ad D x1))] [] (F, h, g) := by
  refine V_aload_n dX3_argument_23 rfl 0 rfl ?_
  refine V_dup dX3_argument_24 rfl ?_
  obtain ⟨z1, H⟩ := H
  refine H_getiN ck15 4 (by decide) z1 (by decide) rfl q926 dX3_argument_25 ?_
  refine V_iconst (v := 1) dX3_argument_28 (by decide) ?_
  refine V_iadd dX3_argument_29 ?_
  refine H_putiN ck15 4 (by decide) z1 (by decide) rfl rfl q926 dX3_argument_30 (fun h2 e3 => ?_)
  have H := H h2 e3
  exact G_vret hF rfl dX3_argument_33 H
abbrev JX3_argument_0 (D : DE) (f : Nat) (Q : Frm → HI → HL → Prop) (T : Nat → Frm → HI → HL → Prop) (F : Frm) (h : HI) (g : HL) (x1 : Nat) : Prop := Gr D f mX3_expression [.ref (ad D 5)] F h g (fun b1 F4 h2 g3 => F4.2.1 x1 = (25, 0) ∧ ((4 ≤ (h2 x1 4) → JX3_argument_23 D f Q T F4 h2 g3 x1) ∧ (¬ 4 ≤ (h2 x1 4) → ∃ b9 : Nat, F4.2.2 x1 3 = some b9 ∧ ∃ m11 : Nat, F4.2.1 b9 = (5, m11) ∧ vp_in (h2 x1 4) m11 ∧ ∃ k16 : Nat, isE F4 b1 k16 ∧ ∀ F14, F14 = fwr F4 b9 (ix (h2 x1 4)) (some b1) → 160 ≤ b9 ∧ JX3_argument_23 D f Q T F14 h2 g3 x1))) T
theorem bX3_argument_0 {D : DE} {f : Nat} {Q : Frm → HI → HL → Prop} {T : Nat → Frm → HI → HL → Prop} {F : Frm} {h : HI} {g : HL} (hF : k_Fix F) (x1 : Nat) (H : JX3_argument_0 D f Q T F h g x1) : V D mX3_argument (f + 1) (gv Q T) 0 [(0, .ref (ad D 5)), (1, .ref (ad D x1))] [] (F, h, g) := by
  refine V_aload_n dX3_argument_0 rfl 0 rfl ?_
  refine G_callr (av := [.ref (ad D 5)]) (rest := []) H mqX3_expression q83 (by decide) (Nat.le_of_ble_eq_true rfl) (k_resV (ci := 2) (av := []) (rest := []) (fs_5 hF) (by decide) rfl rfl q763 q765 qs10 q766 mhX3_expression mnX3_expression dX3_argument_1) (fun b1 F4 h2 g3 hF5 H => ?_) (fun a e F1 h1 g1 hF1 ha ht => GT_v hF1 rfl ha ht)
  refine V_astore_n (l1 := [(2, .ref (ad D b1)), (0, .ref (ad D 5)), (1, .ref (ad D x1))]) dX3_argument_4 rfl (by decide) rfl ?_
  refine V_aload_n dX3_argument_5 rfl 2 rfl ?_
  obtain ⟨z7, H⟩ := H
  refine H_getiN ck15 4 (by decide) z7 (by decide) rfl q926 dX3_argument_6 ?_
  refine V_iconst (v := 4) dX3_argument_9 (by decide) ?_
  refine V_icmp_ge (tgt := 23) dX3_argument_10 (by decide) (fun c8 => ?_) (fun c8 => ?_)
  · have H := H.1 c8
    refine V.sub [2] rfl ?_
    exact bX3_argument_23 hF5 x1 H
  · have H := H.2 c8
    refine V_aload_n dX3_argument_13 rfl 2 rfl ?_
    obtain ⟨b9, z10, H⟩ := H
    refine H_getrN ck15 3 (by decide) z7 (by decide) rfl z10 q924 dX3_argument_14 ?_
    refine V_aload_n dX3_argument_17 rfl 2 rfl ?_
    refine H_getiN ck15 4 (by decide) z7 (by decide) rfl q926 dX3_argument_18 ?_
    refine V_aload_n dX3_argument_21 rfl 0 rfl ?_
    obtain ⟨m11, z12, H⟩ := H
    obtain ⟨i13, H⟩ := H
    obtain ⟨k16, z17, H⟩ := H
    refine G_aastE z12 (by decide) (by decide) rfl i13 z17 dX3_argument_22 (fun F14 e15 => ?_)
    have H := H F14 e15
    obtain ⟨z19, H⟩ := H
    have hF18 : k_Fix F14 := by rw [e15]; exact k_Fix.wr hF5 (fx_okD z19) _
    have z20 : F14.2.1 x1 = (25, 0) := by rw [e15]; exact z7
    have z21 : F14.2.1 b9 = (5, m11) := by rw [e15]; exact z12
    have z22 : isE F14 b1 k16 := by rw [e15]; exact z17
    refine V.sub [2] rfl ?_
    exact bX3_argument_23 hF18 x1 H
theorem wX3_argument {D : DE} {f : Nat} {Q : Frm → HI → HL → Prop} {T : Nat → Frm → HI → HL → Prop} {F : Frm} {h : HI} {g : HL} (hF : k_Fix F) (x1 : Nat) (H : JX3_argument_0 D f Q T F h g x1) : Gv D (f + 1) mX3_argument [.ref (ad D 5), .ref (ad D x1)] F h g Q T := Cl.ofV (by decide) (Nat.le_of_ble_eq_true rfl) rfl (bX3_argument_0 hF x1 H)
theorem dX4_all_0 : decode cX4_all 0 = .ok (.aload_n 0, 1) := by decide +kernel
theorem dX4_all_1 : decode cX4_all 1 = .ok (.iload_n 1, 1) := by decide +kernel
theorem dX4_all_2 : decode cX4_all 2 = .ok (.putfield 23, 3) := by decide +kernel
theorem dX4_all_5 : decode cX4_all 5 = .ok (.iconst 0, 1) := by decide +kernel
theorem dX4_all_6 : decode cX4_all 6 = .ok (.istore_n 2, 1) := by decide +kernel
theorem dX4_all_7 : decode cX4_all 7 = .ok (.iload_n 2, 1) := by decide +kernel
theorem dX4_all_8 : decode cX4_all 8 = .ok (.iload_n 1, 1) := by decide +kernel
theorem dX4_all_9 : decode cX4_all 9 = .ok (.if_icmp .ge 67, 3) := by decide +kernel
theorem dX4_all_12 : decode cX4_all 12 = .ok (.aload_n 0, 1) := by decide +kernel
theorem dX4_all_13 : decode cX4_all 13 = .ok (.aload_n 0, 1) := by decide +kernel
theorem dX4_all_14 : decode cX4_all 14 = .ok (.getfield 19, 3) := by decide +kernel
theorem dX4_all_17 : decode cX4_all 17 = .ok (.iload_n 2, 1) := by decide +kernel
theorem dX4_all_18 : decode cX4_all 18 = .ok (.aaload, 1) := by decide +kernel
theorem dX4_all_19 : decode cX4_all 19 = .ok (.putfield 27, 3) := by decide +kernel
theorem dX4_all_22 : decode cX4_all 22 = .ok (.aload_n 0, 1) := by decide +kernel
theorem dX4_all_23 : decode cX4_all 23 = .ok (.iconst 0, 1) := by decide +kernel
theorem dX4_all_24 : decode cX4_all 24 = .ok (.putfield 31, 3) := by decide +kernel
theorem dX4_all_27 : decode cX4_all 27 = .ok (.iconst 0, 1) := by decide +kernel
theorem dX4_all_28 : decode cX4_all 28 = .ok (.istore_n 3, 1) := by decide +kernel
theorem dX4_all_29 : decode cX4_all 29 = .ok (.iload_n 3, 1) := by decide +kernel
theorem dX4_all_30 : decode cX4_all 30 = .ok (.aload_n 0, 1) := by decide +kernel
theorem dX4_all_31 : decode cX4_all 31 = .ok (.getfield 27, 3) := by decide +kernel
theorem dX4_all_34 : decode cX4_all 34 = .ok (.getfield 34, 3) := by decide +kernel
theorem dX4_all_37 : decode cX4_all 37 = .ok (.if_icmp .ge 14, 3) := by decide +kernel
theorem dX4_all_40 : decode cX4_all 40 = .ok (.aload_n 0, 1) := by decide +kernel
theorem dX4_all_41 : decode cX4_all 41 = .ok (.iload_n 3, 1) := by decide +kernel
theorem dX4_all_42 : decode cX4_all 42 = .ok (.invokevirtual 39, 3) := by decide +kernel
theorem dX4_all_45 : decode cX4_all 45 = .ok (.iinc 3 1, 3) := by decide +kernel
theorem dX4_all_48 : decode cX4_all 48 = .ok (.goto (-19), 3) := by decide +kernel
theorem dX4_all_51 : decode cX4_all 51 = .ok (.aload_n 0, 1) := by decide +kernel
theorem dX4_all_52 : decode cX4_all 52 = .ok (.aload_n 0, 1) := by decide +kernel
theorem dX4_all_53 : decode cX4_all 53 = .ok (.getfield 27, 3) := by decide +kernel
theorem dX4_all_56 : decode cX4_all 56 = .ok (.getfield 42, 3) := by decide +kernel
theorem dX4_all_59 : decode cX4_all 59 = .ok (.aload_n 0, 1) := by decide +kernel
theorem dX4_all_60 : decode cX4_all 60 = .ok (.getfield 27, 3) := by decide +kernel
theorem dX4_all_63 : decode cX4_all 63 = .ok (.getfield 46, 3) := by decide +kernel
theorem dX4_all_66 : decode cX4_all 66 = .ok (.invokevirtual 49, 3) := by decide +kernel
theorem dX4_all_69 : decode cX4_all 69 = .ok (.pop, 1) := by decide +kernel
theorem dX4_all_70 : decode cX4_all 70 = .ok (.iinc 2 1, 3) := by decide +kernel
theorem dX4_all_73 : decode cX4_all 73 = .ok (.goto (-66), 3) := by decide +kernel
theorem dX4_all_76 : decode cX4_all 76 = .ok (.return_, 1) := by decide +kernel
abbrev JX4_all_29 (D : DE) (f : Nat) (Q : Frm → HI → HL → Prop) (T : Nat → Frm → HI → HL → Prop) (F : Frm) (h : HI) (g : HL) (x1 : Int32) (x2 : Int32) (x3 : Int32) : Prop := ∃ b1 : Nat, F.2.2 7 3 = some b1 ∧ F.2.1 b1 = (18, 0) ∧ (((h b1 1) ≤ x3 → ∃ b5 : Nat, F.2.2 7 3 = some b5 ∧ F.2.1 b5 = (18, 0) ∧ ∃ b8 : Nat, F.2.2 b5 6 = some b8 ∧ ∃ b10 : Nat, F.2.2 7 3 = some b10 ∧ F.2.1 b10 = (18, 0) ∧ Gi D f mX4_judge [.ref (ad D 7), .ref (ad D b8), .int (h b10 3)] F h g (fun y13 F16 h14 g15 => ∀ y19 : Int32, y19 = x2 + 1 → V D mX4_all (f + 1) (gv Q T) 7 [(0, .ref (ad D 7)), (1, .int x1), (2, .int y19)] [] (F16, h14, g15)) T) ∧ (¬ (h b1 1) ≤ x3 → Sv D f mX4_open [.ref (ad D 7), .int x3] F h g (fun h21 g22 => ∀ y23 : Int32, y23 = x3 + 1 → V D mX4_all (f + 1) (gv Q T) 29 [(0, .ref (ad D 7)), (1, .int x1), (2, .int x2), (3, .int y23)] [] (F, h21, g22))))
theorem bX4_all_29 {D : DE} {f : Nat} {Q : Frm → HI → HL → Prop} {T : Nat → Frm → HI → HL → Prop} {F : Frm} {h : HI} {g : HL} (hF : k_Fix F) (x1 : Int32) (x2 : Int32) (x3 : Int32) (H : JX4_all_29 D f Q T F h g x1 x2 x3) : V D mX4_all (f + 1) (gv Q T) 29 [(0, .ref (ad D 7)), (1, .int x1), (2, .int x2), (3, .int x3)] [] (F, h, g) := by
  refine V_iload_n dX4_all_29 rfl 3 rfl ?_
  refine V_aload_n dX4_all_30 rfl 0 rfl ?_
  obtain ⟨b1, z2, H⟩ := H
  refine H_getr ck3 3 (by decide) (fs_7 hF) (by decide) rfl z2 q210 dX4_all_31 ?_
  obtain ⟨z3, H⟩ := H
  refine H_getiN ck8 1 (by decide) z3 (by decide) rfl q663 dX4_all_34 ?_
  refine V_icmp_ge (tgt := 51) dX4_all_37 (by decide) (fun c4 => ?_) (fun c4 => ?_)
  · have H := H.1 c4
    refine V_aload_n dX4_all_51 rfl 0 rfl ?_
    refine V_aload_n dX4_all_52 rfl 0 rfl ?_
    obtain ⟨b5, z6, H⟩ := H
    refine H_getr ck3 3 (by decide) (fs_7 hF) (by decide) rfl z6 q210 dX4_all_53 ?_
    obtain ⟨z7, H⟩ := H
    obtain ⟨b8, z9, H⟩ := H
    refine H_getrN ck8 6 (by decide) z7 (by decide) rfl z9 q689 dX4_all_56 ?_
    refine V_aload_n dX4_all_59 rfl 0 rfl ?_
    obtain ⟨b10, z11, H⟩ := H
    refine H_getr ck3 3 (by decide) (fs_7 hF) (by decide) rfl z11 q210 dX4_all_60 ?_
    obtain ⟨z12, H⟩ := H
    refine H_getiN ck8 3 (by decide) z12 (by decide) rfl q671 dX4_all_63 ?_
    refine G_calli (av := [.ref (ad D 7), .ref (ad D b8), .int (h b10 3)]) (rest := []) H mqX4_judge q84 (by decide) (Nat.le_of_ble_eq_true rfl) (k_resV (ci := 3) (av := [.ref (ad D b8), .int (h b10 3)]) (rest := []) (fs_7 hF) (by decide) rfl rfl q978 q979 q980 q981 mhX4_judge mnX4_judge dX4_all_66) (fun y13 F16 h14 g15 hF17 H => ?_) (fun a e F1 h1 g1 hF1 ha ht => GT_v hF1 rfl ha ht)
    refine V_pop dX4_all_69 rfl ?_
    obtain ⟨y19, e20⟩ : ∃ y : Int32, y = x2 + 1 := ⟨_, rfl⟩
    have H := H y19 e20
    refine V_iinc (j := 2) (v := y19) (l1 := [(2, .int y19), (0, .ref (ad D 7)), (1, .int x1), (3, .int x3)]) dX4_all_70 rfl (by rw [e20]; rfl) (by decide) rfl ?_
    refine V_goto (tgt := 7) dX4_all_73 (by decide) ?_
    refine V.sub [1, 2, 0] rfl ?_
    exact H
  · have H := H.2 c4
    refine V_aload_n dX4_all_40 rfl 0 rfl ?_
    refine V_iload_n dX4_all_41 rfl 3 rfl ?_
    refine H_callv (av := [.ref (ad D 7), .int x3]) (rest := []) H mqX4_open q84 (by decide) (Nat.le_of_ble_eq_true rfl) (k_resV (ci := 3) (av := [.int x3]) (rest := []) (fs_7 hF) (by decide) rfl rfl q974 q975 q976 q977 mhX4_open mnX4_open dX4_all_42) (fun h21 g22 H => ?_)
    obtain ⟨y23, e24⟩ : ∃ y : Int32, y = x3 + 1 := ⟨_, rfl⟩
    have H := H y23 e24
    refine V_iinc (j := 3) (v := y23) (l1 := [(3, .int y23), (0, .ref (ad D 7)), (1, .int x1), (2, .int x2)]) dX4_all_45 rfl (by rw [e24]; rfl) (by decide) rfl ?_
    refine V_goto (tgt := 29) dX4_all_48 (by decide) ?_
    refine V.sub [1, 2, 3, 0] rfl ?_
    exact H
abbrev JX4_all_7 (D : DE) (f : Nat) (Q : Frm → HI → HL → Prop) (T : Nat → Frm → HI → HL → Prop) (F : Frm) (h : HI) (g : HL) (x1 : Int32) (x2 : Int32) : Prop := ((x1 ≤ x2 → Q F h g) ∧ (¬ x1 ≤ x2 → vp_in x2 12 ∧ ∃ b3 : Nat, F.2.2 6 (ix x2) = some b3 ∧ ∀ F5, F5 = fwr F 7 3 (some b3) → ∀ h8, h8 = up2 h 7 5 0 → V D mX4_all (f + 1) (gv Q T) 29 [(0, .ref (ad D 7)), (1, .int x1), (2, .int x2), (3, .int 0)] [] (F5, h8, g)))
theorem bX4_all_7 {D : DE} {f : Nat} {Q : Frm → HI → HL → Prop} {T : Nat → Frm → HI → HL → Prop} {F : Frm} {h : HI} {g : HL} (hF : k_Fix F) (x1 : Int32) (x2 : Int32) (H : JX4_all_7 D f Q T F h g x1 x2) : V D mX4_all (f + 1) (gv Q T) 7 [(0, .ref (ad D 7)), (1, .int x1), (2, .int x2)] [] (F, h, g) := by
  refine V_iload_n dX4_all_7 rfl 2 rfl ?_
  refine V_iload_n dX4_all_8 rfl 1 rfl ?_
  refine V_icmp_ge (tgt := 76) dX4_all_9 (by decide) (fun c1 => ?_) (fun c1 => ?_)
  · have H := H.1 c1
    exact G_vret hF rfl dX4_all_76 H
  · have H := H.2 c1
    refine V_aload_n dX4_all_12 rfl 0 rfl ?_
    refine V_aload_n dX4_all_13 rfl 0 rfl ?_
    refine H_getr ck3 1 (by decide) (fs_7 hF) (by decide) rfl (fr_7_1 hF) q205 dX4_all_14 ?_
    refine V_iload_n dX4_all_17 rfl 2 rfl ?_
    obtain ⟨i2, H⟩ := H
    obtain ⟨b3, z4, H⟩ := H
    refine H_aald (fs_6 hF) (by decide) (by decide) rfl i2 z4 dX4_all_18 ?_
    refine G_putr ck3 3 (by decide) (fs_7 hF) (by decide) rfl (fun _ => rfl) (fun _ => rfl) rfl q210 dX4_all_19 (fun F5 e6 => ?_)
    have H := H F5 e6
    have hF7 : k_Fix F5 := by rw [e6]; exact k_Fix.wr hF (by decide +kernel) _
    refine V_aload_n dX4_all_22 rfl 0 rfl ?_
    refine V_iconst (v := 0) dX4_all_23 (by decide) ?_
    refine H_puti ck3 5 (by decide) (fs_7 hF7) (by decide) rfl rfl q212 dX4_all_24 (fun h8 e9 => ?_)
    have H := H h8 e9
    refine V_iconst (v := 0) dX4_all_27 (by decide) ?_
    refine V_istore_n (l1 := [(3, .int 0), (0, .ref (ad D 7)), (1, .int x1), (2, .int x2)]) dX4_all_28 rfl (by decide) rfl ?_
    refine V.sub [1, 2, 3, 0] rfl ?_
    exact H
abbrev JX4_all_0 (D : DE) (f : Nat) (Q : Frm → HI → HL → Prop) (T : Nat → Frm → HI → HL → Prop) (F : Frm) (h : HI) (g : HL) (x1 : Int32) : Prop := ∀ h1, h1 = up2 h 7 2 x1 → V D mX4_all (f + 1) (gv Q T) 7 [(0, .ref (ad D 7)), (1, .int x1), (2, .int 0)] [] (F, h1, g)
theorem bX4_all_0 {D : DE} {f : Nat} {Q : Frm → HI → HL → Prop} {T : Nat → Frm → HI → HL → Prop} {F : Frm} {h : HI} {g : HL} (hF : k_Fix F) (x1 : Int32) (H : JX4_all_0 D f Q T F h g x1) : V D mX4_all (f + 1) (gv Q T) 0 [(0, .ref (ad D 7)), (1, .int x1)] [] (F, h, g) := by
  refine V_aload_n dX4_all_0 rfl 0 rfl ?_
  refine V_iload_n dX4_all_1 rfl 1 rfl ?_
  refine H_puti ck3 2 (by decide) (fs_7 hF) (by decide) rfl rfl q206 dX4_all_2 (fun h1 e2 => ?_)
  have H := H h1 e2
  refine V_iconst (v := 0) dX4_all_5 (by decide) ?_
  refine V_istore_n (l1 := [(2, .int 0), (0, .ref (ad D 7)), (1, .int x1)]) dX4_all_6 rfl (by decide) rfl ?_
  refine V.sub [1, 2, 0] rfl ?_
  exact H
theorem wX4_all {D : DE} {f : Nat} {Q : Frm → HI → HL → Prop} {T : Nat → Frm → HI → HL → Prop} {F : Frm} {h : HI} {g : HL} (hF : k_Fix F) (x1 : Int32) (H : JX4_all_0 D f Q T F h g x1) : Gv D (f + 1) mX4_all [.ref (ad D 7), .int x1] F h g Q T := Cl.ofV (by decide) (Nat.le_of_ble_eq_true rfl) rfl (bX4_all_0 hF x1 H)
theorem dX4_want_0 : decode cX4_want 0 = .ok (.aload_n 0, 1) := by decide +kernel
theorem dX4_want_1 : decode cX4_want 1 = .ok (.getfield 15, 3) := by decide +kernel
theorem dX4_want_4 : decode cX4_want 4 = .ok (.iload_n 1, 1) := by decide +kernel
theorem dX4_want_5 : decode cX4_want 5 = .ok (.iload_n 2, 1) := by decide +kernel
theorem dX4_want_6 : decode cX4_want 6 = .ok (.aload_n 0, 1) := by decide +kernel
theorem dX4_want_7 : decode cX4_want 7 = .ok (.getfield 15, 3) := by decide +kernel
theorem dX4_want_10 : decode cX4_want 10 = .ok (.getfield 53, 3) := by decide +kernel
theorem dX4_want_13 : decode cX4_want 13 = .ok (.iload_n 3, 1) := by decide +kernel
theorem dX4_want_14 : decode cX4_want 14 = .ok (.iaload, 1) := by decide +kernel
theorem dX4_want_15 : decode cX4_want 15 = .ok (.invokevirtual 58, 3) := by decide +kernel
theorem dX4_want_18 : decode cX4_want 18 = .ok (.return_, 1) := by decide +kernel
abbrev JX4_want_0 (D : DE) (f : Nat) (Q : Frm → HI → HL → Prop) (T : Nat → Frm → HI → HL → Prop) (F : Frm) (h : HI) (g : HL) (x1 : Int32) (x2 : Int32) (x3 : Int32) : Prop := vp_in x3 1001 ∧ Gv D f mX2_want [.ref (ad D 1), .int x1, .int x2, .int (h 3 (ix x3))] F h g (fun F4 h2 g3 => Q F4 h2 g3) T
theorem bX4_want_0 {D : DE} {f : Nat} {Q : Frm → HI → HL → Prop} {T : Nat → Frm → HI → HL → Prop} {F : Frm} {h : HI} {g : HL} (hF : k_Fix F) (x1 : Int32) (x2 : Int32) (x3 : Int32) (H : JX4_want_0 D f Q T F h g x1 x2 x3) : V D mX4_want (f + 1) (gv Q T) 0 [(0, .ref (ad D 7)), (1, .int x1), (2, .int x2), (3, .int x3)] [] (F, h, g) := by
  refine V_aload_n dX4_want_0 rfl 0 rfl ?_
  refine H_getr ck3 0 (by decide) (fs_7 hF) (by decide) rfl (fr_7_0 hF) q204 dX4_want_1 ?_
  refine V_iload_n dX4_want_4 rfl 1 rfl ?_
  refine V_iload_n dX4_want_5 rfl 2 rfl ?_
  refine V_aload_n dX4_want_6 rfl 0 rfl ?_
  refine H_getr ck3 0 (by decide) (fs_7 hF) (by decide) rfl (fr_7_0 hF) q204 dX4_want_7 ?_
  refine H_getrN ck1 2 (by decide) (fs_1 hF) (by decide) rfl (fr_1_2 hF) q133 dX4_want_10 ?_
  refine V_iload_n dX4_want_13 rfl 3 rfl ?_
  obtain ⟨i1, H⟩ := H
  refine H_iald (fs_3 hF) i1 dX4_want_14 ?_
  refine G_callv (av := [.ref (ad D 1), .int x1, .int x2, .int (h 3 (ix x3))]) (rest := []) H mqX2_want q82 (by decide) (Nat.le_of_ble_eq_true rfl) (k_resV (ci := 1) (av := [.int x1, .int x2, .int (h 3 (ix x3))]) (rest := []) (fs_1 hF) (by decide) rfl rfl q997 q575 q576 q577 mhX2_want mnX2_want dX4_want_15) (fun F4 h2 g3 hF5 H => ?_) (fun a e F1 h1 g1 hF1 ha ht => GT_v hF1 rfl ha ht)
  exact G_vret hF5 rfl dX4_want_18 H
theorem wX4_want {D : DE} {f : Nat} {Q : Frm → HI → HL → Prop} {T : Nat → Frm → HI → HL → Prop} {F : Frm} {h : HI} {g : HL} (hF : k_Fix F) (x1 : Int32) (x2 : Int32) (x3 : Int32) (H : JX4_want_0 D f Q T F h g x1 x2 x3) : Gv D (f + 1) mX4_want [.ref (ad D 7), .int x1, .int x2, .int x3] F h g Q T := Cl.ofV (by decide) (Nat.le_of_ble_eq_true rfl) rfl (bX4_want_0 hF x1 x2 x3 H)
theorem dX4_open_0 : decode cX4_open 0 = .ok (.aload_n 0, 1) := by decide +kernel
theorem dX4_open_1 : decode cX4_open 1 = .ok (.getfield 9, 3) := by decide +kernel
theorem dX4_open_4 : decode cX4_open 4 = .ok (.aload_n 0, 1) := by decide +kernel
theorem dX4_open_5 : decode cX4_open 5 = .ok (.getfield 31, 3) := by decide +kernel
theorem dX4_open_8 : decode cX4_open 8 = .ok (.iload_n 1, 1) := by decide +kernel
theorem dX4_open_9 : decode cX4_open 9 = .ok (.iastore, 1) := by decide +kernel
theorem dX4_open_10 : decode cX4_open 10 = .ok (.aload_n 0, 1) := by decide +kernel
theorem dX4_open_11 : decode cX4_open 11 = .ok (.dup, 1) := by decide +kernel
theorem dX4_open_12 : decode cX4_open 12 = .ok (.getfield 31, 3) := by decide +kernel
theorem dX4_open_15 : decode cX4_open 15 = .ok (.iconst 1, 1) := by decide +kernel
theorem dX4_open_16 : decode cX4_open 16 = .ok (.iadd, 1) := by decide +kernel
theorem dX4_open_17 : decode cX4_open 17 = .ok (.putfield 31, 3) := by decide +kernel
theorem dX4_open_20 : decode cX4_open 20 = .ok (.return_, 1) := by decide +kernel
abbrev JX4_open_0 (D : DE) (f : Nat) (Q : HI → HL → Prop) (F : Frm) (h : HI) (g : HL) (x1 : Int32) : Prop := vp_in (h 7 5) 17 ∧ ∀ h2, h2 = up2 h 8 (ix (h 7 5)) x1 → ∀ h4, h4 = up2 h2 7 5 ((h2 7 5) + 1) → Q h4 g
theorem bX4_open_0 {D : DE} {f : Nat} {Q : HI → HL → Prop} {F : Frm} {h : HI} {g : HL} (hF : k_Fix F) (x1 : Int32) (H : JX4_open_0 D f Q F h g x1) : V D mX4_open f (qv F Q) 0 [(0, .ref (ad D 7)), (1, .int x1)] [] (F, h, g) := by
  refine V_aload_n dX4_open_0 rfl 0 rfl ?_
  refine H_getr ck3 4 (by decide) (fs_7 hF) (by decide) rfl (fr_7_4 hF) q211 dX4_open_1 ?_
  refine V_aload_n dX4_open_4 rfl 0 rfl ?_
  refine H_geti ck3 5 (by decide) (fs_7 hF) (by decide) rfl q212 dX4_open_5 ?_
  refine V_iload_n dX4_open_8 rfl 1 rfl ?_
  obtain ⟨i1, H⟩ := H
  refine H_iast (fs_8 hF) i1 dX4_open_9 (fun h2 e3 => ?_)
  have H := H h2 e3
  refine V_aload_n dX4_open_10 rfl 0 rfl ?_
  refine V_dup dX4_open_11 rfl ?_
  refine H_geti ck3 5 (by decide) (fs_7 hF) (by decide) rfl q212 dX4_open_12 ?_
  refine V_iconst (v := 1) dX4_open_15 (by decide) ?_
  refine V_iadd dX4_open_16 ?_
  refine H_puti ck3 5 (by decide) (fs_7 hF) (by decide) rfl rfl q212 dX4_open_17 (fun h4 e5 => ?_)
  have H := H h4 e5
  exact H_vret rfl dX4_open_20 H
theorem wX4_open {D : DE} {f : Nat} {Q : HI → HL → Prop} {F : Frm} {h : HI} {g : HL} (hF : k_Fix F) (x1 : Int32) (H : JX4_open_0 D f Q F h g x1) : Sv D f mX4_open [.ref (ad D 7), .int x1] F h g Q := Cl.ofV (by decide) (Nat.le_of_ble_eq_true rfl) rfl (bX4_open_0 hF x1 H)
theorem dX4_close_0 : decode cX4_close 0 = .ok (.aload_n 0, 1) := by decide +kernel
theorem dX4_close_1 : decode cX4_close 1 = .ok (.dup, 1) := by decide +kernel
theorem dX4_close_2 : decode cX4_close 2 = .ok (.getfield 31, 3) := by decide +kernel
theorem dX4_close_5 : decode cX4_close 5 = .ok (.iload_n 1, 1) := by decide +kernel
theorem dX4_close_6 : decode cX4_close 6 = .ok (.isub, 1) := by decide +kernel
theorem dX4_close_7 : decode cX4_close 7 = .ok (.putfield 31, 3) := by decide +kernel
theorem dX4_close_10 : decode cX4_close 10 = .ok (.return_, 1) := by decide +kernel
abbrev JX4_close_0 (D : DE) (f : Nat) (Q : HI → HL → Prop) (F : Frm) (h : HI) (g : HL) (x1 : Int32) : Prop := ∀ h1, h1 = up2 h 7 5 ((h 7 5) - x1) → Q h1 g
theorem bX4_close_0 {D : DE} {f : Nat} {Q : HI → HL → Prop} {F : Frm} {h : HI} {g : HL} (hF : k_Fix F) (x1 : Int32) (H : JX4_close_0 D f Q F h g x1) : V D mX4_close f (qv F Q) 0 [(0, .ref (ad D 7)), (1, .int x1)] [] (F, h, g) := by
  refine V_aload_n dX4_close_0 rfl 0 rfl ?_
  refine V_dup dX4_close_1 rfl ?_
  refine H_geti ck3 5 (by decide) (fs_7 hF) (by decide) rfl q212 dX4_close_2 ?_
  refine V_iload_n dX4_close_5 rfl 1 rfl ?_
  refine V_isub dX4_close_6 ?_
  refine H_puti ck3 5 (by decide) (fs_7 hF) (by decide) rfl rfl q212 dX4_close_7 (fun h1 e2 => ?_)
  have H := H h1 e2
  exact H_vret rfl dX4_close_10 H
theorem wX4_close {D : DE} {f : Nat} {Q : HI → HL → Prop} {F : Frm} {h : HI} {g : HL} (hF : k_Fix F) (x1 : Int32) (H : JX4_close_0 D f Q F h g x1) : Sv D f mX4_close [.ref (ad D 7), .int x1] F h g Q := Cl.ofV (by decide) (Nat.le_of_ble_eq_true rfl) rfl (bX4_close_0 hF x1 H)
theorem dX4_find_0 : decode cX4_find 0 = .ok (.iconst (-1), 1) := by decide +kernel
theorem dX4_find_1 : decode cX4_find 1 = .ok (.istore_n 2, 1) := by decide +kernel
theorem dX4_find_2 : decode cX4_find 2 = .ok (.aload_n 0, 1) := by decide +kernel
theorem dX4_find_3 : decode cX4_find 3 = .ok (.getfield 31, 3) := by decide +kernel
theorem dX4_find_6 : decode cX4_find 6 = .ok (.iconst 1, 1) := by decide +kernel
theorem dX4_find_7 : decode cX4_find 7 = .ok (.isub, 1) := by decide +kernel
theorem dX4_find_8 : decode cX4_find 8 = .ok (.istore_n 3, 1) := by decide +kernel
theorem dX4_find_9 : decode cX4_find 9 = .ok (.iload_n 3, 1) := by decide +kernel
theorem dX4_find_10 : decode cX4_find 10 = .ok (.ifCond .lt 49, 3) := by decide +kernel
theorem dX4_find_13 : decode cX4_find 13 = .ok (.iload_n 2, 1) := by decide +kernel
theorem dX4_find_14 : decode cX4_find 14 = .ok (.ifCond .ge 45, 3) := by decide +kernel
theorem dX4_find_17 : decode cX4_find 17 = .ok (.aload_n 0, 1) := by decide +kernel
theorem dX4_find_18 : decode cX4_find 18 = .ok (.getfield 15, 3) := by decide +kernel
theorem dX4_find_21 : decode cX4_find 21 = .ok (.aload_n 0, 1) := by decide +kernel
theorem dX4_find_22 : decode cX4_find 22 = .ok (.getfield 27, 3) := by decide +kernel
theorem dX4_find_25 : decode cX4_find 25 = .ok (.getfield 62, 3) := by decide +kernel
theorem dX4_find_28 : decode cX4_find 28 = .ok (.aload_n 0, 1) := by decide +kernel
theorem dX4_find_29 : decode cX4_find 29 = .ok (.getfield 9, 3) := by decide +kernel
theorem dX4_find_32 : decode cX4_find 32 = .ok (.iload_n 3, 1) := by decide +kernel
theorem dX4_find_33 : decode cX4_find 33 = .ok (.iaload, 1) := by decide +kernel
theorem dX4_find_34 : decode cX4_find 34 = .ok (.iaload, 1) := by decide +kernel
theorem dX4_find_35 : decode cX4_find 35 = .ok (.iload_n 1, 1) := by decide +kernel
theorem dX4_find_36 : decode cX4_find 36 = .ok (.invokevirtual 65, 3) := by decide +kernel
theorem dX4_find_39 : decode cX4_find 39 = .ok (.ifCond .eq 12, 3) := by decide +kernel
theorem dX4_find_42 : decode cX4_find 42 = .ok (.aload_n 0, 1) := by decide +kernel
theorem dX4_find_43 : decode cX4_find 43 = .ok (.getfield 9, 3) := by decide +kernel
theorem dX4_find_46 : decode cX4_find 46 = .ok (.iload_n 3, 1) := by decide +kernel
theorem dX4_find_47 : decode cX4_find 47 = .ok (.iaload, 1) := by decide +kernel
theorem dX4_find_48 : decode cX4_find 48 = .ok (.goto 4, 3) := by decide +kernel
theorem dX4_find_51 : decode cX4_find 51 = .ok (.iconst (-1), 1) := by decide +kernel
theorem dX4_find_52 : decode cX4_find 52 = .ok (.istore_n 2, 1) := by decide +kernel
theorem dX4_find_53 : decode cX4_find 53 = .ok (.iinc 3 (-1), 3) := by decide +kernel
theorem dX4_find_56 : decode cX4_find 56 = .ok (.goto (-47), 3) := by decide +kernel
theorem dX4_find_59 : decode cX4_find 59 = .ok (.aload_n 0, 1) := by decide +kernel
theorem dX4_find_60 : decode cX4_find 60 = .ok (.iload_n 2, 1) := by decide +kernel
theorem dX4_find_61 : decode cX4_find 61 = .ok (.ifCond .lt 7, 3) := by decide +kernel
theorem dX4_find_64 : decode cX4_find 64 = .ok (.iconst 1, 1) := by decide +kernel
theorem dX4_find_65 : decode cX4_find 65 = .ok (.goto 4, 3) := by decide +kernel
theorem dX4_find_68 : decode cX4_find 68 = .ok (.iconst 0, 1) := by decide +kernel
theorem dX4_find_69 : decode cX4_find 69 = .ok (.iconst 4, 1) := by decide +kernel
theorem dX4_find_70 : decode cX4_find 70 = .ok (.iload_n 1, 1) := by decide +kernel
theorem dX4_find_71 : decode cX4_find 71 = .ok (.invokevirtual 69, 3) := by decide +kernel
theorem dX4_find_74 : decode cX4_find 74 = .ok (.iload_n 2, 1) := by decide +kernel
theorem dX4_find_75 : decode cX4_find 75 = .ok (.ireturn, 1) := by decide +kernel
abbrev JX4_find_69 (D : DE) (f : Nat) (Q : Int32 → Frm → HI → HL → Prop) (T : Nat → Frm → HI → HL → Prop) (F : Frm) (h : HI) (g : HL) (x1 : Int32) (x2 : Int32) (s1 : Int32) : Prop := Gv D f mX4_want [.ref (ad D 7), .int s1, .int 4, .int x1] F h g (fun F3 h1 g2 => Q x2 F3 h1 g2) T
theorem bX4_find_69 {D : DE} {f : Nat} {Q : Int32 → Frm → HI → HL → Prop} {T : Nat → Frm → HI → HL → Prop} {F : Frm} {h : HI} {g : HL} (hF : k_Fix F) (x1 : Int32) (x2 : Int32) (s1 : Int32) (H : JX4_find_69 D f Q T F h g x1 x2 s1) : V D mX4_find (f + 1) (gi Q T) 69 [(1, .int x1), (2, .int x2)] [.int s1, .ref (ad D 7)] (F, h, g) := by
  refine V_iconst (v := 4) dX4_find_69 (by decide) ?_
  refine V_iload_n dX4_find_70 rfl 0 rfl ?_
  refine G_callv (av := [.ref (ad D 7), .int s1, .int 4, .int x1]) (rest := []) H mqX4_want q84 (by decide) (Nat.le_of_ble_eq_true rfl) (k_resV (ci := 3) (av := [.int s1, .int 4, .int x1]) (rest := []) (fs_7 hF) (by decide) rfl rfl q993 q994 q995 q996 mhX4_want mnX4_want dX4_find_71) (fun F3 h1 g2 hF4 H => ?_) (fun a e F1 h1 g1 hF1 ha ht => GT_i hF1 rfl ha ht)
  refine V_iload_n dX4_find_74 rfl 1 rfl ?_
  exact G_iret hF4 rfl dX4_find_75 H
abbrev JX4_find_59 (D : DE) (f : Nat) (Q : Int32 → Frm → HI → HL → Prop) (T : Nat → Frm → HI → HL → Prop) (F : Frm) (h : HI) (g : HL) (x1 : Int32) (x2 : Int32) : Prop := ((x2 < 0 → JX4_find_69 D f Q T F h g x1 x2 0) ∧ (¬ x2 < 0 → JX4_find_69 D f Q T F h g x1 x2 1))
theorem bX4_find_59 {D : DE} {f : Nat} {Q : Int32 → Frm → HI → HL → Prop} {T : Nat → Frm → HI → HL → Prop} {F : Frm} {h : HI} {g : HL} (hF : k_Fix F) (x1 : Int32) (x2 : Int32) (H : JX4_find_59 D f Q T F h g x1 x2) : V D mX4_find (f + 1) (gi Q T) 59 [(0, .ref (ad D 7)), (1, .int x1), (2, .int x2)] [] (F, h, g) := by
  refine V_aload_n dX4_find_59 rfl 0 rfl ?_
  refine V_iload_n dX4_find_60 rfl 2 rfl ?_
  refine V_if_lt (tgt := 68) dX4_find_61 (by decide) (fun c1 => ?_) (fun c1 => ?_)
  · have H := H.1 c1
    refine V_iconst (v := 0) dX4_find_68 (by decide) ?_
    refine V.sub [1, 2] rfl ?_
    exact bX4_find_69 hF x1 x2 0 H
  · have H := H.2 c1
    refine V_iconst (v := 1) dX4_find_64 (by decide) ?_
    refine V_goto (tgt := 69) dX4_find_65 (by decide) ?_
    refine V.sub [1, 2] rfl ?_
    exact bX4_find_69 hF x1 x2 1 H
abbrev JX4_find_52 (D : DE) (f : Nat) (Q : Int32 → Frm → HI → HL → Prop) (T : Nat → Frm → HI → HL → Prop) (F : Frm) (h : HI) (g : HL) (x1 : Int32) (x3 : Int32) (s0 : Int32) : Prop := ∀ y1 : Int32, y1 = x3 + (-1) → V D mX4_find (f + 1) (gi Q T) 9 [(0, .ref (ad D 7)), (1, .int x1), (2, .int s0), (3, .int y1)] [] (F, h, g)
theorem bX4_find_52 {D : DE} {f : Nat} {Q : Int32 → Frm → HI → HL → Prop} {T : Nat → Frm → HI → HL → Prop} {F : Frm} {h : HI} {g : HL} (hF : k_Fix F) (x1 : Int32) (x3 : Int32) (s0 : Int32) (H : JX4_find_52 D f Q T F h g x1 x3 s0) : V D mX4_find (f + 1) (gi Q T) 52 [(0, .ref (ad D 7)), (1, .int x1), (3, .int x3)] [.int s0] (F, h, g) := by
  refine V_istore_n (l1 := [(2, .int s0), (0, .ref (ad D 7)), (1, .int x1), (3, .int x3)]) dX4_find_52 rfl (by decide) rfl ?_
  obtain ⟨y1, e2⟩ : ∃ y : Int32, y = x3 + (-1) := ⟨_, rfl⟩
  have H := H y1 e2
  refine V_iinc (j := 3) (v := y1) (l1 := [(3, .int y1), (2, .int s0), (0, .ref (ad D 7)), (1, .int x1)]) dX4_find_53 rfl (by rw [e2]; rfl) (by decide) rfl ?_
  refine V_goto (tgt := 9) dX4_find_56 (by decide) ?_
  refine V.sub [2, 3, 1, 0] rfl ?_
  exact H
abbrev JX4_find_9 (D : DE) (f : Nat) (Q : Int32 → Frm → HI → HL → Prop) (T : Nat → Frm → HI → HL → Prop) (F : Frm) (h : HI) (g : HL) (x1 : Int32) (x2 : Int32) (x3 : Int32) : Prop := ((x3 < 0 → JX4_find_59 D f Q T F h g x1 x2) ∧ (¬ x3 < 0 → ((0 ≤ x2 → JX4_find_59 D f Q T F h g x1 x2) ∧ (¬ 0 ≤ x2 → ∃ b3 : Nat, F.2.2 7 3 = some b3 ∧ F.2.1 b3 = (18, 0) ∧ ∃ b6 : Nat, F.2.2 b3 4 = some b6 ∧ vp_in x3 17 ∧ ∃ m9 : Nat, F.2.1 b6 = (0, m9) ∧ vp_in (h 8 (ix x3)) m9 ∧ Si D f mX2_same [.ref (ad D 1), .int (h b6 (ix (h 8 (ix x3)))), .int x1] F h g (fun y12 h13 g14 => ((y12 = 0 → JX4_find_52 D f Q T F h13 g14 x1 x3 (-1)) ∧ (¬ y12 = 0 → vp_in x3 17 ∧ JX4_find_52 D f Q T F h13 g14 x1 x3 (h13 8 (ix x3)))))))))
theorem bX4_find_9 {D : DE} {f : Nat} {Q : Int32 → Frm → HI → HL → Prop} {T : Nat → Frm → HI → HL → Prop} {F : Frm} {h : HI} {g : HL} (hF : k_Fix F) (x1 : Int32) (x2 : Int32) (x3 : Int32) (H : JX4_find_9 D f Q T F h g x1 x2 x3) : V D mX4_find (f + 1) (gi Q T) 9 [(0, .ref (ad D 7)), (1, .int x1), (2, .int x2), (3, .int x3)] [] (F, h, g) := by
  refine V_iload_n dX4_find_9 rfl 3 rfl ?_
  refine V_if_lt (tgt := 59) dX4_find_10 (by decide) (fun c1 => ?_) (fun c1 => ?_)
  · have H := H.1 c1
    refine V.sub [0, 1, 2] rfl ?_
    exact bX4_find_59 hF x1 x2 H
  · have H := H.2 c1
    refine V_iload_n dX4_find_13 rfl 2 rfl ?_
    refine V_if_ge (tgt := 59) dX4_find_14 (by decide) (fun c2 => ?_) (fun c2 => ?_)
    · have H := H.1 c2
      refine V.sub [0, 1, 2] rfl ?_
      exact bX4_find_59 hF x1 x2 H
    · have H := H.2 c2
      refine V_aload_n dX4_find_17 rfl 0 rfl ?_
      refine H_getr ck3 0 (by decide) (fs_7 hF) (by decide) rfl (fr_7_0 hF) q204 dX4_find_18 ?_
      refine V_aload_n dX4_find_21 rfl 0 rfl ?_
      obtain ⟨b3, z4, H⟩ := H
      refine H_getr ck3 3 (by decide) (fs_7 hF) (by decide) rfl z4 q210 dX4_find_22 ?_
      obtain ⟨z5, H⟩ := H
      obtain ⟨b6, z7, H⟩ := H
      refine H_getrN ck8 4 (by decide) z5 (by decide) rfl z7 q678 dX4_find_25 ?_
      refine V_aload_n dX4_find_28 rfl 0 rfl ?_
      refine H_getr ck3 4 (by decide) (fs_7 hF) (by decide) rfl (fr_7_4 hF) q211 dX4_find_29 ?_
      refine V_iload_n dX4_find_32 rfl 3 rfl ?_
      obtain ⟨i8, H⟩ := H
      refine H_iald (fs_8 hF) i8 dX4_find_33 ?_
      obtain ⟨m9, z10, H⟩ := H
      obtain ⟨i11, H⟩ := H
      refine H_iald z10 i11 dX4_find_34 ?_
      refine V_iload_n dX4_find_35 rfl 1 rfl ?_
      refine H_calli (av := [.ref (ad D 1), .int (h b6 (ix (h 8 (ix x3)))), .int x1]) (rest := []) H mqX2_same q82 (by decide) (Nat.le_of_ble_eq_true rfl) (k_resV (ci := 1) (av := [.int (h b6 (ix (h 8 (ix x3)))), .int x1]) (rest := []) (fs_1 hF) (by decide) rfl rfl q992 q651 q652 q653 mhX2_same mnX2_same dX4_find_36) (fun y12 h13 g14 H => ?_)
      refine V_if_eq (tgt := 51) dX4_find_39 (by decide) (fun c15 => ?_) (fun c15 => ?_)
      · have H := H.1 c15
        refine V_iconst (v := (-1)) dX4_find_51 (by decide) ?_
        refine V.sub [0, 1, 3] rfl ?_
        exact bX4_find_52 hF x1 x3 (-1) H
      · have H := H.2 c15
        refine V_aload_n dX4_find_42 rfl 0 rfl ?_
        refine H_getr ck3 4 (by decide) (fs_7 hF) (by decide) rfl (fr_7_4 hF) q211 dX4_find_43 ?_
        refine V_iload_n dX4_find_46 rfl 3 rfl ?_
        obtain ⟨i16, H⟩ := H
        refine H_iald (fs_8 hF) i16 dX4_find_47 ?_
        refine V_goto (tgt := 52) dX4_find_48 (by decide) ?_
        refine V.sub [0, 1, 3] rfl ?_
        exact bX4_find_52 hF x1 x3 (h13 8 (ix x3)) H
abbrev JX4_find_0 (D : DE) (f : Nat) (Q : Int32 → Frm → HI → HL → Prop) (T : Nat → Frm → HI → HL → Prop) (F : Frm) (h : HI) (g : HL) (x1 : Int32) : Prop := ∀ y1 : Int32, y1 = ((h 7 5) - 1) → V D mX4_find (f + 1) (gi Q T) 9 [(0, .ref (ad D 7)), (1, .int x1), (2, .int (-1)), (3, .int y1)] [] (F, h, g)
theorem bX4_find_0 {D : DE} {f : Nat} {Q : Int32 → Frm → HI → HL → Prop} {T : Nat → Frm → HI → HL → Prop} {F : Frm} {h : HI} {g : HL} (hF : k_Fix F) (x1 : Int32) (H : JX4_find_0 D f Q T F h g x1) : V D mX4_find (f + 1) (gi Q T) 0 [(0, .ref (ad D 7)), (1, .int x1)] [] (F, h, g) := by
  refine V_iconst (v := (-1)) dX4_find_0 (by decide) ?_
  refine V_istore_n (l1 := [(2, .int (-1)), (0, .ref (ad D 7)), (1, .int x1)]) dX4_find_1 rfl (by decide) rfl ?_
  refine V_aload_n dX4_find_2 rfl 1 rfl ?_
  refine H_geti ck3 5 (by decide) (fs_7 hF) (by decide) rfl q212 dX4_find_3 ?_
  refine V_iconst (v := 1) dX4_find_6 (by decide) ?_
  refine V_isub dX4_find_7 ?_
  refine V_topi (fun y1 e2 => ?_)
  have H := H y1 e2
  refine V_istore_n (l1 := [(3, .int y1), (2, .int (-1)), (0, .ref (ad D 7)), (1, .int x1)]) dX4_find_8 rfl (by decide) rfl ?_
  refine V.sub [2, 3, 1, 0] rfl ?_
  exact H
theorem wX4_find {D : DE} {f : Nat} {Q : Int32 → Frm → HI → HL → Prop} {T : Nat → Frm → HI → HL → Prop} {F : Frm} {h : HI} {g : HL} (hF : k_Fix F) (x1 : Int32) (H : JX4_find_0 D f Q T F h g x1) : Gi D (f + 1) mX4_find [.ref (ad D 7), .int x1] F h g Q T := Cl.ofV (by decide) (Nat.le_of_ble_eq_true rfl) rfl (bX4_find_0 hF x1 H)
theorem dX4_function_0 : decode cX4_function 0 = .ok (.iconst (-1), 1) := by decide +kernel
theorem dX4_function_1 : decode cX4_function 1 = .ok (.istore_n 2, 1) := by decide +kernel
theorem dX4_function_2 : decode cX4_function 2 = .ok (.iconst 0, 1) := by decide +kernel
theorem dX4_function_3 : decode cX4_function 3 = .ok (.istore_n 3, 1) := by decide +kernel
theorem dX4_function_4 : decode cX4_function 4 = .ok (.iload_n 3, 1) := by decide +kernel
theorem dX4_function_5 : decode cX4_function 5 = .ok (.aload_n 0, 1) := by decide +kernel
theorem dX4_function_6 : decode cX4_function 6 = .ok (.getfield 23, 3) := by decide +kernel
theorem dX4_function_9 : decode cX4_function 9 = .ok (.if_icmp .ge 35, 3) := by decide +kernel
theorem dX4_function_12 : decode cX4_function 12 = .ok (.aload_n 0, 1) := by decide +kernel
theorem dX4_function_13 : decode cX4_function 13 = .ok (.getfield 15, 3) := by decide +kernel
theorem dX4_function_16 : decode cX4_function 16 = .ok (.aload_n 0, 1) := by decide +kernel
theorem dX4_function_17 : decode cX4_function 17 = .ok (.getfield 19, 3) := by decide +kernel
theorem dX4_function_20 : decode cX4_function 20 = .ok (.iload_n 3, 1) := by decide +kernel
theorem dX4_function_21 : decode cX4_function 21 = .ok (.aaload, 1) := by decide +kernel
theorem dX4_function_22 : decode cX4_function 22 = .ok (.getfield 70, 3) := by decide +kernel
theorem dX4_function_25 : decode cX4_function 25 = .ok (.iload_n 1, 1) := by decide +kernel
theorem dX4_function_26 : decode cX4_function 26 = .ok (.invokevirtual 65, 3) := by decide +kernel
theorem dX4_function_29 : decode cX4_function 29 = .ok (.ifCond .eq 7, 3) := by decide +kernel
theorem dX4_function_32 : decode cX4_function 32 = .ok (.iload_n 3, 1) := by decide +kernel
theorem dX4_function_33 : decode cX4_function 33 = .ok (.goto 4, 3) := by decide +kernel
theorem dX4_function_36 : decode cX4_function 36 = .ok (.iload_n 2, 1) := by decide +kernel
theorem dX4_function_37 : decode cX4_function 37 = .ok (.istore_n 2, 1) := by decide +kernel
theorem dX4_function_38 : decode cX4_function 38 = .ok (.iinc 3 1, 3) := by decide +kernel
theorem dX4_function_41 : decode cX4_function 41 = .ok (.goto (-37), 3) := by decide +kernel
theorem dX4_function_44 : decode cX4_function 44 = .ok (.aload_n 0, 1) := by decide +kernel
theorem dX4_function_45 : decode cX4_function 45 = .ok (.iload_n 2, 1) := by decide +kernel
theorem dX4_function_46 : decode cX4_function 46 = .ok (.ifCond .lt 7, 3) := by decide +kernel
theorem dX4_function_49 : decode cX4_function 49 = .ok (.iconst 1, 1) := by decide +kernel
theorem dX4_function_50 : decode cX4_function 50 = .ok (.goto 4, 3) := by decide +kernel
theorem dX4_function_53 : decode cX4_function 53 = .ok (.iconst 0, 1) := by decide +kernel
theorem dX4_function_54 : decode cX4_function 54 = .ok (.iconst 4, 1) := by decide +kernel
theorem dX4_function_55 : decode cX4_function 55 = .ok (.iload_n 1, 1) := by decide +kernel
theorem dX4_function_56 : decode cX4_function 56 = .ok (.invokevirtual 69, 3) := by decide +kernel
theorem dX4_function_59 : decode cX4_function 59 = .ok (.aload_n 0, 1) := by decide +kernel
theorem dX4_function_60 : decode cX4_function 60 = .ok (.getfield 19, 3) := by decide +kernel
theorem dX4_function_63 : decode cX4_function 63 = .ok (.iload_n 2, 1) := by decide +kernel
theorem dX4_function_64 : decode cX4_function 64 = .ok (.aaload, 1) := by decide +kernel
theorem dX4_function_65 : decode cX4_function 65 = .ok (.areturn, 1) := by decide +kernel
abbrev JX4_function_54 (D : DE) (f : Nat) (Q : Nat → Frm → HI → HL → Prop) (T : Nat → Frm → HI → HL → Prop) (F : Frm) (h : HI) (g : HL) (x1 : Int32) (x2 : Int32) (s1 : Int32) : Prop := Gv D f mX4_want [.ref (ad D 7), .int s1, .int 4, .int x1] F h g (fun F3 h1 g2 => vp_in x2 12 ∧ ∃ b7 : Nat, F3.2.2 6 (ix x2) = some b7 ∧ Q b7 F3 h1 g2) T
theorem bX4_function_54 {D : DE} {f : Nat} {Q : Nat → Frm → HI → HL → Prop} {T : Nat → Frm → HI → HL → Prop} {F : Frm} {h : HI} {g : HL} (hF : k_Fix F) (x1 : Int32) (x2 : Int32) (s1 : Int32) (H : JX4_function_54 D f Q T F h g x1 x2 s1) : V D mX4_function (f + 1) (gr D Q T) 54 [(0, .ref (ad D 7)), (1, .int x1), (2, .int x2)] [.int s1, .ref (ad D 7)] (F, h, g) := by
  refine V_iconst (v := 4) dX4_function_54 (by decide) ?_
  refine V_iload_n dX4_function_55 rfl 1 rfl ?_
  refine G_callv (av := [.ref (ad D 7), .int s1, .int 4, .int x1]) (rest := []) H mqX4_want q84 (by decide) (Nat.le_of_ble_eq_true rfl) (k_resV (ci := 3) (av := [.int s1, .int 4, .int x1]) (rest := []) (fs_7 hF) (by decide) rfl rfl q993 q994 q995 q996 mhX4_want mnX4_want dX4_function_56) (fun F3 h1 g2 hF4 H => ?_) (fun a e F1 h1 g1 hF1 ha ht => GT_r hF1 rfl ha ht)
  refine V_aload_n dX4_function_59 rfl 0 rfl ?_
  refine H_getr ck3 1 (by decide) (fs_7 hF4) (by decide) rfl (fr_7_1 hF4) q205 dX4_function_60 ?_
  refine V_iload_n dX4_function_63 rfl 2 rfl ?_
  obtain ⟨i6, H⟩ := H
  obtain ⟨b7, z8, H⟩ := H
  refine H_aald (fs_6 hF4) (by decide) (by decide) rfl i6 z8 dX4_function_64 ?_
  exact G_aret hF4 rfl dX4_function_65 H
abbrev JX4_function_37 (D : DE) (f : Nat) (Q : Nat → Frm → HI → HL → Prop) (T : Nat → Frm → HI → HL → Prop) (F : Frm) (h : HI) (g : HL) (x1 : Int32) (x3 : Int32) (s0 : Int32) : Prop := ∀ y1 : Int32, y1 = x3 + 1 → V D mX4_function (f + 1) (gr D Q T) 4 [(0, .ref (ad D 7)), (1, .int x1), (2, .int s0), (3, .int y1)] [] (F, h, g)
theorem bX4_function_37 {D : DE} {f : Nat} {Q : Nat → Frm → HI → HL → Prop} {T : Nat → Frm → HI → HL → Prop} {F : Frm} {h : HI} {g : HL} (hF : k_Fix F) (x1 : Int32) (x3 : Int32) (s0 : Int32) (H : JX4_function_37 D f Q T F h g x1 x3 s0) : V D mX4_function (f + 1) (gr D Q T) 37 [(0, .ref (ad D 7)), (1, .int x1), (3, .int x3)] [.int s0] (F, h, g) := by
  refine V_istore_n (l1 := [(2, .int s0), (0, .ref (ad D 7)), (1, .int x1), (3, .int x3)]) dX4_function_37 rfl (by decide) rfl ?_
  obtain ⟨y1, e2⟩ : ∃ y : Int32, y = x3 + 1 := ⟨_, rfl⟩
  have H := H y1 e2
  refine V_iinc (j := 3) (v := y1) (l1 := [(3, .int y1), (2, .int s0), (0, .ref (ad D 7)), (1, .int x1)]) dX4_function_38 rfl (by rw [e2]; rfl) (by decide) rfl ?_
  refine V_goto (tgt := 4) dX4_function_41 (by decide) ?_
  refine V.sub [2, 3, 1, 0] rfl ?_
  exact H
abbrev JX4_function_4 (D : DE) (f : Nat) (Q : Nat → Frm → HI → HL → Prop) (T : Nat → Frm → HI → HL → Prop) (F : Frm) (h : HI) (g : HL) (x1 : Int32) (x2 : Int32) (x3 : Int32) : Prop := (((h 7 2) ≤ x3 → ((x2 < 0 → JX4_function_54 D f Q T F h g x1 x2 0) ∧ (¬ x2 < 0 → JX4_function_54 D f Q T F h g x1 x2 1))) ∧ (¬ (h 7 2) ≤ x3 → vp_in x3 12 ∧ ∃ b4 : Nat, F.2.2 6 (ix x3) = some b4 ∧ F.2.1 b4 = (18, 0) ∧ Si D f mX2_same [.ref (ad D 1), .int (h b4 0), .int x1] F h g (fun y7 h8 g9 => ((y7 = 0 → JX4_function_37 D f Q T F h8 g9 x1 x3 x2) ∧ (¬ y7 = 0 → JX4_function_37 D f Q T F h8 g9 x1 x3 x3)))))
theorem bX4_function_4 {D : DE} {f : Nat} {Q : Nat → Frm → HI → HL → Prop} {T : Nat → Frm → HI → HL → Prop} {F : Frm} {h : HI} {g : HL} (hF : k_Fix F) (x1 : Int32) (x2 : Int32) (x3 : Int32) (H : JX4_function_4 D f Q T F h g x1 x2 x3) : V D mX4_function (f + 1) (gr D Q T) 4 [(0, .ref (ad D 7)), (1, .int x1), (2, .int x2), (3, .int x3)] [] (F, h, g) := by
  refine V_iload_n dX4_function_4 rfl 3 rfl ?_
  refine V_aload_n dX4_function_5 rfl 0 rfl ?_
  refine H_geti ck3 2 (by decide) (fs_7 hF) (by decide) rfl q206 dX4_function_6 ?_
  refine V_icmp_ge (tgt := 44) dX4_function_9 (by decide) (fun c1 => ?_) (fun c1 => ?_)
  · have H := H.1 c1
    refine V_aload_n dX4_function_44 rfl 0 rfl ?_
    refine V_iload_n dX4_function_45 rfl 2 rfl ?_
    refine V_if_lt (tgt := 53) dX4_function_46 (by decide) (fun c2 => ?_) (fun c2 => ?_)
    · have H := H.1 c2
      refine V_iconst (v := 0) dX4_function_53 (by decide) ?_
      refine V.sub [0, 1, 2] rfl ?_
      exact bX4_function_54 hF x1 x2 0 H
    · have H := H.2 c2
      refine V_iconst (v := 1) dX4_function_49 (by decide) ?_
      refine V_goto (tgt := 54) dX4_function_50 (by decide) ?_
      refine V.sub [0, 1, 2] rfl ?_
      exact bX4_function_54 hF x1 x2 1 H
  · have H := H.2 c1
    refine V_aload_n dX4_function_12 rfl 0 rfl ?_
    refine H_getr ck3 0 (by decide) (fs_7 hF) (by decide) rfl (fr_7_0 hF) q204 dX4_function_13 ?_
    refine V_aload_n dX4_function_16 rfl 0 rfl ?_
    refine H_getr ck3 1 (by decide) (fs_7 hF) (by decide) rfl (fr_7_1 hF) q205 dX4_function_17 ?_
    refine V_iload_n dX4_function_20 rfl 3 rfl ?_
    obtain ⟨i3, H⟩ := H
    obtain ⟨b4, z5, H⟩ := H
    refine H_aald (fs_6 hF) (by decide) (by decide) rfl i3 z5 dX4_function_21 ?_
    obtain ⟨z6, H⟩ := H
    refine H_getiN ck8 0 (by decide) z6 (by decide) rfl q661 dX4_function_22 ?_
    refine V_iload_n dX4_function_25 rfl 1 rfl ?_
    refine H_calli (av := [.ref (ad D 1), .int (h b4 0), .int x1]) (rest := []) H mqX2_same q82 (by decide) (Nat.le_of_ble_eq_true rfl) (k_resV (ci := 1) (av := [.int (h b4 0), .int x1]) (rest := []) (fs_1 hF) (by decide) rfl rfl q992 q651 q652 q653 mhX2_same mnX2_same dX4_function_26) (fun y7 h8 g9 H => ?_)
    refine V_if_eq (tgt := 36) dX4_function_29 (by decide) (fun c10 => ?_) (fun c10 => ?_)
    · have H := H.1 c10
      refine V_iload_n dX4_function_36 rfl 2 rfl ?_
      refine V.sub [0, 1, 3] rfl ?_
      exact bX4_function_37 hF x1 x3 x2 H
    · have H := H.2 c10
      refine V_iload_n dX4_function_32 rfl 3 rfl ?_
      refine V_goto (tgt := 37) dX4_function_33 (by decide) ?_
      refine V.sub [0, 1, 3] rfl ?_
      exact bX4_function_37 hF x1 x3 x3 H
abbrev JX4_function_0 (D : DE) (f : Nat) (Q : Nat → Frm → HI → HL → Prop) (T : Nat → Frm → HI → HL → Prop) (F : Frm) (h : HI) (g : HL) (x1 : Int32) : Prop := V D mX4_function (f + 1) (gr D Q T) 4 [(0, .ref (ad D 7)), (1, .int x1), (2, .int (-1)), (3, .int 0)] [] (F, h, g)
theorem bX4_function_0 {D : DE} {f : Nat} {Q : Nat → Frm → HI → HL → Prop} {T : Nat → Frm → HI → HL → Prop} {F : Frm} {h : HI} {g : HL} (hF : k_Fix F) (x1 : Int32) (H : JX4_function_0 D f Q T F h g x1) : V D mX4_function (f + 1) (gr D Q T) 0 [(0, .ref (ad D 7)), (1, .int x1)] [] (F, h, g) := by
  refine V_iconst (v := (-1)) dX4_function_0 (by decide) ?_
  refine V_istore_n (l1 := [(2, .int (-1)), (0, .ref (ad D 7)), (1, .int x1)]) dX4_function_1 rfl (by decide) rfl ?_
  refine V_iconst (v := 0) dX4_function_2 (by decide) ?_
  refine V_istore_n (l1 := [(3, .int 0), (2, .int (-1)), (0, .ref (ad D 7)), (1, .int x1)]) dX4_function_3 rfl (by decide) rfl ?_
  refine V.sub [2, 3, 1, 0] rfl ?_
  exact H
theorem wX4_function {D : DE} {f : Nat} {Q : Nat → Frm → HI → HL → Prop} {T : Nat → Frm → HI → HL → Prop} {F : Frm} {h : HI} {g : HL} (hF : k_Fix F) (x1 : Int32) (H : JX4_function_0 D f Q T F h g x1) : Gr D (f + 1) mX4_function [.ref (ad D 7), .int x1] F h g Q T := Cl.ofV (by decide) (Nat.le_of_ble_eq_true rfl) rfl (bX4_function_0 hF x1 H)
theorem dX4_judge_0 : decode cX4_judge 0 = .ok (.aload_n 1, 1) := by decide +kernel
theorem dX4_judge_1 : decode cX4_judge 1 = .ok (.aload_n 1, 1) := by decide +kernel
theorem dX4_judge_2 : decode cX4_judge 2 = .ok (.aload_n 0, 1) := by decide +kernel
theorem dX4_judge_3 : decode cX4_judge 3 = .ok (.iload_n 2, 1) := by decide +kernel
theorem dX4_judge_4 : decode cX4_judge 4 = .ok (.invokevirtual 73, 3) := by decide +kernel
theorem dX4_judge_7 : decode cX4_judge 7 = .ok (.putfield 78, 3) := by decide +kernel
theorem dX4_judge_10 : decode cX4_judge 10 = .ok (.aload_n 0, 1) := by decide +kernel
theorem dX4_judge_11 : decode cX4_judge 11 = .ok (.aload_n 1, 1) := by decide +kernel
theorem dX4_judge_12 : decode cX4_judge 12 = .ok (.getfield 78, 3) := by decide +kernel
theorem dX4_judge_15 : decode cX4_judge 15 = .ok (.iconst (-1), 1) := by decide +kernel
theorem dX4_judge_16 : decode cX4_judge 16 = .ok (.if_icmp .eq 33, 3) := by decide +kernel
theorem dX4_judge_19 : decode cX4_judge 19 = .ok (.iload_n 2, 1) := by decide +kernel
theorem dX4_judge_20 : decode cX4_judge 20 = .ok (.iconst (-1), 1) := by decide +kernel
theorem dX4_judge_21 : decode cX4_judge 21 = .ok (.if_icmp .eq 24, 3) := by decide +kernel
theorem dX4_judge_24 : decode cX4_judge 24 = .ok (.iload_n 2, 1) := by decide +kernel
theorem dX4_judge_25 : decode cX4_judge 25 = .ok (.aload_n 1, 1) := by decide +kernel
theorem dX4_judge_26 : decode cX4_judge 26 = .ok (.getfield 78, 3) := by decide +kernel
theorem dX4_judge_29 : decode cX4_judge 29 = .ok (.if_icmp .eq 16, 3) := by decide +kernel
theorem dX4_judge_32 : decode cX4_judge 32 = .ok (.iload_n 2, 1) := by decide +kernel
theorem dX4_judge_33 : decode cX4_judge 33 = .ok (.bipush (-2), 2) := by decide +kernel
theorem dX4_judge_35 : decode cX4_judge 35 = .ok (.if_icmp .ne 14, 3) := by decide +kernel
theorem dX4_judge_38 : decode cX4_judge 38 = .ok (.aload_n 1, 1) := by decide +kernel
theorem dX4_judge_39 : decode cX4_judge 39 = .ok (.getfield 78, 3) := by decide +kernel
theorem dX4_judge_42 : decode cX4_judge 42 = .ok (.ifCond .le 7, 3) := by decide +kernel
theorem dX4_judge_45 : decode cX4_judge 45 = .ok (.iconst 1, 1) := by decide +kernel
theorem dX4_judge_46 : decode cX4_judge 46 = .ok (.goto 4, 3) := by decide +kernel
theorem dX4_judge_49 : decode cX4_judge 49 = .ok (.iconst 0, 1) := by decide +kernel
theorem dX4_judge_50 : decode cX4_judge 50 = .ok (.iconst 5, 1) := by decide +kernel
theorem dX4_judge_51 : decode cX4_judge 51 = .ok (.aload_n 1, 1) := by decide +kernel
theorem dX4_judge_52 : decode cX4_judge 52 = .ok (.getfield 79, 3) := by decide +kernel
theorem dX4_judge_55 : decode cX4_judge 55 = .ok (.invokevirtual 69, 3) := by decide +kernel
theorem dX4_judge_58 : decode cX4_judge 58 = .ok (.aload_n 1, 1) := by decide +kernel
theorem dX4_judge_59 : decode cX4_judge 59 = .ok (.getfield 78, 3) := by decide +kernel
theorem dX4_judge_62 : decode cX4_judge 62 = .ok (.ireturn, 1) := by decide +kernel
abbrev JX4_judge_50 (D : DE) (f : Nat) (Q : Int32 → Frm → HI → HL → Prop) (T : Nat → Frm → HI → HL → Prop) (F : Frm) (h : HI) (g : HL) (x1 : Nat) (s1 : Int32) : Prop := ∃ k1 : Nat, isE F x1 k1 ∧ Gv D f mX4_want [.ref (ad D 7), .int s1, .int 5, .int (h x1 0)] F h g (fun F5 h3 g4 => ∃ k8 : Nat, isE F5 x1 k8 ∧ Q (h3 x1 1) F5 h3 g4) T
theorem bX4_judge_50 {D : DE} {f : Nat} {Q : Int32 → Frm → HI → HL → Prop} {T : Nat → Frm → HI → HL → Prop} {F : Frm} {h : HI} {g : HL} (hF : k_Fix F) (x1 : Nat) (s1 : Int32) (H : JX4_judge_50 D f Q T F h g x1 s1) : V D mX4_judge (f + 1) (gi Q T) 50 [(1, .ref (ad D x1))] [.int s1, .ref (ad D 7)] (F, h, g) := by
  refine V_iconst (v := 5) dX4_judge_50 (by decide) ?_
  refine V_aload_n dX4_judge_51 rfl 0 rfl ?_
  obtain ⟨k1, z2, H⟩ := H
  refine X_get_token z2 q793 dX4_judge_52 ?_
  refine G_callv (av := [.ref (ad D 7), .int s1, .int 5, .int (h x1 0)]) (rest := []) H mqX4_want q84 (by decide) (Nat.le_of_ble_eq_true rfl) (k_resV (ci := 3) (av := [.int s1, .int 5, .int (h x1 0)]) (rest := []) (fs_7 hF) (by decide) rfl rfl q993 q994 q995 q996 mhX4_want mnX4_want dX4_judge_55) (fun F5 h3 g4 hF6 H => ?_) (fun a e F1 h1 g1 hF1 ha ht => GT_i hF1 rfl ha ht)
  refine V_aload_n dX4_judge_58 rfl 0 rfl ?_
  obtain ⟨k8, z9, H⟩ := H
  refine X_get_type z9 q799 dX4_judge_59 ?_
  exact G_iret hF6 rfl dX4_judge_62 H
abbrev JX4_judge_49 (D : DE) (f : Nat) (Q : Int32 → Frm → HI → HL → Prop) (T : Nat → Frm → HI → HL → Prop) (F : Frm) (h : HI) (g : HL) (x1 : Nat) : Prop := JX4_judge_50 D f Q T F h g x1 0
theorem bX4_judge_49 {D : DE} {f : Nat} {Q : Int32 → Frm → HI → HL → Prop} {T : Nat → Frm → HI → HL → Prop} {F : Frm} {h : HI} {g : HL} (hF : k_Fix F) (x1 : Nat) (H : JX4_judge_49 D f Q T F h g x1) : V D mX4_judge (f + 1) (gi Q T) 49 [(1, .ref (ad D x1))] [.ref (ad D 7)] (F, h, g) := by
  refine V_iconst (v := 0) dX4_judge_49 (by decide) ?_
  exact bX4_judge_50 hF x1 0 H
abbrev JX4_judge_45 (D : DE) (f : Nat) (Q : Int32 → Frm → HI → HL → Prop) (T : Nat → Frm → HI → HL → Prop) (F : Frm) (h : HI) (g : HL) (x1 : Nat) : Prop := JX4_judge_50 D f Q T F h g x1 1
theorem bX4_judge_45 {D : DE} {f : Nat} {Q : Int32 → Frm → HI → HL → Prop} {T : Nat → Frm → HI → HL → Prop} {F : Frm} {h : HI} {g : HL} (hF : k_Fix F) (x1 : Nat) (H : JX4_judge_45 D f Q T F h g x1) : V D mX4_judge (f + 1) (gi Q T) 45 [(1, .ref (ad D x1))] [.ref (ad D 7)] (F, h, g) := by
  refine V_iconst (v := 1) dX4_judge_45 (by decide) ?_
  refine V_goto (tgt := 50) dX4_judge_46 (by decide) ?_
  exact bX4_judge_50 hF x1 1 H
abbrev JX4_judge_0 (D : DE) (f : Nat) (Q : Int32 → Frm → HI → HL → Prop) (T : Nat → Frm → HI → HL → Prop) (F : Frm) (h : HI) (g : HL) (x1 : Nat) (x2 : Int32) : Prop := ∃ k1 : Nat, isE F x1 k1 ∧ Gi D f (v_judge k1) [.ref (ad D x1), .ref (ad D 7), .int x2] F h g (fun y3 F6 h4 g5 => ∃ k9 : Nat, isE F6 x1 k9 ∧ ∀ h11, h11 = up2 h4 x1 1 y3 → (((h11 x1 1) = (-1) → JX4_judge_49 D f Q T F6 h11 g5 x1) ∧ (¬ (h11 x1 1) = (-1) → ((x2 = (-1) → JX4_judge_45 D f Q T F6 h11 g5 x1) ∧ (¬ x2 = (-1) → ((x2 = (h11 x1 1) → JX4_judge_45 D f Q T F6 h11 g5 x1) ∧ (¬ x2 = (h11 x1 1) → ((¬ x2 = (-2) → JX4_judge_49 D f Q T F6 h11 g5 x1) ∧ (x2 = (-2) → (((h11 x1 1) ≤ 0 → JX4_judge_49 D f Q T F6 h11 g5 x1) ∧ (¬ (h11 x1 1) ≤ 0 → JX4_judge_45 D f Q T F6 h11 g5 x1))))))))))) T
theorem bX4_judge_0 {D : DE} {f : Nat} {Q : Int32 → Frm → HI → HL → Prop} {T : Nat → Frm → HI → HL → Prop} {F : Frm} {h : HI} {g : HL} (hF : k_Fix F) (x1 : Nat) (x2 : Int32) (H : JX4_judge_0 D f Q T F h g x1 x2) : V D mX4_judge (f + 1) (gi Q T) 0 [(0, .ref (ad D 7)), (1, .ref (ad D x1)), (2, .int x2)] [] (F, h, g) := by
  refine V_aload_n dX4_judge_0 rfl 1 rfl ?_
  refine V_aload_n dX4_judge_1 rfl 1 rfl ?_
  refine V_aload_n dX4_judge_2 rfl 0 rfl ?_
  refine V_iload_n dX4_judge_3 rfl 2 rfl ?_
  obtain ⟨k1, z2, H⟩ := H
  refine G_calli (av := [.ref (ad D x1), .ref (ad D 7), .int x2]) (rest := [.ref (ad D x1)]) H (vq_judge z2.2.1 z2.2.2) (vi_judge z2.2.1 z2.2.2) (vl_judge z2.2.1 z2.2.2) (Nat.le_of_ble_eq_true rfl) (vr_judge (av := [.ref (ad D 7), .int x2]) (rest := [.ref (ad D x1)]) z2 rfl q982 dX4_judge_4) (fun y3 F6 h4 g5 hF7 H => ?_) (fun a e F1 h1 g1 hF1 ha ht => GT_i hF1 rfl ha ht)
  obtain ⟨k9, z10, H⟩ := H
  refine X_put_type z10 q799 dX4_judge_7 (fun h11 e12 => ?_)
  have H := H h11 e12
  refine V_aload_n dX4_judge_10 rfl 0 rfl ?_
  refine V_aload_n dX4_judge_11 rfl 1 rfl ?_
  refine X_get_type z10 q799 dX4_judge_12 ?_
  refine V_iconst (v := (-1)) dX4_judge_15 (by decide) ?_
  refine V_icmp_eq (tgt := 49) dX4_judge_16 (by decide) (fun c13 => ?_) (fun c13 => ?_)
  · have H := H.1 c13
    refine V.sub [1] rfl ?_
    exact bX4_judge_49 hF7 x1 H
  · have H := H.2 c13
    refine V_iload_n dX4_judge_19 rfl 2 rfl ?_
    refine V_iconst (v := (-1)) dX4_judge_20 (by decide) ?_
    refine V_icmp_eq (tgt := 45) dX4_judge_21 (by decide) (fun c14 => ?_) (fun c14 => ?_)
    · have H := H.1 c14
      refine V.sub [1] rfl ?_
      exact bX4_judge_45 hF7 x1 H
    · have H := H.2 c14
      refine V_iload_n dX4_judge_24 rfl 2 rfl ?_
      refine V_aload_n dX4_judge_25 rfl 1 rfl ?_
      refine X_get_type z10 q799 dX4_judge_26 ?_
      refine V_icmp_eq (tgt := 45) dX4_judge_29 (by decide) (fun c15 => ?_) (fun c15 => ?_)
      · have H := H.1 c15
        refine V.sub [1] rfl ?_
        exact bX4_judge_45 hF7 x1 H
      · have H := H.2 c15
        refine V_iload_n dX4_judge_32 rfl 2 rfl ?_
        refine V_bipush (v := (-2)) dX4_judge_33 (by decide) ?_
        refine V_icmp_ne (tgt := 49) dX4_judge_35 (by decide) (fun c16 => ?_) (fun c16 => ?_)
        · have H := H.1 c16
          refine V.sub [1] rfl ?_
          exact bX4_judge_49 hF7 x1 H
        · have H := H.2 c16
          refine V_aload_n dX4_judge_38 rfl 1 rfl ?_
          refine X_get_type z10 q799 dX4_judge_39 ?_
          refine V_if_le (tgt := 49) dX4_judge_42 (by decide) (fun c17 => ?_) (fun c17 => ?_)
          · have H := H.1 c17
            refine V.sub [1] rfl ?_
            exact bX4_judge_49 hF7 x1 H
          · have H := H.2 c17
            refine V.sub [1] rfl ?_
            exact bX4_judge_45 hF7 x1 H
theorem wX4_judge {D : DE} {f : Nat} {Q : Int32 → Frm → HI → HL → Prop} {T : Nat → Frm → HI → HL → Prop} {F : Frm} {h : HI} {g : HL} (hF : k_Fix F) (x1 : Nat) (x2 : Int32) (H : JX4_judge_0 D f Q T F h g x1 x2) : Gi D (f + 1) mX4_judge [.ref (ad D 7), .ref (ad D x1), .int x2] F h g Q T := Cl.ofV (by decide) (Nat.le_of_ble_eq_true rfl) rfl (bX4_judge_0 hF x1 x2 H)
theorem dX5_row_0 : decode cX5_row 0 = .ok (.aload_n 0, 1) := by decide +kernel
theorem dX5_row_1 : decode cX5_row 1 = .ok (.getfield 11, 3) := by decide +kernel
theorem dX5_row_4 : decode cX5_row 4 = .ok (.iload_n 1, 1) := by decide +kernel
theorem dX5_row_5 : decode cX5_row 5 = .ok (.aaload, 1) := by decide +kernel
theorem dX5_row_6 : decode cX5_row 6 = .ok (.invokevirtual 22, 3) := by decide +kernel
theorem dX5_row_9 : decode cX5_row 9 = .ok (.aload_n 0, 1) := by decide +kernel
theorem dX5_row_10 : decode cX5_row 10 = .ok (.getfield 11, 3) := by decide +kernel
theorem dX5_row_13 : decode cX5_row 13 = .ok (.iload_n 1, 1) := by decide +kernel
theorem dX5_row_14 : decode cX5_row 14 = .ok (.aaload, 1) := by decide +kernel
theorem dX5_row_15 : decode cX5_row 15 = .ok (.areturn, 1) := by decide +kernel
abbrev JX5_row_0 (D : DE) (f : Nat) (Q : Nat → HI → HL → Prop) (F : Frm) (h : HI) (g : HL) (x1 : Int32) : Prop := vp_in x1 44 ∧ ∃ b2 : Nat, F.2.2 10 (ix x1) = some b2 ∧ F.2.1 b2 = (15, 0) ∧ Sv D f mX6_clear [.ref (ad D b2)] F h g (fun h5 g6 => vp_in x1 44 ∧ ∃ b8 : Nat, F.2.2 10 (ix x1) = some b8 ∧ Q b8 h5 g6)
theorem bX5_row_0 {D : DE} {f : Nat} {Q : Nat → HI → HL → Prop} {F : Frm} {h : HI} {g : HL} (hF : k_Fix F) (x1 : Int32) (H : JX5_row_0 D f Q F h g x1) : V D mX5_row (f + 1) (qr D F Q) 0 [(0, .ref (ad D 9)), (1, .int x1)] [] (F, h, g) := by
  refine V_aload_n dX5_row_0 rfl 0 rfl ?_
  refine H_getr ck4 1 (by decide) (fs_9 hF) (by decide) rfl (fr_9_1 hF) q257 dX5_row_1 ?_
  refine V_iload_n dX5_row_4 rfl 1 rfl ?_
  obtain ⟨i1, H⟩ := H
  obtain ⟨b2, z3, H⟩ := H
  refine H_aald (fs_10 hF) (by decide) (by decide) rfl i1 z3 dX5_row_5 ?_
  obtain ⟨z4, H⟩ := H
  refine H_callv (av := [.ref (ad D b2)]) (rest := []) H mqX6_clear q86 (by decide) (Nat.le_of_ble_eq_true rfl) (k_resV (ci := 5) (av := []) (rest := []) z4 (by decide) rfl rfl q1181 q1182 q1183 q1184 mhX6_clear mnX6_clear dX5_row_6) (fun h5 g6 H => ?_)
  refine V_aload_n dX5_row_9 rfl 0 rfl ?_
  refine H_getr ck4 1 (by decide) (fs_9 hF) (by decide) rfl (fr_9_1 hF) q257 dX5_row_10 ?_
  refine V_iload_n dX5_row_13 rfl 1 rfl ?_
  obtain ⟨i7, H⟩ := H
  obtain ⟨b8, z9, H⟩ := H
  refine H_aald (fs_10 hF) (by decide) (by decide) rfl i7 z9 dX5_row_14 ?_
  exact H_aret rfl dX5_row_15 H
theorem wX5_row {D : DE} {f : Nat} {Q : Nat → HI → HL → Prop} {F : Frm} {h : HI} {g : HL} (hF : k_Fix F) (x1 : Int32) (H : JX5_row_0 D f Q F h g x1) : Sr D (f + 1) mX5_row [.ref (ad D 9), .int x1] F h g Q := Cl.ofV (by decide) (Nat.le_of_ble_eq_true rfl) rfl (bX5_row_0 hF x1 H)
theorem dX5_of_0 : decode cX5_of 0 = .ok (.aload_n 0, 1) := by decide +kernel
theorem dX5_of_1 : decode cX5_of 1 = .ok (.aload_n 1, 1) := by decide +kernel
theorem dX5_of_2 : decode cX5_of 2 = .ok (.putfield 25, 3) := by decide +kernel
theorem dX5_of_5 : decode cX5_of 5 = .ok (.aload_n 0, 1) := by decide +kernel
theorem dX5_of_6 : decode cX5_of 6 = .ok (.getfield 18, 3) := by decide +kernel
theorem dX5_of_9 : decode cX5_of 9 = .ok (.invokevirtual 22, 3) := by decide +kernel
theorem dX5_of_12 : decode cX5_of 12 = .ok (.aload_n 1, 1) := by decide +kernel
theorem dX5_of_13 : decode cX5_of 13 = .ok (.getfield 29, 3) := by decide +kernel
theorem dX5_of_16 : decode cX5_of 16 = .ok (.aload_n 0, 1) := by decide +kernel
theorem dX5_of_17 : decode cX5_of 17 = .ok (.iload_n 2, 1) := by decide +kernel
theorem dX5_of_18 : decode cX5_of 18 = .ok (.aload_n 0, 1) := by decide +kernel
theorem dX5_of_19 : decode cX5_of 19 = .ok (.getfield 18, 3) := by decide +kernel
theorem dX5_of_22 : decode cX5_of 22 = .ok (.iconst 0, 1) := by decide +kernel
theorem dX5_of_23 : decode cX5_of 23 = .ok (.invokevirtual 35, 3) := by decide +kernel
theorem dX5_of_26 : decode cX5_of 26 = .ok (.iconst 0, 1) := by decide +kernel
theorem dX5_of_27 : decode cX5_of 27 = .ok (.istore_n 3, 1) := by decide +kernel
theorem dX5_of_28 : decode cX5_of 28 = .ok (.iload_n 3, 1) := by decide +kernel
theorem dX5_of_29 : decode cX5_of 29 = .ok (.aload_n 1, 1) := by decide +kernel
theorem dX5_of_30 : decode cX5_of 30 = .ok (.getfield 41, 3) := by decide +kernel
theorem dX5_of_33 : decode cX5_of 33 = .ok (.if_icmp .ge 37, 3) := by decide +kernel
theorem dX5_of_36 : decode cX5_of 36 = .ok (.aload_n 0, 1) := by decide +kernel
theorem dX5_of_37 : decode cX5_of 37 = .ok (.getfield 18, 3) := by decide +kernel
theorem dX5_of_40 : decode cX5_of 40 = .ok (.getfield 45, 3) := by decide +kernel
theorem dX5_of_43 : decode cX5_of 43 = .ok (.ifCond .eq 27, 3) := by decide +kernel
theorem dX5_of_46 : decode cX5_of 46 = .ok (.aload_n 0, 1) := by decide +kernel
theorem dX5_of_47 : decode cX5_of 47 = .ok (.getfield 18, 3) := by decide +kernel
theorem dX5_of_50 : decode cX5_of 50 = .ok (.getfield 49, 3) := by decide +kernel
theorem dX5_of_53 : decode cX5_of 53 = .ok (.iload_n 3, 1) := by decide +kernel
theorem dX5_of_54 : decode cX5_of 54 = .ok (.aload_n 1, 1) := by decide +kernel
theorem dX5_of_55 : decode cX5_of 55 = .ok (.getfield 53, 3) := by decide +kernel
theorem dX5_of_58 : decode cX5_of 58 = .ok (.iload_n 3, 1) := by decide +kernel
theorem dX5_of_59 : decode cX5_of 59 = .ok (.iaload, 1) := by decide +kernel
theorem dX5_of_60 : decode cX5_of 60 = .ok (.invokestatic 56, 3) := by decide +kernel
theorem dX5_of_63 : decode cX5_of 63 = .ok (.iastore, 1) := by decide +kernel
theorem dX5_of_64 : decode cX5_of 64 = .ok (.iinc 3 1, 3) := by decide +kernel
theorem dX5_of_67 : decode cX5_of 67 = .ok (.goto (-39), 3) := by decide +kernel
theorem dX5_of_70 : decode cX5_of 70 = .ok (.aload_n 0, 1) := by decide +kernel
theorem dX5_of_71 : decode cX5_of 71 = .ok (.getfield 18, 3) := by decide +kernel
theorem dX5_of_74 : decode cX5_of 74 = .ok (.areturn, 1) := by decide +kernel
abbrev JX5_of_28 (D : DE) (f : Nat) (Q : Nat → Frm → HI → HL → Prop) (T : Nat → Frm → HI → HL → Prop) (F : Frm) (h : HI) (g : HL) (x1 : Nat) (x3 : Int32) : Prop := F.2.1 x1 = (18, 0) ∧ (((h x1 1) ≤ x3 → Q 11 F h g) ∧ (¬ (h x1 1) ≤ x3 → (((h 11 1) = 0 → Q 11 F h g) ∧ (¬ (h 11 1) = 0 → ∃ b4 : Nat, F.2.2 x1 5 = some b4 ∧ ∃ m6 : Nat, F.2.1 b4 = (0, m6) ∧ vp_in x3 m6 ∧ Si D f mX1_all [.int (h b4 (ix x3))] F h g (fun y9 h10 g11 => vp_in x3 16 ∧ ∀ h13, h13 = up2 h10 12 (ix x3) y9 → ∀ y15 : Int32, y15 = x3 + 1 → V D mX5_of (f + 1) (gr D Q T) 28 [(0, .ref (ad D 9)), (1, .ref (ad D x1)), (3, .int y15)] [] (F, h13, g11))))))
theorem bX5_of_28 {D : DE} {f : Nat} {Q : Nat → Frm → HI → HL → Prop} {T : Nat → Frm → HI → HL → Prop} {F : Frm} {h : HI} {g : HL} (hF : k_Fix F) (x1 : Nat) (x3 : Int32) (H : JX5_of_28 D f Q T F h g x1 x3) : V D mX5_of (f + 1) (gr D Q T) 28 [(0, .ref (ad D 9)), (1, .ref (ad D x1)), (3, .int x3)] [] (F, h, g) := by
  refine V_iload_n dX5_of_28 rfl 2 rfl ?_
  refine V_aload_n dX5_of_29 rfl 1 rfl ?_
  obtain ⟨z1, H⟩ := H
  refine H_getiN ck8 1 (by decide) z1 (by decide) rfl q664 dX5_of_30 ?_
  refine V_icmp_ge (tgt := 70) dX5_of_33 (by decide) (fun c2 => ?_) (fun c2 => ?_)
  · have H := H.1 c2
    refine V_aload_n dX5_of_70 rfl 0 rfl ?_
    refine H_getr ck4 2 (by decide) (fs_9 hF) (by decide) rfl (fr_9_2 hF) q258 dX5_of_71 ?_
    exact G_aret hF rfl dX5_of_74 H
  · have H := H.2 c2
    refine V_aload_n dX5_of_36 rfl 0 rfl ?_
    refine H_getr ck4 2 (by decide) (fs_9 hF) (by decide) rfl (fr_9_2 hF) q258 dX5_of_37 ?_
    refine H_getiN ck5 1 (by decide) (fs_11 hF) (by decide) rfl q247 dX5_of_40 ?_
    refine V_if_eq (tgt := 70) dX5_of_43 (by decide) (fun c3 => ?_) (fun c3 => ?_)
    · have H := H.1 c3
      refine V_aload_n dX5_of_70 rfl 0 rfl ?_
      refine H_getr ck4 2 (by decide) (fs_9 hF) (by decide) rfl (fr_9_2 hF) q258 dX5_of_71 ?_
      exact G_aret hF rfl dX5_of_74 H
    · have H := H.2 c3
      refine V_aload_n dX5_of_46 rfl 0 rfl ?_
      refine H_getr ck4 2 (by decide) (fs_9 hF) (by decide) rfl (fr_9_2 hF) q258 dX5_of_47 ?_
      refine H_getrN ck5 0 (by decide) (fs_11 hF) (by decide) rfl (fr_11_0 hF) q242 dX5_of_50 ?_
      refine V_iload_n dX5_of_53 rfl 2 rfl ?_
      refine V_aload_n dX5_of_54 rfl 1 rfl ?_
      obtain ⟨b4, z5, H⟩ := H
      refine H_getrN ck8 5 (by decide) z1 (by decide) rfl z5 q684 dX5_of_55 ?_
      refine V_iload_n dX5_of_58 rfl 2 rfl ?_
      obtain ⟨m6, z7, H⟩ := H
      obtain ⟨i8, H⟩ := H
      refine H_iald z7 i8 dX5_of_59 ?_
      refine H_calli (av := [.int (h b4 (ix x3))]) (rest := [.int x3, .ref (ad D 12)]) H mqX1_all q81 (by decide) (Nat.le_of_ble_eq_true rfl) (k_resSN (av := [.int (h b4 (ix x3))]) (rest := [.int x3, .ref (ad D 12)]) (M1 := mX1_all) rfl q1258 q1259 q81 mqX1_all (fun _ _ h => mW_named h) mhX1_all mnX1_all dX5_of_60) (fun y9 h10 g11 H => ?_)
      obtain ⟨i12, H⟩ := H
      refine H_iast (fs_12 hF) i12 dX5_of_63 (fun h13 e14 => ?_)
      have H := H h13 e14
      obtain ⟨y15, e16⟩ : ∃ y : Int32, y = x3 + 1 := ⟨_, rfl⟩
      have H := H y15 e16
      refine V_iinc (j := 2) (v := y15) (l1 := [(3, .int y15), (0, .ref (ad D 9)), (1, .ref (ad D x1))]) dX5_of_64 rfl (by rw [e16]; rfl) (by decide) rfl ?_
      refine V_goto (tgt := 28) dX5_of_67 (by decide) ?_
      refine V.sub [1, 2, 0] rfl ?_
      exact H
abbrev JX5_of_0 (D : DE) (f : Nat) (Q : Nat → Frm → HI → HL → Prop) (T : Nat → Frm → HI → HL → Prop) (F : Frm) (h : HI) (g : HL) (x1 : Nat) (x2 : Int32) : Prop := ∀ F1, F1 = fwr F 9 0 (some x1) → Sv D f mX6_clear [.ref (ad D 11)] F1 h g (fun h4 g5 => F1.2.1 x1 = (18, 0) ∧ ∃ b7 : Nat, F1.2.2 x1 6 = some b7 ∧ ∃ k9 : Nat, isE F1 b7 k9 ∧ Sv D f (v_ask k9) [.ref (ad D b7), .ref (ad D 9), .int x2, .ref (ad D 11), .int 0] F1 h4 g5 (fun h11 g12 => V D mX5_of (f + 1) (gr D Q T) 28 [(0, .ref (ad D 9)), (1, .ref (ad D x1)), (3, .int 0)] [] (F1, h11, g12)))
theorem bX5_of_0 {D : DE} {f : Nat} {Q : Nat → Frm → HI → HL → Prop} {T : Nat → Frm → HI → HL → Prop} {F : Frm} {h : HI} {g : HL} (hF : k_Fix F) (x1 : Nat) (x2 : Int32) (H : JX5_of_0 D f Q T F h g x1 x2) : V D mX5_of (f + 1) (gr D Q T) 0 [(0, .ref (ad D 9)), (1, .ref (ad D x1)), (2, .int x2)] [] (F, h, g) := by
  refine V_aload_n dX5_of_0 rfl 0 rfl ?_
  refine V_aload_n dX5_of_1 rfl 1 rfl ?_
  refine G_putr ck4 0 (by decide) (fs_9 hF) (by decide) rfl (fun _ => rfl) (fun _ => rfl) rfl q254 dX5_of_2 (fun F1 e2 => ?_)
  have H := H F1 e2
  have hF3 : k_Fix F1 := by rw [e2]; exact k_Fix.wr hF (by decide +kernel) _
  refine V_aload_n dX5_of_5 rfl 0 rfl ?_
  refine H_getr ck4 2 (by decide) (fs_9 hF3) (by decide) rfl (fr_9_2 hF3) q258 dX5_of_6 ?_
  refine H_callv (av := [.ref (ad D 11)]) (rest := []) H mqX6_clear q86 (by decide) (Nat.le_of_ble_eq_true rfl) (k_resV (ci := 5) (av := []) (rest := []) (fs_11 hF3) (by decide) rfl rfl q1181 q1182 q1183 q1184 mhX6_clear mnX6_clear dX5_of_9) (fun h4 g5 H => ?_)
  refine V_aload_n dX5_of_12 rfl 1 rfl ?_
  obtain ⟨z6, H⟩ := H
  obtain ⟨b7, z8, H⟩ := H
  refine H_getrN ck8 6 (by decide) z6 (by decide) rfl z8 q690 dX5_of_13 ?_
  refine V_aload_n dX5_of_16 rfl 0 rfl ?_
  refine V_iload_n dX5_of_17 rfl 2 rfl ?_
  refine V_aload_n dX5_of_18 rfl 0 rfl ?_
  refine H_getr ck4 2 (by decide) (fs_9 hF3) (by decide) rfl (fr_9_2 hF3) q258 dX5_of_19 ?_
  refine V_iconst (v := 0) dX5_of_22 (by decide) ?_
  obtain ⟨k9, z10, H⟩ := H
  refine H_callv (av := [.ref (ad D b7), .ref (ad D 9), .int x2, .ref (ad D 11), .int 0]) (rest := []) H (vq_ask z10.2.1 z10.2.2) (vi_ask z10.2.1 z10.2.2) (vl_ask z10.2.1 z10.2.2) (Nat.le_of_ble_eq_true rfl) (vr_ask (av := [.ref (ad D 9), .int x2, .ref (ad D 11), .int 0]) (rest := []) z10 rfl q1185 dX5_of_23) (fun h11 g12 H => ?_)
  refine V_iconst (v := 0) dX5_of_26 (by decide) ?_
  refine V_istore_n (l1 := [(3, .int 0), (0, .ref (ad D 9)), (1, .ref (ad D x1)), (2, .int x2)]) dX5_of_27 rfl (by decide) rfl ?_
  refine V.sub [1, 2, 0] rfl ?_
  exact H
theorem wX5_of {D : DE} {f : Nat} {Q : Nat → Frm → HI → HL → Prop} {T : Nat → Frm → HI → HL → Prop} {F : Frm} {h : HI} {g : HL} (hF : k_Fix F) (x1 : Nat) (x2 : Int32) (H : JX5_of_0 D f Q T F h g x1 x2) : Gr D (f + 1) mX5_of [.ref (ad D 9), .ref (ad D x1), .int x2] F h g Q T := Cl.ofV (by decide) (Nat.le_of_ble_eq_true rfl) rfl (bX5_of_0 hF x1 x2 H)
theorem dX7_forget_0 : decode cX7_forget 0 = .ok (.aload_n 0, 1) := by decide +kernel
theorem dX7_forget_1 : decode cX7_forget 1 = .ok (.iconst 0, 1) := by decide +kernel
theorem dX7_forget_2 : decode cX7_forget 2 = .ok (.putfield 44, 3) := by decide +kernel
theorem dX7_forget_5 : decode cX7_forget 5 = .ok (.aload_n 0, 1) := by decide +kernel
theorem dX7_forget_6 : decode cX7_forget 6 = .ok (.iconst 0, 1) := by decide +kernel
theorem dX7_forget_7 : decode cX7_forget 7 = .ok (.putfield 48, 3) := by decide +kernel
theorem dX7_forget_10 : decode cX7_forget 10 = .ok (.aload_n 0, 1) := by decide +kernel
theorem dX7_forget_11 : decode cX7_forget 11 = .ok (.iconst 0, 1) := by decide +kernel
theorem dX7_forget_12 : decode cX7_forget 12 = .ok (.putfield 51, 3) := by decide +kernel
theorem dX7_forget_15 : decode cX7_forget 15 = .ok (.aload_n 0, 1) := by decide +kernel
theorem dX7_forget_16 : decode cX7_forget 16 = .ok (.iconst 0, 1) := by decide +kernel
theorem dX7_forget_17 : decode cX7_forget 17 = .ok (.putfield 54, 3) := by decide +kernel
theorem dX7_forget_20 : decode cX7_forget 20 = .ok (.aload_n 0, 1) := by decide +kernel
theorem dX7_forget_21 : decode cX7_forget 21 = .ok (.iconst 0, 1) := by decide +kernel
theorem dX7_forget_22 : decode cX7_forget 22 = .ok (.putfield 57, 3) := by decide +kernel
theorem dX7_forget_25 : decode cX7_forget 25 = .ok (.aload_n 0, 1) := by decide +kernel
theorem dX7_forget_26 : decode cX7_forget 26 = .ok (.iconst 0, 1) := by decide +kernel
theorem dX7_forget_27 : decode cX7_forget 27 = .ok (.putfield 60, 3) := by decide +kernel
theorem dX7_forget_30 : decode cX7_forget 30 = .ok (.aload_n 0, 1) := by decide +kernel
theorem dX7_forget_31 : decode cX7_forget 31 = .ok (.iconst 0, 1) := by decide +kernel
theorem dX7_forget_32 : decode cX7_forget 32 = .ok (.putfield 63, 3) := by decide +kernel
theorem dX7_forget_35 : decode cX7_forget 35 = .ok (.aload_n 0, 1) := by decide +kernel
theorem dX7_forget_36 : decode cX7_forget 36 = .ok (.iconst 0, 1) := by decide +kernel
theorem dX7_forget_37 : decode cX7_forget 37 = .ok (.putfield 66, 3) := by decide +kernel
theorem dX7_forget_40 : decode cX7_forget 40 = .ok (.aload_n 0, 1) := by decide +kernel
theorem dX7_forget_41 : decode cX7_forget 41 = .ok (.iconst 0, 1) := by decide +kernel
theorem dX7_forget_42 : decode cX7_forget 42 = .ok (.putfield 69, 3) := by decide +kernel
theorem dX7_forget_45 : decode cX7_forget 45 = .ok (.aload_n 0, 1) := by decide +kernel
theorem dX7_forget_46 : decode cX7_forget 46 = .ok (.iconst 0, 1) := by decide +kernel
theorem dX7_forget_47 : decode cX7_forget 47 = .ok (.putfield 72, 3) := by decide +kernel
theorem dX7_forget_50 : decode cX7_forget 50 = .ok (.return_, 1) := by decide +kernel
abbrev JX7_forget_0 (D : DE) (f : Nat) (Q : HI → HL → Prop) (F : Frm) (h : HI) (g : HL) : Prop := ∀ h1, h1 = up2 h 101 4 0 → ∀ h3, h3 = up2 h1 101 7 0 → ∀ h5, h5 = up2 h3 101 9 0 → ∀ h7, h7 = up2 h5 101 10 0 → ∀ h9, h9 = up2 h7 101 11 0 → ∀ h11, h11 = up2 h9 101 13 0 → ∀ h13, h13 = up2 h11 101 14 0 → ∀ h15, h15 = up2 h13 101 15 0 → ∀ h17, h17 = up2 h15 101 16 0 → ∀ h19, h19 = up2 h17 101 19 0 → Q h19 g
theorem bX7_forget_0 {D : DE} {f : Nat} {Q : HI → HL → Prop} {F : Frm} {h : HI} {g : HL} (hF : k_Fix F)  (H : JX7_forget_0 D f Q F h g ) : V D mX7_forget f (qv F Q) 0 [(0, .ref (ad D 101))] [] (F, h, g) := by
  refine V_aload_n dX7_forget_0 rfl 0 rfl ?_
  refine V_iconst (v := 0) dX7_forget_1 (by decide) ?_
  refine H_puti ck6 4 (by decide) (fs_101 hF) (by decide) rfl rfl q280 dX7_forget_2 (fun h1 e2 => ?_)
  have H := H h1 e2
  refine V_aload_n dX7_forget_5 rfl 0 rfl ?_
  refine V_iconst (v := 0) dX7_forget_6 (by decide) ?_
  refine H_puti ck6 7 (by decide) (fs_101 hF) (by decide) rfl rfl q288 dX7_forget_7 (fun h3 e4 => ?_)
  have H := H h3 e4
  refine V_aload_n dX7_forget_10 rfl 0 rfl ?_
  refine V_iconst (v := 0) dX7_forget_11 (by decide) ?_
  refine H_puti ck6 9 (by decide) (fs_101 hF) (by decide) rfl rfl q296 dX7_forget_12 (fun h5 e6 => ?_)
  have H := H h5 e6
  refine V_aload_n dX7_forget_15 rfl 0 rfl ?_
  refine V_iconst (v := 0) dX7_forget_16 (by decide) ?_
  refine H_puti ck6 10 (by decide) (fs_101 hF) (by decide) rfl rfl q298 dX7_forget_17 (fun h7 e8 => ?_)
  have H := H h7 e8
  refine V_aload_n dX7_forget_20 rfl 0 rfl ?_
  refine V_iconst (v := 0) dX7_forget_21 (by decide) ?_
  refine H_puti ck6 11 (by decide) (fs_101 hF) (by decide) rfl rfl q300 dX7_forget_22 (fun h9 e10 => ?_)
  have H := H h9 e10
  refine V_aload_n dX7_forget_25 rfl 0 rfl ?_
  refine V_iconst (v := 0) dX7_forget_26 (by decide) ?_
  refine H_puti ck6 13 (by decide) (fs_101 hF) (by decide) rfl rfl q303 dX7_forget_27 (fun h11 e12 => ?_)
  have H := H h11 e12
  refine V_aload_n dX7_forget_30 rfl 0 rfl ?_
  refine V_iconst (v := 0) dX7_forget_31 (by decide) ?_
  refine H_puti ck6 14 (by decide) (fs_101 hF) (by decide) rfl rfl q305 dX7_forget_32 (fun h13 e14 => ?_)
  have H := H h13 e14
  refine V_aload_n dX7_forget_35 rfl 0 rfl ?_
  refine V_iconst (v := 0) dX7_forget_36 (by decide) ?_
  refine H_puti ck6 15 (by decide) (fs_101 hF) (by decide) rfl rfl q306 dX7_forget_37 (fun h15 e16 => ?_)
  have H := H h15 e16
  refine V_aload_n dX7_forget_40 rfl 0 rfl ?_
  refine V_iconst (v := 0) dX7_forget_41 (by decide) ?_
  refine H_puti ck6 16 (by decide) (fs_101 hF) (by decide) rfl rfl q308 dX7_forget_42 (fun h17 e18 => ?_)
  have H := H h17 e18
  refine V_aload_n dX7_forget_45 rfl 0 rfl ?_
  refine V_iconst (v := 0) dX7_forget_46 (by decide) ?_
  refine H_puti ck6 19 (by decide) (fs_101 hF) (by decide) rfl rfl q317 dX7_forget_47 (fun h19 e20 => ?_)
  have H := H h19 e20
  exact H_vret rfl dX7_forget_50 H
theorem wX7_forget {D : DE} {f : Nat} {Q : HI → HL → Prop} {F : Frm} {h : HI} {g : HL} (hF : k_Fix F)  (H : JX7_forget_0 D f Q F h g ) : Sv D f mX7_forget [.ref (ad D 101)] F h g Q := Cl.ofV (by decide) (Nat.le_of_ble_eq_true rfl) rfl (bX7_forget_0 hF  H)
theorem dX7_ends_0 : decode cX7_ends 0 = .ok (.aload_n 0, 1) := by decide +kernel
theorem dX7_ends_1 : decode cX7_ends 1 = .ok (.aload_n 0, 1) := by decide +kernel
theorem dX7_ends_2 : decode cX7_ends 2 = .ok (.getfield 69, 3) := by decide +kernel
theorem dX7_ends_5 : decode cX7_ends 5 = .ok (.ifCond .ne 7, 3) := by decide +kernel
theorem dX7_ends_8 : decode cX7_ends 8 = .ok (.iload_n 1, 1) := by decide +kernel
theorem dX7_ends_9 : decode cX7_ends 9 = .ok (.goto 7, 3) := by decide +kernel
theorem dX7_ends_12 : decode cX7_ends 12 = .ok (.aload_n 0, 1) := by decide +kernel
theorem dX7_ends_13 : decode cX7_ends 13 = .ok (.getfield 69, 3) := by decide +kernel
theorem dX7_ends_16 : decode cX7_ends 16 = .ok (.putfield 69, 3) := by decide +kernel
theorem dX7_ends_19 : decode cX7_ends 19 = .ok (.return_, 1) := by decide +kernel
abbrev JX7_ends_0 (D : DE) (f : Nat) (Q : HI → HL → Prop) (F : Frm) (h : HI) (g : HL) (x1 : Int32) : Prop := ((¬ (h 101 16) = 0 → ∀ h2, h2 = up2 h 101 16 (h 101 16) → Q h2 g) ∧ ((h 101 16) = 0 → ∀ h4, h4 = up2 h 101 16 x1 → Q h4 g))
theorem bX7_ends_0 {D : DE} {f : Nat} {Q : HI → HL → Prop} {F : Frm} {h : HI} {g : HL} (hF : k_Fix F) (x1 : Int32) (H : JX7_ends_0 D f Q F h g x1) : V D mX7_ends f (qv F Q) 0 [(0, .ref (ad D 101)), (1, .int x1)] [] (F, h, g) := by
  refine V_aload_n dX7_ends_0 rfl 0 rfl ?_
  refine V_aload_n dX7_ends_1 rfl 0 rfl ?_
  refine H_geti ck6 16 (by decide) (fs_101 hF) (by decide) rfl q308 dX7_ends_2 ?_
  refine V_if_ne (tgt := 12) dX7_ends_5 (by decide) (fun c1 => ?_) (fun c1 => ?_)
  · have H := H.1 c1
    refine V_aload_n dX7_ends_12 rfl 0 rfl ?_
    refine H_geti ck6 16 (by decide) (fs_101 hF) (by decide) rfl q308 dX7_ends_13 ?_
    refine H_puti ck6 16 (by decide) (fs_101 hF) (by decide) rfl rfl q308 dX7_ends_16 (fun h2 e3 => ?_)
    have H := H h2 e3
    exact H_vret rfl dX7_ends_19 H
  · have H := H.2 c1
    refine V_iload_n dX7_ends_8 rfl 1 rfl ?_
    refine V_goto (tgt := 16) dX7_ends_9 (by decide) ?_
    refine H_puti ck6 16 (by decide) (fs_101 hF) (by decide) rfl rfl q308 dX7_ends_16 (fun h4 e5 => ?_)
    have H := H h4 e5
    exact H_vret rfl dX7_ends_19 H
theorem wX7_ends {D : DE} {f : Nat} {Q : HI → HL → Prop} {F : Frm} {h : HI} {g : HL} (hF : k_Fix F) (x1 : Int32) (H : JX7_ends_0 D f Q F h g x1) : Sv D f mX7_ends [.ref (ad D 101), .int x1] F h g Q := Cl.ofV (by decide) (Nat.le_of_ble_eq_true rfl) rfl (bX7_ends_0 hF x1 H)
theorem dX7_work_0 : decode cX7_work 0 = .ok (.aload_n 0, 1) := by decide +kernel
theorem dX7_work_1 : decode cX7_work 1 = .ok (.getfield 69, 3) := by decide +kernel
theorem dX7_work_4 : decode cX7_work 4 = .ok (.ifCond .eq 5, 3) := by decide +kernel
theorem dX7_work_7 : decode cX7_work 7 = .ok (.iconst 0, 1) := by decide +kernel
theorem dX7_work_8 : decode cX7_work 8 = .ok (.ireturn, 1) := by decide +kernel
theorem dX7_work_9 : decode cX7_work 9 = .ok (.aload_n 0, 1) := by decide +kernel
theorem dX7_work_10 : decode cX7_work 10 = .ok (.getfield 60, 3) := by decide +kernel
theorem dX7_work_13 : decode cX7_work 13 = .ok (.aload_n 0, 1) := by decide +kernel
theorem dX7_work_14 : decode cX7_work 14 = .ok (.getfield 75, 3) := by decide +kernel
theorem dX7_work_17 : decode cX7_work 17 = .ok (.if_icmp .eq 13, 3) := by decide +kernel
theorem dX7_work_20 : decode cX7_work 20 = .ok (.aload_n 0, 1) := by decide +kernel
theorem dX7_work_21 : decode cX7_work 21 = .ok (.getfield 63, 3) := by decide +kernel
theorem dX7_work_24 : decode cX7_work 24 = .ok (.sipush 150, 3) := by decide +kernel
theorem dX7_work_27 : decode cX7_work 27 = .ok (.if_icmp .ne 25, 3) := by decide +kernel
theorem dX7_work_30 : decode cX7_work 30 = .ok (.aload_n 0, 1) := by decide +kernel
theorem dX7_work_31 : decode cX7_work 31 = .ok (.aload_n 0, 1) := by decide +kernel
theorem dX7_work_32 : decode cX7_work 32 = .ok (.getfield 60, 3) := by decide +kernel
theorem dX7_work_35 : decode cX7_work 35 = .ok (.aload_n 0, 1) := by decide +kernel
theorem dX7_work_36 : decode cX7_work 36 = .ok (.getfield 75, 3) := by decide +kernel
theorem dX7_work_39 : decode cX7_work 39 = .ok (.if_icmp .ne 7, 3) := by decide +kernel
theorem dX7_work_42 : decode cX7_work 42 = .ok (.iconst 3, 1) := by decide +kernel
theorem dX7_work_43 : decode cX7_work 43 = .ok (.goto 4, 3) := by decide +kernel
theorem dX7_work_46 : decode cX7_work 46 = .ok (.iconst 4, 1) := by decide +kernel
theorem dX7_work_47 : decode cX7_work 47 = .ok (.invokevirtual 78, 3) := by decide +kernel
theorem dX7_work_50 : decode cX7_work 50 = .ok (.iconst 0, 1) := by decide +kernel
theorem dX7_work_51 : decode cX7_work 51 = .ok (.ireturn, 1) := by decide +kernel
theorem dX7_work_52 : decode cX7_work 52 = .ok (.aload_n 0, 1) := by decide +kernel
theorem dX7_work_53 : decode cX7_work 53 = .ok (.dup, 1) := by decide +kernel
theorem dX7_work_54 : decode cX7_work 54 = .ok (.getfield 60, 3) := by decide +kernel
theorem dX7_work_57 : decode cX7_work 57 = .ok (.iconst 1, 1) := by decide +kernel
theorem dX7_work_58 : decode cX7_work 58 = .ok (.iadd, 1) := by decide +kernel
theorem dX7_work_59 : decode cX7_work 59 = .ok (.putfield 60, 3) := by decide +kernel
theorem dX7_work_62 : decode cX7_work 62 = .ok (.aload_n 0, 1) := by decide +kernel
theorem dX7_work_63 : decode cX7_work 63 = .ok (.dup, 1) := by decide +kernel
theorem dX7_work_64 : decode cX7_work 64 = .ok (.getfield 63, 3) := by decide +kernel
theorem dX7_work_67 : decode cX7_work 67 = .ok (.iconst 1, 1) := by decide +kernel
theorem dX7_work_68 : decode cX7_work 68 = .ok (.iadd, 1) := by decide +kernel
theorem dX7_work_69 : decode cX7_work 69 = .ok (.putfield 63, 3) := by decide +kernel
theorem dX7_work_72 : decode cX7_work 72 = .ok (.aload_n 0, 1) := by decide +kernel
theorem dX7_work_73 : decode cX7_work 73 = .ok (.aload_n 0, 1) := by decide +kernel
theorem dX7_work_74 : decode cX7_work 74 = .ok (.getfield 66, 3) := by decide +kernel
theorem dX7_work_77 : decode cX7_work 77 = .ok (.aload_n 0, 1) := by decide +kernel
theorem dX7_work_78 : decode cX7_work 78 = .ok (.getfield 63, 3) := by decide +kernel
theorem dX7_work_81 : decode cX7_work 81 = .ok (.invokestatic 82, 3) := by decide +kernel
theorem dX7_work_84 : decode cX7_work 84 = .ok (.putfield 66, 3) := by decide +kernel
theorem dX7_work_87 : decode cX7_work 87 = .ok (.aload_n 1, 1) := by decide +kernel
theorem dX7_work_88 : decode cX7_work 88 = .ok (.aload_n 0, 1) := by decide +kernel
theorem dX7_work_89 : decode cX7_work 89 = .ok (.iload_n 2, 1) := by decide +kernel
theorem dX7_work_90 : decode cX7_work 90 = .ok (.invokevirtual 88, 3) := by decide +kernel
theorem dX7_work_93 : decode cX7_work 93 = .ok (.istore_n 3, 1) := by decide +kernel
theorem dX7_work_94 : decode cX7_work 94 = .ok (.aload_n 0, 1) := by decide +kernel
theorem dX7_work_95 : decode cX7_work 95 = .ok (.dup, 1) := by decide +kernel
theorem dX7_work_96 : decode cX7_work 96 = .ok (.getfield 63, 3) := by decide +kernel
theorem dX7_work_99 : decode cX7_work 99 = .ok (.iconst 1, 1) := by decide +kernel
theorem dX7_work_100 : decode cX7_work 100 = .ok (.isub, 1) := by decide +kernel
theorem dX7_work_101 : decode cX7_work 101 = .ok (.putfield 63, 3) := by decide +kernel
theorem dX7_work_104 : decode cX7_work 104 = .ok (.iload_n 3, 1) := by decide +kernel
theorem dX7_work_105 : decode cX7_work 105 = .ok (.ireturn, 1) := by decide +kernel
abbrev JX7_work_30 (D : DE) (f : Nat) (Q : Int32 → Frm → HI → HL → Prop) (T : Nat → Frm → HI → HL → Prop) (F : Frm) (h : HI) (g : HL) : Prop := ((¬ (h 101 13) = (h 101 12) → Sv D f mX7_ends [.ref (ad D 101), .int 4] F h g (fun h2 g3 => Q 0 F h2 g3)) ∧ ((h 101 13) = (h 101 12) → Sv D f mX7_ends [.ref (ad D 101), .int 3] F h g (fun h4 g5 => Q 0 F h4 g5)))
theorem bX7_work_30 {D : DE} {f : Nat} {Q : Int32 → Frm → HI → HL → Prop} {T : Nat → Frm → HI → HL → Prop} {F : Frm} {h : HI} {g : HL} (hF : k_Fix F)  (H : JX7_work_30 D f Q T F h g ) : V D mX7_work (f + 1) (gi Q T) 30 [(0, .ref (ad D 101))] [] (F, h, g) := by
  refine V_aload_n dX7_work_30 rfl 0 rfl ?_
  refine V_aload_n dX7_work_31 rfl 0 rfl ?_
  refine H_geti ck6 13 (by decide) (fs_101 hF) (by decide) rfl q303 dX7_work_32 ?_
  refine V_aload_n dX7_work_35 rfl 0 rfl ?_
  refine H_geti ck6 12 (by decide) (fs_101 hF) (by decide) rfl q302 dX7_work_36 ?_
  refine V_icmp_ne (tgt := 46) dX7_work_39 (by decide) (fun c1 => ?_) (fun c1 => ?_)
  · have H := H.1 c1
    refine V_iconst (v := 4) dX7_work_46 (by decide) ?_
    refine H_callv (av := [.ref (ad D 101), .int 4]) (rest := []) H mqX7_ends q87 (by decide) (Nat.le_of_ble_eq_true rfl) (k_resV (ci := 6) (av := [.int 4]) (rest := []) (fs_101 hF) (by decide) rfl rfl q1342 q1343 q1344 q1345 mhX7_ends mnX7_ends dX7_work_47) (fun h2 g3 H => ?_)
    refine V_iconst (v := 0) dX7_work_50 (by decide) ?_
    exact G_iret hF rfl dX7_work_51 H
  · have H := H.2 c1
    refine V_iconst (v := 3) dX7_work_42 (by decide) ?_
    refine V_goto (tgt := 47) dX7_work_43 (by decide) ?_
    refine H_callv (av := [.ref (ad D 101), .int 3]) (rest := []) H mqX7_ends q87 (by decide) (Nat.le_of_ble_eq_true rfl) (k_resV (ci := 6) (av := [.int 3]) (rest := []) (fs_101 hF) (by decide) rfl rfl q1342 q1343 q1344 q1345 mhX7_ends mnX7_ends dX7_work_47) (fun h4 g5 H => ?_)
    refine V_iconst (v := 0) dX7_work_50 (by decide) ?_
    exact G_iret hF rfl dX7_work_51 H
abbrev JX7_work_0 (D : DE) (f : Nat) (Q : Int32 → Frm → HI → HL → Prop) (T : Nat → Frm → HI → HL → Prop) (F : Frm) (h : HI) (g : HL) (x1 : Nat) (x2 : Int32) : Prop := (((h 101 16) = 0 → (((h 101 13) = (h 101 12) → JX7_work_30 D f Q T F h g) ∧ (¬ (h 101 13) = (h 101 12) → ((¬ (h 101 14) = 150 → ∀ h4, h4 = up2 h 101 13 ((h 101 13) + 1) → ∀ h6, h6 = up2 h4 101 14 ((h4 101 14) + 1) → ∀ y8 : Int32, y8 = (if (h6 101 15) < (h6 101 14) then (h6 101 14) else (h6 101 15)) → ∀ h10, h10 = up2 h6 101 15 y8 → ∃ k12 : Nat, isE F x1 k12 ∧ Gi D f (v_work k12) [.ref (ad D x1), .ref (ad D 101), .int x2] F h10 g (fun y14 F17 h15 g16 => ∀ h20, h20 = up2 h15 101 14 ((h15 101 14) - 1) → Q y14 F17 h20 g16) T) ∧ ((h 101 14) = 150 → JX7_work_30 D f Q T F h g))))) ∧ (¬ (h 101 16) = 0 → Q 0 F h g))
theorem bX7_work_0 {D : DE} {f : Nat} {Q : Int32 → Frm → HI → HL → Prop} {T : Nat → Frm → HI → HL → Prop} {F : Frm} {h : HI} {g : HL} (hF : k_Fix F) (x1 : Nat) (x2 : Int32) (H : JX7_work_0 D f Q T F h g x1 x2) : V D mX7_work (f + 1) (gi Q T) 0 [(0, .ref (ad D 101)), (1, .ref (ad D x1)), (2, .int x2)] [] (F, h, g) := by
  refine V_aload_n dX7_work_0 rfl 0 rfl ?_
  refine H_geti ck6 16 (by decide) (fs_101 hF) (by decide) rfl q308 dX7_work_1 ?_
  refine V_if_eq (tgt := 9) dX7_work_4 (by decide) (fun c1 => ?_) (fun c1 => ?_)
  · have H := H.1 c1
    refine V_aload_n dX7_work_9 rfl 0 rfl ?_
    refine H_geti ck6 13 (by decide) (fs_101 hF) (by decide) rfl q303 dX7_work_10 ?_
    refine V_aload_n dX7_work_13 rfl 0 rfl ?_
    refine H_geti ck6 12 (by decide) (fs_101 hF) (by decide) rfl q302 dX7_work_14 ?_
    refine V_icmp_eq (tgt := 30) dX7_work_17 (by decide) (fun c2 => ?_) (fun c2 => ?_)
    · have H := H.1 c2
      refine V.sub [0] rfl ?_
      exact bX7_work_30 hF  H
    · have H := H.2 c2
      refine V_aload_n dX7_work_20 rfl 0 rfl ?_
      refine H_geti ck6 14 (by decide) (fs_101 hF) (by decide) rfl q305 dX7_work_21 ?_
      refine V_sipush (v := 150) dX7_work_24 (by decide) ?_
      refine V_icmp_ne (tgt := 52) dX7_work_27 (by decide) (fun c3 => ?_) (fun c3 => ?_)
      · have H := H.1 c3
        refine V_aload_n dX7_work_52 rfl 0 rfl ?_
        refine V_dup dX7_work_53 rfl ?_
        refine H_geti ck6 13 (by decide) (fs_101 hF) (by decide) rfl q303 dX7_work_54 ?_
        refine V_iconst (v := 1) dX7_work_57 (by decide) ?_
        refine V_iadd dX7_work_58 ?_
        refine H_puti ck6 13 (by decide) (fs_101 hF) (by decide) rfl rfl q303 dX7_work_59 (fun h4 e5 => ?_)
        have H := H h4 e5
        refine V_aload_n dX7_work_62 rfl 0 rfl ?_
        refine V_dup dX7_work_63 rfl ?_
        refine H_geti ck6 14 (by decide) (fs_101 hF) (by decide) rfl q305 dX7_work_64 ?_
        refine V_iconst (v := 1) dX7_work_67 (by decide) ?_
        refine V_iadd dX7_work_68 ?_
        refine H_puti ck6 14 (by decide) (fs_101 hF) (by decide) rfl rfl q305 dX7_work_69 (fun h6 e7 => ?_)
        have H := H h6 e7
        refine V_aload_n dX7_work_72 rfl 0 rfl ?_
        refine V_aload_n dX7_work_73 rfl 0 rfl ?_
        refine H_geti ck6 15 (by decide) (fs_101 hF) (by decide) rfl q306 dX7_work_74 ?_
        refine V_aload_n dX7_work_77 rfl 0 rfl ?_
        refine H_geti ck6 14 (by decide) (fs_101 hF) (by decide) rfl q305 dX7_work_78 ?_
        refine H_max (by omega) (Nat.le_of_ble_eq_true rfl) q1346 q523 q99 q524 dX7_work_81 ?_
        refine V_topi (fun y8 e9 => ?_)
        have H := H y8 e9
        refine H_puti ck6 15 (by decide) (fs_101 hF) (by decide) rfl rfl q306 dX7_work_84 (fun h10 e11 => ?_)
        have H := H h10 e11
        refine V_aload_n dX7_work_87 rfl 1 rfl ?_
        refine V_aload_n dX7_work_88 rfl 0 rfl ?_
        refine V_iload_n dX7_work_89 rfl 2 rfl ?_
        obtain ⟨k12, z13, H⟩ := H
        refine G_calli (av := [.ref (ad D x1), .ref (ad D 101), .int x2]) (rest := []) H (vq_work z13.2.1 z13.2.2) (vi_work z13.2.1 z13.2.2) (vl_work z13.2.1 z13.2.2) (Nat.le_of_ble_eq_true rfl) (vr_work (av := [.ref (ad D 101), .int x2]) (rest := []) z13 rfl q1347 dX7_work_90) (fun y14 F17 h15 g16 hF18 H => ?_) (fun a e F1 h1 g1 hF1 ha ht => GT_i hF1 rfl ha ht)
        refine V_istore_n (l1 := [(3, .int y14), (0, .ref (ad D 101)), (1, .ref (ad D x1)), (2, .int x2)]) dX7_work_93 rfl (by decide) rfl ?_
        refine V_aload_n dX7_work_94 rfl 1 rfl ?_
        refine V_dup dX7_work_95 rfl ?_
        refine H_geti ck6 14 (by decide) (fs_101 hF18) (by decide) rfl q305 dX7_work_96 ?_
        refine V_iconst (v := 1) dX7_work_99 (by decide) ?_
        refine V_isub dX7_work_100 ?_
        refine H_puti ck6 14 (by decide) (fs_101 hF18) (by decide) rfl rfl q305 dX7_work_101 (fun h20 e21 => ?_)
        have H := H h20 e21
        refine V_iload_n dX7_work_104 rfl 0 rfl ?_
        exact G_iret hF18 rfl dX7_work_105 H
      · have H := H.2 c3
        refine V.sub [0] rfl ?_
        exact bX7_work_30 hF  H
  · have H := H.2 c1
    refine V_iconst (v := 0) dX7_work_7 (by decide) ?_
    exact G_iret hF rfl dX7_work_8 H
theorem wX7_work {D : DE} {f : Nat} {Q : Int32 → Frm → HI → HL → Prop} {T : Nat → Frm → HI → HL → Prop} {F : Frm} {h : HI} {g : HL} (hF : k_Fix F) (x1 : Nat) (x2 : Int32) (H : JX7_work_0 D f Q T F h g x1 x2) : Gi D (f + 1) mX7_work [.ref (ad D 101), .ref (ad D x1), .int x2] F h g Q T := Cl.ofV (by decide) (Nat.le_of_ble_eq_true rfl) rfl (bX7_work_0 hF x1 x2 H)
theorem dX7_put_0 : decode cX7_put 0 = .ok (.aload_n 0, 1) := by decide +kernel
theorem dX7_put_1 : decode cX7_put 1 = .ok (.getfield 11, 3) := by decide +kernel
theorem dX7_put_4 : decode cX7_put 4 = .ok (.aload_n 0, 1) := by decide +kernel
theorem dX7_put_5 : decode cX7_put 5 = .ok (.getfield 44, 3) := by decide +kernel
theorem dX7_put_8 : decode cX7_put 8 = .ok (.aload_n 1, 1) := by decide +kernel
theorem dX7_put_9 : decode cX7_put 9 = .ok (.aastore, 1) := by decide +kernel
theorem dX7_put_10 : decode cX7_put 10 = .ok (.aload_n 0, 1) := by decide +kernel
theorem dX7_put_11 : decode cX7_put 11 = .ok (.getfield 17, 3) := by decide +kernel
theorem dX7_put_14 : decode cX7_put 14 = .ok (.aload_n 0, 1) := by decide +kernel
theorem dX7_put_15 : decode cX7_put 15 = .ok (.getfield 44, 3) := by decide +kernel
theorem dX7_put_18 : decode cX7_put 18 = .ok (.iload_n 2, 1) := by decide +kernel
theorem dX7_put_19 : decode cX7_put 19 = .ok (.iastore, 1) := by decide +kernel
theorem dX7_put_20 : decode cX7_put 20 = .ok (.aload_n 0, 1) := by decide +kernel
theorem dX7_put_21 : decode cX7_put 21 = .ok (.getfield 21, 3) := by decide +kernel
theorem dX7_put_24 : decode cX7_put 24 = .ok (.aload_n 0, 1) := by decide +kernel
theorem dX7_put_25 : decode cX7_put 25 = .ok (.getfield 44, 3) := by decide +kernel
theorem dX7_put_28 : decode cX7_put 28 = .ok (.iload_n 3, 1) := by decide +kernel
theorem dX7_put_29 : decode cX7_put 29 = .ok (.i2b, 1) := by decide +kernel
theorem dX7_put_30 : decode cX7_put 30 = .ok (.bastore, 1) := by decide +kernel
theorem dX7_put_31 : decode cX7_put 31 = .ok (.aload_n 0, 1) := by decide +kernel
theorem dX7_put_32 : decode cX7_put 32 = .ok (.dup, 1) := by decide +kernel
theorem dX7_put_33 : decode cX7_put 33 = .ok (.getfield 44, 3) := by decide +kernel
theorem dX7_put_36 : decode cX7_put 36 = .ok (.iconst 1, 1) := by decide +kernel
theorem dX7_put_37 : decode cX7_put 37 = .ok (.iadd, 1) := by decide +kernel
theorem dX7_put_38 : decode cX7_put 38 = .ok (.putfield 44, 3) := by decide +kernel
theorem dX7_put_41 : decode cX7_put 41 = .ok (.aload_n 0, 1) := by decide +kernel
theorem dX7_put_42 : decode cX7_put 42 = .ok (.getfield 44, 3) := by decide +kernel
theorem dX7_put_45 : decode cX7_put 45 = .ok (.iconst 1, 1) := by decide +kernel
theorem dX7_put_46 : decode cX7_put 46 = .ok (.isub, 1) := by decide +kernel
theorem dX7_put_47 : decode cX7_put 47 = .ok (.ireturn, 1) := by decide +kernel
abbrev JX7_put_0 (D : DE) (f : Nat) (Q : Int32 → Frm → HI → HL → Prop) (T : Nat → Frm → HI → HL → Prop) (F : Frm) (h : HI) (g : HL) (x1 : Nat) (x2 : Int32) (x3 : Int32) : Prop := vp_in (h 101 4) 1540 ∧ ∃ k4 : Nat, isE F x1 k4 ∧ ∀ F2, F2 = fwr F 102 (ix (h 101 4)) (some x1) → vp_in (h 101 4) 1540 ∧ ∀ h9, h9 = up2 h 103 (ix (h 101 4)) x2 → vp_in (h9 101 4) 1540 ∧ ∀ h12, h12 = up2 h9 104 (ix (h9 101 4)) x3.toInt8.toInt32.toInt8.toInt32 → ∀ h14, h14 = up2 h12 101 4 ((h12 101 4) + 1) → Q ((h14 101 4) - 1) F2 h14 g
theorem bX7_put_0 {D : DE} {f : Nat} {Q : Int32 → Frm → HI → HL → Prop} {T : Nat → Frm → HI → HL → Prop} {F : Frm} {h : HI} {g : HL} (hF : k_Fix F) (x1 : Nat) (x2 : Int32) (x3 : Int32) (H : JX7_put_0 D f Q T F h g x1 x2 x3) : V D mX7_put f (gi Q T) 0 [(0, .ref (ad D 101)), (1, .ref (ad D x1)), (2, .int x2), (3, .int x3)] [] (F, h, g) := by
  refine V_aload_n dX7_put_0 rfl 0 rfl ?_
  refine H_getr ck6 0 (by decide) (fs_101 hF) (by decide) rfl (fr_101_0 hF) q274 dX7_put_1 ?_
  refine V_aload_n dX7_put_4 rfl 0 rfl ?_
  refine H_geti ck6 4 (by decide) (fs_101 hF) (by decide) rfl q280 dX7_put_5 ?_
  refine V_aload_n dX7_put_8 rfl 1 rfl ?_
  obtain ⟨i1, H⟩ := H
  obtain ⟨k4, z5, H⟩ := H
  refine G_aastE (fs_102 hF) (by decide) (by decide) rfl i1 z5 dX7_put_9 (fun F2 e3 => ?_)
  have H := H F2 e3
  have hF6 : k_Fix F2 := by rw [e3]; exact k_Fix.wr hF (fx_okA (by decide +kernel)) _
  have z7 : isE F2 x1 k4 := by rw [e3]; exact z5
  refine V_aload_n dX7_put_10 rfl 0 rfl ?_
  refine H_getr ck6 1 (by decide) (fs_101 hF6) (by decide) rfl (fr_101_1 hF6) q275 dX7_put_11 ?_
  refine V_aload_n dX7_put_14 rfl 0 rfl ?_
  refine H_geti ck6 4 (by decide) (fs_101 hF6) (by decide) rfl q280 dX7_put_15 ?_
  refine V_iload_n dX7_put_18 rfl 2 rfl ?_
  obtain ⟨i8, H⟩ := H
  refine H_iast (fs_103 hF6) i8 dX7_put_19 (fun h9 e10 => ?_)
  have H := H h9 e10
  refine V_aload_n dX7_put_20 rfl 0 rfl ?_
  refine H_getr ck6 2 (by decide) (fs_101 hF6) (by decide) rfl (fr_101_2 hF6) q276 dX7_put_21 ?_
  refine V_aload_n dX7_put_24 rfl 0 rfl ?_
  refine H_geti ck6 4 (by decide) (fs_101 hF6) (by decide) rfl q280 dX7_put_25 ?_
  refine V_iload_n dX7_put_28 rfl 3 rfl ?_
  refine V_i2b dX7_put_29 ?_
  obtain ⟨i11, H⟩ := H
  refine H_bast (fs_104 hF6) i11 dX7_put_30 (fun h12 e13 => ?_)
  have H := H h12 e13
  refine V_aload_n dX7_put_31 rfl 0 rfl ?_
  refine V_dup dX7_put_32 rfl ?_
  refine H_geti ck6 4 (by decide) (fs_101 hF6) (by decide) rfl q280 dX7_put_33 ?_
  refine V_iconst (v := 1) dX7_put_36 (by decide) ?_
  refine V_iadd dX7_put_37 ?_
  refine H_puti ck6 4 (by decide) (fs_101 hF6) (by decide) rfl rfl q280 dX7_put_38 (fun h14 e15 => ?_)
  have H := H h14 e15
  refine V_aload_n dX7_put_41 rfl 0 rfl ?_
  refine H_geti ck6 4 (by decide) (fs_101 hF6) (by decide) rfl q280 dX7_put_42 ?_
  refine V_iconst (v := 1) dX7_put_45 (by decide) ?_
  refine V_isub dX7_put_46 ?_
  exact G_iret hF6 rfl dX7_put_47 H
theorem wX7_put {D : DE} {f : Nat} {Q : Int32 → Frm → HI → HL → Prop} {T : Nat → Frm → HI → HL → Prop} {F : Frm} {h : HI} {g : HL} (hF : k_Fix F) (x1 : Nat) (x2 : Int32) (x3 : Int32) (H : JX7_put_0 D f Q T F h g x1 x2 x3) : Gi D f mX7_put [.ref (ad D 101), .ref (ad D x1), .int x2, .int x3] F h g Q T := Cl.ofV (by decide) (Nat.le_of_ble_eq_true rfl) rfl (bX7_put_0 hF x1 x2 x3 H)
abbrev JX7_putn_0 (D : DE) (f : Nat) (Q : Int32 → Frm → HI → HL → Prop) (T : Nat → Frm → HI → HL → Prop) (F : Frm) (h : HI) (g : HL) (x2 : Int32) (x3 : Int32) : Prop := vp_in (h 101 4) 1540 ∧ ∀ F2, F2 = fwr F 102 (ix (h 101 4)) none → vp_in (h 101 4) 1540 ∧ ∀ h6, h6 = up2 h 103 (ix (h 101 4)) x2 → vp_in (h6 101 4) 1540 ∧ ∀ h9, h9 = up2 h6 104 (ix (h6 101 4)) x3.toInt8.toInt32.toInt8.toInt32 → ∀ h11, h11 = up2 h9 101 4 ((h9 101 4) + 1) → Q ((h11 101 4) - 1) F2 h11 g
theorem bX7_putn_0 {D : DE} {f : Nat} {Q : Int32 → Frm → HI → HL → Prop} {T : Nat → Frm → HI → HL → Prop} {F : Frm} {h : HI} {g : HL} (hF : k_Fix F) (x2 : Int32) (x3 : Int32) (H : JX7_putn_0 D f Q T F h g x2 x3) : V D mX7_put f (gi Q T) 0 [(0, .ref (ad D 101)), (1, .null), (2, .int x2), (3, .int x3)] [] (F, h, g) := by
  refine V_aload_n dX7_put_0 rfl 0 rfl ?_
  refine H_getr ck6 0 (by decide) (fs_101 hF) (by decide) rfl (fr_101_0 hF) q274 dX7_put_1 ?_
  refine V_aload_n dX7_put_4 rfl 0 rfl ?_
  refine H_geti ck6 4 (by decide) (fs_101 hF) (by decide) rfl q280 dX7_put_5 ?_
  refine V_aload_nN dX7_put_8 rfl 1 rfl ?_
  obtain ⟨i1, H⟩ := H
  refine G_aastN (fs_102 hF) (by decide) (by decide) rfl i1 dX7_put_9 (fun F2 e3 => ?_)
  have H := H F2 e3
  have hF4 : k_Fix F2 := by rw [e3]; exact k_Fix.wr hF (fx_okA (by decide +kernel)) _
  refine V_aload_n dX7_put_10 rfl 0 rfl ?_
  refine H_getr ck6 1 (by decide) (fs_101 hF4) (by decide) rfl (fr_101_1 hF4) q275 dX7_put_11 ?_
  refine V_aload_n dX7_put_14 rfl 0 rfl ?_
  refine H_geti ck6 4 (by decide) (fs_101 hF4) (by decide) rfl q280 dX7_put_15 ?_
  refine V_iload_n dX7_put_18 rfl 2 rfl ?_
  obtain ⟨i5, H⟩ := H
  refine H_iast (fs_103 hF4) i5 dX7_put_19 (fun h6 e7 => ?_)
  have H := H h6 e7
  refine V_aload_n dX7_put_20 rfl 0 rfl ?_
  refine H_getr ck6 2 (by decide) (fs_101 hF4) (by decide) rfl (fr_101_2 hF4) q276 dX7_put_21 ?_
  refine V_aload_n dX7_put_24 rfl 0 rfl ?_
  refine H_geti ck6 4 (by decide) (fs_101 hF4) (by decide) rfl q280 dX7_put_25 ?_
  refine V_iload_n dX7_put_28 rfl 3 rfl ?_
  refine V_i2b dX7_put_29 ?_
  obtain ⟨i8, H⟩ := H
  refine H_bast (fs_104 hF4) i8 dX7_put_30 (fun h9 e10 => ?_)
  have H := H h9 e10
  refine V_aload_n dX7_put_31 rfl 0 rfl ?_
  refine V_dup dX7_put_32 rfl ?_
  refine H_geti ck6 4 (by decide) (fs_101 hF4) (by decide) rfl q280 dX7_put_33 ?_
  refine V_iconst (v := 1) dX7_put_36 (by decide) ?_
  refine V_iadd dX7_put_37 ?_
  refine H_puti ck6 4 (by decide) (fs_101 hF4) (by decide) rfl rfl q280 dX7_put_38 (fun h11 e12 => ?_)
  have H := H h11 e12
  refine V_aload_n dX7_put_41 rfl 0 rfl ?_
  refine H_geti ck6 4 (by decide) (fs_101 hF4) (by decide) rfl q280 dX7_put_42 ?_
  refine V_iconst (v := 1) dX7_put_45 (by decide) ?_
  refine V_isub dX7_put_46 ?_
  exact G_iret hF4 rfl dX7_put_47 H
theorem wX7_putn {D : DE} {f : Nat} {Q : Int32 → Frm → HI → HL → Prop} {T : Nat → Frm → HI → HL → Prop} {F : Frm} {h : HI} {g : HL} (hF : k_Fix F) (x2 : Int32) (x3 : Int32) (H : JX7_putn_0 D f Q T F h g x2 x3) : Gi D f mX7_put [.ref (ad D 101), .null, .int x2, .int x3] F h g Q T := Cl.ofV (by decide) (Nat.le_of_ble_eq_true rfl) rfl (bX7_putn_0 hF x2 x3 H)
theorem dX7_thing_0 : decode cX7_thing 0 = .ok (.aload_n 1, 1) := by decide +kernel
theorem dX7_thing_1 : decode cX7_thing 1 = .ok (.invokevirtual 92, 3) := by decide +kernel
theorem dX7_thing_4 : decode cX7_thing 4 = .ok (.ifCond .lt 15, 3) := by decide +kernel
theorem dX7_thing_7 : decode cX7_thing 7 = .ok (.aload_n 0, 1) := by decide +kernel
theorem dX7_thing_8 : decode cX7_thing 8 = .ok (.getfield 34, 3) := by decide +kernel
theorem dX7_thing_11 : decode cX7_thing 11 = .ok (.iload_n 2, 1) := by decide +kernel
theorem dX7_thing_12 : decode cX7_thing 12 = .ok (.aload_n 1, 1) := by decide +kernel
theorem dX7_thing_13 : decode cX7_thing 13 = .ok (.invokevirtual 92, 3) := by decide +kernel
theorem dX7_thing_16 : decode cX7_thing 16 = .ok (.iadd, 1) := by decide +kernel
theorem dX7_thing_17 : decode cX7_thing 17 = .ok (.iaload, 1) := by decide +kernel
theorem dX7_thing_18 : decode cX7_thing 18 = .ok (.ireturn, 1) := by decide +kernel
theorem dX7_thing_19 : decode cX7_thing 19 = .ok (.aload_n 0, 1) := by decide +kernel
theorem dX7_thing_20 : decode cX7_thing 20 = .ok (.getfield 69, 3) := by decide +kernel
theorem dX7_thing_23 : decode cX7_thing 23 = .ok (.ifCond .ne 18, 3) := by decide +kernel
theorem dX7_thing_26 : decode cX7_thing 26 = .ok (.aload_n 0, 1) := by decide +kernel
theorem dX7_thing_27 : decode cX7_thing 27 = .ok (.getfield 44, 3) := by decide +kernel
theorem dX7_thing_30 : decode cX7_thing 30 = .ok (.aload_n 0, 1) := by decide +kernel
theorem dX7_thing_31 : decode cX7_thing 31 = .ok (.getfield 54, 3) := by decide +kernel
theorem dX7_thing_34 : decode cX7_thing 34 = .ok (.isub, 1) := by decide +kernel
theorem dX7_thing_35 : decode cX7_thing 35 = .ok (.sipush 1500, 3) := by decide +kernel
theorem dX7_thing_38 : decode cX7_thing 38 = .ok (.if_icmp .ne 10, 3) := by decide +kernel
theorem dX7_thing_41 : decode cX7_thing 41 = .ok (.aload_n 0, 1) := by decide +kernel
theorem dX7_thing_42 : decode cX7_thing 42 = .ok (.iconst 5, 1) := by decide +kernel
theorem dX7_thing_43 : decode cX7_thing 43 = .ok (.invokevirtual 78, 3) := by decide +kernel
theorem dX7_thing_46 : decode cX7_thing 46 = .ok (.iconst 0, 1) := by decide +kernel
theorem dX7_thing_47 : decode cX7_thing 47 = .ok (.ireturn, 1) := by decide +kernel
theorem dX7_thing_48 : decode cX7_thing 48 = .ok (.aload_n 0, 1) := by decide +kernel
theorem dX7_thing_49 : decode cX7_thing 49 = .ok (.aload_n 1, 1) := by decide +kernel
theorem dX7_thing_50 : decode cX7_thing 50 = .ok (.iload_n 2, 1) := by decide +kernel
theorem dX7_thing_51 : decode cX7_thing 51 = .ok (.iconst 0, 1) := by decide +kernel
theorem dX7_thing_52 : decode cX7_thing 52 = .ok (.invokevirtual 96, 3) := by decide +kernel
theorem dX7_thing_55 : decode cX7_thing 55 = .ok (.ireturn, 1) := by decide +kernel
abbrev JX7_thing_41 (D : DE) (f : Nat) (Q : Int32 → Frm → HI → HL → Prop) (T : Nat → Frm → HI → HL → Prop) (F : Frm) (h : HI) (g : HL) : Prop := Sv D f mX7_ends [.ref (ad D 101), .int 5] F h g (fun h1 g2 => Q 0 F h1 g2)
theorem bX7_thing_41 {D : DE} {f : Nat} {Q : Int32 → Frm → HI → HL → Prop} {T : Nat → Frm → HI → HL → Prop} {F : Frm} {h : HI} {g : HL} (hF : k_Fix F)  (H : JX7_thing_41 D f Q T F h g ) : V D mX7_thing (f + 1) (gi Q T) 41 [(0, .ref (ad D 101))] [] (F, h, g) := by
  refine V_aload_n dX7_thing_41 rfl 0 rfl ?_
  refine V_iconst (v := 5) dX7_thing_42 (by decide) ?_
  refine H_callv (av := [.ref (ad D 101), .int 5]) (rest := []) H mqX7_ends q87 (by decide) (Nat.le_of_ble_eq_true rfl) (k_resV (ci := 6) (av := [.int 5]) (rest := []) (fs_101 hF) (by decide) rfl rfl q1342 q1343 q1344 q1345 mhX7_ends mnX7_ends dX7_thing_43) (fun h1 g2 H => ?_)
  refine V_iconst (v := 0) dX7_thing_46 (by decide) ?_
  exact G_iret hF rfl dX7_thing_47 H
abbrev JX7_thing_0 (D : DE) (f : Nat) (Q : Int32 → Frm → HI → HL → Prop) (T : Nat → Frm → HI → HL → Prop) (F : Frm) (h : HI) (g : HL) (x1 : Nat) (x2 : Int32) : Prop := ∃ k1 : Nat, isE F x1 k1 ∧ Si D f (v_alone k1) [.ref (ad D x1)] F h g (fun y3 h4 g5 => ((y3 < 0 → ((¬ (h4 101 16) = 0 → JX7_thing_41 D f Q T F h4 g5) ∧ ((h4 101 16) = 0 → ((¬ ((h4 101 4) - (h4 101 10)) = 1500 → Gi D f mX7_put [.ref (ad D 101), .ref (ad D x1), .int x2, .int 0] F h4 g5 (fun y9 F12 h10 g11 => Q y9 F12 h10 g11) T) ∧ (((h4 101 4) - (h4 101 10)) = 1500 → JX7_thing_41 D f Q T F h4 g5))))) ∧ (¬ y3 < 0 → Si D f (v_alone k1) [.ref (ad D x1)] F h4 g5 (fun y15 h16 g17 => vp_in (x2 + y15) 24016 ∧ Q (h16 108 (ix (x2 + y15))) F h16 g17))))
theorem bX7_thing_0 {D : DE} {f : Nat} {Q : Int32 → Frm → HI → HL → Prop} {T : Nat → Frm → HI → HL → Prop} {F : Frm} {h : HI} {g : HL} (hF : k_Fix F) (x1 : Nat) (x2 : Int32) (H : JX7_thing_0 D f Q T F h g x1 x2) : V D mX7_thing (f + 1) (gi Q T) 0 [(0, .ref (ad D 101)), (1, .ref (ad D x1)), (2, .int x2)] [] (F, h, g) := by
  refine V_aload_n dX7_thing_0 rfl 1 rfl ?_
  obtain ⟨k1, z2, H⟩ := H
  refine H_calli (av := [.ref (ad D x1)]) (rest := []) H (vq_alone z2.2.1 z2.2.2) (vi_alone z2.2.1 z2.2.2) (vl_alone z2.2.1 z2.2.2) (Nat.le_of_ble_eq_true rfl) (vr_alone (av := []) (rest := []) z2 rfl q1361 dX7_thing_1) (fun y3 h4 g5 H => ?_)
  refine V_if_lt (tgt := 19) dX7_thing_4 (by decide) (fun c6 => ?_) (fun c6 => ?_)
  · have H := H.1 c6
    refine V_aload_n dX7_thing_19 rfl 0 rfl ?_
    refine H_geti ck6 16 (by decide) (fs_101 hF) (by decide) rfl q308 dX7_thing_20 ?_
    refine V_if_ne (tgt := 41) dX7_thing_23 (by decide) (fun c7 => ?_) (fun c7 => ?_)
    · have H := H.1 c7
      refine V.sub [0] rfl ?_
      exact bX7_thing_41 hF  H
    · have H := H.2 c7
      refine V_aload_n dX7_thing_26 rfl 0 rfl ?_
      refine H_geti ck6 4 (by decide) (fs_101 hF) (by decide) rfl q280 dX7_thing_27 ?_
      refine V_aload_n dX7_thing_30 rfl 0 rfl ?_
      refine H_geti ck6 10 (by decide) (fs_101 hF) (by decide) rfl q298 dX7_thing_31 ?_
      refine V_isub dX7_thing_34 ?_
      refine V_sipush (v := 1500) dX7_thing_35 (by decide) ?_
      refine V_icmp_ne (tgt := 48) dX7_thing_38 (by decide) (fun c8 => ?_) (fun c8 => ?_)
      · have H := H.1 c8
        refine V_aload_n dX7_thing_48 rfl 0 rfl ?_
        refine V_aload_n dX7_thing_49 rfl 1 rfl ?_
        refine V_iload_n dX7_thing_50 rfl 2 rfl ?_
        refine V_iconst (v := 0) dX7_thing_51 (by decide) ?_
        refine G_calli (av := [.ref (ad D 101), .ref (ad D x1), .int x2, .int 0]) (rest := []) H mqX7_put q87 (by decide) (Nat.le_of_ble_eq_true rfl) (k_resV (ci := 6) (av := [.ref (ad D x1), .int x2, .int 0]) (rest := []) (fs_101 hF) (by decide) rfl rfl q1334 q1336 qs27 q1337 mhX7_put mnX7_put dX7_thing_52) (fun y9 F12 h10 g11 hF13 H => ?_) (fun a e F1 h1 g1 hF1 ha ht => GT_i hF1 rfl ha ht)
        exact G_iret hF13 rfl dX7_thing_55 H
      · have H := H.2 c8
        refine V.sub [0] rfl ?_
        exact bX7_thing_41 hF  H
  · have H := H.2 c6
    refine V_aload_n dX7_thing_7 rfl 0 rfl ?_
    refine H_getr ck6 8 (by decide) (fs_101 hF) (by decide) rfl (fr_101_8 hF) q290 dX7_thing_8 ?_
    refine V_iload_n dX7_thing_11 rfl 2 rfl ?_
    refine V_aload_n dX7_thing_12 rfl 1 rfl ?_
    refine H_calli (av := [.ref (ad D x1)]) (rest := [.int x2, .ref (ad D 108)]) H (vq_alone z2.2.1 z2.2.2) (vi_alone z2.2.1 z2.2.2) (vl_alone z2.2.1 z2.2.2) (Nat.le_of_ble_eq_true rfl) (vr_alone (av := []) (rest := [.int x2, .ref (ad D 108)]) z2 rfl q1361 dX7_thing_13) (fun y15 h16 g17 H => ?_)
    refine V_iadd dX7_thing_16 ?_
    obtain ⟨i18, H⟩ := H
    refine H_iald (fs_108 hF) i18 dX7_thing_17 ?_
    exact G_iret hF rfl dX7_thing_18 H
theorem wX7_thing {D : DE} {f : Nat} {Q : Int32 → Frm → HI → HL → Prop} {T : Nat → Frm → HI → HL → Prop} {F : Frm} {h : HI} {g : HL} (hF : k_Fix F) (x1 : Nat) (x2 : Int32) (H : JX7_thing_0 D f Q T F h g x1 x2) : Gi D (f + 1) mX7_thing [.ref (ad D 101), .ref (ad D x1), .int x2] F h g Q T := Cl.ofV (by decide) (Nat.le_of_ble_eq_true rfl) rfl (bX7_thing_0 hF x1 x2 H)
theorem dX7_pair_0 : decode cX7_pair 0 = .ok (.aload_n 0, 1) := by decide +kernel
theorem dX7_pair_1 : decode cX7_pair 1 = .ok (.getfield 48, 3) := by decide +kernel
theorem dX7_pair_4 : decode cX7_pair 4 = .ok (.aload_n 0, 1) := by decide +kernel
theorem dX7_pair_5 : decode cX7_pair 5 = .ok (.getfield 57, 3) := by decide +kernel
theorem dX7_pair_8 : decode cX7_pair 8 = .ok (.isub, 1) := by decide +kernel
theorem dX7_pair_9 : decode cX7_pair 9 = .ok (.sipush 1500, 3) := by decide +kernel
theorem dX7_pair_12 : decode cX7_pair 12 = .ok (.if_icmp .ne 10, 3) := by decide +kernel
theorem dX7_pair_15 : decode cX7_pair 15 = .ok (.aload_n 0, 1) := by decide +kernel
theorem dX7_pair_16 : decode cX7_pair 16 = .ok (.iconst 5, 1) := by decide +kernel
theorem dX7_pair_17 : decode cX7_pair 17 = .ok (.invokevirtual 78, 3) := by decide +kernel
theorem dX7_pair_20 : decode cX7_pair 20 = .ok (.iconst 0, 1) := by decide +kernel
theorem dX7_pair_21 : decode cX7_pair 21 = .ok (.ireturn, 1) := by decide +kernel
theorem dX7_pair_22 : decode cX7_pair 22 = .ok (.aload_n 0, 1) := by decide +kernel
theorem dX7_pair_23 : decode cX7_pair 23 = .ok (.dup, 1) := by decide +kernel
theorem dX7_pair_24 : decode cX7_pair 24 = .ok (.getfield 48, 3) := by decide +kernel
theorem dX7_pair_27 : decode cX7_pair 27 = .ok (.iconst 1, 1) := by decide +kernel
theorem dX7_pair_28 : decode cX7_pair 28 = .ok (.iadd, 1) := by decide +kernel
theorem dX7_pair_29 : decode cX7_pair 29 = .ok (.putfield 48, 3) := by decide +kernel
theorem dX7_pair_32 : decode cX7_pair 32 = .ok (.aload_n 0, 1) := by decide +kernel
theorem dX7_pair_33 : decode cX7_pair 33 = .ok (.getfield 48, 3) := by decide +kernel
theorem dX7_pair_36 : decode cX7_pair 36 = .ok (.iconst 1, 1) := by decide +kernel
theorem dX7_pair_37 : decode cX7_pair 37 = .ok (.isub, 1) := by decide +kernel
theorem dX7_pair_38 : decode cX7_pair 38 = .ok (.ireturn, 1) := by decide +kernel
abbrev JX7_pair_0 (D : DE) (f : Nat) (Q : Int32 → HI → HL → Prop) (F : Frm) (h : HI) (g : HL) : Prop := ((¬ ((h 101 7) - (h 101 11)) = 1500 → ∀ h2, h2 = up2 h 101 7 ((h 101 7) + 1) → Q ((h2 101 7) - 1) h2 g) ∧ (((h 101 7) - (h 101 11)) = 1500 → Sv D f mX7_ends [.ref (ad D 101), .int 5] F h g (fun h4 g5 => Q 0 h4 g5)))
theorem bX7_pair_0 {D : DE} {f : Nat} {Q : Int32 → HI → HL → Prop} {F : Frm} {h : HI} {g : HL} (hF : k_Fix F)  (H : JX7_pair_0 D f Q F h g ) : V D mX7_pair (f + 1) (qi F Q) 0 [(0, .ref (ad D 101))] [] (F, h, g) := by
  refine V_aload_n dX7_pair_0 rfl 0 rfl ?_
  refine H_geti ck6 7 (by decide) (fs_101 hF) (by decide) rfl q288 dX7_pair_1 ?_
  refine V_aload_n dX7_pair_4 rfl 0 rfl ?_
  refine H_geti ck6 11 (by decide) (fs_101 hF) (by decide) rfl q300 dX7_pair_5 ?_
  refine V_isub dX7_pair_8 ?_
  refine V_sipush (v := 1500) dX7_pair_9 (by decide) ?_
  refine V_icmp_ne (tgt := 22) dX7_pair_12 (by decide) (fun c1 => ?_) (fun c1 => ?_)
  · have H := H.1 c1
    refine V_aload_n dX7_pair_22 rfl 0 rfl ?_
    refine V_dup dX7_pair_23 rfl ?_
    refine H_geti ck6 7 (by decide) (fs_101 hF) (by decide) rfl q288 dX7_pair_24 ?_
    refine V_iconst (v := 1) dX7_pair_27 (by decide) ?_
    refine V_iadd dX7_pair_28 ?_
    refine H_puti ck6 7 (by decide) (fs_101 hF) (by decide) rfl rfl q288 dX7_pair_29 (fun h2 e3 => ?_)
    have H := H h2 e3
    refine V_aload_n dX7_pair_32 rfl 0 rfl ?_
    refine H_geti ck6 7 (by decide) (fs_101 hF) (by decide) rfl q288 dX7_pair_33 ?_
    refine V_iconst (v := 1) dX7_pair_36 (by decide) ?_
    refine V_isub dX7_pair_37 ?_
    exact H_iret rfl dX7_pair_38 H
  · have H := H.2 c1
    refine V_aload_n dX7_pair_15 rfl 0 rfl ?_
    refine V_iconst (v := 5) dX7_pair_16 (by decide) ?_
    refine H_callv (av := [.ref (ad D 101), .int 5]) (rest := []) H mqX7_ends q87 (by decide) (Nat.le_of_ble_eq_true rfl) (k_resV (ci := 6) (av := [.int 5]) (rest := []) (fs_101 hF) (by decide) rfl rfl q1342 q1343 q1344 q1345 mhX7_ends mnX7_ends dX7_pair_17) (fun h4 g5 H => ?_)
    refine V_iconst (v := 0) dX7_pair_20 (by decide) ?_
    exact H_iret rfl dX7_pair_21 H
theorem wX7_pair {D : DE} {f : Nat} {Q : Int32 → HI → HL → Prop} {F : Frm} {h : HI} {g : HL} (hF : k_Fix F)  (H : JX7_pair_0 D f Q F h g ) : Si D (f + 1) mX7_pair [.ref (ad D 101)] F h g Q := Cl.ofV (by decide) (Nat.le_of_ble_eq_true rfl) rfl (bX7_pair_0 hF  H)
theorem dX7_call_0 : decode cX7_call 0 = .ok (.aload_n 0, 1) := by decide +kernel
theorem dX7_call_1 : decode cX7_call 1 = .ok (.getfield 51, 3) := by decide +kernel
theorem dX7_call_4 : decode cX7_call 4 = .ok (.sipush 1500, 3) := by decide +kernel
theorem dX7_call_7 : decode cX7_call 7 = .ok (.if_icmp .ne 10, 3) := by decide +kernel
theorem dX7_call_10 : decode cX7_call 10 = .ok (.aload_n 0, 1) := by decide +kernel
theorem dX7_call_11 : decode cX7_call 11 = .ok (.iconst 5, 1) := by decide +kernel
theorem dX7_call_12 : decode cX7_call 12 = .ok (.invokevirtual 78, 3) := by decide +kernel
theorem dX7_call_15 : decode cX7_call 15 = .ok (.iconst 0, 1) := by decide +kernel
theorem dX7_call_16 : decode cX7_call 16 = .ok (.ireturn, 1) := by decide +kernel
theorem dX7_call_17 : decode cX7_call 17 = .ok (.aload_n 0, 1) := by decide +kernel
theorem dX7_call_18 : decode cX7_call 18 = .ok (.dup, 1) := by decide +kernel
theorem dX7_call_19 : decode cX7_call 19 = .ok (.getfield 51, 3) := by decide +kernel
theorem dX7_call_22 : decode cX7_call 22 = .ok (.iconst 1, 1) := by decide +kernel
theorem dX7_call_23 : decode cX7_call 23 = .ok (.iadd, 1) := by decide +kernel
theorem dX7_call_24 : decode cX7_call 24 = .ok (.putfield 51, 3) := by decide +kernel
theorem dX7_call_27 : decode cX7_call 27 = .ok (.bipush 16, 2) := by decide +kernel
theorem dX7_call_29 : decode cX7_call 29 = .ok (.aload_n 0, 1) := by decide +kernel
theorem dX7_call_30 : decode cX7_call 30 = .ok (.getfield 51, 3) := by decide +kernel
theorem dX7_call_33 : decode cX7_call 33 = .ok (.imul, 1) := by decide +kernel
theorem dX7_call_34 : decode cX7_call 34 = .ok (.ireturn, 1) := by decide +kernel
abbrev JX7_call_0 (D : DE) (f : Nat) (Q : Int32 → HI → HL → Prop) (F : Frm) (h : HI) (g : HL) : Prop := ((¬ (h 101 9) = 1500 → ∀ h2, h2 = up2 h 101 9 ((h 101 9) + 1) → Q (16 * (h2 101 9)) h2 g) ∧ ((h 101 9) = 1500 → Sv D f mX7_ends [.ref (ad D 101), .int 5] F h g (fun h4 g5 => Q 0 h4 g5)))
theorem bX7_call_0 {D : DE} {f : Nat} {Q : Int32 → HI → HL → Prop} {F : Frm} {h : HI} {g : HL} (hF : k_Fix F)  (H : JX7_call_0 D f Q F h g ) : V D mX7_call (f + 1) (qi F Q) 0 [(0, .ref (ad D 101))] [] (F, h, g) := by
  refine V_aload_n dX7_call_0 rfl 0 rfl ?_
  refine H_geti ck6 9 (by decide) (fs_101 hF) (by decide) rfl q296 dX7_call_1 ?_
  refine V_sipush (v := 1500) dX7_call_4 (by decide) ?_
  refine V_icmp_ne (tgt := 17) dX7_call_7 (by decide) (fun c1 => ?_) (fun c1 => ?_)
  · have H := H.1 c1
    refine V_aload_n dX7_call_17 rfl 0 rfl ?_
    refine V_dup dX7_call_18 rfl ?_
    refine H_geti ck6 9 (by decide) (fs_101 hF) (by decide) rfl q296 dX7_call_19 ?_
    refine V_iconst (v := 1) dX7_call_22 (by decide) ?_
    refine V_iadd dX7_call_23 ?_
    refine H_puti ck6 9 (by decide) (fs_101 hF) (by decide) rfl rfl q296 dX7_call_24 (fun h2 e3 => ?_)
    have H := H h2 e3
    refine V_bipush (v := 16) dX7_call_27 (by decide) ?_
    refine V_aload_n dX7_call_29 rfl 0 rfl ?_
    refine H_geti ck6 9 (by decide) (fs_101 hF) (by decide) rfl q296 dX7_call_30 ?_
    refine V_imul dX7_call_33 ?_
    exact H_iret rfl dX7_call_34 H
  · have H := H.2 c1
    refine V_aload_n dX7_call_10 rfl 0 rfl ?_
    refine V_iconst (v := 5) dX7_call_11 (by decide) ?_
    refine H_callv (av := [.ref (ad D 101), .int 5]) (rest := []) H mqX7_ends q87 (by decide) (Nat.le_of_ble_eq_true rfl) (k_resV (ci := 6) (av := [.int 5]) (rest := []) (fs_101 hF) (by decide) rfl rfl q1342 q1343 q1344 q1345 mhX7_ends mnX7_ends dX7_call_12) (fun h4 g5 H => ?_)
    refine V_iconst (v := 0) dX7_call_15 (by decide) ?_
    exact H_iret rfl dX7_call_16 H
theorem wX7_call {D : DE} {f : Nat} {Q : Int32 → HI → HL → Prop} {F : Frm} {h : HI} {g : HL} (hF : k_Fix F)  (H : JX7_call_0 D f Q F h g ) : Si D (f + 1) mX7_call [.ref (ad D 101)] F h g Q := Cl.ofV (by decide) (Nat.le_of_ble_eq_true rfl) rfl (bX7_call_0 hF  H)
theorem dX7_need_0 : decode cX7_need 0 = .ok (.iload_n 1, 1) := by decide +kernel
theorem dX7_need_1 : decode cX7_need 1 = .ok (.aload_n 0, 1) := by decide +kernel
theorem dX7_need_2 : decode cX7_need 2 = .ok (.getfield 54, 3) := by decide +kernel
theorem dX7_need_5 : decode cX7_need 5 = .ok (.if_icmp .ge 10, 3) := by decide +kernel
theorem dX7_need_8 : decode cX7_need 8 = .ok (.aload_n 0, 1) := by decide +kernel
theorem dX7_need_9 : decode cX7_need 9 = .ok (.getfield 37, 3) := by decide +kernel
theorem dX7_need_12 : decode cX7_need 12 = .ok (.iload_n 1, 1) := by decide +kernel
theorem dX7_need_13 : decode cX7_need 13 = .ok (.iconst 1, 1) := by decide +kernel
theorem dX7_need_14 : decode cX7_need 14 = .ok (.bastore, 1) := by decide +kernel
theorem dX7_need_15 : decode cX7_need 15 = .ok (.aload_n 0, 1) := by decide +kernel
theorem dX7_need_16 : decode cX7_need 16 = .ok (.getfield 21, 3) := by decide +kernel
theorem dX7_need_19 : decode cX7_need 19 = .ok (.iload_n 1, 1) := by decide +kernel
theorem dX7_need_20 : decode cX7_need 20 = .ok (.baload, 1) := by decide +kernel
theorem dX7_need_21 : decode cX7_need 21 = .ok (.iconst 2, 1) := by decide +kernel
theorem dX7_need_22 : decode cX7_need 22 = .ok (.if_icmp .ne 10, 3) := by decide +kernel
theorem dX7_need_25 : decode cX7_need 25 = .ok (.aload_n 0, 1) := by decide +kernel
theorem dX7_need_26 : decode cX7_need 26 = .ok (.getfield 25, 3) := by decide +kernel
theorem dX7_need_29 : decode cX7_need 29 = .ok (.iload_n 1, 1) := by decide +kernel
theorem dX7_need_30 : decode cX7_need 30 = .ok (.iaload, 1) := by decide +kernel
theorem dX7_need_31 : decode cX7_need 31 = .ok (.ireturn, 1) := by decide +kernel
theorem dX7_need_32 : decode cX7_need 32 = .ok (.aload_n 0, 1) := by decide +kernel
theorem dX7_need_33 : decode cX7_need 33 = .ok (.getfield 21, 3) := by decide +kernel
theorem dX7_need_36 : decode cX7_need 36 = .ok (.iload_n 1, 1) := by decide +kernel
theorem dX7_need_37 : decode cX7_need 37 = .ok (.baload, 1) := by decide +kernel
theorem dX7_need_38 : decode cX7_need 38 = .ok (.ifCond .eq 10, 3) := by decide +kernel
theorem dX7_need_41 : decode cX7_need 41 = .ok (.aload_n 0, 1) := by decide +kernel
theorem dX7_need_42 : decode cX7_need 42 = .ok (.iconst 2, 1) := by decide +kernel
theorem dX7_need_43 : decode cX7_need 43 = .ok (.invokevirtual 78, 3) := by decide +kernel
theorem dX7_need_46 : decode cX7_need 46 = .ok (.iconst 0, 1) := by decide +kernel
theorem dX7_need_47 : decode cX7_need 47 = .ok (.ireturn, 1) := by decide +kernel
theorem dX7_need_48 : decode cX7_need 48 = .ok (.aload_n 0, 1) := by decide +kernel
theorem dX7_need_49 : decode cX7_need 49 = .ok (.getfield 21, 3) := by decide +kernel
theorem dX7_need_52 : decode cX7_need 52 = .ok (.iload_n 1, 1) := by decide +kernel
theorem dX7_need_53 : decode cX7_need 53 = .ok (.iconst 1, 1) := by decide +kernel
theorem dX7_need_54 : decode cX7_need 54 = .ok (.bastore, 1) := by decide +kernel
theorem dX7_need_55 : decode cX7_need 55 = .ok (.aload_n 0, 1) := by decide +kernel
theorem dX7_need_56 : decode cX7_need 56 = .ok (.aload_n 0, 1) := by decide +kernel
theorem dX7_need_57 : decode cX7_need 57 = .ok (.getfield 11, 3) := by decide +kernel
theorem dX7_need_60 : decode cX7_need 60 = .ok (.iload_n 1, 1) := by decide +kernel
theorem dX7_need_61 : decode cX7_need 61 = .ok (.aaload, 1) := by decide +kernel
theorem dX7_need_62 : decode cX7_need 62 = .ok (.aload_n 0, 1) := by decide +kernel
theorem dX7_need_63 : decode cX7_need 63 = .ok (.getfield 17, 3) := by decide +kernel
theorem dX7_need_66 : decode cX7_need 66 = .ok (.iload_n 1, 1) := by decide +kernel
theorem dX7_need_67 : decode cX7_need 67 = .ok (.iaload, 1) := by decide +kernel
theorem dX7_need_68 : decode cX7_need 68 = .ok (.invokevirtual 100, 3) := by decide +kernel
theorem dX7_need_71 : decode cX7_need 71 = .ok (.istore_n 2, 1) := by decide +kernel
theorem dX7_need_72 : decode cX7_need 72 = .ok (.aload_n 0, 1) := by decide +kernel
theorem dX7_need_73 : decode cX7_need 73 = .ok (.getfield 69, 3) := by decide +kernel
theorem dX7_need_76 : decode cX7_need 76 = .ok (.ifCond .ne 17, 3) := by decide +kernel
theorem dX7_need_79 : decode cX7_need 79 = .ok (.aload_n 0, 1) := by decide +kernel
theorem dX7_need_80 : decode cX7_need 80 = .ok (.getfield 21, 3) := by decide +kernel
theorem dX7_need_83 : decode cX7_need 83 = .ok (.iload_n 1, 1) := by decide +kernel
theorem dX7_need_84 : decode cX7_need 84 = .ok (.iconst 2, 1) := by decide +kernel
theorem dX7_need_85 : decode cX7_need 85 = .ok (.bastore, 1) := by decide +kernel
theorem dX7_need_86 : decode cX7_need 86 = .ok (.aload_n 0, 1) := by decide +kernel
theorem dX7_need_87 : decode cX7_need 87 = .ok (.getfield 25, 3) := by decide +kernel
theorem dX7_need_90 : decode cX7_need 90 = .ok (.iload_n 1, 1) := by decide +kernel
theorem dX7_need_91 : decode cX7_need 91 = .ok (.iload_n 2, 1) := by decide +kernel
theorem dX7_need_92 : decode cX7_need 92 = .ok (.iastore, 1) := by decide +kernel
theorem dX7_need_93 : decode cX7_need 93 = .ok (.iload_n 2, 1) := by decide +kernel
theorem dX7_need_94 : decode cX7_need 94 = .ok (.ireturn, 1) := by decide +kernel
abbrev JX7_need_15 (D : DE) (f : Nat) (Q : Int32 → Frm → HI → HL → Prop) (T : Nat → Frm → HI → HL → Prop) (F : Frm) (h : HI) (g : HL) (x1 : Int32) : Prop := vp_in x1 1540 ∧ ((¬ (h 104 (ix x1)) = 2 → vp_in x1 1540 ∧ (((h 104 (ix x1)) = 0 → vp_in x1 1540 ∧ ∀ h6, h6 = up2 h 104 (ix x1) (1 : Int32).toInt8.toInt32 → vp_in x1 1540 ∧ ∃ b9 : Nat, F.2.2 102 (ix x1) = some b9 ∧ vp_in x1 1540 ∧ Gi D f mX7_work [.ref (ad D 101), .ref (ad D b9), .int (h6 103 (ix x1))] F h6 g (fun y12 F15 h13 g14 => ((¬ (h13 101 16) = 0 → Q y12 F15 h13 g14) ∧ ((h13 101 16) = 0 → vp_in x1 1540 ∧ ∀ h20, h20 = up2 h13 104 (ix x1) (2 : Int32).toInt8.toInt32 → vp_in x1 1540 ∧ ∀ h23, h23 = up2 h20 105 (ix x1) y12 → Q y12 F15 h23 g14))) T) ∧ (¬ (h 104 (ix x1)) = 0 → Sv D f mX7_ends [.ref (ad D 101), .int 2] F h g (fun h25 g26 => Q 0 F h25 g26)))) ∧ ((h 104 (ix x1)) = 2 → vp_in x1 1540 ∧ Q (h 105 (ix x1)) F h g))
theorem bX7_need_15 {D : DE} {f : Nat} {Q : Int32 → Frm → HI → HL → Prop} {T : Nat → Frm → HI → HL → Prop} {F : Frm} {h : HI} {g : HL} (hF : k_Fix F) (x1 : Int32) (H : JX7_need_15 D f Q T F h g x1) : V D mX7_need (f + 1) (gi Q T) 15 [(0, .ref (ad D 101)), (1, .int x1)] [] (F, h, g) := by
  refine V_aload_n dX7_need_15 rfl 0 rfl ?_
  refine H_getr ck6 2 (by decide) (fs_101 hF) (by decide) rfl (fr_101_2 hF) q276 dX7_need_16 ?_
  refine V_iload_n dX7_need_19 rfl 1 rfl ?_
  obtain ⟨i1, H⟩ := H
  refine H_bald (fs_104 hF) i1 dX7_need_20 ?_
  refine V_iconst (v := 2) dX7_need_21 (by decide) ?_
  refine V_icmp_ne (tgt := 32) dX7_need_22 (by decide) (fun c2 => ?_) (fun c2 => ?_)
  · have H := H.1 c2
    refine V_aload_n dX7_need_32 rfl 0 rfl ?_
    refine H_getr ck6 2 (by decide) (fs_101 hF) (by decide) rfl (fr_101_2 hF) q276 dX7_need_33 ?_
    refine V_iload_n dX7_need_36 rfl 1 rfl ?_
    obtain ⟨i3, H⟩ := H
    refine H_bald (fs_104 hF) i3 dX7_need_37 ?_
    refine V_if_eq (tgt := 48) dX7_need_38 (by decide) (fun c4 => ?_) (fun c4 => ?_)
    · have H := H.1 c4
      refine V_aload_n dX7_need_48 rfl 0 rfl ?_
      refine H_getr ck6 2 (by decide) (fs_101 hF) (by decide) rfl (fr_101_2 hF) q276 dX7_need_49 ?_
      refine V_iload_n dX7_need_52 rfl 1 rfl ?_
      refine V_iconst (v := 1) dX7_need_53 (by decide) ?_
      obtain ⟨i5, H⟩ := H
      refine H_bast (fs_104 hF) i5 dX7_need_54 (fun h6 e7 => ?_)
      have H := H h6 e7
      refine V_aload_n dX7_need_55 rfl 0 rfl ?_
      refine V_aload_n dX7_need_56 rfl 0 rfl ?_
      refine H_getr ck6 0 (by decide) (fs_101 hF) (by decide) rfl (fr_101_0 hF) q274 dX7_need_57 ?_
      refine V_iload_n dX7_need_60 rfl 1 rfl ?_
      obtain ⟨i8, H⟩ := H
      obtain ⟨b9, z10, H⟩ := H
      refine H_aald (fs_102 hF) (by decide) (by decide) rfl i8 z10 dX7_need_61 ?_
      refine V_aload_n dX7_need_62 rfl 0 rfl ?_
      refine H_getr ck6 1 (by decide) (fs_101 hF) (by decide) rfl (fr_101_1 hF) q275 dX7_need_63 ?_
      refine V_iload_n dX7_need_66 rfl 1 rfl ?_
      obtain ⟨i11, H⟩ := H
      refine H_iald (fs_103 hF) i11 dX7_need_67 ?_
      refine G_calli (av := [.ref (ad D 101), .ref (ad D b9), .int (h6 103 (ix x1))]) (rest := []) H mqX7_work q87 (by decide) (Nat.le_of_ble_eq_true rfl) (k_resV (ci := 6) (av := [.ref (ad D b9), .int (h6 103 (ix x1))]) (rest := []) (fs_101 hF) (by decide) rfl rfl q1338 q1339 q1340 q1341 mhX7_work mnX7_work dX7_need_68) (fun y12 F15 h13 g14 hF16 H => ?_) (fun a e F1 h1 g1 hF1 ha ht => GT_i hF1 rfl ha ht)
      refine V_istore_n (l1 := [(2, .int y12), (0, .ref (ad D 101)), (1, .int x1)]) dX7_need_71 rfl (by decide) rfl ?_
      refine V_aload_n dX7_need_72 rfl 1 rfl ?_
      refine H_geti ck6 16 (by decide) (fs_101 hF16) (by decide) rfl q308 dX7_need_73 ?_
      refine V_if_ne (tgt := 93) dX7_need_76 (by decide) (fun c18 => ?_) (fun c18 => ?_)
      · have H := H.1 c18
        refine V_iload_n dX7_need_93 rfl 0 rfl ?_
        exact G_iret hF16 rfl dX7_need_94 H
      · have H := H.2 c18
        refine V_aload_n dX7_need_79 rfl 1 rfl ?_
        refine H_getr ck6 2 (by decide) (fs_101 hF16) (by decide) rfl (fr_101_2 hF16) q276 dX7_need_80 ?_
        refine V_iload_n dX7_need_83 rfl 2 rfl ?_
        refine V_iconst (v := 2) dX7_need_84 (by decide) ?_
        obtain ⟨i19, H⟩ := H
        refine H_bast (fs_104 hF16) i19 dX7_need_85 (fun h20 e21 => ?_)
        have H := H h20 e21
        refine V_aload_n dX7_need_86 rfl 1 rfl ?_
        refine H_getr ck6 3 (by decide) (fs_101 hF16) (by decide) rfl (fr_101_3 hF16) q278 dX7_need_87 ?_
        refine V_iload_n dX7_need_90 rfl 2 rfl ?_
        refine V_iload_n dX7_need_91 rfl 0 rfl ?_
        obtain ⟨i22, H⟩ := H
        refine H_iast (fs_105 hF16) i22 dX7_need_92 (fun h23 e24 => ?_)
        have H := H h23 e24
        refine V_iload_n dX7_need_93 rfl 0 rfl ?_
        exact G_iret hF16 rfl dX7_need_94 H
    · have H := H.2 c4
      refine V_aload_n dX7_need_41 rfl 0 rfl ?_
      refine V_iconst (v := 2) dX7_need_42 (by decide) ?_
      refine H_callv (av := [.ref (ad D 101), .int 2]) (rest := []) H mqX7_ends q87 (by decide) (Nat.le_of_ble_eq_true rfl) (k_resV (ci := 6) (av := [.int 2]) (rest := []) (fs_101 hF) (by decide) rfl rfl q1342 q1343 q1344 q1345 mhX7_ends mnX7_ends dX7_need_43) (fun h25 g26 H => ?_)
      refine V_iconst (v := 0) dX7_need_46 (by decide) ?_
      exact G_iret hF rfl dX7_need_47 H
  · have H := H.2 c2
    refine V_aload_n dX7_need_25 rfl 0 rfl ?_
    refine H_getr ck6 3 (by decide) (fs_101 hF) (by decide) rfl (fr_101_3 hF) q278 dX7_need_26 ?_
    refine V_iload_n dX7_need_29 rfl 1 rfl ?_
    obtain ⟨i27, H⟩ := H
    refine H_iald (fs_105 hF) i27 dX7_need_30 ?_
    exact G_iret hF rfl dX7_need_31 H
abbrev JX7_need_0 (D : DE) (f : Nat) (Q : Int32 → Frm → HI → HL → Prop) (T : Nat → Frm → HI → HL → Prop) (F : Frm) (h : HI) (g : HL) (x1 : Int32) : Prop := (((h 101 10) ≤ x1 → JX7_need_15 D f Q T F h g x1) ∧ (¬ (h 101 10) ≤ x1 → vp_in x1 40 ∧ ∀ h3, h3 = up2 h 109 (ix x1) 1 → JX7_need_15 D f Q T F h3 g x1))
theorem bX7_need_0 {D : DE} {f : Nat} {Q : Int32 → Frm → HI → HL → Prop} {T : Nat → Frm → HI → HL → Prop} {F : Frm} {h : HI} {g : HL} (hF : k_Fix F) (x1 : Int32) (H : JX7_need_0 D f Q T F h g x1) : V D mX7_need (f + 1) (gi Q T) 0 [(0, .ref (ad D 101)), (1, .int x1)] [] (F, h, g) := by
  refine V_iload_n dX7_need_0 rfl 1 rfl ?_
  refine V_aload_n dX7_need_1 rfl 0 rfl ?_
  refine H_geti ck6 10 (by decide) (fs_101 hF) (by decide) rfl q298 dX7_need_2 ?_
  refine V_icmp_ge (tgt := 15) dX7_need_5 (by decide) (fun c1 => ?_) (fun c1 => ?_)
  · have H := H.1 c1
    exact bX7_need_15 hF x1 H
  · have H := H.2 c1
    refine V_aload_n dX7_need_8 rfl 0 rfl ?_
    refine H_getr ck6 20 (by decide) (fs_101 hF) (by decide) rfl (fr_101_20 hF) q319 dX7_need_9 ?_
    refine V_iload_n dX7_need_12 rfl 1 rfl ?_
    refine V_iconst (v := 1) dX7_need_13 (by decide) ?_
    obtain ⟨i2, H⟩ := H
    refine H_zast (fs_109 hF) i2 isB1 dX7_need_14 (fun h3 e4 => ?_)
    have H := H h3 e4
    exact bX7_need_15 hF x1 H
theorem wX7_need {D : DE} {f : Nat} {Q : Int32 → Frm → HI → HL → Prop} {T : Nat → Frm → HI → HL → Prop} {F : Frm} {h : HI} {g : HL} (hF : k_Fix F) (x1 : Int32) (H : JX7_need_0 D f Q T F h g x1) : Gi D (f + 1) mX7_need [.ref (ad D 101), .int x1] F h g Q T := Cl.ofV (by decide) (Nat.le_of_ble_eq_true rfl) rfl (bX7_need_0 hF x1 H)
theorem dX7_ask_0 : decode cX7_ask 0 = .ok (.iload_n 2, 1) := by decide +kernel
theorem dX7_ask_1 : decode cX7_ask 1 = .ok (.ifCond .eq 10, 3) := by decide +kernel
theorem dX7_ask_4 : decode cX7_ask 4 = .ok (.aload_n 0, 1) := by decide +kernel
theorem dX7_ask_5 : decode cX7_ask 5 = .ok (.getfield 69, 3) := by decide +kernel
theorem dX7_ask_8 : decode cX7_ask 8 = .ok (.ifCond .eq 4, 3) := by decide +kernel
theorem dX7_ask_11 : decode cX7_ask 11 = .ok (.return_, 1) := by decide +kernel
theorem dX7_ask_12 : decode cX7_ask 12 = .ok (.aload_n 0, 1) := by decide +kernel
theorem dX7_ask_13 : decode cX7_ask 13 = .ok (.aload_n 0, 1) := by decide +kernel
theorem dX7_ask_14 : decode cX7_ask 14 = .ok (.getfield 28, 3) := by decide +kernel
theorem dX7_ask_17 : decode cX7_ask 17 = .ok (.iload_n 1, 1) := by decide +kernel
theorem dX7_ask_18 : decode cX7_ask 18 = .ok (.iaload, 1) := by decide +kernel
theorem dX7_ask_19 : decode cX7_ask 19 = .ok (.iload_n 2, 1) := by decide +kernel
theorem dX7_ask_20 : decode cX7_ask 20 = .ok (.invokestatic 103, 3) := by decide +kernel
theorem dX7_ask_23 : decode cX7_ask 23 = .ok (.iload_n 2, 1) := by decide +kernel
theorem dX7_ask_24 : decode cX7_ask 24 = .ok (.iload_n 3, 1) := by decide +kernel
theorem dX7_ask_25 : decode cX7_ask 25 = .ok (.invokestatic 107, 3) := by decide +kernel
theorem dX7_ask_28 : decode cX7_ask 28 = .ok (.invokevirtual 110, 3) := by decide +kernel
theorem dX7_ask_31 : decode cX7_ask 31 = .ok (.aload_n 0, 1) := by decide +kernel
theorem dX7_ask_32 : decode cX7_ask 32 = .ok (.getfield 69, 3) := by decide +kernel
theorem dX7_ask_35 : decode cX7_ask 35 = .ok (.ifCond .ne 22, 3) := by decide +kernel
theorem dX7_ask_38 : decode cX7_ask 38 = .ok (.aload_n 0, 1) := by decide +kernel
theorem dX7_ask_39 : decode cX7_ask 39 = .ok (.aload_n 0, 1) := by decide +kernel
theorem dX7_ask_40 : decode cX7_ask 40 = .ok (.getfield 31, 3) := by decide +kernel
theorem dX7_ask_43 : decode cX7_ask 43 = .ok (.iload_n 1, 1) := by decide +kernel
theorem dX7_ask_44 : decode cX7_ask 44 = .ok (.iaload, 1) := by decide +kernel
theorem dX7_ask_45 : decode cX7_ask 45 = .ok (.iload_n 2, 1) := by decide +kernel
theorem dX7_ask_46 : decode cX7_ask 46 = .ok (.invokestatic 114, 3) := by decide +kernel
theorem dX7_ask_49 : decode cX7_ask 49 = .ok (.iload_n 2, 1) := by decide +kernel
theorem dX7_ask_50 : decode cX7_ask 50 = .ok (.iload_n 3, 1) := by decide +kernel
theorem dX7_ask_51 : decode cX7_ask 51 = .ok (.invokestatic 117, 3) := by decide +kernel
theorem dX7_ask_54 : decode cX7_ask 54 = .ok (.invokevirtual 110, 3) := by decide +kernel
theorem dX7_ask_57 : decode cX7_ask 57 = .ok (.return_, 1) := by decide +kernel
abbrev JX7_ask_0 (D : DE) (f : Nat) (Q : Frm → HI → HL → Prop) (T : Nat → Frm → HI → HL → Prop) (F : Frm) (h : HI) (g : HL) (x1 : Int32) (x2 : Int32) (x3 : Int32) : Prop := ((x2 = 0 → Q F h g) ∧ (¬ x2 = 0 → (((h 101 16) = 0 → vp_in x1 1540 ∧ Si D f mX1_left [.int x2] F h g (fun y4 h5 g6 => Si D f mX1_first [.int x2, .int x3] F h5 g6 (fun y7 h8 g9 => Gv D f mX7_part [.ref (ad D 101), .int (h 106 (ix x1)), .int y4, .int y7] F h8 g9 (fun F12 h10 g11 => ((¬ (h10 101 16) = 0 → Q F12 h10 g11) ∧ ((h10 101 16) = 0 → vp_in x1 1540 ∧ Si D f mX1_right [.int x2] F12 h10 g11 (fun y17 h18 g19 => Si D f mX1_second [.int x2, .int x3] F12 h18 g19 (fun y20 h21 g22 => Gv D f mX7_part [.ref (ad D 101), .int (h10 107 (ix x1)), .int y17, .int y20] F12 h21 g22 (fun F25 h23 g24 => Q F25 h23 g24) T))))) T))) ∧ (¬ (h 101 16) = 0 → Q F h g))))
theorem bX7_ask_0 {D : DE} {f : Nat} {Q : Frm → HI → HL → Prop} {T : Nat → Frm → HI → HL → Prop} {F : Frm} {h : HI} {g : HL} (hF : k_Fix F) (x1 : Int32) (x2 : Int32) (x3 : Int32) (H : JX7_ask_0 D f Q T F h g x1 x2 x3) : V D mX7_ask (f + 1) (gv Q T) 0 [(0, .ref (ad D 101)), (1, .int x1), (2, .int x2), (3, .int x3)] [] (F, h, g) := by
  refine V_iload_n dX7_ask_0 rfl 2 rfl ?_
  refine V_if_eq (tgt := 11) dX7_ask_1 (by decide) (fun c1 => ?_) (fun c1 => ?_)
  · have H := H.1 c1
    exact G_vret hF rfl dX7_ask_11 H
  · have H := H.2 c1
    refine V_aload_n dX7_ask_4 rfl 0 rfl ?_
    refine H_geti ck6 16 (by decide) (fs_101 hF) (by decide) rfl q308 dX7_ask_5 ?_
    refine V_if_eq (tgt := 12) dX7_ask_8 (by decide) (fun c2 => ?_) (fun c2 => ?_)
    · have H := H.1 c2
      refine V_aload_n dX7_ask_12 rfl 0 rfl ?_
      refine V_aload_n dX7_ask_13 rfl 0 rfl ?_
      refine H_getr ck6 5 (by decide) (fs_101 hF) (by decide) rfl (fr_101_5 hF) q282 dX7_ask_14 ?_
      refine V_iload_n dX7_ask_17 rfl 1 rfl ?_
      obtain ⟨i3, H⟩ := H
      refine H_iald (fs_106 hF) i3 dX7_ask_18 ?_
      refine V_iload_n dX7_ask_19 rfl 2 rfl ?_
      refine H_calli (av := [.int x2]) (rest := [.int (h 106 (ix x1)), .ref (ad D 101)]) H mqX1_left q81 (by decide) (Nat.le_of_ble_eq_true rfl) (k_resSN (av := [.int x2]) (rest := [.int (h 106 (ix x1)), .ref (ad D 101)]) (M1 := mX1_left) rfl q1324 q1005 q81 mqX1_left (fun _ _ h => mW_named h) mhX1_left mnX1_left dX7_ask_20) (fun y4 h5 g6 H => ?_)
      refine V_iload_n dX7_ask_23 rfl 2 rfl ?_
      refine V_iload_n dX7_ask_24 rfl 3 rfl ?_
      refine H_calli (av := [.int x2, .int x3]) (rest := [.int y4, .int (h 106 (ix x1)), .ref (ad D 101)]) H mqX1_first q81 (by decide) (Nat.le_of_ble_eq_true rfl) (k_resSN (av := [.int x2, .int x3]) (rest := [.int y4, .int (h 106 (ix x1)), .ref (ad D 101)]) (M1 := mX1_first) rfl q1420 q1215 q81 mqX1_first (fun _ _ h => mW_named h) mhX1_first mnX1_first dX7_ask_25) (fun y7 h8 g9 H => ?_)
      refine G_callv (av := [.ref (ad D 101), .int (h 106 (ix x1)), .int y4, .int y7]) (rest := []) H mqX7_part q87 (by decide) (Nat.le_of_ble_eq_true rfl) (k_resV (ci := 6) (av := [.int (h 106 (ix x1)), .int y4, .int y7]) (rest := []) (fs_101 hF) (by decide) rfl rfl q1421 q1423 qs28 q1424 mhX7_part mnX7_part dX7_ask_28) (fun F12 h10 g11 hF13 H => ?_) (fun a e F1 h1 g1 hF1 ha ht => GT_v hF1 rfl ha ht)
      refine V_aload_n dX7_ask_31 rfl 0 rfl ?_
      refine H_geti ck6 16 (by decide) (fs_101 hF13) (by decide) rfl q308 dX7_ask_32 ?_
      refine V_if_ne (tgt := 57) dX7_ask_35 (by decide) (fun c15 => ?_) (fun c15 => ?_)
      · have H := H.1 c15
        exact G_vret hF13 rfl dX7_ask_57 H
      · have H := H.2 c15
        refine V_aload_n dX7_ask_38 rfl 0 rfl ?_
        refine V_aload_n dX7_ask_39 rfl 0 rfl ?_
        refine H_getr ck6 6 (by decide) (fs_101 hF13) (by decide) rfl (fr_101_6 hF13) q285 dX7_ask_40 ?_
        refine V_iload_n dX7_ask_43 rfl 1 rfl ?_
        obtain ⟨i16, H⟩ := H
        refine H_iald (fs_107 hF13) i16 dX7_ask_44 ?_
        refine V_iload_n dX7_ask_45 rfl 2 rfl ?_
        refine H_calli (av := [.int x2]) (rest := [.int (h10 107 (ix x1)), .ref (ad D 101)]) H mqX1_right q81 (by decide) (Nat.le_of_ble_eq_true rfl) (k_resSN (av := [.int x2]) (rest := [.int (h10 107 (ix x1)), .ref (ad D 101)]) (M1 := mX1_right) rfl q1323 q1008 q81 mqX1_right (fun _ _ h => mW_named h) mhX1_right mnX1_right dX7_ask_46) (fun y17 h18 g19 H => ?_)
        refine V_iload_n dX7_ask_49 rfl 2 rfl ?_
        refine V_iload_n dX7_ask_50 rfl 3 rfl ?_
        refine H_calli (av := [.int x2, .int x3]) (rest := [.int y17, .int (h10 107 (ix x1)), .ref (ad D 101)]) H mqX1_second q81 (by decide) (Nat.le_of_ble_eq_true rfl) (k_resSN (av := [.int x2, .int x3]) (rest := [.int y17, .int (h10 107 (ix x1)), .ref (ad D 101)]) (M1 := mX1_second) rfl q1426 q1220 q81 mqX1_second (fun _ _ h => mW_named h) mhX1_second mnX1_second dX7_ask_51) (fun y20 h21 g22 H => ?_)
        refine G_callv (av := [.ref (ad D 101), .int (h10 107 (ix x1)), .int y17, .int y20]) (rest := []) H mqX7_part q87 (by decide) (Nat.le_of_ble_eq_true rfl) (k_resV (ci := 6) (av := [.int (h10 107 (ix x1)), .int y17, .int y20]) (rest := []) (fs_101 hF13) (by decide) rfl rfl q1421 q1423 qs28 q1424 mhX7_part mnX7_part dX7_ask_54) (fun F25 h23 g24 hF26 H => ?_) (fun a e F1 h1 g1 hF1 ha ht => GT_v hF1 rfl ha ht)
        exact G_vret hF26 rfl dX7_ask_57 H
    · have H := H.2 c2
      exact G_vret hF rfl dX7_ask_11 H
theorem wX7_ask {D : DE} {f : Nat} {Q : Frm → HI → HL → Prop} {T : Nat → Frm → HI → HL → Prop} {F : Frm} {h : HI} {g : HL} (hF : k_Fix F) (x1 : Int32) (x2 : Int32) (x3 : Int32) (H : JX7_ask_0 D f Q T F h g x1 x2 x3) : Gv D (f + 1) mX7_ask [.ref (ad D 101), .int x1, .int x2, .int x3] F h g Q T := Cl.ofV (by decide) (Nat.le_of_ble_eq_true rfl) rfl (bX7_ask_0 hF x1 x2 x3 H)
theorem dX7_part_0 : decode cX7_part 0 = .ok (.iload_n 3, 1) := by decide +kernel
theorem dX7_part_1 : decode cX7_part 1 = .ok (.ifCond .eq 14, 3) := by decide +kernel
theorem dX7_part_4 : decode cX7_part 4 = .ok (.aload_n 0, 1) := by decide +kernel
theorem dX7_part_5 : decode cX7_part 5 = .ok (.aload_n 0, 1) := by decide +kernel
theorem dX7_part_6 : decode cX7_part 6 = .ok (.iload_n 1, 1) := by decide +kernel
theorem dX7_part_7 : decode cX7_part 7 = .ok (.invokevirtual 120, 3) := by decide +kernel
theorem dX7_part_10 : decode cX7_part 10 = .ok (.iload_n 2, 1) := by decide +kernel
theorem dX7_part_11 : decode cX7_part 11 = .ok (.iload_n 3, 1) := by decide +kernel
theorem dX7_part_12 : decode cX7_part 12 = .ok (.invokevirtual 123, 3) := by decide +kernel
theorem dX7_part_15 : decode cX7_part 15 = .ok (.return_, 1) := by decide +kernel
abbrev JX7_part_0 (D : DE) (f : Nat) (Q : Frm → HI → HL → Prop) (T : Nat → Frm → HI → HL → Prop) (F : Frm) (h : HI) (g : HL) (x1 : Int32) (x2 : Int32) (x3 : Int32) : Prop := ((x3 = 0 → Q F h g) ∧ (¬ x3 = 0 → Gi D f mX7_need [.ref (ad D 101), .int x1] F h g (fun y2 F5 h3 g4 => Gv D f mX7_ask [.ref (ad D 101), .int y2, .int x2, .int x3] F5 h3 g4 (fun F10 h8 g9 => Q F10 h8 g9) T) T))
theorem bX7_part_0 {D : DE} {f : Nat} {Q : Frm → HI → HL → Prop} {T : Nat → Frm → HI → HL → Prop} {F : Frm} {h : HI} {g : HL} (hF : k_Fix F) (x1 : Int32) (x2 : Int32) (x3 : Int32) (H : JX7_part_0 D f Q T F h g x1 x2 x3) : V D mX7_part (f + 1) (gv Q T) 0 [(0, .ref (ad D 101)), (1, .int x1), (2, .int x2), (3, .int x3)] [] (F, h, g) := by
  refine V_iload_n dX7_part_0 rfl 3 rfl ?_
  refine V_if_eq (tgt := 15) dX7_part_1 (by decide) (fun c1 => ?_) (fun c1 => ?_)
  · have H := H.1 c1
    exact G_vret hF rfl dX7_part_15 H
  · have H := H.2 c1
    refine V_aload_n dX7_part_4 rfl 0 rfl ?_
    refine V_aload_n dX7_part_5 rfl 0 rfl ?_
    refine V_iload_n dX7_part_6 rfl 1 rfl ?_
    refine G_calli (av := [.ref (ad D 101), .int x1]) (rest := [.ref (ad D 101)]) H mqX7_need q87 (by decide) (Nat.le_of_ble_eq_true rfl) (k_resV (ci := 6) (av := [.int x1]) (rest := [.ref (ad D 101)]) (fs_101 hF) (by decide) rfl rfl q1425 q1398 q1399 q1400 mhX7_need mnX7_need dX7_part_7) (fun y2 F5 h3 g4 hF6 H => ?_) (fun a e F1 h1 g1 hF1 ha ht => GT_v hF1 rfl ha ht)
    refine V_iload_n dX7_part_10 rfl 2 rfl ?_
    refine V_iload_n dX7_part_11 rfl 3 rfl ?_
    refine G_callv (av := [.ref (ad D 101), .int y2, .int x2, .int x3]) (rest := []) H mqX7_ask q87 (by decide) (Nat.le_of_ble_eq_true rfl) (k_resV (ci := 6) (av := [.int y2, .int x2, .int x3]) (rest := []) (fs_101 hF6) (by decide) rfl rfl q1416 q1417 q1418 q1419 mhX7_ask mnX7_ask dX7_part_12) (fun F10 h8 g9 hF11 H => ?_) (fun a e F1 h1 g1 hF1 ha ht => GT_v hF1 rfl ha ht)
    exact G_vret hF11 rfl dX7_part_15 H
theorem wX7_part {D : DE} {f : Nat} {Q : Frm → HI → HL → Prop} {T : Nat → Frm → HI → HL → Prop} {F : Frm} {h : HI} {g : HL} (hF : k_Fix F) (x1 : Int32) (x2 : Int32) (x3 : Int32) (H : JX7_part_0 D f Q T F h g x1 x2 x3) : Gv D (f + 1) mX7_part [.ref (ad D 101), .int x1, .int x2, .int x3] F h g Q T := Cl.ofV (by decide) (Nat.le_of_ble_eq_true rfl) rfl (bX7_part_0 hF x1 x2 x3 H)
theorem dX7_input_0 : decode cX7_input 0 = .ok (.aload_n 0, 1) := by decide +kernel
theorem dX7_input_1 : decode cX7_input 1 = .ok (.getfield 126, 3) := by decide +kernel
theorem dX7_input_4 : decode cX7_input 4 = .ok (.istore 4, 2) := by decide +kernel
theorem dX7_input_6 : decode cX7_input 6 = .ok (.aload_n 0, 1) := by decide +kernel
theorem dX7_input_7 : decode cX7_input 7 = .ok (.dup, 1) := by decide +kernel
theorem dX7_input_8 : decode cX7_input 8 = .ok (.getfield 126, 3) := by decide +kernel
theorem dX7_input_11 : decode cX7_input 11 = .ok (.iconst 1, 1) := by decide +kernel
theorem dX7_input_12 : decode cX7_input 12 = .ok (.iadd, 1) := by decide +kernel
theorem dX7_input_13 : decode cX7_input 13 = .ok (.putfield 126, 3) := by decide +kernel
theorem dX7_input_16 : decode cX7_input 16 = .ok (.aload_n 0, 1) := by decide +kernel
theorem dX7_input_17 : decode cX7_input 17 = .ok (.aconst_null, 1) := by decide +kernel
theorem dX7_input_18 : decode cX7_input 18 = .ok (.iconst 0, 1) := by decide +kernel
theorem dX7_input_19 : decode cX7_input 19 = .ok (.aload_n 1, 1) := by decide +kernel
theorem dX7_input_20 : decode cX7_input 20 = .ok (.iload 4, 2) := by decide +kernel
theorem dX7_input_22 : decode cX7_input 22 = .ok (.iaload, 1) := by decide +kernel
theorem dX7_input_23 : decode cX7_input 23 = .ok (.iconst 1, 1) := by decide +kernel
theorem dX7_input_24 : decode cX7_input 24 = .ok (.if_icmp .ne 7, 3) := by decide +kernel
theorem dX7_input_27 : decode cX7_input 27 = .ok (.iconst 3, 1) := by decide +kernel
theorem dX7_input_28 : decode cX7_input 28 = .ok (.goto 4, 3) := by decide +kernel
theorem dX7_input_31 : decode cX7_input 31 = .ok (.iconst 2, 1) := by decide +kernel
theorem dX7_input_32 : decode cX7_input 32 = .ok (.invokevirtual 96, 3) := by decide +kernel
theorem dX7_input_35 : decode cX7_input 35 = .ok (.istore 5, 2) := by decide +kernel
theorem dX7_input_37 : decode cX7_input 37 = .ok (.aload_n 0, 1) := by decide +kernel
theorem dX7_input_38 : decode cX7_input 38 = .ok (.getfield 37, 3) := by decide +kernel
theorem dX7_input_41 : decode cX7_input 41 = .ok (.iload 5, 2) := by decide +kernel
theorem dX7_input_43 : decode cX7_input 43 = .ok (.iconst 0, 1) := by decide +kernel
theorem dX7_input_44 : decode cX7_input 44 = .ok (.bastore, 1) := by decide +kernel
theorem dX7_input_45 : decode cX7_input 45 = .ok (.aload_n 0, 1) := by decide +kernel
theorem dX7_input_46 : decode cX7_input 46 = .ok (.getfield 25, 3) := by decide +kernel
theorem dX7_input_49 : decode cX7_input 49 = .ok (.iload 5, 2) := by decide +kernel
theorem dX7_input_51 : decode cX7_input 51 = .ok (.aload_n 2, 1) := by decide +kernel
theorem dX7_input_52 : decode cX7_input 52 = .ok (.iload 4, 2) := by decide +kernel
theorem dX7_input_54 : decode cX7_input 54 = .ok (.iaload, 1) := by decide +kernel
theorem dX7_input_55 : decode cX7_input 55 = .ok (.iastore, 1) := by decide +kernel
theorem dX7_input_56 : decode cX7_input 56 = .ok (.aload_n 1, 1) := by decide +kernel
theorem dX7_input_57 : decode cX7_input 57 = .ok (.iload 4, 2) := by decide +kernel
theorem dX7_input_59 : decode cX7_input 59 = .ok (.iaload, 1) := by decide +kernel
theorem dX7_input_60 : decode cX7_input 60 = .ok (.iconst 2, 1) := by decide +kernel
theorem dX7_input_61 : decode cX7_input 61 = .ok (.if_icmp .ne 62, 3) := by decide +kernel
theorem dX7_input_64 : decode cX7_input 64 = .ok (.aload_n 0, 1) := by decide +kernel
theorem dX7_input_65 : decode cX7_input 65 = .ok (.getfield 48, 3) := by decide +kernel
theorem dX7_input_68 : decode cX7_input 68 = .ok (.istore 6, 2) := by decide +kernel
theorem dX7_input_70 : decode cX7_input 70 = .ok (.aload_n 0, 1) := by decide +kernel
theorem dX7_input_71 : decode cX7_input 71 = .ok (.dup, 1) := by decide +kernel
theorem dX7_input_72 : decode cX7_input 72 = .ok (.getfield 48, 3) := by decide +kernel
theorem dX7_input_75 : decode cX7_input 75 = .ok (.iconst 1, 1) := by decide +kernel
theorem dX7_input_76 : decode cX7_input 76 = .ok (.iadd, 1) := by decide +kernel
theorem dX7_input_77 : decode cX7_input 77 = .ok (.putfield 48, 3) := by decide +kernel
theorem dX7_input_80 : decode cX7_input 80 = .ok (.aload_n 0, 1) := by decide +kernel
theorem dX7_input_81 : decode cX7_input 81 = .ok (.getfield 25, 3) := by decide +kernel
theorem dX7_input_84 : decode cX7_input 84 = .ok (.iload 5, 2) := by decide +kernel
theorem dX7_input_86 : decode cX7_input 86 = .ok (.iload 6, 2) := by decide +kernel
theorem dX7_input_88 : decode cX7_input 88 = .ok (.iastore, 1) := by decide +kernel
theorem dX7_input_89 : decode cX7_input 89 = .ok (.aload_n 0, 1) := by decide +kernel
theorem dX7_input_90 : decode cX7_input 90 = .ok (.getfield 28, 3) := by decide +kernel
theorem dX7_input_93 : decode cX7_input 93 = .ok (.iload 6, 2) := by decide +kernel
theorem dX7_input_95 : decode cX7_input 95 = .ok (.aload_n 0, 1) := by decide +kernel
theorem dX7_input_96 : decode cX7_input 96 = .ok (.aload_n 1, 1) := by decide +kernel
theorem dX7_input_97 : decode cX7_input 97 = .ok (.aload_n 2, 1) := by decide +kernel
theorem dX7_input_98 : decode cX7_input 98 = .ok (.iload_n 3, 1) := by decide +kernel
theorem dX7_input_99 : decode cX7_input 99 = .ok (.invokestatic 103, 3) := by decide +kernel
theorem dX7_input_102 : decode cX7_input 102 = .ok (.invokevirtual 129, 3) := by decide +kernel
theorem dX7_input_105 : decode cX7_input 105 = .ok (.iastore, 1) := by decide +kernel
theorem dX7_input_106 : decode cX7_input 106 = .ok (.aload_n 0, 1) := by decide +kernel
theorem dX7_input_107 : decode cX7_input 107 = .ok (.getfield 31, 3) := by decide +kernel
theorem dX7_input_110 : decode cX7_input 110 = .ok (.iload 6, 2) := by decide +kernel
theorem dX7_input_112 : decode cX7_input 112 = .ok (.aload_n 0, 1) := by decide +kernel
theorem dX7_input_113 : decode cX7_input 113 = .ok (.aload_n 1, 1) := by decide +kernel
theorem dX7_input_114 : decode cX7_input 114 = .ok (.aload_n 2, 1) := by decide +kernel
theorem dX7_input_115 : decode cX7_input 115 = .ok (.iload_n 3, 1) := by decide +kernel
theorem dX7_input_116 : decode cX7_input 116 = .ok (.invokestatic 114, 3) := by decide +kernel
theorem dX7_input_119 : decode cX7_input 119 = .ok (.invokevirtual 129, 3) := by decide +kernel
theorem dX7_input_122 : decode cX7_input 122 = .ok (.iastore, 1) := by decide +kernel
theorem dX7_input_123 : decode cX7_input 123 = .ok (.iload 5, 2) := by decide +kernel
theorem dX7_input_125 : decode cX7_input 125 = .ok (.ireturn, 1) := by decide +kernel
abbrev JX7_input_32 (D : DE) (f : Nat) (Q : Int32 → Frm → HI → HL → Prop) (T : Nat → Frm → HI → HL → Prop) (F : Frm) (h : HI) (g : HL) (x1 : Nat) (x2 : Nat) (x3 : Int32) (x4 : Int32) (s2 : Int32) (s3 : Int32) : Prop := Gi D f mX7_put [.ref (ad D 101), .null, .int s2, .int s3] F h g (fun y1 F4 h2 g3 => vp_in y1 40 ∧ ∀ h8, h8 = up2 h2 109 (ix y1) 0 → ∃ m10 : Nat, F4.2.1 x2 = (0, m10) ∧ vp_in x4 m10 ∧ vp_in y1 1540 ∧ ∀ h14, h14 = up2 h8 105 (ix y1) (h8 x2 (ix x4)) → ∃ m16 : Nat, F4.2.1 x1 = (0, m16) ∧ vp_in x4 m16 ∧ ((¬ (h14 x1 (ix x4)) = 2 → Q y1 F4 h14 g3) ∧ ((h14 x1 (ix x4)) = 2 → ∀ y20 : Int32, y20 = (h14 101 7) → ∀ h22, h22 = up2 h14 101 7 ((h14 101 7) + 1) → vp_in y1 1540 ∧ ∀ h25, h25 = up2 h22 105 (ix y1) y20 → Si D f mX1_left [.int x3] F4 h25 g3 (fun y27 h28 g29 => Gi D f mX7_input [.ref (ad D 101), .ref (ad D x1), .ref (ad D x2), .int y27] F4 h28 g29 (fun y30 F33 h31 g32 => vp_in y20 1540 ∧ ∀ h37, h37 = up2 h31 106 (ix y20) y30 → Si D f mX1_right [.int x3] F33 h37 g32 (fun y39 h40 g41 => Gi D f mX7_input [.ref (ad D 101), .ref (ad D x1), .ref (ad D x2), .int y39] F33 h40 g41 (fun y42 F45 h43 g44 => vp_in y20 1540 ∧ ∀ h49, h49 = up2 h43 107 (ix y20) y42 → Q y1 F45 h49 g44) T)) T)))) T
theorem bX7_input_32 {D : DE} {f : Nat} {Q : Int32 → Frm → HI → HL → Prop} {T : Nat → Frm → HI → HL → Prop} {F : Frm} {h : HI} {g : HL} (hF : k_Fix F) (x1 : Nat) (x2 : Nat) (x3 : Int32) (x4 : Int32) (s2 : Int32) (s3 : Int32) (H : JX7_input_32 D f Q T F h g x1 x2 x3 x4 s2 s3) : V D mX7_input (f + 1) (gi Q T) 32 [(0, .ref (ad D 101)), (1, .ref (ad D x1)), (2, .ref (ad D x2)), (3, .int x3), (4, .int x4)] [.int s3, .int s2, .null, .ref (ad D 101)] (F, h, g) := by
  refine G_calli (av := [.ref (ad D 101), .null, .int s2, .int s3]) (rest := []) H mqX7_put q87 (by decide) (Nat.le_of_ble_eq_true rfl) (k_resV (ci := 6) (av := [.null, .int s2, .int s3]) (rest := []) (fs_101 hF) (by decide) rfl rfl q1334 q1336 qs27 q1337 mhX7_put mnX7_put dX7_input_32) (fun y1 F4 h2 g3 hF5 H => ?_) (fun a e F1 h1 g1 hF1 ha ht => GT_i hF1 rfl ha ht)
  refine V_istore (l1 := [(5, .int y1), (0, .ref (ad D 101)), (1, .ref (ad D x1)), (2, .ref (ad D x2)), (3, .int x3), (4, .int x4)]) dX7_input_35 (by decide) rfl ?_
  refine V_aload_n dX7_input_37 rfl 1 rfl ?_
  refine H_getr ck6 20 (by decide) (fs_101 hF5) (by decide) rfl (fr_101_20 hF5) q319 dX7_input_38 ?_
  refine V_iload dX7_input_41 0 rfl ?_
  refine V_iconst (v := 0) dX7_input_43 (by decide) ?_
  obtain ⟨i7, H⟩ := H
  refine H_zast (fs_109 hF5) i7 isB0 dX7_input_44 (fun h8 e9 => ?_)
  have H := H h8 e9
  refine V_aload_n dX7_input_45 rfl 1 rfl ?_
  refine H_getr ck6 3 (by decide) (fs_101 hF5) (by decide) rfl (fr_101_3 hF5) q278 dX7_input_46 ?_
  refine V_iload dX7_input_49 0 rfl ?_
  refine V_aload_n dX7_input_51 rfl 3 rfl ?_
  refine V_iload dX7_input_52 5 rfl ?_
  obtain ⟨m10, z11, H⟩ := H
  obtain ⟨i12, H⟩ := H
  refine H_iald z11 i12 dX7_input_54 ?_
  obtain ⟨i13, H⟩ := H
  refine H_iast (fs_105 hF5) i13 dX7_input_55 (fun h14 e15 => ?_)
  have H := H h14 e15
  refine V_aload_n dX7_input_56 rfl 2 rfl ?_
  refine V_iload dX7_input_57 5 rfl ?_
  obtain ⟨m16, z17, H⟩ := H
  obtain ⟨i18, H⟩ := H
  refine H_iald z17 i18 dX7_input_59 ?_
  refine V_iconst (v := 2) dX7_input_60 (by decide) ?_
  refine V_icmp_ne (tgt := 123) dX7_input_61 (by decide) (fun c19 => ?_) (fun c19 => ?_)
  · have H := H.1 c19
    refine V_iload dX7_input_123 0 rfl ?_
    exact G_iret hF5 rfl dX7_input_125 H
  · have H := H.2 c19
    refine V_aload_n dX7_input_64 rfl 1 rfl ?_
    refine H_geti ck6 7 (by decide) (fs_101 hF5) (by decide) rfl q288 dX7_input_65 ?_
    refine V_topi (fun y20 e21 => ?_)
    have H := H y20 e21
    refine V_istore (l1 := [(6, .int y20), (5, .int y1), (0, .ref (ad D 101)), (1, .ref (ad D x1)), (2, .ref (ad D x2)), (3, .int x3), (4, .int x4)]) dX7_input_68 (by decide) rfl ?_
    refine V_aload_n dX7_input_70 rfl 2 rfl ?_
    refine V_dup dX7_input_71 rfl ?_
    refine H_geti ck6 7 (by decide) (fs_101 hF5) (by decide) rfl q288 dX7_input_72 ?_
    refine V_iconst (v := 1) dX7_input_75 (by decide) ?_
    refine V_iadd dX7_input_76 ?_
    refine H_puti ck6 7 (by decide) (fs_101 hF5) (by decide) rfl rfl q288 dX7_input_77 (fun h22 e23 => ?_)
    have H := H h22 e23
    refine V_aload_n dX7_input_80 rfl 2 rfl ?_
    refine H_getr ck6 3 (by decide) (fs_101 hF5) (by decide) rfl (fr_101_3 hF5) q278 dX7_input_81 ?_
    refine V_iload dX7_input_84 1 rfl ?_
    refine V_iload dX7_input_86 0 rfl ?_
    obtain ⟨i24, H⟩ := H
    refine H_iast (fs_105 hF5) i24 dX7_input_88 (fun h25 e26 => ?_)
    have H := H h25 e26
    refine V_aload_n dX7_input_89 rfl 2 rfl ?_
    refine H_getr ck6 5 (by decide) (fs_101 hF5) (by decide) rfl (fr_101_5 hF5) q282 dX7_input_90 ?_
    refine V_iload dX7_input_93 0 rfl ?_
    refine V_aload_n dX7_input_95 rfl 2 rfl ?_
    refine V_aload_n dX7_input_96 rfl 3 rfl ?_
    refine V_aload_n dX7_input_97 rfl 4 rfl ?_
    refine V_iload_n dX7_input_98 rfl 5 rfl ?_
    refine H_calli (av := [.int x3]) (rest := [.ref (ad D x2), .ref (ad D x1), .ref (ad D 101), .int y20, .ref (ad D 106)]) H mqX1_left q81 (by decide) (Nat.le_of_ble_eq_true rfl) (k_resSN (av := [.int x3]) (rest := [.ref (ad D x2), .ref (ad D x1), .ref (ad D 101), .int y20, .ref (ad D 106)]) (M1 := mX1_left) rfl q1324 q1005 q81 mqX1_left (fun _ _ h => mW_named h) mhX1_left mnX1_left dX7_input_99) (fun y27 h28 g29 H => ?_)
    refine G_calli (av := [.ref (ad D 101), .ref (ad D x1), .ref (ad D x2), .int y27]) (rest := [.int y20, .ref (ad D 106)]) H mqX7_input q87 (by decide) (Nat.le_of_ble_eq_true rfl) (k_resV (ci := 6) (av := [.ref (ad D x1), .ref (ad D x2), .int y27]) (rest := [.int y20, .ref (ad D 106)]) (fs_101 hF5) (by decide) rfl rfl q1330 q1332 qs26 q1333 mhX7_input mnX7_input dX7_input_102) (fun y30 F33 h31 g32 hF34 H => ?_) (fun a e F1 h1 g1 hF1 ha ht => GT_i hF1 rfl ha ht)
    obtain ⟨i36, H⟩ := H
    refine H_iast (fs_106 hF34) i36 dX7_input_105 (fun h37 e38 => ?_)
    have H := H h37 e38
    refine V_aload_n dX7_input_106 rfl 2 rfl ?_
    refine H_getr ck6 6 (by decide) (fs_101 hF34) (by decide) rfl (fr_101_6 hF34) q285 dX7_input_107 ?_
    refine V_iload dX7_input_110 0 rfl ?_
    refine V_aload_n dX7_input_112 rfl 2 rfl ?_
    refine V_aload_n dX7_input_113 rfl 3 rfl ?_
    refine V_aload_n dX7_input_114 rfl 4 rfl ?_
    refine V_iload_n dX7_input_115 rfl 5 rfl ?_
    refine H_calli (av := [.int x3]) (rest := [.ref (ad D x2), .ref (ad D x1), .ref (ad D 101), .int y20, .ref (ad D 107)]) H mqX1_right q81 (by decide) (Nat.le_of_ble_eq_true rfl) (k_resSN (av := [.int x3]) (rest := [.ref (ad D x2), .ref (ad D x1), .ref (ad D 101), .int y20, .ref (ad D 107)]) (M1 := mX1_right) rfl q1323 q1008 q81 mqX1_right (fun _ _ h => mW_named h) mhX1_right mnX1_right dX7_input_116) (fun y39 h40 g41 H => ?_)
    refine G_calli (av := [.ref (ad D 101), .ref (ad D x1), .ref (ad D x2), .int y39]) (rest := [.int y20, .ref (ad D 107)]) H mqX7_input q87 (by decide) (Nat.le_of_ble_eq_true rfl) (k_resV (ci := 6) (av := [.ref (ad D x1), .ref (ad D x2), .int y39]) (rest := [.int y20, .ref (ad D 107)]) (fs_101 hF34) (by decide) rfl rfl q1330 q1332 qs26 q1333 mhX7_input mnX7_input dX7_input_119) (fun y42 F45 h43 g44 hF46 H => ?_) (fun a e F1 h1 g1 hF1 ha ht => GT_i hF1 rfl ha ht)
    obtain ⟨i48, H⟩ := H
    refine H_iast (fs_107 hF46) i48 dX7_input_122 (fun h49 e50 => ?_)
    have H := H h49 e50
    refine V_iload dX7_input_123 1 rfl ?_
    exact G_iret hF46 rfl dX7_input_125 H
abbrev JX7_input_0 (D : DE) (f : Nat) (Q : Int32 → Frm → HI → HL → Prop) (T : Nat → Frm → HI → HL → Prop) (F : Frm) (h : HI) (g : HL) (x1 : Nat) (x2 : Nat) (x3 : Int32) : Prop := ∀ y1 : Int32, y1 = (h 101 21) → ∀ h3, h3 = up2 h 101 21 ((h 101 21) + 1) → ∃ m5 : Nat, F.2.1 x1 = (0, m5) ∧ vp_in y1 m5 ∧ ((¬ (h3 x1 (ix y1)) = 1 → JX7_input_32 D f Q T F h3 g x1 x2 x3 y1 0 2) ∧ ((h3 x1 (ix y1)) = 1 → JX7_input_32 D f Q T F h3 g x1 x2 x3 y1 0 3))
theorem bX7_input_0 {D : DE} {f : Nat} {Q : Int32 → Frm → HI → HL → Prop} {T : Nat → Frm → HI → HL → Prop} {F : Frm} {h : HI} {g : HL} (hF : k_Fix F) (x1 : Nat) (x2 : Nat) (x3 : Int32) (H : JX7_input_0 D f Q T F h g x1 x2 x3) : V D mX7_input (f + 1) (gi Q T) 0 [(0, .ref (ad D 101)), (1, .ref (ad D x1)), (2, .ref (ad D x2)), (3, .int x3)] [] (F, h, g) := by
  refine V_aload_n dX7_input_0 rfl 0 rfl ?_
  refine H_geti ck6 21 (by decide) (fs_101 hF) (by decide) rfl q321 dX7_input_1 ?_
  refine V_topi (fun y1 e2 => ?_)
  have H := H y1 e2
  refine V_istore (l1 := [(4, .int y1), (0, .ref (ad D 101)), (1, .ref (ad D x1)), (2, .ref (ad D x2)), (3, .int x3)]) dX7_input_4 (by decide) rfl ?_
  refine V_aload_n dX7_input_6 rfl 1 rfl ?_
  refine V_dup dX7_input_7 rfl ?_
  refine H_geti ck6 21 (by decide) (fs_101 hF) (by decide) rfl q321 dX7_input_8 ?_
  refine V_iconst (v := 1) dX7_input_11 (by decide) ?_
  refine V_iadd dX7_input_12 ?_
  refine H_puti ck6 21 (by decide) (fs_101 hF) (by decide) rfl rfl q321 dX7_input_13 (fun h3 e4 => ?_)
  have H := H h3 e4
  refine V_aload_n dX7_input_16 rfl 1 rfl ?_
  refine V_null dX7_input_17 ?_
  refine V_iconst (v := 0) dX7_input_18 (by decide) ?_
  refine V_aload_n dX7_input_19 rfl 2 rfl ?_
  refine V_iload dX7_input_20 0 rfl ?_
  obtain ⟨m5, z6, H⟩ := H
  obtain ⟨i7, H⟩ := H
  refine H_iald z6 i7 dX7_input_22 ?_
  refine V_iconst (v := 1) dX7_input_23 (by decide) ?_
  refine V_icmp_ne (tgt := 31) dX7_input_24 (by decide) (fun c8 => ?_) (fun c8 => ?_)
  · have H := H.1 c8
    refine V_iconst (v := 2) dX7_input_31 (by decide) ?_
    refine V.sub [1, 2, 3, 4, 0] rfl ?_
    exact bX7_input_32 hF x1 x2 x3 y1 0 2 H
  · have H := H.2 c8
    refine V_iconst (v := 3) dX7_input_27 (by decide) ?_
    refine V_goto (tgt := 32) dX7_input_28 (by decide) ?_
    refine V.sub [1, 2, 3, 4, 0] rfl ?_
    exact bX7_input_32 hF x1 x2 x3 y1 0 3 H
theorem wX7_input {D : DE} {f : Nat} {Q : Int32 → Frm → HI → HL → Prop} {T : Nat → Frm → HI → HL → Prop} {F : Frm} {h : HI} {g : HL} (hF : k_Fix F) (x1 : Nat) (x2 : Nat) (x3 : Int32) (H : JX7_input_0 D f Q T F h g x1 x2 x3) : Gi D (f + 1) mX7_input [.ref (ad D 101), .ref (ad D x1), .ref (ad D x2), .int x3] F h g Q T := Cl.ofV (by decide) (Nat.le_of_ble_eq_true rfl) rfl (bX7_input_0 hF x1 x2 x3 H)
theorem dX7_fit_0 : decode cX7_fit 0 = .ok (.aload_n 3, 1) := by decide +kernel
theorem dX7_fit_1 : decode cX7_fit 1 = .ok (.getfield 133, 3) := by decide +kernel
theorem dX7_fit_4 : decode cX7_fit 4 = .ok (.istore 4, 2) := by decide +kernel
theorem dX7_fit_6 : decode cX7_fit 6 = .ok (.iconst 0, 1) := by decide +kernel
theorem dX7_fit_7 : decode cX7_fit 7 = .ok (.istore 5, 2) := by decide +kernel
theorem dX7_fit_9 : decode cX7_fit 9 = .ok (.iload 5, 2) := by decide +kernel
theorem dX7_fit_11 : decode cX7_fit 11 = .ok (.iload 4, 2) := by decide +kernel
theorem dX7_fit_13 : decode cX7_fit 13 = .ok (.if_icmp .ge 28, 3) := by decide +kernel
theorem dX7_fit_16 : decode cX7_fit 16 = .ok (.aload_n 0, 1) := by decide +kernel
theorem dX7_fit_17 : decode cX7_fit 17 = .ok (.getfield 41, 3) := by decide +kernel
theorem dX7_fit_20 : decode cX7_fit 20 = .ok (.iload 4, 2) := by decide +kernel
theorem dX7_fit_22 : decode cX7_fit 22 = .ok (.iconst 1, 1) := by decide +kernel
theorem dX7_fit_23 : decode cX7_fit 23 = .ok (.isub, 1) := by decide +kernel
theorem dX7_fit_24 : decode cX7_fit 24 = .ok (.iload 5, 2) := by decide +kernel
theorem dX7_fit_26 : decode cX7_fit 26 = .ok (.isub, 1) := by decide +kernel
theorem dX7_fit_27 : decode cX7_fit 27 = .ok (.aload_n 3, 1) := by decide +kernel
theorem dX7_fit_28 : decode cX7_fit 28 = .ok (.getfield 136, 3) := by decide +kernel
theorem dX7_fit_31 : decode cX7_fit 31 = .ok (.iload 5, 2) := by decide +kernel
theorem dX7_fit_33 : decode cX7_fit 33 = .ok (.iaload, 1) := by decide +kernel
theorem dX7_fit_34 : decode cX7_fit 34 = .ok (.iastore, 1) := by decide +kernel
theorem dX7_fit_35 : decode cX7_fit 35 = .ok (.iinc 5 1, 3) := by decide +kernel
theorem dX7_fit_38 : decode cX7_fit 38 = .ok (.goto (-29), 3) := by decide +kernel
theorem dX7_fit_41 : decode cX7_fit 41 = .ok (.iconst 0, 1) := by decide +kernel
theorem dX7_fit_42 : decode cX7_fit 42 = .ok (.istore 5, 2) := by decide +kernel
theorem dX7_fit_44 : decode cX7_fit 44 = .ok (.iload 4, 2) := by decide +kernel
theorem dX7_fit_46 : decode cX7_fit 46 = .ok (.ifCond .le 91, 3) := by decide +kernel
theorem dX7_fit_49 : decode cX7_fit 49 = .ok (.iload 5, 2) := by decide +kernel
theorem dX7_fit_51 : decode cX7_fit 51 = .ok (.iload_n 2, 1) := by decide +kernel
theorem dX7_fit_52 : decode cX7_fit 52 = .ok (.if_icmp .ge 85, 3) := by decide +kernel
theorem dX7_fit_55 : decode cX7_fit 55 = .ok (.iinc 4 (-1), 3) := by decide +kernel
theorem dX7_fit_58 : decode cX7_fit 58 = .ok (.aload_n 0, 1) := by decide +kernel
theorem dX7_fit_59 : decode cX7_fit 59 = .ok (.getfield 41, 3) := by decide +kernel
theorem dX7_fit_62 : decode cX7_fit 62 = .ok (.iload 4, 2) := by decide +kernel
theorem dX7_fit_64 : decode cX7_fit 64 = .ok (.iaload, 1) := by decide +kernel
theorem dX7_fit_65 : decode cX7_fit 65 = .ok (.istore 6, 2) := by decide +kernel
theorem dX7_fit_67 : decode cX7_fit 67 = .ok (.aload_n 1, 1) := by decide +kernel
theorem dX7_fit_68 : decode cX7_fit 68 = .ok (.iload 5, 2) := by decide +kernel
theorem dX7_fit_70 : decode cX7_fit 70 = .ok (.iaload, 1) := by decide +kernel
theorem dX7_fit_71 : decode cX7_fit 71 = .ok (.ifCond .ne 8, 3) := by decide +kernel
theorem dX7_fit_74 : decode cX7_fit 74 = .ok (.iload 6, 2) := by decide +kernel
theorem dX7_fit_76 : decode cX7_fit 76 = .ok (.ifCond .ne 16, 3) := by decide +kernel
theorem dX7_fit_79 : decode cX7_fit 79 = .ok (.aload_n 1, 1) := by decide +kernel
theorem dX7_fit_80 : decode cX7_fit 80 = .ok (.iload 5, 2) := by decide +kernel
theorem dX7_fit_82 : decode cX7_fit 82 = .ok (.iaload, 1) := by decide +kernel
theorem dX7_fit_83 : decode cX7_fit 83 = .ok (.iconst 2, 1) := by decide +kernel
theorem dX7_fit_84 : decode cX7_fit 84 = .ok (.if_icmp .ne 10, 3) := by decide +kernel
theorem dX7_fit_87 : decode cX7_fit 87 = .ok (.iload 6, 2) := by decide +kernel
theorem dX7_fit_89 : decode cX7_fit 89 = .ok (.ifCond .ne 5, 3) := by decide +kernel
theorem dX7_fit_92 : decode cX7_fit 92 = .ok (.iconst 0, 1) := by decide +kernel
theorem dX7_fit_93 : decode cX7_fit 93 = .ok (.ireturn, 1) := by decide +kernel
theorem dX7_fit_94 : decode cX7_fit 94 = .ok (.aload_n 1, 1) := by decide +kernel
theorem dX7_fit_95 : decode cX7_fit 95 = .ok (.iload 5, 2) := by decide +kernel
theorem dX7_fit_97 : decode cX7_fit 97 = .ok (.iaload, 1) := by decide +kernel
theorem dX7_fit_98 : decode cX7_fit 98 = .ok (.iconst 2, 1) := by decide +kernel
theorem dX7_fit_99 : decode cX7_fit 99 = .ok (.if_icmp .ne 32, 3) := by decide +kernel
theorem dX7_fit_102 : decode cX7_fit 102 = .ok (.aload_n 0, 1) := by decide +kernel
theorem dX7_fit_103 : decode cX7_fit 103 = .ok (.getfield 41, 3) := by decide +kernel
theorem dX7_fit_106 : decode cX7_fit 106 = .ok (.iload 4, 2) := by decide +kernel
theorem dX7_fit_108 : decode cX7_fit 108 = .ok (.iload 6, 2) := by decide +kernel
theorem dX7_fit_110 : decode cX7_fit 110 = .ok (.invokestatic 114, 3) := by decide +kernel
theorem dX7_fit_113 : decode cX7_fit 113 = .ok (.iastore, 1) := by decide +kernel
theorem dX7_fit_114 : decode cX7_fit 114 = .ok (.aload_n 0, 1) := by decide +kernel
theorem dX7_fit_115 : decode cX7_fit 115 = .ok (.getfield 41, 3) := by decide +kernel
theorem dX7_fit_118 : decode cX7_fit 118 = .ok (.iload 4, 2) := by decide +kernel
theorem dX7_fit_120 : decode cX7_fit 120 = .ok (.iconst 1, 1) := by decide +kernel
theorem dX7_fit_121 : decode cX7_fit 121 = .ok (.iadd, 1) := by decide +kernel
theorem dX7_fit_122 : decode cX7_fit 122 = .ok (.iload 6, 2) := by decide +kernel
theorem dX7_fit_124 : decode cX7_fit 124 = .ok (.invokestatic 103, 3) := by decide +kernel
theorem dX7_fit_127 : decode cX7_fit 127 = .ok (.iastore, 1) := by decide +kernel
theorem dX7_fit_128 : decode cX7_fit 128 = .ok (.iinc 4 2, 3) := by decide +kernel
theorem dX7_fit_131 : decode cX7_fit 131 = .ok (.iinc 5 1, 3) := by decide +kernel
theorem dX7_fit_134 : decode cX7_fit 134 = .ok (.goto (-90), 3) := by decide +kernel
theorem dX7_fit_137 : decode cX7_fit 137 = .ok (.iload 4, 2) := by decide +kernel
theorem dX7_fit_139 : decode cX7_fit 139 = .ok (.ifCond .ne 13, 3) := by decide +kernel
theorem dX7_fit_142 : decode cX7_fit 142 = .ok (.iload 5, 2) := by decide +kernel
theorem dX7_fit_144 : decode cX7_fit 144 = .ok (.iload_n 2, 1) := by decide +kernel
theorem dX7_fit_145 : decode cX7_fit 145 = .ok (.if_icmp .ne 7, 3) := by decide +kernel
theorem dX7_fit_148 : decode cX7_fit 148 = .ok (.iconst 1, 1) := by decide +kernel
theorem dX7_fit_149 : decode cX7_fit 149 = .ok (.goto 4, 3) := by decide +kernel
theorem dX7_fit_152 : decode cX7_fit 152 = .ok (.iconst 0, 1) := by decide +kernel
theorem dX7_fit_153 : decode cX7_fit 153 = .ok (.ireturn, 1) := by decide +kernel
abbrev JX7_fit_137 (D : DE) (f : Nat) (Q : Int32 → HI → HL → Prop) (F : Frm) (h : HI) (g : HL) (x2 : Int32) (x4 : Int32) (x5 : Int32) : Prop := ((¬ x4 = 0 → Q 0 h g) ∧ (x4 = 0 → ((¬ x5 = x2 → Q 0 h g) ∧ (x5 = x2 → Q 1 h g))))
theorem bX7_fit_137 {D : DE} {f : Nat} {Q : Int32 → HI → HL → Prop} {F : Frm} {h : HI} {g : HL} (hF : k_Fix F) (x2 : Int32) (x4 : Int32) (x5 : Int32) (H : JX7_fit_137 D f Q F h g x2 x4 x5) : V D mX7_fit (f + 1) (qi F Q) 137 [(2, .int x2), (4, .int x4), (5, .int x5)] [] (F, h, g) := by
  refine V_iload dX7_fit_137 1 rfl ?_
  refine V_if_ne (tgt := 152) dX7_fit_139 (by decide) (fun c1 => ?_) (fun c1 => ?_)
  · have H := H.1 c1
    refine V_iconst (v := 0) dX7_fit_152 (by decide) ?_
    exact H_zret rfl isB0 dX7_fit_153 H
  · have H := H.2 c1
    refine V_iload dX7_fit_142 2 rfl ?_
    refine V_iload_n dX7_fit_144 rfl 0 rfl ?_
    refine V_icmp_ne (tgt := 152) dX7_fit_145 (by decide) (fun c2 => ?_) (fun c2 => ?_)
    · have H := H.1 c2
      refine V_iconst (v := 0) dX7_fit_152 (by decide) ?_
      exact H_zret rfl isB0 dX7_fit_153 H
    · have H := H.2 c2
      refine V_iconst (v := 1) dX7_fit_148 (by decide) ?_
      refine V_goto (tgt := 153) dX7_fit_149 (by decide) ?_
      exact H_zret rfl isB1 dX7_fit_153 H
abbrev JX7_fit_131 (D : DE) (f : Nat) (Q : Int32 → HI → HL → Prop) (F : Frm) (h : HI) (g : HL) (x1 : Nat) (x2 : Int32) (x4 : Int32) (x5 : Int32) : Prop := ∀ y1 : Int32, y1 = x5 + 1 → V D mX7_fit (f + 1) (qi F Q) 44 [(0, .ref (ad D 101)), (1, .ref (ad D x1)), (2, .int x2), (4, .int x4), (5, .int y1)] [] (F, h, g)
theorem bX7_fit_131 {D : DE} {f : Nat} {Q : Int32 → HI → HL → Prop} {F : Frm} {h : HI} {g : HL} (hF : k_Fix F) (x1 : Nat) (x2 : Int32) (x4 : Int32) (x5 : Int32) (H : JX7_fit_131 D f Q F h g x1 x2 x4 x5) : V D mX7_fit (f + 1) (qi F Q) 131 [(0, .ref (ad D 101)), (1, .ref (ad D x1)), (2, .int x2), (4, .int x4), (5, .int x5)] [] (F, h, g) := by
  obtain ⟨y1, e2⟩ : ∃ y : Int32, y = x5 + 1 := ⟨_, rfl⟩
  have H := H y1 e2
  refine V_iinc (j := 4) (v := y1) (l1 := [(5, .int y1), (0, .ref (ad D 101)), (1, .ref (ad D x1)), (2, .int x2), (4, .int x4)]) dX7_fit_131 rfl (by rw [e2]; rfl) (by decide) rfl ?_
  refine V_goto (tgt := 44) dX7_fit_134 (by decide) ?_
  refine V.sub [1, 2, 3, 4, 0] rfl ?_
  exact H
abbrev JX7_fit_94 (D : DE) (f : Nat) (Q : Int32 → HI → HL → Prop) (F : Frm) (h : HI) (g : HL) (x1 : Nat) (x2 : Int32) (x4 : Int32) (x5 : Int32) (x6 : Int32) : Prop := ∃ m1 : Nat, F.2.1 x1 = (0, m1) ∧ vp_in x5 m1 ∧ ((¬ (h x1 (ix x5)) = 2 → JX7_fit_131 D f Q F h g x1 x2 x4 x5) ∧ ((h x1 (ix x5)) = 2 → Si D f mX1_right [.int x6] F h g (fun y5 h6 g7 => vp_in x4 16 ∧ ∀ h9, h9 = up2 h6 110 (ix x4) y5 → Si D f mX1_left [.int x6] F h9 g7 (fun y11 h12 g13 => vp_in (x4 + 1) 16 ∧ ∀ h15, h15 = up2 h12 110 (ix (x4 + 1)) y11 → ∀ y17 : Int32, y17 = x4 + 2 → JX7_fit_131 D f Q F h15 g13 x1 x2 y17 x5))))
theorem bX7_fit_94 {D : DE} {f : Nat} {Q : Int32 → HI → HL → Prop} {F : Frm} {h : HI} {g : HL} (hF : k_Fix F) (x1 : Nat) (x2 : Int32) (x4 : Int32) (x5 : Int32) (x6 : Int32) (H : JX7_fit_94 D f Q F h g x1 x2 x4 x5 x6) : V D mX7_fit (f + 1) (qi F Q) 94 [(0, .ref (ad D 101)), (1, .ref (ad D x1)), (2, .int x2), (4, .int x4), (5, .int x5), (6, .int x6)] [] (F, h, g) := by
  refine V_aload_n dX7_fit_94 rfl 1 rfl ?_
  refine V_iload dX7_fit_95 4 rfl ?_
  obtain ⟨m1, z2, H⟩ := H
  obtain ⟨i3, H⟩ := H
  refine H_iald z2 i3 dX7_fit_97 ?_
  refine V_iconst (v := 2) dX7_fit_98 (by decide) ?_
  refine V_icmp_ne (tgt := 131) dX7_fit_99 (by decide) (fun c4 => ?_) (fun c4 => ?_)
  · have H := H.1 c4
    refine V.sub [0, 1, 2, 3, 4] rfl ?_
    exact bX7_fit_131 hF x1 x2 x4 x5 H
  · have H := H.2 c4
    refine V_aload_n dX7_fit_102 rfl 0 rfl ?_
    refine H_getr ck6 22 (by decide) (fs_101 hF) (by decide) rfl (fr_101_22 hF) q322 dX7_fit_103 ?_
    refine V_iload dX7_fit_106 3 rfl ?_
    refine V_iload dX7_fit_108 5 rfl ?_
    refine H_calli (av := [.int x6]) (rest := [.int x4, .ref (ad D 110)]) H mqX1_right q81 (by decide) (Nat.le_of_ble_eq_true rfl) (k_resSN (av := [.int x6]) (rest := [.int x4, .ref (ad D 110)]) (M1 := mX1_right) rfl q1323 q1008 q81 mqX1_right (fun _ _ h => mW_named h) mhX1_right mnX1_right dX7_fit_110) (fun y5 h6 g7 H => ?_)
    obtain ⟨i8, H⟩ := H
    refine H_iast (fs_110 hF) i8 dX7_fit_113 (fun h9 e10 => ?_)
    have H := H h9 e10
    refine V_aload_n dX7_fit_114 rfl 0 rfl ?_
    refine H_getr ck6 22 (by decide) (fs_101 hF) (by decide) rfl (fr_101_22 hF) q322 dX7_fit_115 ?_
    refine V_iload dX7_fit_118 3 rfl ?_
    refine V_iconst (v := 1) dX7_fit_120 (by decide) ?_
    refine V_iadd dX7_fit_121 ?_
    refine V_iload dX7_fit_122 5 rfl ?_
    refine H_calli (av := [.int x6]) (rest := [.int (x4 + 1), .ref (ad D 110)]) H mqX1_left q81 (by decide) (Nat.le_of_ble_eq_true rfl) (k_resSN (av := [.int x6]) (rest := [.int (x4 + 1), .ref (ad D 110)]) (M1 := mX1_left) rfl q1324 q1005 q81 mqX1_left (fun _ _ h => mW_named h) mhX1_left mnX1_left dX7_fit_124) (fun y11 h12 g13 H => ?_)
    obtain ⟨i14, H⟩ := H
    refine H_iast (fs_110 hF) i14 dX7_fit_127 (fun h15 e16 => ?_)
    have H := H h15 e16
    obtain ⟨y17, e18⟩ : ∃ y : Int32, y = x4 + 2 := ⟨_, rfl⟩
    have H := H y17 e18
    refine V_iinc (j := 3) (v := y17) (l1 := [(4, .int y17), (0, .ref (ad D 101)), (1, .ref (ad D x1)), (2, .int x2), (5, .int x5), (6, .int x6)]) dX7_fit_128 rfl (by rw [e18]; rfl) (by decide) rfl ?_
    refine V.sub [1, 2, 3, 0, 4] rfl ?_
    exact bX7_fit_131 hF x1 x2 y17 x5 H
abbrev JX7_fit_79 (D : DE) (f : Nat) (Q : Int32 → HI → HL → Prop) (F : Frm) (h : HI) (g : HL) (x1 : Nat) (x2 : Int32) (x4 : Int32) (x5 : Int32) (x6 : Int32) : Prop := ∃ m1 : Nat, F.2.1 x1 = (0, m1) ∧ vp_in x5 m1 ∧ ((¬ (h x1 (ix x5)) = 2 → JX7_fit_94 D f Q F h g x1 x2 x4 x5 x6) ∧ ((h x1 (ix x5)) = 2 → ((¬ x6 = 0 → JX7_fit_94 D f Q F h g x1 x2 x4 x5 x6) ∧ (x6 = 0 → Q 0 h g))))
theorem bX7_fit_79 {D : DE} {f : Nat} {Q : Int32 → HI → HL → Prop} {F : Frm} {h : HI} {g : HL} (hF : k_Fix F) (x1 : Nat) (x2 : Int32) (x4 : Int32) (x5 : Int32) (x6 : Int32) (H : JX7_fit_79 D f Q F h g x1 x2 x4 x5 x6) : V D mX7_fit (f + 1) (qi F Q) 79 [(0, .ref (ad D 101)), (1, .ref (ad D x1)), (2, .int x2), (4, .int x4), (5, .int x5), (6, .int x6)] [] (F, h, g) := by
  refine V_aload_n dX7_fit_79 rfl 1 rfl ?_
  refine V_iload dX7_fit_80 4 rfl ?_
  obtain ⟨m1, z2, H⟩ := H
  obtain ⟨i3, H⟩ := H
  refine H_iald z2 i3 dX7_fit_82 ?_
  refine V_iconst (v := 2) dX7_fit_83 (by decide) ?_
  refine V_icmp_ne (tgt := 94) dX7_fit_84 (by decide) (fun c4 => ?_) (fun c4 => ?_)
  · have H := H.1 c4
    exact bX7_fit_94 hF x1 x2 x4 x5 x6 H
  · have H := H.2 c4
    refine V_iload dX7_fit_87 5 rfl ?_
    refine V_if_ne (tgt := 94) dX7_fit_89 (by decide) (fun c5 => ?_) (fun c5 => ?_)
    · have H := H.1 c5
      exact bX7_fit_94 hF x1 x2 x4 x5 x6 H
    · have H := H.2 c5
      refine V_iconst (v := 0) dX7_fit_92 (by decide) ?_
      exact H_zret rfl isB0 dX7_fit_93 H
abbrev JX7_fit_44 (D : DE) (f : Nat) (Q : Int32 → HI → HL → Prop) (F : Frm) (h : HI) (g : HL) (x1 : Nat) (x2 : Int32) (x4 : Int32) (x5 : Int32) : Prop := ((x4 ≤ 0 → JX7_fit_137 D f Q F h g x2 x4 x5) ∧ (¬ x4 ≤ 0 → ((x2 ≤ x5 → JX7_fit_137 D f Q F h g x2 x4 x5) ∧ (¬ x2 ≤ x5 → ∀ y3 : Int32, y3 = x4 + (-1) → vp_in y3 16 ∧ ∀ y6 : Int32, y6 = (h 110 (ix y3)) → ∃ m8 : Nat, F.2.1 x1 = (0, m8) ∧ vp_in x5 m8 ∧ ((¬ (h x1 (ix x5)) = 0 → JX7_fit_79 D f Q F h g x1 x2 y3 x5 y6) ∧ ((h x1 (ix x5)) = 0 → ((¬ y6 = 0 → Q 0 h g) ∧ (y6 = 0 → JX7_fit_79 D f Q F h g x1 x2 y3 x5 y6))))))))
theorem bX7_fit_44 {D : DE} {f : Nat} {Q : Int32 → HI → HL → Prop} {F : Frm} {h : HI} {g : HL} (hF : k_Fix F) (x1 : Nat) (x2 : Int32) (x4 : Int32) (x5 : Int32) (H : JX7_fit_44 D f Q F h g x1 x2 x4 x5) : V D mX7_fit (f + 1) (qi F Q) 44 [(0, .ref (ad D 101)), (1, .ref (ad D x1)), (2, .int x2), (4, .int x4), (5, .int x5)] [] (F, h, g) := by
  refine V_iload dX7_fit_44 3 rfl ?_
  refine V_if_le (tgt := 137) dX7_fit_46 (by decide) (fun c1 => ?_) (fun c1 => ?_)
  · have H := H.1 c1
    refine V.sub [2, 3, 4] rfl ?_
    exact bX7_fit_137 hF x2 x4 x5 H
  · have H := H.2 c1
    refine V_iload dX7_fit_49 4 rfl ?_
    refine V_iload_n dX7_fit_51 rfl 2 rfl ?_
    refine V_icmp_ge (tgt := 137) dX7_fit_52 (by decide) (fun c2 => ?_) (fun c2 => ?_)
    · have H := H.1 c2
      refine V.sub [2, 3, 4] rfl ?_
      exact bX7_fit_137 hF x2 x4 x5 H
    · have H := H.2 c2
      obtain ⟨y3, e4⟩ : ∃ y : Int32, y = x4 + (-1) := ⟨_, rfl⟩
      have H := H y3 e4
      refine V_iinc (j := 3) (v := y3) (l1 := [(4, .int y3), (0, .ref (ad D 101)), (1, .ref (ad D x1)), (2, .int x2), (5, .int x5)]) dX7_fit_55 rfl (by rw [e4]; rfl) (by decide) rfl ?_
      refine V_aload_n dX7_fit_58 rfl 1 rfl ?_
      refine H_getr ck6 22 (by decide) (fs_101 hF) (by decide) rfl (fr_101_22 hF) q322 dX7_fit_59 ?_
      refine V_iload dX7_fit_62 0 rfl ?_
      obtain ⟨i5, H⟩ := H
      refine H_iald (fs_110 hF) i5 dX7_fit_64 ?_
      refine V_topi (fun y6 e7 => ?_)
      have H := H y6 e7
      refine V_istore (l1 := [(6, .int y6), (4, .int y3), (0, .ref (ad D 101)), (1, .ref (ad D x1)), (2, .int x2), (5, .int x5)]) dX7_fit_65 (by decide) rfl ?_
      refine V_aload_n dX7_fit_67 rfl 3 rfl ?_
      refine V_iload dX7_fit_68 5 rfl ?_
      obtain ⟨m8, z9, H⟩ := H
      obtain ⟨i10, H⟩ := H
      refine H_iald z9 i10 dX7_fit_70 ?_
      refine V_if_ne (tgt := 79) dX7_fit_71 (by decide) (fun c11 => ?_) (fun c11 => ?_)
      · have H := H.1 c11
        refine V.sub [2, 3, 4, 1, 5, 0] rfl ?_
        exact bX7_fit_79 hF x1 x2 y3 x5 y6 H
      · have H := H.2 c11
        refine V_iload dX7_fit_74 0 rfl ?_
        refine V_if_ne (tgt := 92) dX7_fit_76 (by decide) (fun c12 => ?_) (fun c12 => ?_)
        · have H := H.1 c12
          refine V_iconst (v := 0) dX7_fit_92 (by decide) ?_
          exact H_zret rfl isB0 dX7_fit_93 H
        · have H := H.2 c12
          refine V.sub [2, 3, 4, 1, 5, 0] rfl ?_
          exact bX7_fit_79 hF x1 x2 y3 x5 y6 H
abbrev JX7_fit_9 (D : DE) (f : Nat) (Q : Int32 → HI → HL → Prop) (F : Frm) (h : HI) (g : HL) (x1 : Nat) (x2 : Int32) (x3 : Nat) (x4 : Int32) (x5 : Int32) : Prop := ((x4 ≤ x5 → V D mX7_fit (f + 1) (qi F Q) 44 [(0, .ref (ad D 101)), (1, .ref (ad D x1)), (2, .int x2), (4, .int x4), (5, .int 0)] [] (F, h, g)) ∧ (¬ x4 ≤ x5 → F.2.1 x3 = (18, 0) ∧ ∃ b3 : Nat, F.2.2 x3 5 = some b3 ∧ ∃ m5 : Nat, F.2.1 b3 = (0, m5) ∧ vp_in x5 m5 ∧ vp_in ((x4 - 1) - x5) 16 ∧ ∀ h9, h9 = up2 h 110 (ix ((x4 - 1) - x5)) (h b3 (ix x5)) → ∀ y11 : Int32, y11 = x5 + 1 → V D mX7_fit (f + 1) (qi F Q) 9 [(0, .ref (ad D 101)), (1, .ref (ad D x1)), (2, .int x2), (3, .ref (ad D x3)), (4, .int x4), (5, .int y11)] [] (F, h9, g)))
theorem bX7_fit_9 {D : DE} {f : Nat} {Q : Int32 → HI → HL → Prop} {F : Frm} {h : HI} {g : HL} (hF : k_Fix F) (x1 : Nat) (x2 : Int32) (x3 : Nat) (x4 : Int32) (x5 : Int32) (H : JX7_fit_9 D f Q F h g x1 x2 x3 x4 x5) : V D mX7_fit (f + 1) (qi F Q) 9 [(0, .ref (ad D 101)), (1, .ref (ad D x1)), (2, .int x2), (3, .ref (ad D x3)), (4, .int x4), (5, .int x5)] [] (F, h, g) := by
  refine V_iload dX7_fit_9 5 rfl ?_
  refine V_iload dX7_fit_11 4 rfl ?_
  refine V_icmp_ge (tgt := 41) dX7_fit_13 (by decide) (fun c1 => ?_) (fun c1 => ?_)
  · have H := H.1 c1
    refine V_iconst (v := 0) dX7_fit_41 (by decide) ?_
    refine V_istore (l1 := [(5, .int 0), (0, .ref (ad D 101)), (1, .ref (ad D x1)), (2, .int x2), (3, .ref (ad D x3)), (4, .int x4)]) dX7_fit_42 (by decide) rfl ?_
    refine V.sub [1, 2, 3, 5, 0] rfl ?_
    exact H
  · have H := H.2 c1
    refine V_aload_n dX7_fit_16 rfl 0 rfl ?_
    refine H_getr ck6 22 (by decide) (fs_101 hF) (by decide) rfl (fr_101_22 hF) q322 dX7_fit_17 ?_
    refine V_iload dX7_fit_20 4 rfl ?_
    refine V_iconst (v := 1) dX7_fit_22 (by decide) ?_
    refine V_isub dX7_fit_23 ?_
    refine V_iload dX7_fit_24 5 rfl ?_
    refine V_isub dX7_fit_26 ?_
    refine V_aload_n dX7_fit_27 rfl 3 rfl ?_
    obtain ⟨z2, H⟩ := H
    obtain ⟨b3, z4, H⟩ := H
    refine H_getrN ck8 5 (by decide) z2 (by decide) rfl z4 q687 dX7_fit_28 ?_
    refine V_iload dX7_fit_31 5 rfl ?_
    obtain ⟨m5, z6, H⟩ := H
    obtain ⟨i7, H⟩ := H
    refine H_iald z6 i7 dX7_fit_33 ?_
    obtain ⟨i8, H⟩ := H
    refine H_iast (fs_110 hF) i8 dX7_fit_34 (fun h9 e10 => ?_)
    have H := H h9 e10
    obtain ⟨y11, e12⟩ : ∃ y : Int32, y = x5 + 1 := ⟨_, rfl⟩
    have H := H y11 e12
    refine V_iinc (j := 5) (v := y11) (l1 := [(5, .int y11), (0, .ref (ad D 101)), (1, .ref (ad D x1)), (2, .int x2), (3, .ref (ad D x3)), (4, .int x4)]) dX7_fit_35 rfl (by rw [e12]; rfl) (by decide) rfl ?_
    refine V_goto (tgt := 9) dX7_fit_38 (by decide) ?_
    refine V.sub [1, 2, 3, 4, 5, 0] rfl ?_
    exact H
abbrev JX7_fit_0 (D : DE) (f : Nat) (Q : Int32 → HI → HL → Prop) (F : Frm) (h : HI) (g : HL) (x1 : Nat) (x2 : Int32) (x3 : Nat) : Prop := F.2.1 x3 = (18, 0) ∧ ∀ y2 : Int32, y2 = (h x3 1) → V D mX7_fit (f + 1) (qi F Q) 9 [(0, .ref (ad D 101)), (1, .ref (ad D x1)), (2, .int x2), (3, .ref (ad D x3)), (4, .int y2), (5, .int 0)] [] (F, h, g)
theorem bX7_fit_0 {D : DE} {f : Nat} {Q : Int32 → HI → HL → Prop} {F : Frm} {h : HI} {g : HL} (hF : k_Fix F) (x1 : Nat) (x2 : Int32) (x3 : Nat) (H : JX7_fit_0 D f Q F h g x1 x2 x3) : V D mX7_fit (f + 1) (qi F Q) 0 [(0, .ref (ad D 101)), (1, .ref (ad D x1)), (2, .int x2), (3, .ref (ad D x3))] [] (F, h, g) := by
  refine V_aload_n dX7_fit_0 rfl 3 rfl ?_
  obtain ⟨z1, H⟩ := H
  refine H_getiN ck8 1 (by decide) z1 (by decide) rfl q666 dX7_fit_1 ?_
  refine V_topi (fun y2 e3 => ?_)
  have H := H y2 e3
  refine V_istore (l1 := [(4, .int y2), (0, .ref (ad D 101)), (1, .ref (ad D x1)), (2, .int x2), (3, .ref (ad D x3))]) dX7_fit_4 (by decide) rfl ?_
  refine V_iconst (v := 0) dX7_fit_6 (by decide) ?_
  refine V_istore (l1 := [(5, .int 0), (4, .int y2), (0, .ref (ad D 101)), (1, .ref (ad D x1)), (2, .int x2), (3, .ref (ad D x3))]) dX7_fit_7 (by decide) rfl ?_
  refine V.sub [2, 3, 4, 5, 1, 0] rfl ?_
  exact H
theorem wX7_fit {D : DE} {f : Nat} {Q : Int32 → HI → HL → Prop} {F : Frm} {h : HI} {g : HL} (hF : k_Fix F) (x1 : Nat) (x2 : Int32) (x3 : Nat) (H : JX7_fit_0 D f Q F h g x1 x2 x3) : Si D (f + 1) mX7_fit [.ref (ad D 101), .ref (ad D x1), .int x2, .ref (ad D x3)] F h g Q := Cl.ofV (by decide) (Nat.le_of_ble_eq_true rfl) rfl (bX7_fit_0 hF x1 x2 x3 H)
theorem dX7_run_0 : decode cX7_run 0 = .ok (.aload_n 0, 1) := by decide +kernel
theorem dX7_run_1 : decode cX7_run 1 = .ok (.invokevirtual 139, 3) := by decide +kernel
theorem dX7_run_4 : decode cX7_run 4 = .ok (.aload_n 0, 1) := by decide +kernel
theorem dX7_run_5 : decode cX7_run 5 = .ok (.iload_n 3, 1) := by decide +kernel
theorem dX7_run_6 : decode cX7_run 6 = .ok (.putfield 75, 3) := by decide +kernel
theorem dX7_run_9 : decode cX7_run 9 = .ok (.aload_n 0, 1) := by decide +kernel
theorem dX7_run_10 : decode cX7_run 10 = .ok (.aload_n 1, 1) := by decide +kernel
theorem dX7_run_11 : decode cX7_run 11 = .ok (.getfield 142, 3) := by decide +kernel
theorem dX7_run_14 : decode cX7_run 14 = .ok (.putfield 145, 3) := by decide +kernel
theorem dX7_run_17 : decode cX7_run 17 = .ok (.aload_n 0, 1) := by decide +kernel
theorem dX7_run_18 : decode cX7_run 18 = .ok (.aload_n 1, 1) := by decide +kernel
theorem dX7_run_19 : decode cX7_run 19 = .ok (.getfield 133, 3) := by decide +kernel
theorem dX7_run_22 : decode cX7_run 22 = .ok (.putfield 72, 3) := by decide +kernel
theorem dX7_run_25 : decode cX7_run 25 = .ok (.aload_n 0, 1) := by decide +kernel
theorem dX7_run_26 : decode cX7_run 26 = .ok (.iconst 0, 1) := by decide +kernel
theorem dX7_run_27 : decode cX7_run 27 = .ok (.putfield 126, 3) := by decide +kernel
theorem dX7_run_30 : decode cX7_run 30 = .ok (.iconst 0, 1) := by decide +kernel
theorem dX7_run_31 : decode cX7_run 31 = .ok (.istore 6, 2) := by decide +kernel
theorem dX7_run_33 : decode cX7_run 33 = .ok (.iload 6, 2) := by decide +kernel
theorem dX7_run_35 : decode cX7_run 35 = .ok (.aload_n 1, 1) := by decide +kernel
theorem dX7_run_36 : decode cX7_run 36 = .ok (.getfield 133, 3) := by decide +kernel
theorem dX7_run_39 : decode cX7_run 39 = .ok (.if_icmp .ge 31, 3) := by decide +kernel
theorem dX7_run_42 : decode cX7_run 42 = .ok (.aload_n 0, 1) := by decide +kernel
theorem dX7_run_43 : decode cX7_run 43 = .ok (.getfield 34, 3) := by decide +kernel
theorem dX7_run_46 : decode cX7_run 46 = .ok (.iload 6, 2) := by decide +kernel
theorem dX7_run_48 : decode cX7_run 48 = .ok (.aload_n 0, 1) := by decide +kernel
theorem dX7_run_49 : decode cX7_run 49 = .ok (.aload 4, 2) := by decide +kernel
theorem dX7_run_51 : decode cX7_run 51 = .ok (.aload 5, 2) := by decide +kernel
theorem dX7_run_53 : decode cX7_run 53 = .ok (.aload_n 1, 1) := by decide +kernel
theorem dX7_run_54 : decode cX7_run 54 = .ok (.getfield 136, 3) := by decide +kernel
theorem dX7_run_57 : decode cX7_run 57 = .ok (.iload 6, 2) := by decide +kernel
theorem dX7_run_59 : decode cX7_run 59 = .ok (.iaload, 1) := by decide +kernel
theorem dX7_run_60 : decode cX7_run 60 = .ok (.invokevirtual 129, 3) := by decide +kernel
theorem dX7_run_63 : decode cX7_run 63 = .ok (.iastore, 1) := by decide +kernel
theorem dX7_run_64 : decode cX7_run 64 = .ok (.iinc 6 1, 3) := by decide +kernel
theorem dX7_run_67 : decode cX7_run 67 = .ok (.goto (-34), 3) := by decide +kernel
theorem dX7_run_70 : decode cX7_run 70 = .ok (.aload_n 0, 1) := by decide +kernel
theorem dX7_run_71 : decode cX7_run 71 = .ok (.aload_n 0, 1) := by decide +kernel
theorem dX7_run_72 : decode cX7_run 72 = .ok (.getfield 44, 3) := by decide +kernel
theorem dX7_run_75 : decode cX7_run 75 = .ok (.putfield 54, 3) := by decide +kernel
theorem dX7_run_78 : decode cX7_run 78 = .ok (.aload_n 0, 1) := by decide +kernel
theorem dX7_run_79 : decode cX7_run 79 = .ok (.aload_n 0, 1) := by decide +kernel
theorem dX7_run_80 : decode cX7_run 80 = .ok (.getfield 48, 3) := by decide +kernel
theorem dX7_run_83 : decode cX7_run 83 = .ok (.putfield 57, 3) := by decide +kernel
theorem dX7_run_86 : decode cX7_run 86 = .ok (.aload_n 0, 1) := by decide +kernel
theorem dX7_run_87 : decode cX7_run 87 = .ok (.aload_n 0, 1) := by decide +kernel
theorem dX7_run_88 : decode cX7_run 88 = .ok (.aload_n 1, 1) := by decide +kernel
theorem dX7_run_89 : decode cX7_run 89 = .ok (.getfield 146, 3) := by decide +kernel
theorem dX7_run_92 : decode cX7_run 92 = .ok (.iconst 0, 1) := by decide +kernel
theorem dX7_run_93 : decode cX7_run 93 = .ok (.invokevirtual 100, 3) := by decide +kernel
theorem dX7_run_96 : decode cX7_run 96 = .ok (.putfield 150, 3) := by decide +kernel
theorem dX7_run_99 : decode cX7_run 99 = .ok (.aload_n 0, 1) := by decide +kernel
theorem dX7_run_100 : decode cX7_run 100 = .ok (.aload_n 0, 1) := by decide +kernel
theorem dX7_run_101 : decode cX7_run 101 = .ok (.getfield 150, 3) := by decide +kernel
theorem dX7_run_104 : decode cX7_run 104 = .ok (.aload_n 0, 1) := by decide +kernel
theorem dX7_run_105 : decode cX7_run 105 = .ok (.getfield 145, 3) := by decide +kernel
theorem dX7_run_108 : decode cX7_run 108 = .ok (.iload_n 2, 1) := by decide +kernel
theorem dX7_run_109 : decode cX7_run 109 = .ok (.invokevirtual 123, 3) := by decide +kernel
theorem dX7_run_112 : decode cX7_run 112 = .ok (.aload_n 0, 1) := by decide +kernel
theorem dX7_run_113 : decode cX7_run 113 = .ok (.iconst 1, 1) := by decide +kernel
theorem dX7_run_114 : decode cX7_run 114 = .ok (.invokevirtual 78, 3) := by decide +kernel
theorem dX7_run_117 : decode cX7_run 117 = .ok (.aload_n 0, 1) := by decide +kernel
theorem dX7_run_118 : decode cX7_run 118 = .ok (.getfield 69, 3) := by decide +kernel
theorem dX7_run_121 : decode cX7_run 121 = .ok (.ireturn, 1) := by decide +kernel
abbrev JX7_run_33 (D : DE) (f : Nat) (Q : Int32 → Frm → HI → HL → Prop) (T : Nat → Frm → HI → HL → Prop) (F : Frm) (h : HI) (g : HL) (x1 : Nat) (x2 : Int32) (x4 : Nat) (x5 : Nat) (x6 : Int32) : Prop := F.2.1 x1 = (18, 0) ∧ (((h x1 1) ≤ x6 → ∀ h3, h3 = up2 h 101 10 (h 101 4) → ∀ h5, h5 = up2 h3 101 11 (h3 101 7) → ∃ b7 : Nat, F.2.2 x1 6 = some b7 ∧ Gi D f mX7_work [.ref (ad D 101), .ref (ad D b7), .int 0] F h5 g (fun y9 F12 h10 g11 => ∀ h15, h15 = up2 h10 101 17 y9 → Gv D f mX7_ask [.ref (ad D 101), .int (h15 101 17), .int (h15 101 18), .int x2] F12 h15 g11 (fun F19 h17 g18 => Sv D f mX7_ends [.ref (ad D 101), .int 1] F19 h17 g18 (fun h22 g23 => Q (h22 101 16) F19 h22 g23)) T) T) ∧ (¬ (h x1 1) ≤ x6 → ∃ b24 : Nat, F.2.2 x1 5 = some b24 ∧ ∃ m26 : Nat, F.2.1 b24 = (0, m26) ∧ vp_in x6 m26 ∧ Gi D f mX7_input [.ref (ad D 101), .ref (ad D x4), .ref (ad D x5), .int (h b24 (ix x6))] F h g (fun y29 F32 h30 g31 => vp_in x6 24016 ∧ ∀ h36, h36 = up2 h30 108 (ix x6) y29 → ∀ y38 : Int32, y38 = x6 + 1 → V D mX7_run (f + 1) (gi Q T) 33 [(0, .ref (ad D 101)), (1, .ref (ad D x1)), (2, .int x2), (4, .ref (ad D x4)), (5, .ref (ad D x5)), (6, .int y38)] [] (F32, h36, g31)) T))
theorem bX7_run_33 {D : DE} {f : Nat} {Q : Int32 → Frm → HI → HL → Prop} {T : Nat → Frm → HI → HL → Prop} {F : Frm} {h : HI} {g : HL} (hF : k_Fix F) (x1 : Nat) (x2 : Int32) (x4 : Nat) (x5 : Nat) (x6 : Int32) (H : JX7_run_33 D f Q T F h g x1 x2 x4 x5 x6) : V D mX7_run (f + 1) (gi Q T) 33 [(0, .ref (ad D 101)), (1, .ref (ad D x1)), (2, .int x2), (4, .ref (ad D x4)), (5, .ref (ad D x5)), (6, .int x6)] [] (F, h, g) := by
  refine V_iload dX7_run_33 5 rfl ?_
  refine V_aload_n dX7_run_35 rfl 1 rfl ?_
  obtain ⟨z1, H⟩ := H
  refine H_getiN ck8 1 (by decide) z1 (by decide) rfl q666 dX7_run_36 ?_
  refine V_icmp_ge (tgt := 70) dX7_run_39 (by decide) (fun c2 => ?_) (fun c2 => ?_)
  · have H := H.1 c2
    refine V_aload_n dX7_run_70 rfl 0 rfl ?_
    refine V_aload_n dX7_run_71 rfl 0 rfl ?_
    refine H_geti ck6 4 (by decide) (fs_101 hF) (by decide) rfl q280 dX7_run_72 ?_
    refine H_puti ck6 10 (by decide) (fs_101 hF) (by decide) rfl rfl q298 dX7_run_75 (fun h3 e4 => ?_)
    have H := H h3 e4
    refine V_aload_n dX7_run_78 rfl 0 rfl ?_
    refine V_aload_n dX7_run_79 rfl 0 rfl ?_
    refine H_geti ck6 7 (by decide) (fs_101 hF) (by decide) rfl q288 dX7_run_80 ?_
    refine H_puti ck6 11 (by decide) (fs_101 hF) (by decide) rfl rfl q300 dX7_run_83 (fun h5 e6 => ?_)
    have H := H h5 e6
    refine V_aload_n dX7_run_86 rfl 0 rfl ?_
    refine V_aload_n dX7_run_87 rfl 0 rfl ?_
    refine V_aload_n dX7_run_88 rfl 1 rfl ?_
    obtain ⟨b7, z8, H⟩ := H
    refine H_getrN ck8 6 (by decide) z1 (by decide) rfl z8 q693 dX7_run_89 ?_
    refine V_iconst (v := 0) dX7_run_92 (by decide) ?_
    refine G_calli (av := [.ref (ad D 101), .ref (ad D b7), .int 0]) (rest := [.ref (ad D 101)]) H mqX7_work q87 (by decide) (Nat.le_of_ble_eq_true rfl) (k_resV (ci := 6) (av := [.ref (ad D b7), .int 0]) (rest := [.ref (ad D 101)]) (fs_101 hF) (by decide) rfl rfl q1338 q1339 q1340 q1341 mhX7_work mnX7_work dX7_run_93) (fun y9 F12 h10 g11 hF13 H => ?_) (fun a e F1 h1 g1 hF1 ha ht => GT_i hF1 rfl ha ht)
    refine H_puti ck6 17 (by decide) (fs_101 hF13) (by decide) rfl rfl q313 dX7_run_96 (fun h15 e16 => ?_)
    have H := H h15 e16
    refine V_aload_n dX7_run_99 rfl 0 rfl ?_
    refine V_aload_n dX7_run_100 rfl 0 rfl ?_
    refine H_geti ck6 17 (by decide) (fs_101 hF13) (by decide) rfl q313 dX7_run_101 ?_
    refine V_aload_n dX7_run_104 rfl 0 rfl ?_
    refine H_geti ck6 18 (by decide) (fs_101 hF13) (by decide) rfl q315 dX7_run_105 ?_
    refine V_iload_n dX7_run_108 rfl 2 rfl ?_
    refine G_callv (av := [.ref (ad D 101), .int (h15 101 17), .int (h15 101 18), .int x2]) (rest := []) H mqX7_ask q87 (by decide) (Nat.le_of_ble_eq_true rfl) (k_resV (ci := 6) (av := [.int (h15 101 17), .int (h15 101 18), .int x2]) (rest := []) (fs_101 hF13) (by decide) rfl rfl q1416 q1417 q1418 q1419 mhX7_ask mnX7_ask dX7_run_109) (fun F19 h17 g18 hF20 H => ?_) (fun a e F1 h1 g1 hF1 ha ht => GT_i hF1 rfl ha ht)
    refine V_aload_n dX7_run_112 rfl 0 rfl ?_
    refine V_iconst (v := 1) dX7_run_113 (by decide) ?_
    refine H_callv (av := [.ref (ad D 101), .int 1]) (rest := []) H mqX7_ends q87 (by decide) (Nat.le_of_ble_eq_true rfl) (k_resV (ci := 6) (av := [.int 1]) (rest := []) (fs_101 hF20) (by decide) rfl rfl q1342 q1343 q1344 q1345 mhX7_ends mnX7_ends dX7_run_114) (fun h22 g23 H => ?_)
    refine V_aload_n dX7_run_117 rfl 0 rfl ?_
    refine H_geti ck6 16 (by decide) (fs_101 hF20) (by decide) rfl q308 dX7_run_118 ?_
    exact G_iret hF20 rfl dX7_run_121 H
  · have H := H.2 c2
    refine V_aload_n dX7_run_42 rfl 0 rfl ?_
    refine H_getr ck6 8 (by decide) (fs_101 hF) (by decide) rfl (fr_101_8 hF) q290 dX7_run_43 ?_
    refine V_iload dX7_run_46 5 rfl ?_
    refine V_aload_n dX7_run_48 rfl 0 rfl ?_
    refine V_aload dX7_run_49 3 rfl ?_
    refine V_aload dX7_run_51 4 rfl ?_
    refine V_aload_n dX7_run_53 rfl 1 rfl ?_
    obtain ⟨b24, z25, H⟩ := H
    refine H_getrN ck8 5 (by decide) z1 (by decide) rfl z25 q687 dX7_run_54 ?_
    refine V_iload dX7_run_57 5 rfl ?_
    obtain ⟨m26, z27, H⟩ := H
    obtain ⟨i28, H⟩ := H
    refine H_iald z27 i28 dX7_run_59 ?_
    refine G_calli (av := [.ref (ad D 101), .ref (ad D x4), .ref (ad D x5), .int (h b24 (ix x6))]) (rest := [.int x6, .ref (ad D 108)]) H mqX7_input q87 (by decide) (Nat.le_of_ble_eq_true rfl) (k_resV (ci := 6) (av := [.ref (ad D x4), .ref (ad D x5), .int (h b24 (ix x6))]) (rest := [.int x6, .ref (ad D 108)]) (fs_101 hF) (by decide) rfl rfl q1330 q1332 qs26 q1333 mhX7_input mnX7_input dX7_run_60) (fun y29 F32 h30 g31 hF33 H => ?_) (fun a e F1 h1 g1 hF1 ha ht => GT_i hF1 rfl ha ht)
    obtain ⟨i35, H⟩ := H
    refine H_iast (fs_108 hF33) i35 dX7_run_63 (fun h36 e37 => ?_)
    have H := H h36 e37
    obtain ⟨y38, e39⟩ : ∃ y : Int32, y = x6 + 1 := ⟨_, rfl⟩
    have H := H y38 e39
    refine V_iinc (j := 5) (v := y38) (l1 := [(6, .int y38), (0, .ref (ad D 101)), (1, .ref (ad D x1)), (2, .int x2), (4, .ref (ad D x4)), (5, .ref (ad D x5))]) dX7_run_64 rfl (by rw [e39]; rfl) (by decide) rfl ?_
    refine V_goto (tgt := 33) dX7_run_67 (by decide) ?_
    refine V.sub [1, 2, 3, 4, 5, 0] rfl ?_
    exact H
abbrev JX7_run_0 (D : DE) (f : Nat) (Q : Int32 → Frm → HI → HL → Prop) (T : Nat → Frm → HI → HL → Prop) (F : Frm) (h : HI) (g : HL) (x1 : Nat) (x2 : Int32) (x3 : Int32) (x4 : Nat) (x5 : Nat) : Prop := Sv D f mX7_forget [.ref (ad D 101)] F h g (fun h1 g2 => ∀ h3, h3 = up2 h1 101 12 x3 → F.2.1 x1 = (18, 0) ∧ ∀ h6, h6 = up2 h3 101 18 (h3 x1 3) → ∀ h8, h8 = up2 h6 101 19 (h6 x1 1) → ∀ h10, h10 = up2 h8 101 21 0 → V D mX7_run (f + 1) (gi Q T) 33 [(0, .ref (ad D 101)), (1, .ref (ad D x1)), (2, .int x2), (4, .ref (ad D x4)), (5, .ref (ad D x5)), (6, .int 0)] [] (F, h10, g2))
theorem bX7_run_0 {D : DE} {f : Nat} {Q : Int32 → Frm → HI → HL → Prop} {T : Nat → Frm → HI → HL → Prop} {F : Frm} {h : HI} {g : HL} (hF : k_Fix F) (x1 : Nat) (x2 : Int32) (x3 : Int32) (x4 : Nat) (x5 : Nat) (H : JX7_run_0 D f Q T F h g x1 x2 x3 x4 x5) : V D mX7_run (f + 1) (gi Q T) 0 [(0, .ref (ad D 101)), (1, .ref (ad D x1)), (2, .int x2), (3, .int x3), (4, .ref (ad D x4)), (5, .ref (ad D x5))] [] (F, h, g) := by
  refine V_aload_n dX7_run_0 rfl 0 rfl ?_
  refine H_callv (av := [.ref (ad D 101)]) (rest := []) H mqX7_forget q87 (by decide) (Nat.le_of_ble_eq_true rfl) (k_resV (ci := 6) (av := []) (rest := []) (fs_101 hF) (by decide) rfl rfl q1329 q1050 q1051 q1052 mhX7_forget mnX7_forget dX7_run_1) (fun h1 g2 H => ?_)
  refine V_aload_n dX7_run_4 rfl 0 rfl ?_
  refine V_iload_n dX7_run_5 rfl 3 rfl ?_
  refine H_puti ck6 12 (by decide) (fs_101 hF) (by decide) rfl rfl q302 dX7_run_6 (fun h3 e4 => ?_)
  have H := H h3 e4
  refine V_aload_n dX7_run_9 rfl 0 rfl ?_
  refine V_aload_n dX7_run_10 rfl 1 rfl ?_
  obtain ⟨z5, H⟩ := H
  refine H_getiN ck8 3 (by decide) z5 (by decide) rfl q674 dX7_run_11 ?_
  refine H_puti ck6 18 (by decide) (fs_101 hF) (by decide) rfl rfl q315 dX7_run_14 (fun h6 e7 => ?_)
  have H := H h6 e7
  refine V_aload_n dX7_run_17 rfl 0 rfl ?_
  refine V_aload_n dX7_run_18 rfl 1 rfl ?_
  refine H_getiN ck8 1 (by decide) z5 (by decide) rfl q666 dX7_run_19 ?_
  refine H_puti ck6 19 (by decide) (fs_101 hF) (by decide) rfl rfl q317 dX7_run_22 (fun h8 e9 => ?_)
  have H := H h8 e9
  refine V_aload_n dX7_run_25 rfl 0 rfl ?_
  refine V_iconst (v := 0) dX7_run_26 (by decide) ?_
  refine H_puti ck6 21 (by decide) (fs_101 hF) (by decide) rfl rfl q321 dX7_run_27 (fun h10 e11 => ?_)
  have H := H h10 e11
  refine V_iconst (v := 0) dX7_run_30 (by decide) ?_
  refine V_istore (l1 := [(6, .int 0), (0, .ref (ad D 101)), (1, .ref (ad D x1)), (2, .int x2), (3, .int x3), (4, .ref (ad D x4)), (5, .ref (ad D x5))]) dX7_run_31 (by decide) rfl ?_
  refine V.sub [1, 2, 3, 5, 6, 0] rfl ?_
  exact H
theorem wX7_run {D : DE} {f : Nat} {Q : Int32 → Frm → HI → HL → Prop} {T : Nat → Frm → HI → HL → Prop} {F : Frm} {h : HI} {g : HL} (hF : k_Fix F) (x1 : Nat) (x2 : Int32) (x3 : Int32) (x4 : Nat) (x5 : Nat) (H : JX7_run_0 D f Q T F h g x1 x2 x3 x4 x5) : Gi D (f + 1) mX7_run [.ref (ad D 101), .ref (ad D x1), .int x2, .int x3, .ref (ad D x4), .ref (ad D x5)] F h g Q T := Cl.ofV (by decide) (Nat.le_of_ble_eq_true rfl) rfl (bX7_run_0 hF x1 x2 x3 x4 x5 H)
theorem dX7_thingAt_0 : decode cX7_thingAt 0 = .ok (.aload_n 0, 1) := by decide +kernel
theorem dX7_thingAt_1 : decode cX7_thingAt 1 = .ok (.getfield 150, 3) := by decide +kernel
theorem dX7_thingAt_4 : decode cX7_thingAt 4 = .ok (.istore_n 2, 1) := by decide +kernel
theorem dX7_thingAt_5 : decode cX7_thingAt 5 = .ok (.aload_n 0, 1) := by decide +kernel
theorem dX7_thingAt_6 : decode cX7_thingAt 6 = .ok (.getfield 145, 3) := by decide +kernel
theorem dX7_thingAt_9 : decode cX7_thingAt 9 = .ok (.istore_n 3, 1) := by decide +kernel
theorem dX7_thingAt_10 : decode cX7_thingAt 10 = .ok (.iconst (-1), 1) := by decide +kernel
theorem dX7_thingAt_11 : decode cX7_thingAt 11 = .ok (.istore 4, 2) := by decide +kernel
theorem dX7_thingAt_13 : decode cX7_thingAt 13 = .ok (.iload_n 1, 1) := by decide +kernel
theorem dX7_thingAt_14 : decode cX7_thingAt 14 = .ok (.iconst 2, 1) := by decide +kernel
theorem dX7_thingAt_15 : decode cX7_thingAt 15 = .ok (.if_icmp .le 11, 3) := by decide +kernel
theorem dX7_thingAt_18 : decode cX7_thingAt 18 = .ok (.iload_n 1, 1) := by decide +kernel
theorem dX7_thingAt_19 : decode cX7_thingAt 19 = .ok (.iconst 1, 1) := by decide +kernel
theorem dX7_thingAt_20 : decode cX7_thingAt 20 = .ok (.isub, 1) := by decide +kernel
theorem dX7_thingAt_21 : decode cX7_thingAt 21 = .ok (.iconst 1, 1) := by decide +kernel
theorem dX7_thingAt_22 : decode cX7_thingAt 22 = .ok (.ishr, 1) := by decide +kernel
theorem dX7_thingAt_23 : decode cX7_thingAt 23 = .ok (.goto 4, 3) := by decide +kernel
theorem dX7_thingAt_26 : decode cX7_thingAt 26 = .ok (.iload_n 1, 1) := by decide +kernel
theorem dX7_thingAt_27 : decode cX7_thingAt 27 = .ok (.istore 5, 2) := by decide +kernel
theorem dX7_thingAt_29 : decode cX7_thingAt 29 = .ok (.iload 5, 2) := by decide +kernel
theorem dX7_thingAt_31 : decode cX7_thingAt 31 = .ok (.ifCond .lt 114, 3) := by decide +kernel
theorem dX7_thingAt_34 : decode cX7_thingAt 34 = .ok (.iload_n 3, 1) := by decide +kernel
theorem dX7_thingAt_35 : decode cX7_thingAt 35 = .ok (.ifCond .eq 20, 3) := by decide +kernel
theorem dX7_thingAt_38 : decode cX7_thingAt 38 = .ok (.iload 4, 2) := by decide +kernel
theorem dX7_thingAt_40 : decode cX7_thingAt 40 = .ok (.iconst (-1), 1) := by decide +kernel
theorem dX7_thingAt_41 : decode cX7_thingAt 41 = .ok (.if_icmp .eq 16, 3) := by decide +kernel
theorem dX7_thingAt_44 : decode cX7_thingAt 44 = .ok (.aload_n 0, 1) := by decide +kernel
theorem dX7_thingAt_45 : decode cX7_thingAt 45 = .ok (.getfield 21, 3) := by decide +kernel
theorem dX7_thingAt_48 : decode cX7_thingAt 48 = .ok (.iload 4, 2) := by decide +kernel
theorem dX7_thingAt_50 : decode cX7_thingAt 50 = .ok (.baload, 1) := by decide +kernel
theorem dX7_thingAt_51 : decode cX7_thingAt 51 = .ok (.iconst 2, 1) := by decide +kernel
theorem dX7_thingAt_52 : decode cX7_thingAt 52 = .ok (.if_icmp .eq 5, 3) := by decide +kernel
theorem dX7_thingAt_55 : decode cX7_thingAt 55 = .ok (.iconst (-1), 1) := by decide +kernel
theorem dX7_thingAt_56 : decode cX7_thingAt 56 = .ok (.ireturn, 1) := by decide +kernel
theorem dX7_thingAt_57 : decode cX7_thingAt 57 = .ok (.iload 4, 2) := by decide +kernel
theorem dX7_thingAt_59 : decode cX7_thingAt 59 = .ok (.iconst (-1), 1) := by decide +kernel
theorem dX7_thingAt_60 : decode cX7_thingAt 60 = .ok (.if_icmp .ne 7, 3) := by decide +kernel
theorem dX7_thingAt_63 : decode cX7_thingAt 63 = .ok (.iload_n 2, 1) := by decide +kernel
theorem dX7_thingAt_64 : decode cX7_thingAt 64 = .ok (.goto 10, 3) := by decide +kernel
theorem dX7_thingAt_67 : decode cX7_thingAt 67 = .ok (.aload_n 0, 1) := by decide +kernel
theorem dX7_thingAt_68 : decode cX7_thingAt 68 = .ok (.getfield 25, 3) := by decide +kernel
theorem dX7_thingAt_71 : decode cX7_thingAt 71 = .ok (.iload 4, 2) := by decide +kernel
theorem dX7_thingAt_73 : decode cX7_thingAt 73 = .ok (.iaload, 1) := by decide +kernel
theorem dX7_thingAt_74 : decode cX7_thingAt 74 = .ok (.istore_n 2, 1) := by decide +kernel
theorem dX7_thingAt_75 : decode cX7_thingAt 75 = .ok (.iload 5, 2) := by decide +kernel
theorem dX7_thingAt_77 : decode cX7_thingAt 77 = .ok (.iconst 1, 1) := by decide +kernel
theorem dX7_thingAt_78 : decode cX7_thingAt 78 = .ok (.iand, 1) := by decide +kernel
theorem dX7_thingAt_79 : decode cX7_thingAt 79 = .ok (.iconst 1, 1) := by decide +kernel
theorem dX7_thingAt_80 : decode cX7_thingAt 80 = .ok (.if_icmp .ne 7, 3) := by decide +kernel
theorem dX7_thingAt_83 : decode cX7_thingAt 83 = .ok (.iconst 1, 1) := by decide +kernel
theorem dX7_thingAt_84 : decode cX7_thingAt 84 = .ok (.goto 4, 3) := by decide +kernel
theorem dX7_thingAt_87 : decode cX7_thingAt 87 = .ok (.iconst 0, 1) := by decide +kernel
theorem dX7_thingAt_88 : decode cX7_thingAt 88 = .ok (.istore 6, 2) := by decide +kernel
theorem dX7_thingAt_90 : decode cX7_thingAt 90 = .ok (.iload 6, 2) := by decide +kernel
theorem dX7_thingAt_92 : decode cX7_thingAt 92 = .ok (.ifCond .eq 12, 3) := by decide +kernel
theorem dX7_thingAt_95 : decode cX7_thingAt 95 = .ok (.aload_n 0, 1) := by decide +kernel
theorem dX7_thingAt_96 : decode cX7_thingAt 96 = .ok (.getfield 28, 3) := by decide +kernel
theorem dX7_thingAt_99 : decode cX7_thingAt 99 = .ok (.iload_n 2, 1) := by decide +kernel
theorem dX7_thingAt_100 : decode cX7_thingAt 100 = .ok (.iaload, 1) := by decide +kernel
theorem dX7_thingAt_101 : decode cX7_thingAt 101 = .ok (.goto 9, 3) := by decide +kernel
theorem dX7_thingAt_104 : decode cX7_thingAt 104 = .ok (.aload_n 0, 1) := by decide +kernel
theorem dX7_thingAt_105 : decode cX7_thingAt 105 = .ok (.getfield 31, 3) := by decide +kernel
theorem dX7_thingAt_108 : decode cX7_thingAt 108 = .ok (.iload_n 2, 1) := by decide +kernel
theorem dX7_thingAt_109 : decode cX7_thingAt 109 = .ok (.iaload, 1) := by decide +kernel
theorem dX7_thingAt_110 : decode cX7_thingAt 110 = .ok (.istore 4, 2) := by decide +kernel
theorem dX7_thingAt_112 : decode cX7_thingAt 112 = .ok (.iload 6, 2) := by decide +kernel
theorem dX7_thingAt_114 : decode cX7_thingAt 114 = .ok (.ifCond .eq 10, 3) := by decide +kernel
theorem dX7_thingAt_117 : decode cX7_thingAt 117 = .ok (.iload_n 3, 1) := by decide +kernel
theorem dX7_thingAt_118 : decode cX7_thingAt 118 = .ok (.invokestatic 103, 3) := by decide +kernel
theorem dX7_thingAt_121 : decode cX7_thingAt 121 = .ok (.goto 7, 3) := by decide +kernel
theorem dX7_thingAt_124 : decode cX7_thingAt 124 = .ok (.iload_n 3, 1) := by decide +kernel
theorem dX7_thingAt_125 : decode cX7_thingAt 125 = .ok (.invokestatic 114, 3) := by decide +kernel
theorem dX7_thingAt_128 : decode cX7_thingAt 128 = .ok (.istore_n 3, 1) := by decide +kernel
theorem dX7_thingAt_129 : decode cX7_thingAt 129 = .ok (.iload 5, 2) := by decide +kernel
theorem dX7_thingAt_131 : decode cX7_thingAt 131 = .ok (.iload_n 1, 1) := by decide +kernel
theorem dX7_thingAt_132 : decode cX7_thingAt 132 = .ok (.if_icmp .ne 7, 3) := by decide +kernel
theorem dX7_thingAt_135 : decode cX7_thingAt 135 = .ok (.iconst (-1), 1) := by decide +kernel
theorem dX7_thingAt_136 : decode cX7_thingAt 136 = .ok (.goto 4, 3) := by decide +kernel
theorem dX7_thingAt_139 : decode cX7_thingAt 139 = .ok (.iload_n 1, 1) := by decide +kernel
theorem dX7_thingAt_140 : decode cX7_thingAt 140 = .ok (.istore 5, 2) := by decide +kernel
theorem dX7_thingAt_142 : decode cX7_thingAt 142 = .ok (.goto (-113), 3) := by decide +kernel
theorem dX7_thingAt_145 : decode cX7_thingAt 145 = .ok (.iload_n 3, 1) := by decide +kernel
theorem dX7_thingAt_146 : decode cX7_thingAt 146 = .ok (.ifCond .ne 19, 3) := by decide +kernel
theorem dX7_thingAt_149 : decode cX7_thingAt 149 = .ok (.aload_n 0, 1) := by decide +kernel
theorem dX7_thingAt_150 : decode cX7_thingAt 150 = .ok (.getfield 21, 3) := by decide +kernel
theorem dX7_thingAt_153 : decode cX7_thingAt 153 = .ok (.iload 4, 2) := by decide +kernel
theorem dX7_thingAt_155 : decode cX7_thingAt 155 = .ok (.baload, 1) := by decide +kernel
theorem dX7_thingAt_156 : decode cX7_thingAt 156 = .ok (.iconst 2, 1) := by decide +kernel
theorem dX7_thingAt_157 : decode cX7_thingAt 157 = .ok (.if_icmp .ne 8, 3) := by decide +kernel
theorem dX7_thingAt_160 : decode cX7_thingAt 160 = .ok (.iload 4, 2) := by decide +kernel
theorem dX7_thingAt_162 : decode cX7_thingAt 162 = .ok (.goto 4, 3) := by decide +kernel
theorem dX7_thingAt_165 : decode cX7_thingAt 165 = .ok (.iconst (-1), 1) := by decide +kernel
theorem dX7_thingAt_166 : decode cX7_thingAt 166 = .ok (.ireturn, 1) := by decide +kernel
abbrev JX7_thingAt_140 (D : DE) (f : Nat) (Q : Int32 → HI → HL → Prop) (F : Frm) (h : HI) (g : HL) (x1 : Int32) (x2 : Int32) (x3 : Int32) (x4 : Int32) (s0 : Int32) : Prop := V D mX7_thingAt (f + 1) (qi F Q) 29 [(0, .ref (ad D 101)), (1, .int x1), (2, .int x2), (3, .int x3), (4, .int x4), (5, .int s0)] [] (F, h, g)
theorem bX7_thingAt_140 {D : DE} {f : Nat} {Q : Int32 → HI → HL → Prop} {F : Frm} {h : HI} {g : HL} (hF : k_Fix F) (x1 : Int32) (x2 : Int32) (x3 : Int32) (x4 : Int32) (s0 : Int32) (H : JX7_thingAt_140 D f Q F h g x1 x2 x3 x4 s0) : V D mX7_thingAt (f + 1) (qi F Q) 140 [(0, .ref (ad D 101)), (1, .int x1), (2, .int x2), (3, .int x3), (4, .int x4)] [.int s0] (F, h, g) := by
  refine V_istore (l1 := [(5, .int s0), (0, .ref (ad D 101)), (1, .int x1), (2, .int x2), (3, .int x3), (4, .int x4)]) dX7_thingAt_140 (by decide) rfl ?_
  refine V_goto (tgt := 29) dX7_thingAt_142 (by decide) ?_
  refine V.sub [1, 2, 3, 4, 5, 0] rfl ?_
  exact H
abbrev JX7_thingAt_128 (D : DE) (f : Nat) (Q : Int32 → HI → HL → Prop) (F : Frm) (h : HI) (g : HL) (x1 : Int32) (x2 : Int32) (x4 : Int32) (x5 : Int32) (s0 : Int32) : Prop := ((¬ x5 = x1 → JX7_thingAt_140 D f Q F h g x1 x2 s0 x4 x1) ∧ (x5 = x1 → JX7_thingAt_140 D f Q F h g x1 x2 s0 x4 (-1)))
theorem bX7_thingAt_128 {D : DE} {f : Nat} {Q : Int32 → HI → HL → Prop} {F : Frm} {h : HI} {g : HL} (hF : k_Fix F) (x1 : Int32) (x2 : Int32) (x4 : Int32) (x5 : Int32) (s0 : Int32) (H : JX7_thingAt_128 D f Q F h g x1 x2 x4 x5 s0) : V D mX7_thingAt (f + 1) (qi F Q) 128 [(0, .ref (ad D 101)), (1, .int x1), (2, .int x2), (4, .int x4), (5, .int x5)] [.int s0] (F, h, g) := by
  refine V_istore_n (l1 := [(3, .int s0), (0, .ref (ad D 101)), (1, .int x1), (2, .int x2), (4, .int x4), (5, .int x5)]) dX7_thingAt_128 rfl (by decide) rfl ?_
  refine V_iload dX7_thingAt_129 5 rfl ?_
  refine V_iload_n dX7_thingAt_131 rfl 2 rfl ?_
  refine V_icmp_ne (tgt := 139) dX7_thingAt_132 (by decide) (fun c1 => ?_) (fun c1 => ?_)
  · have H := H.1 c1
    refine V_iload_n dX7_thingAt_139 rfl 2 rfl ?_
    refine V.sub [1, 2, 3, 0, 4] rfl ?_
    exact bX7_thingAt_140 hF x1 x2 s0 x4 x1 H
  · have H := H.2 c1
    refine V_iconst (v := (-1)) dX7_thingAt_135 (by decide) ?_
    refine V_goto (tgt := 140) dX7_thingAt_136 (by decide) ?_
    refine V.sub [1, 2, 3, 0, 4] rfl ?_
    exact bX7_thingAt_140 hF x1 x2 s0 x4 (-1) H
abbrev JX7_thingAt_110 (D : DE) (f : Nat) (Q : Int32 → HI → HL → Prop) (F : Frm) (h : HI) (g : HL) (x1 : Int32) (x2 : Int32) (x3 : Int32) (x5 : Int32) (x6 : Int32) (s0 : Int32) : Prop := ((x6 = 0 → Si D f mX1_right [.int x3] F h g (fun y2 h3 g4 => JX7_thingAt_128 D f Q F h3 g4 x1 x2 s0 x5 y2)) ∧ (¬ x6 = 0 → Si D f mX1_left [.int x3] F h g (fun y5 h6 g7 => JX7_thingAt_128 D f Q F h6 g7 x1 x2 s0 x5 y5)))
theorem bX7_thingAt_110 {D : DE} {f : Nat} {Q : Int32 → HI → HL → Prop} {F : Frm} {h : HI} {g : HL} (hF : k_Fix F) (x1 : Int32) (x2 : Int32) (x3 : Int32) (x5 : Int32) (x6 : Int32) (s0 : Int32) (H : JX7_thingAt_110 D f Q F h g x1 x2 x3 x5 x6 s0) : V D mX7_thingAt (f + 1) (qi F Q) 110 [(0, .ref (ad D 101)), (1, .int x1), (2, .int x2), (3, .int x3), (5, .int x5), (6, .int x6)] [.int s0] (F, h, g) := by
  refine V_istore (l1 := [(4, .int s0), (0, .ref (ad D 101)), (1, .int x1), (2, .int x2), (3, .int x3), (5, .int x5), (6, .int x6)]) dX7_thingAt_110 (by decide) rfl ?_
  refine V_iload dX7_thingAt_112 6 rfl ?_
  refine V_if_eq (tgt := 124) dX7_thingAt_114 (by decide) (fun c1 => ?_) (fun c1 => ?_)
  · have H := H.1 c1
    refine V_iload_n dX7_thingAt_124 rfl 4 rfl ?_
    refine H_calli (av := [.int x3]) (rest := []) H mqX1_right q81 (by decide) (Nat.le_of_ble_eq_true rfl) (k_resSN (av := [.int x3]) (rest := []) (M1 := mX1_right) rfl q1323 q1008 q81 mqX1_right (fun _ _ h => mW_named h) mhX1_right mnX1_right dX7_thingAt_125) (fun y2 h3 g4 H => ?_)
    refine V.sub [1, 2, 3, 0, 5] rfl ?_
    exact bX7_thingAt_128 hF x1 x2 s0 x5 y2 H
  · have H := H.2 c1
    refine V_iload_n dX7_thingAt_117 rfl 4 rfl ?_
    refine H_calli (av := [.int x3]) (rest := []) H mqX1_left q81 (by decide) (Nat.le_of_ble_eq_true rfl) (k_resSN (av := [.int x3]) (rest := []) (M1 := mX1_left) rfl q1324 q1005 q81 mqX1_left (fun _ _ h => mW_named h) mhX1_left mnX1_left dX7_thingAt_118) (fun y5 h6 g7 H => ?_)
    refine V_goto (tgt := 128) dX7_thingAt_121 (by decide) ?_
    refine V.sub [1, 2, 3, 0, 5] rfl ?_
    exact bX7_thingAt_128 hF x1 x2 s0 x5 y5 H
abbrev JX7_thingAt_88 (D : DE) (f : Nat) (Q : Int32 → HI → HL → Prop) (F : Frm) (h : HI) (g : HL) (x1 : Int32) (x2 : Int32) (x3 : Int32) (x5 : Int32) (s0 : Int32) : Prop := ((s0 = 0 → vp_in x2 1540 ∧ JX7_thingAt_110 D f Q F h g x1 x2 x3 x5 s0 (h 107 (ix x2))) ∧ (¬ s0 = 0 → vp_in x2 1540 ∧ JX7_thingAt_110 D f Q F h g x1 x2 x3 x5 s0 (h 106 (ix x2))))
theorem bX7_thingAt_88 {D : DE} {f : Nat} {Q : Int32 → HI → HL → Prop} {F : Frm} {h : HI} {g : HL} (hF : k_Fix F) (x1 : Int32) (x2 : Int32) (x3 : Int32) (x5 : Int32) (s0 : Int32) (H : JX7_thingAt_88 D f Q F h g x1 x2 x3 x5 s0) : V D mX7_thingAt (f + 1) (qi F Q) 88 [(0, .ref (ad D 101)), (1, .int x1), (2, .int x2), (3, .int x3), (5, .int x5)] [.int s0] (F, h, g) := by
  refine V_istore (l1 := [(6, .int s0), (0, .ref (ad D 101)), (1, .int x1), (2, .int x2), (3, .int x3), (5, .int x5)]) dX7_thingAt_88 (by decide) rfl ?_
  refine V_iload dX7_thingAt_90 0 rfl ?_
  refine V_if_eq (tgt := 104) dX7_thingAt_92 (by decide) (fun c1 => ?_) (fun c1 => ?_)
  · have H := H.1 c1
    refine V_aload_n dX7_thingAt_104 rfl 1 rfl ?_
    refine H_getr ck6 6 (by decide) (fs_101 hF) (by decide) rfl (fr_101_6 hF) q285 dX7_thingAt_105 ?_
    refine V_iload_n dX7_thingAt_108 rfl 3 rfl ?_
    obtain ⟨i2, H⟩ := H
    refine H_iald (fs_107 hF) i2 dX7_thingAt_109 ?_
    refine V.sub [1, 2, 3, 4, 5, 0] rfl ?_
    exact bX7_thingAt_110 hF x1 x2 x3 x5 s0 (h 107 (ix x2)) H
  · have H := H.2 c1
    refine V_aload_n dX7_thingAt_95 rfl 1 rfl ?_
    refine H_getr ck6 5 (by decide) (fs_101 hF) (by decide) rfl (fr_101_5 hF) q282 dX7_thingAt_96 ?_
    refine V_iload_n dX7_thingAt_99 rfl 3 rfl ?_
    obtain ⟨i3, H⟩ := H
    refine H_iald (fs_106 hF) i3 dX7_thingAt_100 ?_
    refine V_goto (tgt := 110) dX7_thingAt_101 (by decide) ?_
    refine V.sub [1, 2, 3, 4, 5, 0] rfl ?_
    exact bX7_thingAt_110 hF x1 x2 x3 x5 s0 (h 106 (ix x2)) H
abbrev JX7_thingAt_74 (D : DE) (f : Nat) (Q : Int32 → HI → HL → Prop) (F : Frm) (h : HI) (g : HL) (x1 : Int32) (x3 : Int32) (x5 : Int32) (s0 : Int32) : Prop := ((¬ (x5 &&& 1) = 1 → JX7_thingAt_88 D f Q F h g x1 s0 x3 x5 0) ∧ ((x5 &&& 1) = 1 → JX7_thingAt_88 D f Q F h g x1 s0 x3 x5 1))
theorem bX7_thingAt_74 {D : DE} {f : Nat} {Q : Int32 → HI → HL → Prop} {F : Frm} {h : HI} {g : HL} (hF : k_Fix F) (x1 : Int32) (x3 : Int32) (x5 : Int32) (s0 : Int32) (H : JX7_thingAt_74 D f Q F h g x1 x3 x5 s0) : V D mX7_thingAt (f + 1) (qi F Q) 74 [(0, .ref (ad D 101)), (1, .int x1), (3, .int x3), (5, .int x5)] [.int s0] (F, h, g) := by
  refine V_istore_n (l1 := [(2, .int s0), (0, .ref (ad D 101)), (1, .int x1), (3, .int x3), (5, .int x5)]) dX7_thingAt_74 rfl (by decide) rfl ?_
  refine V_iload dX7_thingAt_75 4 rfl ?_
  refine V_iconst (v := 1) dX7_thingAt_77 (by decide) ?_
  refine V_iand dX7_thingAt_78 ?_
  refine V_iconst (v := 1) dX7_thingAt_79 (by decide) ?_
  refine V_icmp_ne (tgt := 87) dX7_thingAt_80 (by decide) (fun c1 => ?_) (fun c1 => ?_)
  · have H := H.1 c1
    refine V_iconst (v := 0) dX7_thingAt_87 (by decide) ?_
    refine V.sub [1, 2, 0, 3, 4] rfl ?_
    exact bX7_thingAt_88 hF x1 s0 x3 x5 0 H
  · have H := H.2 c1
    refine V_iconst (v := 1) dX7_thingAt_83 (by decide) ?_
    refine V_goto (tgt := 88) dX7_thingAt_84 (by decide) ?_
    refine V.sub [1, 2, 0, 3, 4] rfl ?_
    exact bX7_thingAt_88 hF x1 s0 x3 x5 1 H
abbrev JX7_thingAt_57 (D : DE) (f : Nat) (Q : Int32 → HI → HL → Prop) (F : Frm) (h : HI) (g : HL) (x1 : Int32) (x2 : Int32) (x3 : Int32) (x4 : Int32) (x5 : Int32) : Prop := ((¬ x4 = (-1) → vp_in x4 1540 ∧ JX7_thingAt_74 D f Q F h g x1 x3 x5 (h 105 (ix x4))) ∧ (x4 = (-1) → JX7_thingAt_74 D f Q F h g x1 x3 x5 x2))
theorem bX7_thingAt_57 {D : DE} {f : Nat} {Q : Int32 → HI → HL → Prop} {F : Frm} {h : HI} {g : HL} (hF : k_Fix F) (x1 : Int32) (x2 : Int32) (x3 : Int32) (x4 : Int32) (x5 : Int32) (H : JX7_thingAt_57 D f Q F h g x1 x2 x3 x4 x5) : V D mX7_thingAt (f + 1) (qi F Q) 57 [(0, .ref (ad D 101)), (1, .int x1), (2, .int x2), (3, .int x3), (4, .int x4), (5, .int x5)] [] (F, h, g) := by
  refine V_iload dX7_thingAt_57 4 rfl ?_
  refine V_iconst (v := (-1)) dX7_thingAt_59 (by decide) ?_
  refine V_icmp_ne (tgt := 67) dX7_thingAt_60 (by decide) (fun c1 => ?_) (fun c1 => ?_)
  · have H := H.1 c1
    refine V_aload_n dX7_thingAt_67 rfl 0 rfl ?_
    refine H_getr ck6 3 (by decide) (fs_101 hF) (by decide) rfl (fr_101_3 hF) q278 dX7_thingAt_68 ?_
    refine V_iload dX7_thingAt_71 4 rfl ?_
    obtain ⟨i2, H⟩ := H
    refine H_iald (fs_105 hF) i2 dX7_thingAt_73 ?_
    refine V.sub [0, 1, 3, 5] rfl ?_
    exact bX7_thingAt_74 hF x1 x3 x5 (h 105 (ix x4)) H
  · have H := H.2 c1
    refine V_iload_n dX7_thingAt_63 rfl 2 rfl ?_
    refine V_goto (tgt := 74) dX7_thingAt_64 (by decide) ?_
    refine V.sub [0, 1, 3, 5] rfl ?_
    exact bX7_thingAt_74 hF x1 x3 x5 x2 H
abbrev JX7_thingAt_29 (D : DE) (f : Nat) (Q : Int32 → HI → HL → Prop) (F : Frm) (h : HI) (g : HL) (x1 : Int32) (x2 : Int32) (x3 : Int32) (x4 : Int32) (x5 : Int32) : Prop := ((x5 < 0 → ((¬ x3 = 0 → Q (-1) h g) ∧ (x3 = 0 → vp_in x4 1540 ∧ ((¬ (h 104 (ix x4)) = 2 → Q (-1) h g) ∧ ((h 104 (ix x4)) = 2 → Q x4 h g))))) ∧ (¬ x5 < 0 → ((x3 = 0 → Q (-1) h g) ∧ (¬ x3 = 0 → ((x4 = (-1) → JX7_thingAt_57 D f Q F h g x1 x2 x3 x4 x5) ∧ (¬ x4 = (-1) → vp_in x4 1540 ∧ (((h 104 (ix x4)) = 2 → JX7_thingAt_57 D f Q F h g x1 x2 x3 x4 x5) ∧ (¬ (h 104 (ix x4)) = 2 → Q (-1) h g))))))))
theorem bX7_thingAt_29 {D : DE} {f : Nat} {Q : Int32 → HI → HL → Prop} {F : Frm} {h : HI} {g : HL} (hF : k_Fix F) (x1 : Int32) (x2 : Int32) (x3 : Int32) (x4 : Int32) (x5 : Int32) (H : JX7_thingAt_29 D f Q F h g x1 x2 x3 x4 x5) : V D mX7_thingAt (f + 1) (qi F Q) 29 [(0, .ref (ad D 101)), (1, .int x1), (2, .int x2), (3, .int x3), (4, .int x4), (5, .int x5)] [] (F, h, g) := by
  refine V_iload dX7_thingAt_29 5 rfl ?_
  refine V_if_lt (tgt := 145) dX7_thingAt_31 (by decide) (fun c1 => ?_) (fun c1 => ?_)
  · have H := H.1 c1
    refine V_iload_n dX7_thingAt_145 rfl 3 rfl ?_
    refine V_if_ne (tgt := 165) dX7_thingAt_146 (by decide) (fun c2 => ?_) (fun c2 => ?_)
    · have H := H.1 c2
      refine V_iconst (v := (-1)) dX7_thingAt_165 (by decide) ?_
      exact H_iret rfl dX7_thingAt_166 H
    · have H := H.2 c2
      refine V_aload_n dX7_thingAt_149 rfl 0 rfl ?_
      refine H_getr ck6 2 (by decide) (fs_101 hF) (by decide) rfl (fr_101_2 hF) q276 dX7_thingAt_150 ?_
      refine V_iload dX7_thingAt_153 4 rfl ?_
      obtain ⟨i3, H⟩ := H
      refine H_bald (fs_104 hF) i3 dX7_thingAt_155 ?_
      refine V_iconst (v := 2) dX7_thingAt_156 (by decide) ?_
      refine V_icmp_ne (tgt := 165) dX7_thingAt_157 (by decide) (fun c4 => ?_) (fun c4 => ?_)
      · have H := H.1 c4
        refine V_iconst (v := (-1)) dX7_thingAt_165 (by decide) ?_
        exact H_iret rfl dX7_thingAt_166 H
      · have H := H.2 c4
        refine V_iload dX7_thingAt_160 4 rfl ?_
        refine V_goto (tgt := 166) dX7_thingAt_162 (by decide) ?_
        exact H_iret rfl dX7_thingAt_166 H
  · have H := H.2 c1
    refine V_iload_n dX7_thingAt_34 rfl 3 rfl ?_
    refine V_if_eq (tgt := 55) dX7_thingAt_35 (by decide) (fun c5 => ?_) (fun c5 => ?_)
    · have H := H.1 c5
      refine V_iconst (v := (-1)) dX7_thingAt_55 (by decide) ?_
      exact H_iret rfl dX7_thingAt_56 H
    · have H := H.2 c5
      refine V_iload dX7_thingAt_38 4 rfl ?_
      refine V_iconst (v := (-1)) dX7_thingAt_40 (by decide) ?_
      refine V_icmp_eq (tgt := 57) dX7_thingAt_41 (by decide) (fun c6 => ?_) (fun c6 => ?_)
      · have H := H.1 c6
        exact bX7_thingAt_57 hF x1 x2 x3 x4 x5 H
      · have H := H.2 c6
        refine V_aload_n dX7_thingAt_44 rfl 0 rfl ?_
        refine H_getr ck6 2 (by decide) (fs_101 hF) (by decide) rfl (fr_101_2 hF) q276 dX7_thingAt_45 ?_
        refine V_iload dX7_thingAt_48 4 rfl ?_
        obtain ⟨i7, H⟩ := H
        refine H_bald (fs_104 hF) i7 dX7_thingAt_50 ?_
        refine V_iconst (v := 2) dX7_thingAt_51 (by decide) ?_
        refine V_icmp_eq (tgt := 57) dX7_thingAt_52 (by decide) (fun c8 => ?_) (fun c8 => ?_)
        · have H := H.1 c8
          exact bX7_thingAt_57 hF x1 x2 x3 x4 x5 H
        · have H := H.2 c8
          refine V_iconst (v := (-1)) dX7_thingAt_55 (by decide) ?_
          exact H_iret rfl dX7_thingAt_56 H
abbrev JX7_thingAt_27 (D : DE) (f : Nat) (Q : Int32 → HI → HL → Prop) (F : Frm) (h : HI) (g : HL) (x1 : Int32) (x2 : Int32) (x3 : Int32) (x4 : Int32) (s0 : Int32) : Prop := V D mX7_thingAt (f + 1) (qi F Q) 29 [(0, .ref (ad D 101)), (1, .int x1), (2, .int x2), (3, .int x3), (4, .int x4), (5, .int s0)] [] (F, h, g)
theorem bX7_thingAt_27 {D : DE} {f : Nat} {Q : Int32 → HI → HL → Prop} {F : Frm} {h : HI} {g : HL} (hF : k_Fix F) (x1 : Int32) (x2 : Int32) (x3 : Int32) (x4 : Int32) (s0 : Int32) (H : JX7_thingAt_27 D f Q F h g x1 x2 x3 x4 s0) : V D mX7_thingAt (f + 1) (qi F Q) 27 [(0, .ref (ad D 101)), (1, .int x1), (2, .int x2), (3, .int x3), (4, .int x4)] [.int s0] (F, h, g) := by
  refine V_istore (l1 := [(5, .int s0), (0, .ref (ad D 101)), (1, .int x1), (2, .int x2), (3, .int x3), (4, .int x4)]) dX7_thingAt_27 (by decide) rfl ?_
  refine V.sub [1, 2, 3, 4, 5, 0] rfl ?_
  exact H
abbrev JX7_thingAt_0 (D : DE) (f : Nat) (Q : Int32 → HI → HL → Prop) (F : Frm) (h : HI) (g : HL) (x1 : Int32) : Prop := ∀ y1 : Int32, y1 = (h 101 17) → ∀ y3 : Int32, y3 = (h 101 18) → ((x1 ≤ 2 → JX7_thingAt_27 D f Q F h g x1 y1 y3 (-1) x1) ∧ (¬ x1 ≤ 2 → JX7_thingAt_27 D f Q F h g x1 y1 y3 (-1) ((x1 - 1) >>> (1 &&& 31))))
theorem bX7_thingAt_0 {D : DE} {f : Nat} {Q : Int32 → HI → HL → Prop} {F : Frm} {h : HI} {g : HL} (hF : k_Fix F) (x1 : Int32) (H : JX7_thingAt_0 D f Q F h g x1) : V D mX7_thingAt (f + 1) (qi F Q) 0 [(0, .ref (ad D 101)), (1, .int x1)] [] (F, h, g) := by
  refine V_aload_n dX7_thingAt_0 rfl 0 rfl ?_
  refine H_geti ck6 17 (by decide) (fs_101 hF) (by decide) rfl q313 dX7_thingAt_1 ?_
  refine V_topi (fun y1 e2 => ?_)
  have H := H y1 e2
  refine V_istore_n (l1 := [(2, .int y1), (0, .ref (ad D 101)), (1, .int x1)]) dX7_thingAt_4 rfl (by decide) rfl ?_
  refine V_aload_n dX7_thingAt_5 rfl 1 rfl ?_
  refine H_geti ck6 18 (by decide) (fs_101 hF) (by decide) rfl q315 dX7_thingAt_6 ?_
  refine V_topi (fun y3 e4 => ?_)
  have H := H y3 e4
  refine V_istore_n (l1 := [(3, .int y3), (2, .int y1), (0, .ref (ad D 101)), (1, .int x1)]) dX7_thingAt_9 rfl (by decide) rfl ?_
  refine V_iconst (v := (-1)) dX7_thingAt_10 (by decide) ?_
  refine V_istore (l1 := [(4, .int (-1)), (3, .int y3), (2, .int y1), (0, .ref (ad D 101)), (1, .int x1)]) dX7_thingAt_11 (by decide) rfl ?_
  refine V_iload_n dX7_thingAt_13 rfl 4 rfl ?_
  refine V_iconst (v := 2) dX7_thingAt_14 (by decide) ?_
  refine V_icmp_le (tgt := 26) dX7_thingAt_15 (by decide) (fun c5 => ?_) (fun c5 => ?_)
  · have H := H.1 c5
    refine V_iload_n dX7_thingAt_26 rfl 4 rfl ?_
    refine V.sub [3, 4, 2, 1, 0] rfl ?_
    exact bX7_thingAt_27 hF x1 y1 y3 (-1) x1 H
  · have H := H.2 c5
    refine V_iload_n dX7_thingAt_18 rfl 4 rfl ?_
    refine V_iconst (v := 1) dX7_thingAt_19 (by decide) ?_
    refine V_isub dX7_thingAt_20 ?_
    refine V_iconst (v := 1) dX7_thingAt_21 (by decide) ?_
    refine V_ishr dX7_thingAt_22 ?_
    refine V_goto (tgt := 27) dX7_thingAt_23 (by decide) ?_
    refine V.sub [3, 4, 2, 1, 0] rfl ?_
    exact bX7_thingAt_27 hF x1 y1 y3 (-1) ((x1 - 1) >>> (1 &&& 31)) H
theorem wX7_thingAt {D : DE} {f : Nat} {Q : Int32 → HI → HL → Prop} {F : Frm} {h : HI} {g : HL} (hF : k_Fix F) (x1 : Int32) (H : JX7_thingAt_0 D f Q F h g x1) : Si D (f + 1) mX7_thingAt [.ref (ad D 101), .int x1] F h g Q := Cl.ofV (by decide) (Nat.le_of_ble_eq_true rfl) rfl (bX7_thingAt_0 hF x1 H)
