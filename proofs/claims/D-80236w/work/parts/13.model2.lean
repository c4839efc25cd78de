/-! walks of StrictProofsModel, printed by gen/mkmodel.py -/
set_option maxRecDepth 100000
theorem dX8_onAtom_0 : decode cX8_onAtom 0 = .ok (.aload_n 0, 1) := by decide +kernel
theorem dX8_onAtom_1 : decode cX8_onAtom 1 = .ok (.getfield 190, 3) := by decide +kernel
theorem dX8_onAtom_4 : decode cX8_onAtom 4 = .ok (.istore_n 1, 1) := by decide +kernel
theorem dX8_onAtom_5 : decode cX8_onAtom 5 = .ok (.aload_n 0, 1) := by decide +kernel
theorem dX8_onAtom_6 : decode cX8_onAtom 6 = .ok (.getfield 193, 3) := by decide +kernel
theorem dX8_onAtom_9 : decode cX8_onAtom 9 = .ok (.bipush 11, 2) := by decide +kernel
theorem dX8_onAtom_11 : decode cX8_onAtom 11 = .ok (.if_icmp .ne 32, 3) := by decide +kernel
theorem dX8_onAtom_14 : decode cX8_onAtom 14 = .ok (.aload_n 0, 1) := by decide +kernel
theorem dX8_onAtom_15 : decode cX8_onAtom 15 = .ok (.iconst 5, 1) := by decide +kernel
theorem dX8_onAtom_16 : decode cX8_onAtom 16 = .ok (.iload_n 1, 1) := by decide +kernel
theorem dX8_onAtom_17 : decode cX8_onAtom 17 = .ok (.invokevirtual 281, 3) := by decide +kernel
theorem dX8_onAtom_20 : decode cX8_onAtom 20 = .ok (.istore_n 2, 1) := by decide +kernel
theorem dX8_onAtom_21 : decode cX8_onAtom 21 = .ok (.aload_n 0, 1) := by decide +kernel
theorem dX8_onAtom_22 : decode cX8_onAtom 22 = .ok (.getfield 42, 3) := by decide +kernel
theorem dX8_onAtom_25 : decode cX8_onAtom 25 = .ok (.iload_n 2, 1) := by decide +kernel
theorem dX8_onAtom_26 : decode cX8_onAtom 26 = .ok (.aload_n 0, 1) := by decide +kernel
theorem dX8_onAtom_27 : decode cX8_onAtom 27 = .ok (.getfield 215, 3) := by decide +kernel
theorem dX8_onAtom_30 : decode cX8_onAtom 30 = .ok (.iastore, 1) := by decide +kernel
theorem dX8_onAtom_31 : decode cX8_onAtom 31 = .ok (.aload_n 0, 1) := by decide +kernel
theorem dX8_onAtom_32 : decode cX8_onAtom 32 = .ok (.iload_n 2, 1) := by decide +kernel
theorem dX8_onAtom_33 : decode cX8_onAtom 33 = .ok (.invokevirtual 291, 3) := by decide +kernel
theorem dX8_onAtom_36 : decode cX8_onAtom 36 = .ok (.aload_n 0, 1) := by decide +kernel
theorem dX8_onAtom_37 : decode cX8_onAtom 37 = .ok (.invokevirtual 229, 3) := by decide +kernel
theorem dX8_onAtom_40 : decode cX8_onAtom 40 = .ok (.goto 204, 3) := by decide +kernel
theorem dX8_onAtom_43 : decode cX8_onAtom 43 = .ok (.aload_n 0, 1) := by decide +kernel
theorem dX8_onAtom_44 : decode cX8_onAtom 44 = .ok (.getfield 193, 3) := by decide +kernel
theorem dX8_onAtom_47 : decode cX8_onAtom 47 = .ok (.bipush 9, 2) := by decide +kernel
theorem dX8_onAtom_49 : decode cX8_onAtom 49 = .ok (.if_icmp .ne 31, 3) := by decide +kernel
theorem dX8_onAtom_52 : decode cX8_onAtom 52 = .ok (.aload_n 0, 1) := by decide +kernel
theorem dX8_onAtom_53 : decode cX8_onAtom 53 = .ok (.bipush 6, 2) := by decide +kernel
theorem dX8_onAtom_55 : decode cX8_onAtom 55 = .ok (.iload_n 1, 1) := by decide +kernel
theorem dX8_onAtom_56 : decode cX8_onAtom 56 = .ok (.invokevirtual 281, 3) := by decide +kernel
theorem dX8_onAtom_59 : decode cX8_onAtom 59 = .ok (.istore_n 2, 1) := by decide +kernel
theorem dX8_onAtom_60 : decode cX8_onAtom 60 = .ok (.aload_n 0, 1) := by decide +kernel
theorem dX8_onAtom_61 : decode cX8_onAtom 61 = .ok (.bipush 19, 2) := by decide +kernel
theorem dX8_onAtom_63 : decode cX8_onAtom 63 = .ok (.iload_n 2, 1) := by decide +kernel
theorem dX8_onAtom_64 : decode cX8_onAtom 64 = .ok (.invokevirtual 254, 3) := by decide +kernel
theorem dX8_onAtom_67 : decode cX8_onAtom 67 = .ok (.aload_n 0, 1) := by decide +kernel
theorem dX8_onAtom_68 : decode cX8_onAtom 68 = .ok (.iconst 2, 1) := by decide +kernel
theorem dX8_onAtom_69 : decode cX8_onAtom 69 = .ok (.iconst 0, 1) := by decide +kernel
theorem dX8_onAtom_70 : decode cX8_onAtom 70 = .ok (.invokevirtual 254, 3) := by decide +kernel
theorem dX8_onAtom_73 : decode cX8_onAtom 73 = .ok (.aload_n 0, 1) := by decide +kernel
theorem dX8_onAtom_74 : decode cX8_onAtom 74 = .ok (.invokevirtual 229, 3) := by decide +kernel
theorem dX8_onAtom_77 : decode cX8_onAtom 77 = .ok (.goto 167, 3) := by decide +kernel
theorem dX8_onAtom_80 : decode cX8_onAtom 80 = .ok (.aload_n 0, 1) := by decide +kernel
theorem dX8_onAtom_81 : decode cX8_onAtom 81 = .ok (.getfield 193, 3) := by decide +kernel
theorem dX8_onAtom_84 : decode cX8_onAtom 84 = .ok (.bipush 10, 2) := by decide +kernel
theorem dX8_onAtom_86 : decode cX8_onAtom 86 = .ok (.if_icmp .ne 120, 3) := by decide +kernel
theorem dX8_onAtom_89 : decode cX8_onAtom 89 = .ok (.aload_n 0, 1) := by decide +kernel
theorem dX8_onAtom_90 : decode cX8_onAtom 90 = .ok (.bipush 7, 2) := by decide +kernel
theorem dX8_onAtom_92 : decode cX8_onAtom 92 = .ok (.iload_n 1, 1) := by decide +kernel
theorem dX8_onAtom_93 : decode cX8_onAtom 93 = .ok (.invokevirtual 281, 3) := by decide +kernel
theorem dX8_onAtom_96 : decode cX8_onAtom 96 = .ok (.istore_n 2, 1) := by decide +kernel
theorem dX8_onAtom_97 : decode cX8_onAtom 97 = .ok (.aload_n 0, 1) := by decide +kernel
theorem dX8_onAtom_98 : decode cX8_onAtom 98 = .ok (.getfield 57, 3) := by decide +kernel
theorem dX8_onAtom_101 : decode cX8_onAtom 101 = .ok (.iload_n 2, 1) := by decide +kernel
theorem dX8_onAtom_102 : decode cX8_onAtom 102 = .ok (.aload_n 0, 1) := by decide +kernel
theorem dX8_onAtom_103 : decode cX8_onAtom 103 = .ok (.getfield 222, 3) := by decide +kernel
theorem dX8_onAtom_106 : decode cX8_onAtom 106 = .ok (.lastore, 1) := by decide +kernel
theorem dX8_onAtom_107 : decode cX8_onAtom 107 = .ok (.aload_n 0, 1) := by decide +kernel
theorem dX8_onAtom_108 : decode cX8_onAtom 108 = .ok (.invokevirtual 229, 3) := by decide +kernel
theorem dX8_onAtom_111 : decode cX8_onAtom 111 = .ok (.aload_n 0, 1) := by decide +kernel
theorem dX8_onAtom_112 : decode cX8_onAtom 112 = .ok (.getfield 176, 3) := by decide +kernel
theorem dX8_onAtom_115 : decode cX8_onAtom 115 = .ok (.ifCond .ne 83, 3) := by decide +kernel
theorem dX8_onAtom_118 : decode cX8_onAtom 118 = .ok (.aload_n 0, 1) := by decide +kernel
theorem dX8_onAtom_119 : decode cX8_onAtom 119 = .ok (.getfield 193, 3) := by decide +kernel
theorem dX8_onAtom_122 : decode cX8_onAtom 122 = .ok (.bipush 14, 2) := by decide +kernel
theorem dX8_onAtom_124 : decode cX8_onAtom 124 = .ok (.if_icmp .ne 74, 3) := by decide +kernel
theorem dX8_onAtom_127 : decode cX8_onAtom 127 = .ok (.aload_n 0, 1) := by decide +kernel
theorem dX8_onAtom_128 : decode cX8_onAtom 128 = .ok (.getfield 39, 3) := by decide +kernel
theorem dX8_onAtom_131 : decode cX8_onAtom 131 = .ok (.iload_n 2, 1) := by decide +kernel
theorem dX8_onAtom_132 : decode cX8_onAtom 132 = .ok (.bipush 8, 2) := by decide +kernel
theorem dX8_onAtom_134 : decode cX8_onAtom 134 = .ok (.iastore, 1) := by decide +kernel
theorem dX8_onAtom_135 : decode cX8_onAtom 135 = .ok (.aload_n 0, 1) := by decide +kernel
theorem dX8_onAtom_136 : decode cX8_onAtom 136 = .ok (.getfield 45, 3) := by decide +kernel
theorem dX8_onAtom_139 : decode cX8_onAtom 139 = .ok (.iload_n 2, 1) := by decide +kernel
theorem dX8_onAtom_140 : decode cX8_onAtom 140 = .ok (.aload_n 0, 1) := by decide +kernel
theorem dX8_onAtom_141 : decode cX8_onAtom 141 = .ok (.getfield 294, 3) := by decide +kernel
theorem dX8_onAtom_144 : decode cX8_onAtom 144 = .ok (.iastore, 1) := by decide +kernel
theorem dX8_onAtom_145 : decode cX8_onAtom 145 = .ok (.aload_n 0, 1) := by decide +kernel
theorem dX8_onAtom_146 : decode cX8_onAtom 146 = .ok (.invokevirtual 229, 3) := by decide +kernel
theorem dX8_onAtom_149 : decode cX8_onAtom 149 = .ok (.aload_n 0, 1) := by decide +kernel
theorem dX8_onAtom_150 : decode cX8_onAtom 150 = .ok (.getfield 176, 3) := by decide +kernel
theorem dX8_onAtom_153 : decode cX8_onAtom 153 = .ok (.ifCond .ne 28, 3) := by decide +kernel
theorem dX8_onAtom_156 : decode cX8_onAtom 156 = .ok (.aload_n 0, 1) := by decide +kernel
theorem dX8_onAtom_157 : decode cX8_onAtom 157 = .ok (.getfield 193, 3) := by decide +kernel
theorem dX8_onAtom_160 : decode cX8_onAtom 160 = .ok (.bipush 15, 2) := by decide +kernel
theorem dX8_onAtom_162 : decode cX8_onAtom 162 = .ok (.if_icmp .eq 19, 3) := by decide +kernel
theorem dX8_onAtom_165 : decode cX8_onAtom 165 = .ok (.aload_n 0, 1) := by decide +kernel
theorem dX8_onAtom_166 : decode cX8_onAtom 166 = .ok (.bipush 20, 2) := by decide +kernel
theorem dX8_onAtom_168 : decode cX8_onAtom 168 = .ok (.iload_n 2, 1) := by decide +kernel
theorem dX8_onAtom_169 : decode cX8_onAtom 169 = .ok (.invokevirtual 254, 3) := by decide +kernel
theorem dX8_onAtom_172 : decode cX8_onAtom 172 = .ok (.aload_n 0, 1) := by decide +kernel
theorem dX8_onAtom_173 : decode cX8_onAtom 173 = .ok (.iconst 4, 1) := by decide +kernel
theorem dX8_onAtom_174 : decode cX8_onAtom 174 = .ok (.iconst 0, 1) := by decide +kernel
theorem dX8_onAtom_175 : decode cX8_onAtom 175 = .ok (.invokevirtual 254, 3) := by decide +kernel
theorem dX8_onAtom_178 : decode cX8_onAtom 178 = .ok (.goto 25, 3) := by decide +kernel
theorem dX8_onAtom_181 : decode cX8_onAtom 181 = .ok (.aload_n 0, 1) := by decide +kernel
theorem dX8_onAtom_182 : decode cX8_onAtom 182 = .ok (.bipush 21, 2) := by decide +kernel
theorem dX8_onAtom_184 : decode cX8_onAtom 184 = .ok (.iload_n 2, 1) := by decide +kernel
theorem dX8_onAtom_185 : decode cX8_onAtom 185 = .ok (.invokevirtual 254, 3) := by decide +kernel
theorem dX8_onAtom_188 : decode cX8_onAtom 188 = .ok (.aload_n 0, 1) := by decide +kernel
theorem dX8_onAtom_189 : decode cX8_onAtom 189 = .ok (.iconst 1, 1) := by decide +kernel
theorem dX8_onAtom_190 : decode cX8_onAtom 190 = .ok (.bipush 15, 2) := by decide +kernel
theorem dX8_onAtom_192 : decode cX8_onAtom 192 = .ok (.invokevirtual 254, 3) := by decide +kernel
theorem dX8_onAtom_195 : decode cX8_onAtom 195 = .ok (.goto 8, 3) := by decide +kernel
theorem dX8_onAtom_198 : decode cX8_onAtom 198 = .ok (.aload_n 0, 1) := by decide +kernel
theorem dX8_onAtom_199 : decode cX8_onAtom 199 = .ok (.iload_n 2, 1) := by decide +kernel
theorem dX8_onAtom_200 : decode cX8_onAtom 200 = .ok (.invokevirtual 291, 3) := by decide +kernel
theorem dX8_onAtom_203 : decode cX8_onAtom 203 = .ok (.goto 41, 3) := by decide +kernel
theorem dX8_onAtom_206 : decode cX8_onAtom 206 = .ok (.aload_n 0, 1) := by decide +kernel
theorem dX8_onAtom_207 : decode cX8_onAtom 207 = .ok (.getfield 193, 3) := by decide +kernel
theorem dX8_onAtom_210 : decode cX8_onAtom 210 = .ok (.bipush 14, 2) := by decide +kernel
theorem dX8_onAtom_212 : decode cX8_onAtom 212 = .ok (.if_icmp .ne 23, 3) := by decide +kernel
theorem dX8_onAtom_215 : decode cX8_onAtom 215 = .ok (.aload_n 0, 1) := by decide +kernel
theorem dX8_onAtom_216 : decode cX8_onAtom 216 = .ok (.bipush 22, 2) := by decide +kernel
theorem dX8_onAtom_218 : decode cX8_onAtom 218 = .ok (.iload_n 1, 1) := by decide +kernel
theorem dX8_onAtom_219 : decode cX8_onAtom 219 = .ok (.invokevirtual 254, 3) := by decide +kernel
theorem dX8_onAtom_222 : decode cX8_onAtom 222 = .ok (.aload_n 0, 1) := by decide +kernel
theorem dX8_onAtom_223 : decode cX8_onAtom 223 = .ok (.iconst 4, 1) := by decide +kernel
theorem dX8_onAtom_224 : decode cX8_onAtom 224 = .ok (.iconst 0, 1) := by decide +kernel
theorem dX8_onAtom_225 : decode cX8_onAtom 225 = .ok (.invokevirtual 254, 3) := by decide +kernel
theorem dX8_onAtom_228 : decode cX8_onAtom 228 = .ok (.aload_n 0, 1) := by decide +kernel
theorem dX8_onAtom_229 : decode cX8_onAtom 229 = .ok (.invokevirtual 229, 3) := by decide +kernel
theorem dX8_onAtom_232 : decode cX8_onAtom 232 = .ok (.goto 12, 3) := by decide +kernel
theorem dX8_onAtom_235 : decode cX8_onAtom 235 = .ok (.aload_n 0, 1) := by decide +kernel
theorem dX8_onAtom_236 : decode cX8_onAtom 236 = .ok (.iconst 2, 1) := by decide +kernel
theorem dX8_onAtom_237 : decode cX8_onAtom 237 = .ok (.aload_n 0, 1) := by decide +kernel
theorem dX8_onAtom_238 : decode cX8_onAtom 238 = .ok (.getfield 190, 3) := by decide +kernel
theorem dX8_onAtom_241 : decode cX8_onAtom 241 = .ok (.invokevirtual 205, 3) := by decide +kernel
theorem dX8_onAtom_244 : decode cX8_onAtom 244 = .ok (.return_, 1) := by decide +kernel
abbrev JX8_onAtom_198 (D : DE) (f : Nat) (Q : HI → HL → Prop) (F : Frm) (h : HI) (g : HL) (x2 : Int32) : Prop := Sv D f mX8_make [.ref (ad D 115), .int x2] F h g (fun h1 g2 => Q h1 g2)
theorem bX8_onAtom_198 {D : DE} {f : Nat} {Q : HI → HL → Prop} {F : Frm} {h : HI} {g : HL} (hF : k_Fix F) (x2 : Int32) (H : JX8_onAtom_198 D f Q F h g x2) : V D mX8_onAtom (f + 1) (qv F Q) 198 [(0, .ref (ad D 115)), (2, .int x2)] [] (F, h, g) := by
  refine V_aload_n dX8_onAtom_198 rfl 0 rfl ?_
  refine V_iload_n dX8_onAtom_199 rfl 1 rfl ?_
  refine H_callv (av := [.ref (ad D 115), .int x2]) (rest := []) H mqX8_make q88 (by decide) (Nat.le_of_ble_eq_true rfl) (k_resV (ci := 7) (av := [.int x2]) (rest := []) (fs_115 hF) (by decide) rfl rfl q1814 q1816 qs46 q1817 mhX8_make mnX8_make dX8_onAtom_200) (fun h1 g2 H => ?_)
  refine V_goto (tgt := 244) dX8_onAtom_203 (by decide) ?_
  exact H_vret rfl dX8_onAtom_244 H
abbrev JX8_onAtom_181 (D : DE) (f : Nat) (Q : HI → HL → Prop) (F : Frm) (h : HI) (g : HL) (x2 : Int32) : Prop := Sv D f mX8_push [.ref (ad D 115), .int 21, .int x2] F h g (fun h1 g2 => Sv D f mX8_push [.ref (ad D 115), .int 1, .int 15] F h1 g2 (fun h3 g4 => Q h3 g4))
theorem bX8_onAtom_181 {D : DE} {f : Nat} {Q : HI → HL → Prop} {F : Frm} {h : HI} {g : HL} (hF : k_Fix F) (x2 : Int32) (H : JX8_onAtom_181 D f Q F h g x2) : V D mX8_onAtom (f + 1) (qv F Q) 181 [(0, .ref (ad D 115)), (2, .int x2)] [] (F, h, g) := by
  refine V_aload_n dX8_onAtom_181 rfl 0 rfl ?_
  refine V_bipush (v := 21) dX8_onAtom_182 (by decide) ?_
  refine V_iload_n dX8_onAtom_184 rfl 1 rfl ?_
  refine H_callv (av := [.ref (ad D 115), .int 21, .int x2]) (rest := []) H mqX8_push q88 (by decide) (Nat.le_of_ble_eq_true rfl) (k_resV (ci := 7) (av := [.int 21, .int x2]) (rest := []) (fs_115 hF) (by decide) rfl rfl q1783 q1785 qs39 q1786 mhX8_push mnX8_push dX8_onAtom_185) (fun h1 g2 H => ?_)
  refine V_aload_n dX8_onAtom_188 rfl 0 rfl ?_
  refine V_iconst (v := 1) dX8_onAtom_189 (by decide) ?_
  refine V_bipush (v := 15) dX8_onAtom_190 (by decide) ?_
  refine H_callv (av := [.ref (ad D 115), .int 1, .int 15]) (rest := []) H mqX8_push q88 (by decide) (Nat.le_of_ble_eq_true rfl) (k_resV (ci := 7) (av := [.int 1, .int 15]) (rest := []) (fs_115 hF) (by decide) rfl rfl q1783 q1785 qs39 q1786 mhX8_push mnX8_push dX8_onAtom_192) (fun h3 g4 H => ?_)
  refine V_goto (tgt := 203) dX8_onAtom_195 (by decide) ?_
  refine V_goto (tgt := 244) dX8_onAtom_203 (by decide) ?_
  exact H_vret rfl dX8_onAtom_244 H
abbrev JX8_onAtom_0 (D : DE) (f : Nat) (Q : HI → HL → Prop) (F : Frm) (h : HI) (g : HL) : Prop := ∀ y1 : Int32, y1 = h 115 5 → ((¬ (h 115 4) = 11 → ((¬ (h 115 4) = 9 → ((¬ (h 115 4) = 10 → ((¬ (h 115 4) = 14 → Sv D f mX8_stop [.ref (ad D 115), .int 2, .int (h 115 5)] F h g (fun h7 g8 => Q h7 g8)) ∧ ((h 115 4) = 14 → Sv D f mX8_push [.ref (ad D 115), .int 22, .int y1] F h g (fun h9 g10 => Sv D f mX8_push [.ref (ad D 115), .int 4, .int 0] F h9 g10 (fun h11 g12 => Sv D f mX8_pass [.ref (ad D 115)] F h11 g12 (fun h13 g14 => Q h13 g14)))))) ∧ ((h 115 4) = 10 → Si D f mX8_node [.ref (ad D 115), .int 7, .int y1] F h g (fun y17 h15 g16 => vp_in y17 2002 ∧ ∀ g19, g19 = up2 g16 130 (ix y17) (g16 115 7) → Sv D f mX8_pass [.ref (ad D 115)] F h15 g19 (fun h21 g22 => ((¬ (h21 115 9) = 0 → JX8_onAtom_198 D f Q F h21 g22 y17) ∧ ((h21 115 9) = 0 → ((¬ (h21 115 4) = 14 → JX8_onAtom_198 D f Q F h21 g22 y17) ∧ ((h21 115 4) = 14 → vp_in y17 2002 ∧ ∀ h26, h26 = up2 h21 124 (ix y17) 8 → vp_in y17 2002 ∧ ∀ h29, h29 = up2 h26 126 (ix y17) (h26 115 32) → Sv D f mX8_pass [.ref (ad D 115)] F h29 g22 (fun h31 g32 => ((¬ (h31 115 9) = 0 → JX8_onAtom_181 D f Q F h31 g32 y17) ∧ ((h31 115 9) = 0 → (((h31 115 4) = 15 → JX8_onAtom_181 D f Q F h31 g32 y17) ∧ (¬ (h31 115 4) = 15 → Sv D f mX8_push [.ref (ad D 115), .int 20, .int y17] F h31 g32 (fun h35 g36 => Sv D f mX8_push [.ref (ad D 115), .int 4, .int 0] F h35 g36 (fun h37 g38 => Q h37 g38)))))))))))))))) ∧ ((h 115 4) = 9 → Si D f mX8_node [.ref (ad D 115), .int 6, .int y1] F h g (fun y41 h39 g40 => Sv D f mX8_push [.ref (ad D 115), .int 19, .int y41] F h39 g40 (fun h42 g43 => Sv D f mX8_push [.ref (ad D 115), .int 2, .int 0] F h42 g43 (fun h44 g45 => Sv D f mX8_pass [.ref (ad D 115)] F h44 g45 (fun h46 g47 => Q h46 g47))))))) ∧ ((h 115 4) = 11 → Si D f mX8_node [.ref (ad D 115), .int 5, .int y1] F h g (fun y50 h48 g49 => vp_in y50 2002 ∧ ∀ h52, h52 = up2 h48 125 (ix y50) (h48 115 8) → Sv D f mX8_make [.ref (ad D 115), .int y50] F h52 g49 (fun h54 g55 => Sv D f mX8_pass [.ref (ad D 115)] F h54 g55 (fun h56 g57 => Q h56 g57)))))
theorem bX8_onAtom_0 {D : DE} {f : Nat} {Q : HI → HL → Prop} {F : Frm} {h : HI} {g : HL} (hF : k_Fix F)  (H : JX8_onAtom_0 D f Q F h g ) : V D mX8_onAtom (f + 1) (qv F Q) 0 [(0, .ref (ad D 115))] [] (F, h, g) := by
  refine V_aload_n dX8_onAtom_0 rfl 0 rfl ?_
  refine H_geti ck7 5 (by decide) (fs_115 hF) (by decide) rfl q1463 dX8_onAtom_1 ?_
  refine V_topi (fun y1 e2 => ?_)
  have H := H y1 e2
  refine V_istore_n (l1 := [(1, .int y1), (0, .ref (ad D 115))]) dX8_onAtom_4 rfl (by decide) rfl ?_
  refine V_aload_n dX8_onAtom_5 rfl 1 rfl ?_
  refine H_geti ck7 4 (by decide) (fs_115 hF) (by decide) rfl q1462 dX8_onAtom_6 ?_
  refine V_bipush (v := 11) dX8_onAtom_9 (by decide) ?_
  refine V_icmp_ne (tgt := 43) dX8_onAtom_11 (by decide) (fun c3 => ?_) (fun c3 => ?_)
  · have H := H.1 c3
    refine V_aload_n dX8_onAtom_43 rfl 1 rfl ?_
    refine H_geti ck7 4 (by decide) (fs_115 hF) (by decide) rfl q1462 dX8_onAtom_44 ?_
    refine V_bipush (v := 9) dX8_onAtom_47 (by decide) ?_
    refine V_icmp_ne (tgt := 80) dX8_onAtom_49 (by decide) (fun c4 => ?_) (fun c4 => ?_)
    · have H := H.1 c4
      refine V_aload_n dX8_onAtom_80 rfl 1 rfl ?_
      refine H_geti ck7 4 (by decide) (fs_115 hF) (by decide) rfl q1462 dX8_onAtom_81 ?_
      refine V_bipush (v := 10) dX8_onAtom_84 (by decide) ?_
      refine V_icmp_ne (tgt := 206) dX8_onAtom_86 (by decide) (fun c5 => ?_) (fun c5 => ?_)
      · have H := H.1 c5
        refine V_aload_n dX8_onAtom_206 rfl 1 rfl ?_
        refine H_geti ck7 4 (by decide) (fs_115 hF) (by decide) rfl q1462 dX8_onAtom_207 ?_
        refine V_bipush (v := 14) dX8_onAtom_210 (by decide) ?_
        refine V_icmp_ne (tgt := 235) dX8_onAtom_212 (by decide) (fun c6 => ?_) (fun c6 => ?_)
        · have H := H.1 c6
          refine V_aload_n dX8_onAtom_235 rfl 1 rfl ?_
          refine V_iconst (v := 2) dX8_onAtom_236 (by decide) ?_
          refine V_aload_n dX8_onAtom_237 rfl 1 rfl ?_
          refine H_geti ck7 5 (by decide) (fs_115 hF) (by decide) rfl q1463 dX8_onAtom_238 ?_
          refine H_callv (av := [.ref (ad D 115), .int 2, .int (h 115 5)]) (rest := []) H mqX8_stop q88 (by decide) (Nat.le_of_ble_eq_true rfl) (k_resV (ci := 7) (av := [.int 2, .int (h 115 5)]) (rest := []) (fs_115 hF) (by decide) rfl rfl q1751 q1753 qs31 q1754 mhX8_stop mnX8_stop dX8_onAtom_241) (fun h7 g8 H => ?_)
          exact H_vret rfl dX8_onAtom_244 H
        · have H := H.2 c6
          refine V_aload_n dX8_onAtom_215 rfl 1 rfl ?_
          refine V_bipush (v := 22) dX8_onAtom_216 (by decide) ?_
          refine V_iload_n dX8_onAtom_218 rfl 0 rfl ?_
          refine H_callv (av := [.ref (ad D 115), .int 22, .int y1]) (rest := []) H mqX8_push q88 (by decide) (Nat.le_of_ble_eq_true rfl) (k_resV (ci := 7) (av := [.int 22, .int y1]) (rest := []) (fs_115 hF) (by decide) rfl rfl q1783 q1785 qs39 q1786 mhX8_push mnX8_push dX8_onAtom_219) (fun h9 g10 H => ?_)
          refine V_aload_n dX8_onAtom_222 rfl 1 rfl ?_
          refine V_iconst (v := 4) dX8_onAtom_223 (by decide) ?_
          refine V_iconst (v := 0) dX8_onAtom_224 (by decide) ?_
          refine H_callv (av := [.ref (ad D 115), .int 4, .int 0]) (rest := []) H mqX8_push q88 (by decide) (Nat.le_of_ble_eq_true rfl) (k_resV (ci := 7) (av := [.int 4, .int 0]) (rest := []) (fs_115 hF) (by decide) rfl rfl q1783 q1785 qs39 q1786 mhX8_push mnX8_push dX8_onAtom_225) (fun h11 g12 H => ?_)
          refine V_aload_n dX8_onAtom_228 rfl 1 rfl ?_
          refine H_callv (av := [.ref (ad D 115)]) (rest := []) H mqX8_pass q88 (by decide) (Nat.le_of_ble_eq_true rfl) (k_resV (ci := 7) (av := []) (rest := []) (fs_115 hF) (by decide) rfl rfl q1759 q1761 qs33 q1762 mhX8_pass mnX8_pass dX8_onAtom_229) (fun h13 g14 H => ?_)
          refine V_goto (tgt := 244) dX8_onAtom_232 (by decide) ?_
          exact H_vret rfl dX8_onAtom_244 H
      · have H := H.2 c5
        refine V_aload_n dX8_onAtom_89 rfl 1 rfl ?_
        refine V_bipush (v := 7) dX8_onAtom_90 (by decide) ?_
        refine V_iload_n dX8_onAtom_92 rfl 0 rfl ?_
        refine H_calli (av := [.ref (ad D 115), .int 7, .int y1]) (rest := []) H mqX8_node q88 (by decide) (Nat.le_of_ble_eq_true rfl) (k_resV (ci := 7) (av := [.int 7, .int y1]) (rest := []) (fs_115 hF) (by decide) rfl rfl q1802 q1804 qs43 q1805 mhX8_node mnX8_node dX8_onAtom_93) (fun y17 h15 g16 H => ?_)
        refine V_istore_n (l1 := [(2, .int y17), (1, .int y1), (0, .ref (ad D 115))]) dX8_onAtom_96 rfl (by decide) rfl ?_
        refine V_aload_n dX8_onAtom_97 rfl 2 rfl ?_
        refine H_getr ck7 24 (by decide) (fs_115 hF) (by decide) rfl (fr_115_24 hF) q1482 dX8_onAtom_98 ?_
        refine V_iload_n dX8_onAtom_101 rfl 0 rfl ?_
        refine V_aload_n dX8_onAtom_102 rfl 2 rfl ?_
        refine H_getl ck7 7 (by decide) (fs_115 hF) (by decide) rfl q1465 dX8_onAtom_103 ?_
        obtain ⟨i18, H⟩ := H
        refine H_last (fs_130 hF) i18 dX8_onAtom_106 (fun g19 e20 => ?_)
        have H := H g19 e20
        refine V_aload_n dX8_onAtom_107 rfl 2 rfl ?_
        refine H_callv (av := [.ref (ad D 115)]) (rest := []) H mqX8_pass q88 (by decide) (Nat.le_of_ble_eq_true rfl) (k_resV (ci := 7) (av := []) (rest := []) (fs_115 hF) (by decide) rfl rfl q1759 q1761 qs33 q1762 mhX8_pass mnX8_pass dX8_onAtom_108) (fun h21 g22 H => ?_)
        refine V_aload_n dX8_onAtom_111 rfl 2 rfl ?_
        refine H_geti ck7 9 (by decide) (fs_115 hF) (by decide) rfl q1467 dX8_onAtom_112 ?_
        refine V_if_ne (tgt := 198) dX8_onAtom_115 (by decide) (fun c23 => ?_) (fun c23 => ?_)
        · have H := H.1 c23
          refine V.sub [2, 0] rfl ?_
          exact bX8_onAtom_198 hF y17 H
        · have H := H.2 c23
          refine V_aload_n dX8_onAtom_118 rfl 2 rfl ?_
          refine H_geti ck7 4 (by decide) (fs_115 hF) (by decide) rfl q1462 dX8_onAtom_119 ?_
          refine V_bipush (v := 14) dX8_onAtom_122 (by decide) ?_
          refine V_icmp_ne (tgt := 198) dX8_onAtom_124 (by decide) (fun c24 => ?_) (fun c24 => ?_)
          · have H := H.1 c24
            refine V.sub [2, 0] rfl ?_
            exact bX8_onAtom_198 hF y17 H
          · have H := H.2 c24
            refine V_aload_n dX8_onAtom_127 rfl 2 rfl ?_
            refine H_getr ck7 18 (by decide) (fs_115 hF) (by decide) rfl (fr_115_18 hF) q1476 dX8_onAtom_128 ?_
            refine V_iload_n dX8_onAtom_131 rfl 0 rfl ?_
            refine V_bipush (v := 8) dX8_onAtom_132 (by decide) ?_
            obtain ⟨i25, H⟩ := H
            refine H_iast (fs_124 hF) i25 dX8_onAtom_134 (fun h26 e27 => ?_)
            have H := H h26 e27
            refine V_aload_n dX8_onAtom_135 rfl 2 rfl ?_
            refine H_getr ck7 20 (by decide) (fs_115 hF) (by decide) rfl (fr_115_20 hF) q1478 dX8_onAtom_136 ?_
            refine V_iload_n dX8_onAtom_139 rfl 0 rfl ?_
            refine V_aload_n dX8_onAtom_140 rfl 2 rfl ?_
            refine H_geti ck7 32 (by decide) (fs_115 hF) (by decide) rfl q1490 dX8_onAtom_141 ?_
            obtain ⟨i28, H⟩ := H
            refine H_iast (fs_126 hF) i28 dX8_onAtom_144 (fun h29 e30 => ?_)
            have H := H h29 e30
            refine V_aload_n dX8_onAtom_145 rfl 2 rfl ?_
            refine H_callv (av := [.ref (ad D 115)]) (rest := []) H mqX8_pass q88 (by decide) (Nat.le_of_ble_eq_true rfl) (k_resV (ci := 7) (av := []) (rest := []) (fs_115 hF) (by decide) rfl rfl q1759 q1761 qs33 q1762 mhX8_pass mnX8_pass dX8_onAtom_146) (fun h31 g32 H => ?_)
            refine V_aload_n dX8_onAtom_149 rfl 2 rfl ?_
            refine H_geti ck7 9 (by decide) (fs_115 hF) (by decide) rfl q1467 dX8_onAtom_150 ?_
            refine V_if_ne (tgt := 181) dX8_onAtom_153 (by decide) (fun c33 => ?_) (fun c33 => ?_)
            · have H := H.1 c33
              refine V.sub [2, 0] rfl ?_
              exact bX8_onAtom_181 hF y17 H
            · have H := H.2 c33
              refine V_aload_n dX8_onAtom_156 rfl 2 rfl ?_
              refine H_geti ck7 4 (by decide) (fs_115 hF) (by decide) rfl q1462 dX8_onAtom_157 ?_
              refine V_bipush (v := 15) dX8_onAtom_160 (by decide) ?_
              refine V_icmp_eq (tgt := 181) dX8_onAtom_162 (by decide) (fun c34 => ?_) (fun c34 => ?_)
              · have H := H.1 c34
                refine V.sub [2, 0] rfl ?_
                exact bX8_onAtom_181 hF y17 H
              · have H := H.2 c34
                refine V_aload_n dX8_onAtom_165 rfl 2 rfl ?_
                refine V_bipush (v := 20) dX8_onAtom_166 (by decide) ?_
                refine V_iload_n dX8_onAtom_168 rfl 0 rfl ?_
                refine H_callv (av := [.ref (ad D 115), .int 20, .int y17]) (rest := []) H mqX8_push q88 (by decide) (Nat.le_of_ble_eq_true rfl) (k_resV (ci := 7) (av := [.int 20, .int y17]) (rest := []) (fs_115 hF) (by decide) rfl rfl q1783 q1785 qs39 q1786 mhX8_push mnX8_push dX8_onAtom_169) (fun h35 g36 H => ?_)
                refine V_aload_n dX8_onAtom_172 rfl 2 rfl ?_
                refine V_iconst (v := 4) dX8_onAtom_173 (by decide) ?_
                refine V_iconst (v := 0) dX8_onAtom_174 (by decide) ?_
                refine H_callv (av := [.ref (ad D 115), .int 4, .int 0]) (rest := []) H mqX8_push q88 (by decide) (Nat.le_of_ble_eq_true rfl) (k_resV (ci := 7) (av := [.int 4, .int 0]) (rest := []) (fs_115 hF) (by decide) rfl rfl q1783 q1785 qs39 q1786 mhX8_push mnX8_push dX8_onAtom_175) (fun h37 g38 H => ?_)
                refine V_goto (tgt := 203) dX8_onAtom_178 (by decide) ?_
                refine V_goto (tgt := 244) dX8_onAtom_203 (by decide) ?_
                exact H_vret rfl dX8_onAtom_244 H
    · have H := H.2 c4
      refine V_aload_n dX8_onAtom_52 rfl 1 rfl ?_
      refine V_bipush (v := 6) dX8_onAtom_53 (by decide) ?_
      refine V_iload_n dX8_onAtom_55 rfl 0 rfl ?_
      refine H_calli (av := [.ref (ad D 115), .int 6, .int y1]) (rest := []) H mqX8_node q88 (by decide) (Nat.le_of_ble_eq_true rfl) (k_resV (ci := 7) (av := [.int 6, .int y1]) (rest := []) (fs_115 hF) (by decide) rfl rfl q1802 q1804 qs43 q1805 mhX8_node mnX8_node dX8_onAtom_56) (fun y41 h39 g40 H => ?_)
      refine V_istore_n (l1 := [(2, .int y41), (1, .int y1), (0, .ref (ad D 115))]) dX8_onAtom_59 rfl (by decide) rfl ?_
      refine V_aload_n dX8_onAtom_60 rfl 2 rfl ?_
      refine V_bipush (v := 19) dX8_onAtom_61 (by decide) ?_
      refine V_iload_n dX8_onAtom_63 rfl 0 rfl ?_
      refine H_callv (av := [.ref (ad D 115), .int 19, .int y41]) (rest := []) H mqX8_push q88 (by decide) (Nat.le_of_ble_eq_true rfl) (k_resV (ci := 7) (av := [.int 19, .int y41]) (rest := []) (fs_115 hF) (by decide) rfl rfl q1783 q1785 qs39 q1786 mhX8_push mnX8_push dX8_onAtom_64) (fun h42 g43 H => ?_)
      refine V_aload_n dX8_onAtom_67 rfl 2 rfl ?_
      refine V_iconst (v := 2) dX8_onAtom_68 (by decide) ?_
      refine V_iconst (v := 0) dX8_onAtom_69 (by decide) ?_
      refine H_callv (av := [.ref (ad D 115), .int 2, .int 0]) (rest := []) H mqX8_push q88 (by decide) (Nat.le_of_ble_eq_true rfl) (k_resV (ci := 7) (av := [.int 2, .int 0]) (rest := []) (fs_115 hF) (by decide) rfl rfl q1783 q1785 qs39 q1786 mhX8_push mnX8_push dX8_onAtom_70) (fun h44 g45 H => ?_)
      refine V_aload_n dX8_onAtom_73 rfl 2 rfl ?_
      refine H_callv (av := [.ref (ad D 115)]) (rest := []) H mqX8_pass q88 (by decide) (Nat.le_of_ble_eq_true rfl) (k_resV (ci := 7) (av := []) (rest := []) (fs_115 hF) (by decide) rfl rfl q1759 q1761 qs33 q1762 mhX8_pass mnX8_pass dX8_onAtom_74) (fun h46 g47 H => ?_)
      refine V_goto (tgt := 244) dX8_onAtom_77 (by decide) ?_
      exact H_vret rfl dX8_onAtom_244 H
  · have H := H.2 c3
    refine V_aload_n dX8_onAtom_14 rfl 1 rfl ?_
    refine V_iconst (v := 5) dX8_onAtom_15 (by decide) ?_
    refine V_iload_n dX8_onAtom_16 rfl 0 rfl ?_
    refine H_calli (av := [.ref (ad D 115), .int 5, .int y1]) (rest := []) H mqX8_node q88 (by decide) (Nat.le_of_ble_eq_true rfl) (k_resV (ci := 7) (av := [.int 5, .int y1]) (rest := []) (fs_115 hF) (by decide) rfl rfl q1802 q1804 qs43 q1805 mhX8_node mnX8_node dX8_onAtom_17) (fun y50 h48 g49 H => ?_)
    refine V_istore_n (l1 := [(2, .int y50), (1, .int y1), (0, .ref (ad D 115))]) dX8_onAtom_20 rfl (by decide) rfl ?_
    refine V_aload_n dX8_onAtom_21 rfl 2 rfl ?_
    refine H_getr ck7 19 (by decide) (fs_115 hF) (by decide) rfl (fr_115_19 hF) q1477 dX8_onAtom_22 ?_
    refine V_iload_n dX8_onAtom_25 rfl 0 rfl ?_
    refine V_aload_n dX8_onAtom_26 rfl 2 rfl ?_
    refine H_geti ck7 8 (by decide) (fs_115 hF) (by decide) rfl q1466 dX8_onAtom_27 ?_
    obtain ⟨i51, H⟩ := H
    refine H_iast (fs_125 hF) i51 dX8_onAtom_30 (fun h52 e53 => ?_)
    have H := H h52 e53
    refine V_aload_n dX8_onAtom_31 rfl 2 rfl ?_
    refine V_iload_n dX8_onAtom_32 rfl 0 rfl ?_
    refine H_callv (av := [.ref (ad D 115), .int y50]) (rest := []) H mqX8_make q88 (by decide) (Nat.le_of_ble_eq_true rfl) (k_resV (ci := 7) (av := [.int y50]) (rest := []) (fs_115 hF) (by decide) rfl rfl q1814 q1816 qs46 q1817 mhX8_make mnX8_make dX8_onAtom_33) (fun h54 g55 H => ?_)
    refine V_aload_n dX8_onAtom_36 rfl 2 rfl ?_
    refine H_callv (av := [.ref (ad D 115)]) (rest := []) H mqX8_pass q88 (by decide) (Nat.le_of_ble_eq_true rfl) (k_resV (ci := 7) (av := []) (rest := []) (fs_115 hF) (by decide) rfl rfl q1759 q1761 qs33 q1762 mhX8_pass mnX8_pass dX8_onAtom_37) (fun h56 g57 H => ?_)
    refine V_goto (tgt := 244) dX8_onAtom_40 (by decide) ?_
    exact H_vret rfl dX8_onAtom_244 H
theorem wX8_onAtom {D : DE} {f : Nat} {Q : HI → HL → Prop} {F : Frm} {h : HI} {g : HL} (hF : k_Fix F)  (H : JX8_onAtom_0 D f Q F h g ) : Sv D (f + 1) mX8_onAtom [.ref (ad D 115)] F h g Q := Cl.ofV (by decide) (Nat.le_of_ble_eq_true rfl) rfl (bX8_onAtom_0 hF  H)
theorem dX8_onSum_0 : decode cX8_onSum 0 = .ok (.iload_n 1, 1) := by decide +kernel
theorem dX8_onSum_1 : decode cX8_onSum 1 = .ok (.iconst 5, 1) := by decide +kernel
theorem dX8_onSum_2 : decode cX8_onSum 2 = .ok (.if_icmp .ne 16, 3) := by decide +kernel
theorem dX8_onSum_5 : decode cX8_onSum 5 = .ok (.aload_n 0, 1) := by decide +kernel
theorem dX8_onSum_6 : decode cX8_onSum 6 = .ok (.dup, 1) := by decide +kernel
theorem dX8_onSum_7 : decode cX8_onSum 7 = .ok (.getfield 251, 3) := by decide +kernel
theorem dX8_onSum_10 : decode cX8_onSum 10 = .ok (.iconst 1, 1) := by decide +kernel
theorem dX8_onSum_11 : decode cX8_onSum 11 = .ok (.isub, 1) := by decide +kernel
theorem dX8_onSum_12 : decode cX8_onSum 12 = .ok (.putfield 251, 3) := by decide +kernel
theorem dX8_onSum_15 : decode cX8_onSum 15 = .ok (.goto 235, 3) := by decide +kernel
theorem dX8_onSum_18 : decode cX8_onSum 18 = .ok (.iload_n 1, 1) := by decide +kernel
theorem dX8_onSum_19 : decode cX8_onSum 19 = .ok (.bipush 6, 2) := by decide +kernel
theorem dX8_onSum_21 : decode cX8_onSum 21 = .ok (.if_icmp .ne 20, 3) := by decide +kernel
theorem dX8_onSum_24 : decode cX8_onSum 24 = .ok (.aload_n 0, 1) := by decide +kernel
theorem dX8_onSum_25 : decode cX8_onSum 25 = .ok (.bipush 7, 2) := by decide +kernel
theorem dX8_onSum_27 : decode cX8_onSum 27 = .ok (.iconst 0, 1) := by decide +kernel
theorem dX8_onSum_28 : decode cX8_onSum 28 = .ok (.invokevirtual 254, 3) := by decide +kernel
theorem dX8_onSum_31 : decode cX8_onSum 31 = .ok (.aload_n 0, 1) := by decide +kernel
theorem dX8_onSum_32 : decode cX8_onSum 32 = .ok (.bipush 8, 2) := by decide +kernel
theorem dX8_onSum_34 : decode cX8_onSum 34 = .ok (.iconst 0, 1) := by decide +kernel
theorem dX8_onSum_35 : decode cX8_onSum 35 = .ok (.invokevirtual 254, 3) := by decide +kernel
theorem dX8_onSum_38 : decode cX8_onSum 38 = .ok (.goto 212, 3) := by decide +kernel
theorem dX8_onSum_41 : decode cX8_onSum 41 = .ok (.iload_n 1, 1) := by decide +kernel
theorem dX8_onSum_42 : decode cX8_onSum 42 = .ok (.bipush 8, 2) := by decide +kernel
theorem dX8_onSum_44 : decode cX8_onSum 44 = .ok (.if_icmp .ne 20, 3) := by decide +kernel
theorem dX8_onSum_47 : decode cX8_onSum 47 = .ok (.aload_n 0, 1) := by decide +kernel
theorem dX8_onSum_48 : decode cX8_onSum 48 = .ok (.bipush 9, 2) := by decide +kernel
theorem dX8_onSum_50 : decode cX8_onSum 50 = .ok (.iconst 0, 1) := by decide +kernel
theorem dX8_onSum_51 : decode cX8_onSum 51 = .ok (.invokevirtual 254, 3) := by decide +kernel
theorem dX8_onSum_54 : decode cX8_onSum 54 = .ok (.aload_n 0, 1) := by decide +kernel
theorem dX8_onSum_55 : decode cX8_onSum 55 = .ok (.bipush 10, 2) := by decide +kernel
theorem dX8_onSum_57 : decode cX8_onSum 57 = .ok (.iconst 0, 1) := by decide +kernel
theorem dX8_onSum_58 : decode cX8_onSum 58 = .ok (.invokevirtual 254, 3) := by decide +kernel
theorem dX8_onSum_61 : decode cX8_onSum 61 = .ok (.goto 189, 3) := by decide +kernel
theorem dX8_onSum_64 : decode cX8_onSum 64 = .ok (.iload_n 1, 1) := by decide +kernel
theorem dX8_onSum_65 : decode cX8_onSum 65 = .ok (.bipush 10, 2) := by decide +kernel
theorem dX8_onSum_67 : decode cX8_onSum 67 = .ok (.if_icmp .ne 10, 3) := by decide +kernel
theorem dX8_onSum_70 : decode cX8_onSum 70 = .ok (.aload_n 0, 1) := by decide +kernel
theorem dX8_onSum_71 : decode cX8_onSum 71 = .ok (.invokevirtual 284, 3) := by decide +kernel
theorem dX8_onSum_74 : decode cX8_onSum 74 = .ok (.goto 176, 3) := by decide +kernel
theorem dX8_onSum_77 : decode cX8_onSum 77 = .ok (.iload_n 1, 1) := by decide +kernel
theorem dX8_onSum_78 : decode cX8_onSum 78 = .ok (.bipush 12, 2) := by decide +kernel
theorem dX8_onSum_80 : decode cX8_onSum 80 = .ok (.if_icmp .ne 62, 3) := by decide +kernel
theorem dX8_onSum_83 : decode cX8_onSum 83 = .ok (.aload_n 0, 1) := by decide +kernel
theorem dX8_onSum_84 : decode cX8_onSum 84 = .ok (.invokevirtual 287, 3) := by decide +kernel
theorem dX8_onSum_87 : decode cX8_onSum 87 = .ok (.istore_n 3, 1) := by decide +kernel
theorem dX8_onSum_88 : decode cX8_onSum 88 = .ok (.aload_n 0, 1) := by decide +kernel
theorem dX8_onSum_89 : decode cX8_onSum 89 = .ok (.invokevirtual 287, 3) := by decide +kernel
theorem dX8_onSum_92 : decode cX8_onSum 92 = .ok (.istore 4, 2) := by decide +kernel
theorem dX8_onSum_94 : decode cX8_onSum 94 = .ok (.aload_n 0, 1) := by decide +kernel
theorem dX8_onSum_95 : decode cX8_onSum 95 = .ok (.iconst 1, 1) := by decide +kernel
theorem dX8_onSum_96 : decode cX8_onSum 96 = .ok (.aload_n 0, 1) := by decide +kernel
theorem dX8_onSum_97 : decode cX8_onSum 97 = .ok (.getfield 51, 3) := by decide +kernel
theorem dX8_onSum_100 : decode cX8_onSum 100 = .ok (.iload 4, 2) := by decide +kernel
theorem dX8_onSum_102 : decode cX8_onSum 102 = .ok (.iaload, 1) := by decide +kernel
theorem dX8_onSum_103 : decode cX8_onSum 103 = .ok (.invokevirtual 281, 3) := by decide +kernel
theorem dX8_onSum_106 : decode cX8_onSum 106 = .ok (.istore 5, 2) := by decide +kernel
theorem dX8_onSum_108 : decode cX8_onSum 108 = .ok (.aload_n 0, 1) := by decide +kernel
theorem dX8_onSum_109 : decode cX8_onSum 109 = .ok (.getfield 42, 3) := by decide +kernel
theorem dX8_onSum_112 : decode cX8_onSum 112 = .ok (.iload 5, 2) := by decide +kernel
theorem dX8_onSum_114 : decode cX8_onSum 114 = .ok (.iload 4, 2) := by decide +kernel
theorem dX8_onSum_116 : decode cX8_onSum 116 = .ok (.iastore, 1) := by decide +kernel
theorem dX8_onSum_117 : decode cX8_onSum 117 = .ok (.aload_n 0, 1) := by decide +kernel
theorem dX8_onSum_118 : decode cX8_onSum 118 = .ok (.getfield 45, 3) := by decide +kernel
theorem dX8_onSum_121 : decode cX8_onSum 121 = .ok (.iload 5, 2) := by decide +kernel
theorem dX8_onSum_123 : decode cX8_onSum 123 = .ok (.iload_n 3, 1) := by decide +kernel
theorem dX8_onSum_124 : decode cX8_onSum 124 = .ok (.iastore, 1) := by decide +kernel
theorem dX8_onSum_125 : decode cX8_onSum 125 = .ok (.aload_n 0, 1) := by decide +kernel
theorem dX8_onSum_126 : decode cX8_onSum 126 = .ok (.getfield 48, 3) := by decide +kernel
theorem dX8_onSum_129 : decode cX8_onSum 129 = .ok (.iload 5, 2) := by decide +kernel
theorem dX8_onSum_131 : decode cX8_onSum 131 = .ok (.iload_n 2, 1) := by decide +kernel
theorem dX8_onSum_132 : decode cX8_onSum 132 = .ok (.iastore, 1) := by decide +kernel
theorem dX8_onSum_133 : decode cX8_onSum 133 = .ok (.aload_n 0, 1) := by decide +kernel
theorem dX8_onSum_134 : decode cX8_onSum 134 = .ok (.iload 5, 2) := by decide +kernel
theorem dX8_onSum_136 : decode cX8_onSum 136 = .ok (.invokevirtual 291, 3) := by decide +kernel
theorem dX8_onSum_139 : decode cX8_onSum 139 = .ok (.goto 111, 3) := by decide +kernel
theorem dX8_onSum_142 : decode cX8_onSum 142 = .ok (.iload_n 1, 1) := by decide +kernel
theorem dX8_onSum_143 : decode cX8_onSum 143 = .ok (.bipush 11, 2) := by decide +kernel
theorem dX8_onSum_145 : decode cX8_onSum 145 = .ok (.if_icmp .ne 24, 3) := by decide +kernel
theorem dX8_onSum_148 : decode cX8_onSum 148 = .ok (.aload_n 0, 1) := by decide +kernel
theorem dX8_onSum_149 : decode cX8_onSum 149 = .ok (.getfield 193, 3) := by decide +kernel
theorem dX8_onSum_152 : decode cX8_onSum 152 = .ok (.bipush 22, 2) := by decide +kernel
theorem dX8_onSum_154 : decode cX8_onSum 154 = .ok (.if_icmp .eq 51, 3) := by decide +kernel
theorem dX8_onSum_157 : decode cX8_onSum 157 = .ok (.aload_n 0, 1) := by decide +kernel
theorem dX8_onSum_158 : decode cX8_onSum 158 = .ok (.getfield 193, 3) := by decide +kernel
theorem dX8_onSum_161 : decode cX8_onSum 161 = .ok (.bipush 12, 2) := by decide +kernel
theorem dX8_onSum_163 : decode cX8_onSum 163 = .ok (.if_icmp .ne 87, 3) := by decide +kernel
theorem dX8_onSum_166 : decode cX8_onSum 166 = .ok (.goto 39, 3) := by decide +kernel
theorem dX8_onSum_169 : decode cX8_onSum 169 = .ok (.iload_n 1, 1) := by decide +kernel
theorem dX8_onSum_170 : decode cX8_onSum 170 = .ok (.bipush 7, 2) := by decide +kernel
theorem dX8_onSum_172 : decode cX8_onSum 172 = .ok (.if_icmp .ne 24, 3) := by decide +kernel
theorem dX8_onSum_175 : decode cX8_onSum 175 = .ok (.aload_n 0, 1) := by decide +kernel
theorem dX8_onSum_176 : decode cX8_onSum 176 = .ok (.getfield 193, 3) := by decide +kernel
theorem dX8_onSum_179 : decode cX8_onSum 179 = .ok (.bipush 19, 2) := by decide +kernel
theorem dX8_onSum_181 : decode cX8_onSum 181 = .ok (.if_icmp .eq 24, 3) := by decide +kernel
theorem dX8_onSum_184 : decode cX8_onSum 184 = .ok (.aload_n 0, 1) := by decide +kernel
theorem dX8_onSum_185 : decode cX8_onSum 185 = .ok (.getfield 193, 3) := by decide +kernel
theorem dX8_onSum_188 : decode cX8_onSum 188 = .ok (.bipush 20, 2) := by decide +kernel
theorem dX8_onSum_190 : decode cX8_onSum 190 = .ok (.if_icmp .ne 60, 3) := by decide +kernel
theorem dX8_onSum_193 : decode cX8_onSum 193 = .ok (.goto 12, 3) := by decide +kernel
theorem dX8_onSum_196 : decode cX8_onSum 196 = .ok (.aload_n 0, 1) := by decide +kernel
theorem dX8_onSum_197 : decode cX8_onSum 197 = .ok (.getfield 193, 3) := by decide +kernel
theorem dX8_onSum_200 : decode cX8_onSum 200 = .ok (.bipush 21, 2) := by decide +kernel
theorem dX8_onSum_202 : decode cX8_onSum 202 = .ok (.if_icmp .ne 48, 3) := by decide +kernel
theorem dX8_onSum_205 : decode cX8_onSum 205 = .ok (.aload_n 0, 1) := by decide +kernel
theorem dX8_onSum_206 : decode cX8_onSum 206 = .ok (.getfield 193, 3) := by decide +kernel
theorem dX8_onSum_209 : decode cX8_onSum 209 = .ok (.istore_n 3, 1) := by decide +kernel
theorem dX8_onSum_210 : decode cX8_onSum 210 = .ok (.aload_n 0, 1) := by decide +kernel
theorem dX8_onSum_211 : decode cX8_onSum 211 = .ok (.bipush 12, 2) := by decide +kernel
theorem dX8_onSum_213 : decode cX8_onSum 213 = .ok (.iload_n 3, 1) := by decide +kernel
theorem dX8_onSum_214 : decode cX8_onSum 214 = .ok (.invokevirtual 254, 3) := by decide +kernel
theorem dX8_onSum_217 : decode cX8_onSum 217 = .ok (.aload_n 0, 1) := by decide +kernel
theorem dX8_onSum_218 : decode cX8_onSum 218 = .ok (.iload_n 1, 1) := by decide +kernel
theorem dX8_onSum_219 : decode cX8_onSum 219 = .ok (.bipush 11, 2) := by decide +kernel
theorem dX8_onSum_221 : decode cX8_onSum 221 = .ok (.if_icmp .ne 8, 3) := by decide +kernel
theorem dX8_onSum_224 : decode cX8_onSum 224 = .ok (.bipush 6, 2) := by decide +kernel
theorem dX8_onSum_226 : decode cX8_onSum 226 = .ok (.goto 16, 3) := by decide +kernel
theorem dX8_onSum_229 : decode cX8_onSum 229 = .ok (.iload_n 1, 1) := by decide +kernel
theorem dX8_onSum_230 : decode cX8_onSum 230 = .ok (.bipush 7, 2) := by decide +kernel
theorem dX8_onSum_232 : decode cX8_onSum 232 = .ok (.if_icmp .ne 8, 3) := by decide +kernel
theorem dX8_onSum_235 : decode cX8_onSum 235 = .ok (.bipush 8, 2) := by decide +kernel
theorem dX8_onSum_237 : decode cX8_onSum 237 = .ok (.goto 5, 3) := by decide +kernel
theorem dX8_onSum_240 : decode cX8_onSum 240 = .ok (.bipush 10, 2) := by decide +kernel
theorem dX8_onSum_242 : decode cX8_onSum 242 = .ok (.iconst 0, 1) := by decide +kernel
theorem dX8_onSum_243 : decode cX8_onSum 243 = .ok (.invokevirtual 254, 3) := by decide +kernel
theorem dX8_onSum_246 : decode cX8_onSum 246 = .ok (.aload_n 0, 1) := by decide +kernel
theorem dX8_onSum_247 : decode cX8_onSum 247 = .ok (.invokevirtual 229, 3) := by decide +kernel
theorem dX8_onSum_250 : decode cX8_onSum 250 = .ok (.return_, 1) := by decide +kernel
abbrev JX8_onSum_242 (D : DE) (f : Nat) (Q : HI → HL → Prop) (F : Frm) (h : HI) (g : HL) (s1 : Int32) : Prop := Sv D f mX8_push [.ref (ad D 115), .int s1, .int 0] F h g (fun h1 g2 => Sv D f mX8_pass [.ref (ad D 115)] F h1 g2 (fun h3 g4 => Q h3 g4))
theorem bX8_onSum_242 {D : DE} {f : Nat} {Q : HI → HL → Prop} {F : Frm} {h : HI} {g : HL} (hF : k_Fix F) (s1 : Int32) (H : JX8_onSum_242 D f Q F h g s1) : V D mX8_onSum (f + 1) (qv F Q) 242 [(0, .ref (ad D 115))] [.int s1, .ref (ad D 115)] (F, h, g) := by
  refine V_iconst (v := 0) dX8_onSum_242 (by decide) ?_
  refine H_callv (av := [.ref (ad D 115), .int s1, .int 0]) (rest := []) H mqX8_push q88 (by decide) (Nat.le_of_ble_eq_true rfl) (k_resV (ci := 7) (av := [.int s1, .int 0]) (rest := []) (fs_115 hF) (by decide) rfl rfl q1783 q1785 qs39 q1786 mhX8_push mnX8_push dX8_onSum_243) (fun h1 g2 H => ?_)
  refine V_aload_n dX8_onSum_246 rfl 0 rfl ?_
  refine H_callv (av := [.ref (ad D 115)]) (rest := []) H mqX8_pass q88 (by decide) (Nat.le_of_ble_eq_true rfl) (k_resV (ci := 7) (av := []) (rest := []) (fs_115 hF) (by decide) rfl rfl q1759 q1761 qs33 q1762 mhX8_pass mnX8_pass dX8_onSum_247) (fun h3 g4 H => ?_)
  exact H_vret rfl dX8_onSum_250 H
abbrev JX8_onSum_205 (D : DE) (f : Nat) (Q : HI → HL → Prop) (F : Frm) (h : HI) (g : HL) (x1 : Int32) : Prop := ∀ y1 : Int32, y1 = h 115 4 → Sv D f mX8_push [.ref (ad D 115), .int 12, .int y1] F h g (fun h3 g4 => ((¬ x1 = 11 → ((¬ x1 = 7 → JX8_onSum_242 D f Q F h3 g4 10) ∧ (x1 = 7 → JX8_onSum_242 D f Q F h3 g4 8))) ∧ (x1 = 11 → JX8_onSum_242 D f Q F h3 g4 6)))
theorem bX8_onSum_205 {D : DE} {f : Nat} {Q : HI → HL → Prop} {F : Frm} {h : HI} {g : HL} (hF : k_Fix F) (x1 : Int32) (H : JX8_onSum_205 D f Q F h g x1) : V D mX8_onSum (f + 1) (qv F Q) 205 [(0, .ref (ad D 115)), (1, .int x1)] [] (F, h, g) := by
  refine V_aload_n dX8_onSum_205 rfl 0 rfl ?_
  refine H_geti ck7 4 (by decide) (fs_115 hF) (by decide) rfl q1462 dX8_onSum_206 ?_
  refine V_topi (fun y1 e2 => ?_)
  have H := H y1 e2
  refine V_istore_n (l1 := [(3, .int y1), (0, .ref (ad D 115)), (1, .int x1)]) dX8_onSum_209 rfl (by decide) rfl ?_
  refine V_aload_n dX8_onSum_210 rfl 1 rfl ?_
  refine V_bipush (v := 12) dX8_onSum_211 (by decide) ?_
  refine V_iload_n dX8_onSum_213 rfl 0 rfl ?_
  refine H_callv (av := [.ref (ad D 115), .int 12, .int y1]) (rest := []) H mqX8_push q88 (by decide) (Nat.le_of_ble_eq_true rfl) (k_resV (ci := 7) (av := [.int 12, .int y1]) (rest := []) (fs_115 hF) (by decide) rfl rfl q1783 q1785 qs39 q1786 mhX8_push mnX8_push dX8_onSum_214) (fun h3 g4 H => ?_)
  refine V_aload_n dX8_onSum_217 rfl 1 rfl ?_
  refine V_iload_n dX8_onSum_218 rfl 2 rfl ?_
  refine V_bipush (v := 11) dX8_onSum_219 (by decide) ?_
  refine V_icmp_ne (tgt := 229) dX8_onSum_221 (by decide) (fun c5 => ?_) (fun c5 => ?_)
  · have H := H.1 c5
    refine V_iload_n dX8_onSum_229 rfl 2 rfl ?_
    refine V_bipush (v := 7) dX8_onSum_230 (by decide) ?_
    refine V_icmp_ne (tgt := 240) dX8_onSum_232 (by decide) (fun c6 => ?_) (fun c6 => ?_)
    · have H := H.1 c6
      refine V_bipush (v := 10) dX8_onSum_240 (by decide) ?_
      refine V.sub [1] rfl ?_
      exact bX8_onSum_242 hF 10 H
    · have H := H.2 c6
      refine V_bipush (v := 8) dX8_onSum_235 (by decide) ?_
      refine V_goto (tgt := 242) dX8_onSum_237 (by decide) ?_
      refine V.sub [1] rfl ?_
      exact bX8_onSum_242 hF 8 H
  · have H := H.2 c5
    refine V_bipush (v := 6) dX8_onSum_224 (by decide) ?_
    refine V_goto (tgt := 242) dX8_onSum_226 (by decide) ?_
    refine V.sub [1] rfl ?_
    exact bX8_onSum_242 hF 6 H
abbrev JX8_onSum_0 (D : DE) (f : Nat) (Q : HI → HL → Prop) (F : Frm) (h : HI) (g : HL) (x1 : Int32) (x2 : Int32) : Prop := ((¬ x1 = 5 → ((¬ x1 = 6 → ((¬ x1 = 8 → ((¬ x1 = 10 → ((¬ x1 = 12 → ((¬ x1 = 11 → ((¬ x1 = 7 → ((¬ (h 115 4) = 21 → Q h g) ∧ ((h 115 4) = 21 → JX8_onSum_205 D f Q F h g x1))) ∧ (x1 = 7 → (((h 115 4) = 19 → JX8_onSum_205 D f Q F h g x1) ∧ (¬ (h 115 4) = 19 → ((¬ (h 115 4) = 20 → Q h g) ∧ ((h 115 4) = 20 → JX8_onSum_205 D f Q F h g x1))))))) ∧ (x1 = 11 → (((h 115 4) = 22 → JX8_onSum_205 D f Q F h g x1) ∧ (¬ (h 115 4) = 22 → ((¬ (h 115 4) = 12 → Q h g) ∧ ((h 115 4) = 12 → JX8_onSum_205 D f Q F h g x1))))))) ∧ (x1 = 12 → Si D f mX8_last [.ref (ad D 115)] F h g (fun y15 h13 g14 => Si D f mX8_last [.ref (ad D 115)] F h13 g14 (fun y18 h16 g17 => vp_in y18 2002 ∧ Si D f mX8_node [.ref (ad D 115), .int 1, .int (h16 128 (ix y18))] F h16 g17 (fun y22 h20 g21 => vp_in y22 2002 ∧ ∀ h24, h24 = up2 h20 125 (ix y22) y18 → vp_in y22 2002 ∧ ∀ h27, h27 = up2 h24 126 (ix y22) y15 → vp_in y22 2002 ∧ ∀ h30, h30 = up2 h27 127 (ix y22) x2 → Sv D f mX8_make [.ref (ad D 115), .int y22] F h30 g21 (fun h32 g33 => Q h32 g33))))))) ∧ (x1 = 10 → Sv D f mX8_onAtom [.ref (ad D 115)] F h g (fun h34 g35 => Q h34 g35)))) ∧ (x1 = 8 → Sv D f mX8_push [.ref (ad D 115), .int 9, .int 0] F h g (fun h36 g37 => Sv D f mX8_push [.ref (ad D 115), .int 10, .int 0] F h36 g37 (fun h38 g39 => Q h38 g39))))) ∧ (x1 = 6 → Sv D f mX8_push [.ref (ad D 115), .int 7, .int 0] F h g (fun h40 g41 => Sv D f mX8_push [.ref (ad D 115), .int 8, .int 0] F h40 g41 (fun h42 g43 => Q h42 g43))))) ∧ (x1 = 5 → ∀ h44, h44 = up2 h 115 41 ((h 115 41) - 1) → Q h44 g))
theorem bX8_onSum_0 {D : DE} {f : Nat} {Q : HI → HL → Prop} {F : Frm} {h : HI} {g : HL} (hF : k_Fix F) (x1 : Int32) (x2 : Int32) (H : JX8_onSum_0 D f Q F h g x1 x2) : V D mX8_onSum (f + 1) (qv F Q) 0 [(0, .ref (ad D 115)), (1, .int x1), (2, .int x2)] [] (F, h, g) := by
  refine V_iload_n dX8_onSum_0 rfl 1 rfl ?_
  refine V_iconst (v := 5) dX8_onSum_1 (by decide) ?_
  refine V_icmp_ne (tgt := 18) dX8_onSum_2 (by decide) (fun c1 => ?_) (fun c1 => ?_)
  · have H := H.1 c1
    refine V_iload_n dX8_onSum_18 rfl 1 rfl ?_
    refine V_bipush (v := 6) dX8_onSum_19 (by decide) ?_
    refine V_icmp_ne (tgt := 41) dX8_onSum_21 (by decide) (fun c2 => ?_) (fun c2 => ?_)
    · have H := H.1 c2
      refine V_iload_n dX8_onSum_41 rfl 1 rfl ?_
      refine V_bipush (v := 8) dX8_onSum_42 (by decide) ?_
      refine V_icmp_ne (tgt := 64) dX8_onSum_44 (by decide) (fun c3 => ?_) (fun c3 => ?_)
      · have H := H.1 c3
        refine V_iload_n dX8_onSum_64 rfl 1 rfl ?_
        refine V_bipush (v := 10) dX8_onSum_65 (by decide) ?_
        refine V_icmp_ne (tgt := 77) dX8_onSum_67 (by decide) (fun c4 => ?_) (fun c4 => ?_)
        · have H := H.1 c4
          refine V_iload_n dX8_onSum_77 rfl 1 rfl ?_
          refine V_bipush (v := 12) dX8_onSum_78 (by decide) ?_
          refine V_icmp_ne (tgt := 142) dX8_onSum_80 (by decide) (fun c5 => ?_) (fun c5 => ?_)
          · have H := H.1 c5
            refine V_iload_n dX8_onSum_142 rfl 1 rfl ?_
            refine V_bipush (v := 11) dX8_onSum_143 (by decide) ?_
            refine V_icmp_ne (tgt := 169) dX8_onSum_145 (by decide) (fun c6 => ?_) (fun c6 => ?_)
            · have H := H.1 c6
              refine V_iload_n dX8_onSum_169 rfl 1 rfl ?_
              refine V_bipush (v := 7) dX8_onSum_170 (by decide) ?_
              refine V_icmp_ne (tgt := 196) dX8_onSum_172 (by decide) (fun c7 => ?_) (fun c7 => ?_)
              · have H := H.1 c7
                refine V_aload_n dX8_onSum_196 rfl 0 rfl ?_
                refine H_geti ck7 4 (by decide) (fs_115 hF) (by decide) rfl q1462 dX8_onSum_197 ?_
                refine V_bipush (v := 21) dX8_onSum_200 (by decide) ?_
                refine V_icmp_ne (tgt := 250) dX8_onSum_202 (by decide) (fun c8 => ?_) (fun c8 => ?_)
                · have H := H.1 c8
                  exact H_vret rfl dX8_onSum_250 H
                · have H := H.2 c8
                  refine V.sub [0, 1] rfl ?_
                  exact bX8_onSum_205 hF x1 H
              · have H := H.2 c7
                refine V_aload_n dX8_onSum_175 rfl 0 rfl ?_
                refine H_geti ck7 4 (by decide) (fs_115 hF) (by decide) rfl q1462 dX8_onSum_176 ?_
                refine V_bipush (v := 19) dX8_onSum_179 (by decide) ?_
                refine V_icmp_eq (tgt := 205) dX8_onSum_181 (by decide) (fun c9 => ?_) (fun c9 => ?_)
                · have H := H.1 c9
                  refine V.sub [0, 1] rfl ?_
                  exact bX8_onSum_205 hF x1 H
                · have H := H.2 c9
                  refine V_aload_n dX8_onSum_184 rfl 0 rfl ?_
                  refine H_geti ck7 4 (by decide) (fs_115 hF) (by decide) rfl q1462 dX8_onSum_185 ?_
                  refine V_bipush (v := 20) dX8_onSum_188 (by decide) ?_
                  refine V_icmp_ne (tgt := 250) dX8_onSum_190 (by decide) (fun c10 => ?_) (fun c10 => ?_)
                  · have H := H.1 c10
                    exact H_vret rfl dX8_onSum_250 H
                  · have H := H.2 c10
                    refine V_goto (tgt := 205) dX8_onSum_193 (by decide) ?_
                    refine V.sub [0, 1] rfl ?_
                    exact bX8_onSum_205 hF x1 H
            · have H := H.2 c6
              refine V_aload_n dX8_onSum_148 rfl 0 rfl ?_
              refine H_geti ck7 4 (by decide) (fs_115 hF) (by decide) rfl q1462 dX8_onSum_149 ?_
              refine V_bipush (v := 22) dX8_onSum_152 (by decide) ?_
              refine V_icmp_eq (tgt := 205) dX8_onSum_154 (by decide) (fun c11 => ?_) (fun c11 => ?_)
              · have H := H.1 c11
                refine V.sub [0, 1] rfl ?_
                exact bX8_onSum_205 hF x1 H
              · have H := H.2 c11
                refine V_aload_n dX8_onSum_157 rfl 0 rfl ?_
                refine H_geti ck7 4 (by decide) (fs_115 hF) (by decide) rfl q1462 dX8_onSum_158 ?_
                refine V_bipush (v := 12) dX8_onSum_161 (by decide) ?_
                refine V_icmp_ne (tgt := 250) dX8_onSum_163 (by decide) (fun c12 => ?_) (fun c12 => ?_)
                · have H := H.1 c12
                  exact H_vret rfl dX8_onSum_250 H
                · have H := H.2 c12
                  refine V_goto (tgt := 205) dX8_onSum_166 (by decide) ?_
                  refine V.sub [0, 1] rfl ?_
                  exact bX8_onSum_205 hF x1 H
          · have H := H.2 c5
            refine V_aload_n dX8_onSum_83 rfl 0 rfl ?_
            refine H_calli (av := [.ref (ad D 115)]) (rest := []) H mqX8_last q88 (by decide) (Nat.le_of_ble_eq_true rfl) (k_resV (ci := 7) (av := []) (rest := []) (fs_115 hF) (by decide) rfl rfl q1818 q1820 qs47 q1821 mhX8_last mnX8_last dX8_onSum_84) (fun y15 h13 g14 H => ?_)
            refine V_istore_n (l1 := [(3, .int y15), (0, .ref (ad D 115)), (1, .int x1), (2, .int x2)]) dX8_onSum_87 rfl (by decide) rfl ?_
            refine V_aload_n dX8_onSum_88 rfl 1 rfl ?_
            refine H_calli (av := [.ref (ad D 115)]) (rest := []) H mqX8_last q88 (by decide) (Nat.le_of_ble_eq_true rfl) (k_resV (ci := 7) (av := []) (rest := []) (fs_115 hF) (by decide) rfl rfl q1818 q1820 qs47 q1821 mhX8_last mnX8_last dX8_onSum_89) (fun y18 h16 g17 H => ?_)
            refine V_istore (l1 := [(4, .int y18), (3, .int y15), (0, .ref (ad D 115)), (1, .int x1), (2, .int x2)]) dX8_onSum_92 (by decide) rfl ?_
            refine V_aload_n dX8_onSum_94 rfl 2 rfl ?_
            refine V_iconst (v := 1) dX8_onSum_95 (by decide) ?_
            refine V_aload_n dX8_onSum_96 rfl 2 rfl ?_
            refine H_getr ck7 22 (by decide) (fs_115 hF) (by decide) rfl (fr_115_22 hF) q1480 dX8_onSum_97 ?_
            refine V_iload dX8_onSum_100 0 rfl ?_
            obtain ⟨i19, H⟩ := H
            refine H_iald (fs_128 hF) i19 dX8_onSum_102 ?_
            refine H_calli (av := [.ref (ad D 115), .int 1, .int (h16 128 (ix y18))]) (rest := []) H mqX8_node q88 (by decide) (Nat.le_of_ble_eq_true rfl) (k_resV (ci := 7) (av := [.int 1, .int (h16 128 (ix y18))]) (rest := []) (fs_115 hF) (by decide) rfl rfl q1802 q1804 qs43 q1805 mhX8_node mnX8_node dX8_onSum_103) (fun y22 h20 g21 H => ?_)
            refine V_istore (l1 := [(5, .int y22), (4, .int y18), (3, .int y15), (0, .ref (ad D 115)), (1, .int x1), (2, .int x2)]) dX8_onSum_106 (by decide) rfl ?_
            refine V_aload_n dX8_onSum_108 rfl 3 rfl ?_
            refine H_getr ck7 19 (by decide) (fs_115 hF) (by decide) rfl (fr_115_19 hF) q1477 dX8_onSum_109 ?_
            refine V_iload dX8_onSum_112 0 rfl ?_
            refine V_iload dX8_onSum_114 1 rfl ?_
            obtain ⟨i23, H⟩ := H
            refine H_iast (fs_125 hF) i23 dX8_onSum_116 (fun h24 e25 => ?_)
            have H := H h24 e25
            refine V_aload_n dX8_onSum_117 rfl 3 rfl ?_
            refine H_getr ck7 20 (by decide) (fs_115 hF) (by decide) rfl (fr_115_20 hF) q1478 dX8_onSum_118 ?_
            refine V_iload dX8_onSum_121 0 rfl ?_
            refine V_iload_n dX8_onSum_123 rfl 2 rfl ?_
            obtain ⟨i26, H⟩ := H
            refine H_iast (fs_126 hF) i26 dX8_onSum_124 (fun h27 e28 => ?_)
            have H := H h27 e28
            refine V_aload_n dX8_onSum_125 rfl 3 rfl ?_
            refine H_getr ck7 21 (by decide) (fs_115 hF) (by decide) rfl (fr_115_21 hF) q1479 dX8_onSum_126 ?_
            refine V_iload dX8_onSum_129 0 rfl ?_
            refine V_iload_n dX8_onSum_131 rfl 5 rfl ?_
            obtain ⟨i29, H⟩ := H
            refine H_iast (fs_127 hF) i29 dX8_onSum_132 (fun h30 e31 => ?_)
            have H := H h30 e31
            refine V_aload_n dX8_onSum_133 rfl 3 rfl ?_
            refine V_iload dX8_onSum_134 0 rfl ?_
            refine H_callv (av := [.ref (ad D 115), .int y22]) (rest := []) H mqX8_make q88 (by decide) (Nat.le_of_ble_eq_true rfl) (k_resV (ci := 7) (av := [.int y22]) (rest := []) (fs_115 hF) (by decide) rfl rfl q1814 q1816 qs46 q1817 mhX8_make mnX8_make dX8_onSum_136) (fun h32 g33 H => ?_)
            refine V_goto (tgt := 250) dX8_onSum_139 (by decide) ?_
            exact H_vret rfl dX8_onSum_250 H
        · have H := H.2 c4
          refine V_aload_n dX8_onSum_70 rfl 0 rfl ?_
          refine H_callv (av := [.ref (ad D 115)]) (rest := []) H mqX8_onAtom q88 (by decide) (Nat.le_of_ble_eq_true rfl) (k_resV (ci := 7) (av := []) (rest := []) (fs_115 hF) (by decide) rfl rfl q1810 q1812 qs45 q1813 mhX8_onAtom mnX8_onAtom dX8_onSum_71) (fun h34 g35 H => ?_)
          refine V_goto (tgt := 250) dX8_onSum_74 (by decide) ?_
          exact H_vret rfl dX8_onSum_250 H
      · have H := H.2 c3
        refine V_aload_n dX8_onSum_47 rfl 0 rfl ?_
        refine V_bipush (v := 9) dX8_onSum_48 (by decide) ?_
        refine V_iconst (v := 0) dX8_onSum_50 (by decide) ?_
        refine H_callv (av := [.ref (ad D 115), .int 9, .int 0]) (rest := []) H mqX8_push q88 (by decide) (Nat.le_of_ble_eq_true rfl) (k_resV (ci := 7) (av := [.int 9, .int 0]) (rest := []) (fs_115 hF) (by decide) rfl rfl q1783 q1785 qs39 q1786 mhX8_push mnX8_push dX8_onSum_51) (fun h36 g37 H => ?_)
        refine V_aload_n dX8_onSum_54 rfl 0 rfl ?_
        refine V_bipush (v := 10) dX8_onSum_55 (by decide) ?_
        refine V_iconst (v := 0) dX8_onSum_57 (by decide) ?_
        refine H_callv (av := [.ref (ad D 115), .int 10, .int 0]) (rest := []) H mqX8_push q88 (by decide) (Nat.le_of_ble_eq_true rfl) (k_resV (ci := 7) (av := [.int 10, .int 0]) (rest := []) (fs_115 hF) (by decide) rfl rfl q1783 q1785 qs39 q1786 mhX8_push mnX8_push dX8_onSum_58) (fun h38 g39 H => ?_)
        refine V_goto (tgt := 250) dX8_onSum_61 (by decide) ?_
        exact H_vret rfl dX8_onSum_250 H
    · have H := H.2 c2
      refine V_aload_n dX8_onSum_24 rfl 0 rfl ?_
      refine V_bipush (v := 7) dX8_onSum_25 (by decide) ?_
      refine V_iconst (v := 0) dX8_onSum_27 (by decide) ?_
      refine H_callv (av := [.ref (ad D 115), .int 7, .int 0]) (rest := []) H mqX8_push q88 (by decide) (Nat.le_of_ble_eq_true rfl) (k_resV (ci := 7) (av := [.int 7, .int 0]) (rest := []) (fs_115 hF) (by decide) rfl rfl q1783 q1785 qs39 q1786 mhX8_push mnX8_push dX8_onSum_28) (fun h40 g41 H => ?_)
      refine V_aload_n dX8_onSum_31 rfl 0 rfl ?_
      refine V_bipush (v := 8) dX8_onSum_32 (by decide) ?_
      refine V_iconst (v := 0) dX8_onSum_34 (by decide) ?_
      refine H_callv (av := [.ref (ad D 115), .int 8, .int 0]) (rest := []) H mqX8_push q88 (by decide) (Nat.le_of_ble_eq_true rfl) (k_resV (ci := 7) (av := [.int 8, .int 0]) (rest := []) (fs_115 hF) (by decide) rfl rfl q1783 q1785 qs39 q1786 mhX8_push mnX8_push dX8_onSum_35) (fun h42 g43 H => ?_)
      refine V_goto (tgt := 250) dX8_onSum_38 (by decide) ?_
      exact H_vret rfl dX8_onSum_250 H
  · have H := H.2 c1
    refine V_aload_n dX8_onSum_5 rfl 0 rfl ?_
    refine V_dup dX8_onSum_6 rfl ?_
    refine H_geti ck7 41 (by decide) (fs_115 hF) (by decide) rfl q1499 dX8_onSum_7 ?_
    refine V_iconst (v := 1) dX8_onSum_10 (by decide) ?_
    refine V_isub dX8_onSum_11 ?_
    refine H_puti ck7 41 (by decide) (fs_115 hF) (by decide) rfl rfl q1499 dX8_onSum_12 (fun h44 e45 => ?_)
    have H := H h44 e45
    refine V_goto (tgt := 250) dX8_onSum_15 (by decide) ?_
    exact H_vret rfl dX8_onSum_250 H
theorem wX8_onSum {D : DE} {f : Nat} {Q : HI → HL → Prop} {F : Frm} {h : HI} {g : HL} (hF : k_Fix F) (x1 : Int32) (x2 : Int32) (H : JX8_onSum_0 D f Q F h g x1 x2) : Sv D (f + 1) mX8_onSum [.ref (ad D 115), .int x1, .int x2] F h g Q := Cl.ofV (by decide) (Nat.le_of_ble_eq_true rfl) rfl (bX8_onSum_0 hF x1 x2 H)
theorem dX8_onCouple_0 : decode cX8_onCouple 0 = .ok (.aload_n 0, 1) := by decide +kernel
theorem dX8_onCouple_1 : decode cX8_onCouple 1 = .ok (.getfield 193, 3) := by decide +kernel
theorem dX8_onCouple_4 : decode cX8_onCouple 4 = .ok (.bipush 16, 2) := by decide +kernel
theorem dX8_onCouple_6 : decode cX8_onCouple 6 = .ok (.if_icmp .eq 11, 3) := by decide +kernel
theorem dX8_onCouple_9 : decode cX8_onCouple 9 = .ok (.aload_n 0, 1) := by decide +kernel
theorem dX8_onCouple_10 : decode cX8_onCouple 10 = .ok (.iconst 1, 1) := by decide +kernel
theorem dX8_onCouple_11 : decode cX8_onCouple 11 = .ok (.bipush 15, 2) := by decide +kernel
theorem dX8_onCouple_13 : decode cX8_onCouple 13 = .ok (.invokevirtual 254, 3) := by decide +kernel
theorem dX8_onCouple_16 : decode cX8_onCouple 16 = .ok (.return_, 1) := by decide +kernel
theorem dX8_onCouple_17 : decode cX8_onCouple 17 = .ok (.aload_n 0, 1) := by decide +kernel
theorem dX8_onCouple_18 : decode cX8_onCouple 18 = .ok (.bipush 9, 2) := by decide +kernel
theorem dX8_onCouple_20 : decode cX8_onCouple 20 = .ok (.iload_n 1, 1) := by decide +kernel
theorem dX8_onCouple_21 : decode cX8_onCouple 21 = .ok (.invokevirtual 281, 3) := by decide +kernel
theorem dX8_onCouple_24 : decode cX8_onCouple 24 = .ok (.istore_n 2, 1) := by decide +kernel
theorem dX8_onCouple_25 : decode cX8_onCouple 25 = .ok (.aload_n 0, 1) := by decide +kernel
theorem dX8_onCouple_26 : decode cX8_onCouple 26 = .ok (.getfield 42, 3) := by decide +kernel
theorem dX8_onCouple_29 : decode cX8_onCouple 29 = .ok (.iload_n 2, 1) := by decide +kernel
theorem dX8_onCouple_30 : decode cX8_onCouple 30 = .ok (.aload_n 0, 1) := by decide +kernel
theorem dX8_onCouple_31 : decode cX8_onCouple 31 = .ok (.invokevirtual 287, 3) := by decide +kernel
theorem dX8_onCouple_34 : decode cX8_onCouple 34 = .ok (.iastore, 1) := by decide +kernel
theorem dX8_onCouple_35 : decode cX8_onCouple 35 = .ok (.aload_n 0, 1) := by decide +kernel
theorem dX8_onCouple_36 : decode cX8_onCouple 36 = .ok (.bipush 18, 2) := by decide +kernel
theorem dX8_onCouple_38 : decode cX8_onCouple 38 = .ok (.iload_n 2, 1) := by decide +kernel
theorem dX8_onCouple_39 : decode cX8_onCouple 39 = .ok (.invokevirtual 254, 3) := by decide +kernel
theorem dX8_onCouple_42 : decode cX8_onCouple 42 = .ok (.aload_n 0, 1) := by decide +kernel
theorem dX8_onCouple_43 : decode cX8_onCouple 43 = .ok (.iconst 1, 1) := by decide +kernel
theorem dX8_onCouple_44 : decode cX8_onCouple 44 = .ok (.bipush 15, 2) := by decide +kernel
theorem dX8_onCouple_46 : decode cX8_onCouple 46 = .ok (.invokevirtual 254, 3) := by decide +kernel
theorem dX8_onCouple_49 : decode cX8_onCouple 49 = .ok (.aload_n 0, 1) := by decide +kernel
theorem dX8_onCouple_50 : decode cX8_onCouple 50 = .ok (.bipush 16, 2) := by decide +kernel
theorem dX8_onCouple_52 : decode cX8_onCouple 52 = .ok (.iload_n 2, 1) := by decide +kernel
theorem dX8_onCouple_53 : decode cX8_onCouple 53 = .ok (.invokevirtual 254, 3) := by decide +kernel
theorem dX8_onCouple_56 : decode cX8_onCouple 56 = .ok (.aload_n 0, 1) := by decide +kernel
theorem dX8_onCouple_57 : decode cX8_onCouple 57 = .ok (.iconst 4, 1) := by decide +kernel
theorem dX8_onCouple_58 : decode cX8_onCouple 58 = .ok (.iconst 0, 1) := by decide +kernel
theorem dX8_onCouple_59 : decode cX8_onCouple 59 = .ok (.invokevirtual 254, 3) := by decide +kernel
theorem dX8_onCouple_62 : decode cX8_onCouple 62 = .ok (.aload_n 0, 1) := by decide +kernel
theorem dX8_onCouple_63 : decode cX8_onCouple 63 = .ok (.invokevirtual 229, 3) := by decide +kernel
theorem dX8_onCouple_66 : decode cX8_onCouple 66 = .ok (.return_, 1) := by decide +kernel
abbrev JX8_onCouple_0 (D : DE) (f : Nat) (Q : HI → HL → Prop) (F : Frm) (h : HI) (g : HL) (x1 : Int32) : Prop := (((h 115 4) = 16 → Si D f mX8_node [.ref (ad D 115), .int 9, .int x1] F h g (fun y4 h2 g3 => Si D f mX8_last [.ref (ad D 115)] F h2 g3 (fun y7 h5 g6 => vp_in y4 2002 ∧ ∀ h9, h9 = up2 h5 125 (ix y4) y7 → Sv D f mX8_push [.ref (ad D 115), .int 18, .int y4] F h9 g6 (fun h11 g12 => Sv D f mX8_push [.ref (ad D 115), .int 1, .int 15] F h11 g12 (fun h13 g14 => Sv D f mX8_push [.ref (ad D 115), .int 16, .int y4] F h13 g14 (fun h15 g16 => Sv D f mX8_push [.ref (ad D 115), .int 4, .int 0] F h15 g16 (fun h17 g18 => Sv D f mX8_pass [.ref (ad D 115)] F h17 g18 (fun h19 g20 => Q h19 g20)))))))) ∧ (¬ (h 115 4) = 16 → Sv D f mX8_push [.ref (ad D 115), .int 1, .int 15] F h g (fun h21 g22 => Q h21 g22)))
theorem bX8_onCouple_0 {D : DE} {f : Nat} {Q : HI → HL → Prop} {F : Frm} {h : HI} {g : HL} (hF : k_Fix F) (x1 : Int32) (H : JX8_onCouple_0 D f Q F h g x1) : V D mX8_onCouple (f + 1) (qv F Q) 0 [(0, .ref (ad D 115)), (1, .int x1)] [] (F, h, g) := by
  refine V_aload_n dX8_onCouple_0 rfl 0 rfl ?_
  refine H_geti ck7 4 (by decide) (fs_115 hF) (by decide) rfl q1462 dX8_onCouple_1 ?_
  refine V_bipush (v := 16) dX8_onCouple_4 (by decide) ?_
  refine V_icmp_eq (tgt := 17) dX8_onCouple_6 (by decide) (fun c1 => ?_) (fun c1 => ?_)
  · have H := H.1 c1
    refine V_aload_n dX8_onCouple_17 rfl 0 rfl ?_
    refine V_bipush (v := 9) dX8_onCouple_18 (by decide) ?_
    refine V_iload_n dX8_onCouple_20 rfl 1 rfl ?_
    refine H_calli (av := [.ref (ad D 115), .int 9, .int x1]) (rest := []) H mqX8_node q88 (by decide) (Nat.le_of_ble_eq_true rfl) (k_resV (ci := 7) (av := [.int 9, .int x1]) (rest := []) (fs_115 hF) (by decide) rfl rfl q1802 q1804 qs43 q1805 mhX8_node mnX8_node dX8_onCouple_21) (fun y4 h2 g3 H => ?_)
    refine V_istore_n (l1 := [(2, .int y4), (0, .ref (ad D 115)), (1, .int x1)]) dX8_onCouple_24 rfl (by decide) rfl ?_
    refine V_aload_n dX8_onCouple_25 rfl 1 rfl ?_
    refine H_getr ck7 19 (by decide) (fs_115 hF) (by decide) rfl (fr_115_19 hF) q1477 dX8_onCouple_26 ?_
    refine V_iload_n dX8_onCouple_29 rfl 0 rfl ?_
    refine V_aload_n dX8_onCouple_30 rfl 1 rfl ?_
    refine H_calli (av := [.ref (ad D 115)]) (rest := [.int y4, .ref (ad D 125)]) H mqX8_last q88 (by decide) (Nat.le_of_ble_eq_true rfl) (k_resV (ci := 7) (av := []) (rest := [.int y4, .ref (ad D 125)]) (fs_115 hF) (by decide) rfl rfl q1818 q1820 qs47 q1821 mhX8_last mnX8_last dX8_onCouple_31) (fun y7 h5 g6 H => ?_)
    obtain ⟨i8, H⟩ := H
    refine H_iast (fs_125 hF) i8 dX8_onCouple_34 (fun h9 e10 => ?_)
    have H := H h9 e10
    refine V_aload_n dX8_onCouple_35 rfl 1 rfl ?_
    refine V_bipush (v := 18) dX8_onCouple_36 (by decide) ?_
    refine V_iload_n dX8_onCouple_38 rfl 0 rfl ?_
    refine H_callv (av := [.ref (ad D 115), .int 18, .int y4]) (rest := []) H mqX8_push q88 (by decide) (Nat.le_of_ble_eq_true rfl) (k_resV (ci := 7) (av := [.int 18, .int y4]) (rest := []) (fs_115 hF) (by decide) rfl rfl q1783 q1785 qs39 q1786 mhX8_push mnX8_push dX8_onCouple_39) (fun h11 g12 H => ?_)
    refine V_aload_n dX8_onCouple_42 rfl 1 rfl ?_
    refine V_iconst (v := 1) dX8_onCouple_43 (by decide) ?_
    refine V_bipush (v := 15) dX8_onCouple_44 (by decide) ?_
    refine H_callv (av := [.ref (ad D 115), .int 1, .int 15]) (rest := []) H mqX8_push q88 (by decide) (Nat.le_of_ble_eq_true rfl) (k_resV (ci := 7) (av := [.int 1, .int 15]) (rest := []) (fs_115 hF) (by decide) rfl rfl q1783 q1785 qs39 q1786 mhX8_push mnX8_push dX8_onCouple_46) (fun h13 g14 H => ?_)
    refine V_aload_n dX8_onCouple_49 rfl 1 rfl ?_
    refine V_bipush (v := 16) dX8_onCouple_50 (by decide) ?_
    refine V_iload_n dX8_onCouple_52 rfl 0 rfl ?_
    refine H_callv (av := [.ref (ad D 115), .int 16, .int y4]) (rest := []) H mqX8_push q88 (by decide) (Nat.le_of_ble_eq_true rfl) (k_resV (ci := 7) (av := [.int 16, .int y4]) (rest := []) (fs_115 hF) (by decide) rfl rfl q1783 q1785 qs39 q1786 mhX8_push mnX8_push dX8_onCouple_53) (fun h15 g16 H => ?_)
    refine V_aload_n dX8_onCouple_56 rfl 1 rfl ?_
    refine V_iconst (v := 4) dX8_onCouple_57 (by decide) ?_
    refine V_iconst (v := 0) dX8_onCouple_58 (by decide) ?_
    refine H_callv (av := [.ref (ad D 115), .int 4, .int 0]) (rest := []) H mqX8_push q88 (by decide) (Nat.le_of_ble_eq_true rfl) (k_resV (ci := 7) (av := [.int 4, .int 0]) (rest := []) (fs_115 hF) (by decide) rfl rfl q1783 q1785 qs39 q1786 mhX8_push mnX8_push dX8_onCouple_59) (fun h17 g18 H => ?_)
    refine V_aload_n dX8_onCouple_62 rfl 1 rfl ?_
    refine H_callv (av := [.ref (ad D 115)]) (rest := []) H mqX8_pass q88 (by decide) (Nat.le_of_ble_eq_true rfl) (k_resV (ci := 7) (av := []) (rest := []) (fs_115 hF) (by decide) rfl rfl q1759 q1761 qs33 q1762 mhX8_pass mnX8_pass dX8_onCouple_63) (fun h19 g20 H => ?_)
    exact H_vret rfl dX8_onCouple_66 H
  · have H := H.2 c1
    refine V_aload_n dX8_onCouple_9 rfl 0 rfl ?_
    refine V_iconst (v := 1) dX8_onCouple_10 (by decide) ?_
    refine V_bipush (v := 15) dX8_onCouple_11 (by decide) ?_
    refine H_callv (av := [.ref (ad D 115), .int 1, .int 15]) (rest := []) H mqX8_push q88 (by decide) (Nat.le_of_ble_eq_true rfl) (k_resV (ci := 7) (av := [.int 1, .int 15]) (rest := []) (fs_115 hF) (by decide) rfl rfl q1783 q1785 qs39 q1786 mhX8_push mnX8_push dX8_onCouple_13) (fun h21 g22 H => ?_)
    exact H_vret rfl dX8_onCouple_16 H
theorem wX8_onCouple {D : DE} {f : Nat} {Q : HI → HL → Prop} {F : Frm} {h : HI} {g : HL} (hF : k_Fix F) (x1 : Int32) (H : JX8_onCouple_0 D f Q F h g x1) : Sv D (f + 1) mX8_onCouple [.ref (ad D 115), .int x1] F h g Q := Cl.ofV (by decide) (Nat.le_of_ble_eq_true rfl) rfl (bX8_onCouple_0 hF x1 H)
theorem dX8_onRest_0 : decode cX8_onRest 0 = .ok (.iload_n 1, 1) := by decide +kernel
theorem dX8_onRest_1 : decode cX8_onRest 1 = .ok (.tableswitch 358 13 21 #[51, 65, 119, 132, 145, 158, 166, 199, 268], 51) := by decide +kernel
theorem dX8_onRest_52 : decode cX8_onRest 52 = .ok (.aload_n 0, 1) := by decide +kernel
theorem dX8_onRest_53 : decode cX8_onRest 53 = .ok (.getfield 48, 3) := by decide +kernel
theorem dX8_onRest_56 : decode cX8_onRest 56 = .ok (.iload_n 2, 1) := by decide +kernel
theorem dX8_onRest_57 : decode cX8_onRest 57 = .ok (.aload_n 0, 1) := by decide +kernel
theorem dX8_onRest_58 : decode cX8_onRest 58 = .ok (.iconst 0, 1) := by decide +kernel
theorem dX8_onRest_59 : decode cX8_onRest 59 = .ok (.invokevirtual 297, 3) := by decide +kernel
theorem dX8_onRest_62 : decode cX8_onRest 62 = .ok (.iastore, 1) := by decide +kernel
theorem dX8_onRest_63 : decode cX8_onRest 63 = .ok (.goto 301, 3) := by decide +kernel
theorem dX8_onRest_66 : decode cX8_onRest 66 = .ok (.aload_n 0, 1) := by decide +kernel
theorem dX8_onRest_67 : decode cX8_onRest 67 = .ok (.getfield 193, 3) := by decide +kernel
theorem dX8_onRest_70 : decode cX8_onRest 70 = .ok (.bipush 10, 2) := by decide +kernel
theorem dX8_onRest_72 : decode cX8_onRest 72 = .ok (.if_icmp .ne 39, 3) := by decide +kernel
theorem dX8_onRest_75 : decode cX8_onRest 75 = .ok (.aload_n 0, 1) := by decide +kernel
theorem dX8_onRest_76 : decode cX8_onRest 76 = .ok (.getfield 222, 3) := by decide +kernel
theorem dX8_onRest_79 : decode cX8_onRest 79 = .ok (.aload_n 0, 1) := by decide +kernel
theorem dX8_onRest_80 : decode cX8_onRest 80 = .ok (.getfield 33, 3) := by decide +kernel
theorem dX8_onRest_83 : decode cX8_onRest 83 = .ok (.bipush 16, 2) := by decide +kernel
theorem dX8_onRest_85 : decode cX8_onRest 85 = .ok (.aload_n 0, 1) := by decide +kernel
theorem dX8_onRest_86 : decode cX8_onRest 86 = .ok (.getfield 239, 3) := by decide +kernel
theorem dX8_onRest_89 : decode cX8_onRest 89 = .ok (.imul, 1) := by decide +kernel
theorem dX8_onRest_90 : decode cX8_onRest 90 = .ok (.aload_n 0, 1) := by decide +kernel
theorem dX8_onRest_91 : decode cX8_onRest 91 = .ok (.getfield 48, 3) := by decide +kernel
theorem dX8_onRest_94 : decode cX8_onRest 94 = .ok (.iload_n 2, 1) := by decide +kernel
theorem dX8_onRest_95 : decode cX8_onRest 95 = .ok (.iaload, 1) := by decide +kernel
theorem dX8_onRest_96 : decode cX8_onRest 96 = .ok (.iadd, 1) := by decide +kernel
theorem dX8_onRest_97 : decode cX8_onRest 97 = .ok (.laload, 1) := by decide +kernel
theorem dX8_onRest_98 : decode cX8_onRest 98 = .ok (.lcmp, 1) := by decide +kernel
theorem dX8_onRest_99 : decode cX8_onRest 99 = .ok (.ifCond .ne 12, 3) := by decide +kernel
theorem dX8_onRest_102 : decode cX8_onRest 102 = .ok (.aload_n 0, 1) := by decide +kernel
theorem dX8_onRest_103 : decode cX8_onRest 103 = .ok (.iconst 3, 1) := by decide +kernel
theorem dX8_onRest_104 : decode cX8_onRest 104 = .ok (.aload_n 0, 1) := by decide +kernel
theorem dX8_onRest_105 : decode cX8_onRest 105 = .ok (.getfield 190, 3) := by decide +kernel
theorem dX8_onRest_108 : decode cX8_onRest 108 = .ok (.invokevirtual 205, 3) := by decide +kernel
theorem dX8_onRest_111 : decode cX8_onRest 111 = .ok (.aload_n 0, 1) := by decide +kernel
theorem dX8_onRest_112 : decode cX8_onRest 112 = .ok (.iconst 0, 1) := by decide +kernel
theorem dX8_onRest_113 : decode cX8_onRest 113 = .ok (.invokevirtual 297, 3) := by decide +kernel
theorem dX8_onRest_116 : decode cX8_onRest 116 = .ok (.istore_n 3, 1) := by decide +kernel
theorem dX8_onRest_117 : decode cX8_onRest 117 = .ok (.goto 247, 3) := by decide +kernel
theorem dX8_onRest_120 : decode cX8_onRest 120 = .ok (.aload_n 0, 1) := by decide +kernel
theorem dX8_onRest_121 : decode cX8_onRest 121 = .ok (.getfield 42, 3) := by decide +kernel
theorem dX8_onRest_124 : decode cX8_onRest 124 = .ok (.iload_n 2, 1) := by decide +kernel
theorem dX8_onRest_125 : decode cX8_onRest 125 = .ok (.aload_n 0, 1) := by decide +kernel
theorem dX8_onRest_126 : decode cX8_onRest 126 = .ok (.invokevirtual 287, 3) := by decide +kernel
theorem dX8_onRest_129 : decode cX8_onRest 129 = .ok (.iastore, 1) := by decide +kernel
theorem dX8_onRest_130 : decode cX8_onRest 130 = .ok (.goto 234, 3) := by decide +kernel
theorem dX8_onRest_133 : decode cX8_onRest 133 = .ok (.aload_n 0, 1) := by decide +kernel
theorem dX8_onRest_134 : decode cX8_onRest 134 = .ok (.getfield 45, 3) := by decide +kernel
theorem dX8_onRest_137 : decode cX8_onRest 137 = .ok (.iload_n 2, 1) := by decide +kernel
theorem dX8_onRest_138 : decode cX8_onRest 138 = .ok (.aload_n 0, 1) := by decide +kernel
theorem dX8_onRest_139 : decode cX8_onRest 139 = .ok (.invokevirtual 287, 3) := by decide +kernel
theorem dX8_onRest_142 : decode cX8_onRest 142 = .ok (.iastore, 1) := by decide +kernel
theorem dX8_onRest_143 : decode cX8_onRest 143 = .ok (.goto 221, 3) := by decide +kernel
theorem dX8_onRest_146 : decode cX8_onRest 146 = .ok (.aload_n 0, 1) := by decide +kernel
theorem dX8_onRest_147 : decode cX8_onRest 147 = .ok (.getfield 48, 3) := by decide +kernel
theorem dX8_onRest_150 : decode cX8_onRest 150 = .ok (.iload_n 2, 1) := by decide +kernel
theorem dX8_onRest_151 : decode cX8_onRest 151 = .ok (.aload_n 0, 1) := by decide +kernel
theorem dX8_onRest_152 : decode cX8_onRest 152 = .ok (.invokevirtual 287, 3) := by decide +kernel
theorem dX8_onRest_155 : decode cX8_onRest 155 = .ok (.iastore, 1) := by decide +kernel
theorem dX8_onRest_156 : decode cX8_onRest 156 = .ok (.goto 208, 3) := by decide +kernel
theorem dX8_onRest_159 : decode cX8_onRest 159 = .ok (.aload_n 0, 1) := by decide +kernel
theorem dX8_onRest_160 : decode cX8_onRest 160 = .ok (.iload_n 2, 1) := by decide +kernel
theorem dX8_onRest_161 : decode cX8_onRest 161 = .ok (.invokevirtual 291, 3) := by decide +kernel
theorem dX8_onRest_164 : decode cX8_onRest 164 = .ok (.goto 200, 3) := by decide +kernel
theorem dX8_onRest_167 : decode cX8_onRest 167 = .ok (.aload_n 0, 1) := by decide +kernel
theorem dX8_onRest_168 : decode cX8_onRest 168 = .ok (.dup, 1) := by decide +kernel
theorem dX8_onRest_169 : decode cX8_onRest 169 = .ok (.getfield 248, 3) := by decide +kernel
theorem dX8_onRest_172 : decode cX8_onRest 172 = .ok (.iconst 1, 1) := by decide +kernel
theorem dX8_onRest_173 : decode cX8_onRest 173 = .ok (.isub, 1) := by decide +kernel
theorem dX8_onRest_174 : decode cX8_onRest 174 = .ok (.putfield 248, 3) := by decide +kernel
theorem dX8_onRest_177 : decode cX8_onRest 177 = .ok (.aload_n 0, 1) := by decide +kernel
theorem dX8_onRest_178 : decode cX8_onRest 178 = .ok (.getfield 42, 3) := by decide +kernel
theorem dX8_onRest_181 : decode cX8_onRest 181 = .ok (.iload_n 2, 1) := by decide +kernel
theorem dX8_onRest_182 : decode cX8_onRest 182 = .ok (.aload_n 0, 1) := by decide +kernel
theorem dX8_onRest_183 : decode cX8_onRest 183 = .ok (.getfield 78, 3) := by decide +kernel
theorem dX8_onRest_186 : decode cX8_onRest 186 = .ok (.aload_n 0, 1) := by decide +kernel
theorem dX8_onRest_187 : decode cX8_onRest 187 = .ok (.getfield 248, 3) := by decide +kernel
theorem dX8_onRest_190 : decode cX8_onRest 190 = .ok (.iaload, 1) := by decide +kernel
theorem dX8_onRest_191 : decode cX8_onRest 191 = .ok (.iastore, 1) := by decide +kernel
theorem dX8_onRest_192 : decode cX8_onRest 192 = .ok (.aload_n 0, 1) := by decide +kernel
theorem dX8_onRest_193 : decode cX8_onRest 193 = .ok (.iload_n 2, 1) := by decide +kernel
theorem dX8_onRest_194 : decode cX8_onRest 194 = .ok (.invokevirtual 291, 3) := by decide +kernel
theorem dX8_onRest_197 : decode cX8_onRest 197 = .ok (.goto 167, 3) := by decide +kernel
theorem dX8_onRest_200 : decode cX8_onRest 200 = .ok (.aload_n 0, 1) := by decide +kernel
theorem dX8_onRest_201 : decode cX8_onRest 201 = .ok (.getfield 66, 3) := by decide +kernel
theorem dX8_onRest_204 : decode cX8_onRest 204 = .ok (.aload_n 0, 1) := by decide +kernel
theorem dX8_onRest_205 : decode cX8_onRest 205 = .ok (.getfield 294, 3) := by decide +kernel
theorem dX8_onRest_208 : decode cX8_onRest 208 = .ok (.aload_n 0, 1) := by decide +kernel
theorem dX8_onRest_209 : decode cX8_onRest 209 = .ok (.invokevirtual 287, 3) := by decide +kernel
theorem dX8_onRest_212 : decode cX8_onRest 212 = .ok (.iastore, 1) := by decide +kernel
theorem dX8_onRest_213 : decode cX8_onRest 213 = .ok (.aload_n 0, 1) := by decide +kernel
theorem dX8_onRest_214 : decode cX8_onRest 214 = .ok (.dup, 1) := by decide +kernel
theorem dX8_onRest_215 : decode cX8_onRest 215 = .ok (.getfield 294, 3) := by decide +kernel
theorem dX8_onRest_218 : decode cX8_onRest 218 = .ok (.iconst 1, 1) := by decide +kernel
theorem dX8_onRest_219 : decode cX8_onRest 219 = .ok (.iadd, 1) := by decide +kernel
theorem dX8_onRest_220 : decode cX8_onRest 220 = .ok (.putfield 294, 3) := by decide +kernel
theorem dX8_onRest_223 : decode cX8_onRest 223 = .ok (.aload_n 0, 1) := by decide +kernel
theorem dX8_onRest_224 : decode cX8_onRest 224 = .ok (.getfield 193, 3) := by decide +kernel
theorem dX8_onRest_227 : decode cX8_onRest 227 = .ok (.bipush 16, 2) := by decide +kernel
theorem dX8_onRest_229 : decode cX8_onRest 229 = .ok (.if_icmp .ne 23, 3) := by decide +kernel
theorem dX8_onRest_232 : decode cX8_onRest 232 = .ok (.aload_n 0, 1) := by decide +kernel
theorem dX8_onRest_233 : decode cX8_onRest 233 = .ok (.bipush 20, 2) := by decide +kernel
theorem dX8_onRest_235 : decode cX8_onRest 235 = .ok (.iload_n 2, 1) := by decide +kernel
theorem dX8_onRest_236 : decode cX8_onRest 236 = .ok (.invokevirtual 254, 3) := by decide +kernel
theorem dX8_onRest_239 : decode cX8_onRest 239 = .ok (.aload_n 0, 1) := by decide +kernel
theorem dX8_onRest_240 : decode cX8_onRest 240 = .ok (.iconst 4, 1) := by decide +kernel
theorem dX8_onRest_241 : decode cX8_onRest 241 = .ok (.iconst 0, 1) := by decide +kernel
theorem dX8_onRest_242 : decode cX8_onRest 242 = .ok (.invokevirtual 254, 3) := by decide +kernel
theorem dX8_onRest_245 : decode cX8_onRest 245 = .ok (.aload_n 0, 1) := by decide +kernel
theorem dX8_onRest_246 : decode cX8_onRest 246 = .ok (.invokevirtual 229, 3) := by decide +kernel
theorem dX8_onRest_249 : decode cX8_onRest 249 = .ok (.goto 115, 3) := by decide +kernel
theorem dX8_onRest_252 : decode cX8_onRest 252 = .ok (.aload_n 0, 1) := by decide +kernel
theorem dX8_onRest_253 : decode cX8_onRest 253 = .ok (.bipush 21, 2) := by decide +kernel
theorem dX8_onRest_255 : decode cX8_onRest 255 = .ok (.iload_n 2, 1) := by decide +kernel
theorem dX8_onRest_256 : decode cX8_onRest 256 = .ok (.invokevirtual 254, 3) := by decide +kernel
theorem dX8_onRest_259 : decode cX8_onRest 259 = .ok (.aload_n 0, 1) := by decide +kernel
theorem dX8_onRest_260 : decode cX8_onRest 260 = .ok (.iconst 1, 1) := by decide +kernel
theorem dX8_onRest_261 : decode cX8_onRest 261 = .ok (.bipush 15, 2) := by decide +kernel
theorem dX8_onRest_263 : decode cX8_onRest 263 = .ok (.invokevirtual 254, 3) := by decide +kernel
theorem dX8_onRest_266 : decode cX8_onRest 266 = .ok (.goto 98, 3) := by decide +kernel
theorem dX8_onRest_269 : decode cX8_onRest 269 = .ok (.aload_n 0, 1) := by decide +kernel
theorem dX8_onRest_270 : decode cX8_onRest 270 = .ok (.getfield 45, 3) := by decide +kernel
theorem dX8_onRest_273 : decode cX8_onRest 273 = .ok (.iload_n 2, 1) := by decide +kernel
theorem dX8_onRest_274 : decode cX8_onRest 274 = .ok (.iaload, 1) := by decide +kernel
theorem dX8_onRest_275 : decode cX8_onRest 275 = .ok (.istore 4, 2) := by decide +kernel
theorem dX8_onRest_277 : decode cX8_onRest 277 = .ok (.aload_n 0, 1) := by decide +kernel
theorem dX8_onRest_278 : decode cX8_onRest 278 = .ok (.getfield 42, 3) := by decide +kernel
theorem dX8_onRest_281 : decode cX8_onRest 281 = .ok (.iload_n 2, 1) := by decide +kernel
theorem dX8_onRest_282 : decode cX8_onRest 282 = .ok (.aload_n 0, 1) := by decide +kernel
theorem dX8_onRest_283 : decode cX8_onRest 283 = .ok (.getfield 301, 3) := by decide +kernel
theorem dX8_onRest_286 : decode cX8_onRest 286 = .ok (.iastore, 1) := by decide +kernel
theorem dX8_onRest_287 : decode cX8_onRest 287 = .ok (.aload_n 0, 1) := by decide +kernel
theorem dX8_onRest_288 : decode cX8_onRest 288 = .ok (.getfield 45, 3) := by decide +kernel
theorem dX8_onRest_291 : decode cX8_onRest 291 = .ok (.iload_n 2, 1) := by decide +kernel
theorem dX8_onRest_292 : decode cX8_onRest 292 = .ok (.aload_n 0, 1) := by decide +kernel
theorem dX8_onRest_293 : decode cX8_onRest 293 = .ok (.getfield 294, 3) := by decide +kernel
theorem dX8_onRest_296 : decode cX8_onRest 296 = .ok (.iload 4, 2) := by decide +kernel
theorem dX8_onRest_298 : decode cX8_onRest 298 = .ok (.isub, 1) := by decide +kernel
theorem dX8_onRest_299 : decode cX8_onRest 299 = .ok (.iastore, 1) := by decide +kernel
theorem dX8_onRest_300 : decode cX8_onRest 300 = .ok (.iload 4, 2) := by decide +kernel
theorem dX8_onRest_302 : decode cX8_onRest 302 = .ok (.istore 5, 2) := by decide +kernel
theorem dX8_onRest_304 : decode cX8_onRest 304 = .ok (.iload 5, 2) := by decide +kernel
theorem dX8_onRest_306 : decode cX8_onRest 306 = .ok (.aload_n 0, 1) := by decide +kernel
theorem dX8_onRest_307 : decode cX8_onRest 307 = .ok (.getfield 294, 3) := by decide +kernel
theorem dX8_onRest_310 : decode cX8_onRest 310 = .ok (.if_icmp .ge 35, 3) := by decide +kernel
theorem dX8_onRest_313 : decode cX8_onRest 313 = .ok (.aload_n 0, 1) := by decide +kernel
theorem dX8_onRest_314 : decode cX8_onRest 314 = .ok (.getfield 60, 3) := by decide +kernel
theorem dX8_onRest_317 : decode cX8_onRest 317 = .ok (.aload_n 0, 1) := by decide +kernel
theorem dX8_onRest_318 : decode cX8_onRest 318 = .ok (.getfield 301, 3) := by decide +kernel
theorem dX8_onRest_321 : decode cX8_onRest 321 = .ok (.aload_n 0, 1) := by decide +kernel
theorem dX8_onRest_322 : decode cX8_onRest 322 = .ok (.getfield 66, 3) := by decide +kernel
theorem dX8_onRest_325 : decode cX8_onRest 325 = .ok (.iload 5, 2) := by decide +kernel
theorem dX8_onRest_327 : decode cX8_onRest 327 = .ok (.iaload, 1) := by decide +kernel
theorem dX8_onRest_328 : decode cX8_onRest 328 = .ok (.iastore, 1) := by decide +kernel
theorem dX8_onRest_329 : decode cX8_onRest 329 = .ok (.aload_n 0, 1) := by decide +kernel
theorem dX8_onRest_330 : decode cX8_onRest 330 = .ok (.dup, 1) := by decide +kernel
theorem dX8_onRest_331 : decode cX8_onRest 331 = .ok (.getfield 301, 3) := by decide +kernel
theorem dX8_onRest_334 : decode cX8_onRest 334 = .ok (.iconst 1, 1) := by decide +kernel
theorem dX8_onRest_335 : decode cX8_onRest 335 = .ok (.iadd, 1) := by decide +kernel
theorem dX8_onRest_336 : decode cX8_onRest 336 = .ok (.putfield 301, 3) := by decide +kernel
theorem dX8_onRest_339 : decode cX8_onRest 339 = .ok (.iinc 5 1, 3) := by decide +kernel
theorem dX8_onRest_342 : decode cX8_onRest 342 = .ok (.goto (-38), 3) := by decide +kernel
theorem dX8_onRest_345 : decode cX8_onRest 345 = .ok (.aload_n 0, 1) := by decide +kernel
theorem dX8_onRest_346 : decode cX8_onRest 346 = .ok (.iload 4, 2) := by decide +kernel
theorem dX8_onRest_348 : decode cX8_onRest 348 = .ok (.putfield 294, 3) := by decide +kernel
theorem dX8_onRest_351 : decode cX8_onRest 351 = .ok (.aload_n 0, 1) := by decide +kernel
theorem dX8_onRest_352 : decode cX8_onRest 352 = .ok (.iload_n 2, 1) := by decide +kernel
theorem dX8_onRest_353 : decode cX8_onRest 353 = .ok (.invokevirtual 291, 3) := by decide +kernel
theorem dX8_onRest_356 : decode cX8_onRest 356 = .ok (.goto 8, 3) := by decide +kernel
theorem dX8_onRest_359 : decode cX8_onRest 359 = .ok (.aload_n 0, 1) := by decide +kernel
theorem dX8_onRest_360 : decode cX8_onRest 360 = .ok (.iload_n 2, 1) := by decide +kernel
theorem dX8_onRest_361 : decode cX8_onRest 361 = .ok (.invokevirtual 304, 3) := by decide +kernel
theorem dX8_onRest_364 : decode cX8_onRest 364 = .ok (.return_, 1) := by decide +kernel
abbrev JX8_onRest_304 (D : DE) (f : Nat) (Q : HI → HL → Prop) (F : Frm) (h : HI) (g : HL) (x2 : Int32) (x4 : Int32) (x5 : Int32) : Prop := (((h 115 32) ≤ x5 → ∀ h2, h2 = up2 h 115 32 x4 → Sv D f mX8_make [.ref (ad D 115), .int x2] F h2 g (fun h4 g5 => Q h4 g5)) ∧ (¬ (h 115 32) ≤ x5 → vp_in x5 1100 ∧ vp_in (h 115 30) 2002 ∧ ∀ h8, h8 = up2 h 131 (ix (h 115 30)) (h 133 (ix x5)) → ∀ h10, h10 = up2 h8 115 30 ((h8 115 30) + 1) → ∀ y12 : Int32, y12 = x5 + 1 → V D mX8_onRest (f + 1) (qv F Q) 304 [(0, .ref (ad D 115)), (2, .int x2), (4, .int x4), (5, .int y12)] [] (F, h10, g)))
theorem bX8_onRest_304 {D : DE} {f : Nat} {Q : HI → HL → Prop} {F : Frm} {h : HI} {g : HL} (hF : k_Fix F) (x2 : Int32) (x4 : Int32) (x5 : Int32) (H : JX8_onRest_304 D f Q F h g x2 x4 x5) : V D mX8_onRest (f + 1) (qv F Q) 304 [(0, .ref (ad D 115)), (2, .int x2), (4, .int x4), (5, .int x5)] [] (F, h, g) := by
  refine V_iload dX8_onRest_304 3 rfl ?_
  refine V_aload_n dX8_onRest_306 rfl 0 rfl ?_
  refine H_geti ck7 32 (by decide) (fs_115 hF) (by decide) rfl q1490 dX8_onRest_307 ?_
  refine V_icmp_ge (tgt := 345) dX8_onRest_310 (by decide) (fun c1 => ?_) (fun c1 => ?_)
  · have H := H.1 c1
    refine V_aload_n dX8_onRest_345 rfl 0 rfl ?_
    refine V_iload dX8_onRest_346 2 rfl ?_
    refine H_puti ck7 32 (by decide) (fs_115 hF) (by decide) rfl rfl q1490 dX8_onRest_348 (fun h2 e3 => ?_)
    have H := H h2 e3
    refine V_aload_n dX8_onRest_351 rfl 0 rfl ?_
    refine V_iload_n dX8_onRest_352 rfl 1 rfl ?_
    refine H_callv (av := [.ref (ad D 115), .int x2]) (rest := []) H mqX8_make q88 (by decide) (Nat.le_of_ble_eq_true rfl) (k_resV (ci := 7) (av := [.int x2]) (rest := []) (fs_115 hF) (by decide) rfl rfl q1814 q1816 qs46 q1817 mhX8_make mnX8_make dX8_onRest_353) (fun h4 g5 H => ?_)
    refine V_goto (tgt := 364) dX8_onRest_356 (by decide) ?_
    exact H_vret rfl dX8_onRest_364 H
  · have H := H.2 c1
    refine V_aload_n dX8_onRest_313 rfl 0 rfl ?_
    refine H_getr ck7 25 (by decide) (fs_115 hF) (by decide) rfl (fr_115_25 hF) q1483 dX8_onRest_314 ?_
    refine V_aload_n dX8_onRest_317 rfl 0 rfl ?_
    refine H_geti ck7 30 (by decide) (fs_115 hF) (by decide) rfl q1488 dX8_onRest_318 ?_
    refine V_aload_n dX8_onRest_321 rfl 0 rfl ?_
    refine H_getr ck7 31 (by decide) (fs_115 hF) (by decide) rfl (fr_115_31 hF) q1489 dX8_onRest_322 ?_
    refine V_iload dX8_onRest_325 3 rfl ?_
    obtain ⟨i6, H⟩ := H
    refine H_iald (fs_133 hF) i6 dX8_onRest_327 ?_
    obtain ⟨i7, H⟩ := H
    refine H_iast (fs_131 hF) i7 dX8_onRest_328 (fun h8 e9 => ?_)
    have H := H h8 e9
    refine V_aload_n dX8_onRest_329 rfl 0 rfl ?_
    refine V_dup dX8_onRest_330 rfl ?_
    refine H_geti ck7 30 (by decide) (fs_115 hF) (by decide) rfl q1488 dX8_onRest_331 ?_
    refine V_iconst (v := 1) dX8_onRest_334 (by decide) ?_
    refine V_iadd dX8_onRest_335 ?_
    refine H_puti ck7 30 (by decide) (fs_115 hF) (by decide) rfl rfl q1488 dX8_onRest_336 (fun h10 e11 => ?_)
    have H := H h10 e11
    obtain ⟨y12, e13⟩ : ∃ y : Int32, y = x5 + 1 := ⟨_, rfl⟩
    have H := H y12 e13
    refine V_iinc (j := 3) (v := y12) (l1 := [(5, .int y12), (0, .ref (ad D 115)), (2, .int x2), (4, .int x4)]) dX8_onRest_339 rfl (by rw [e13]; rfl) (by decide) rfl ?_
    refine V_goto (tgt := 304) dX8_onRest_342 (by decide) ?_
    refine V.sub [1, 2, 3, 0] rfl ?_
    exact H
abbrev JX8_onRest_111 (D : DE) (f : Nat) (Q : HI → HL → Prop) (F : Frm) (h : HI) (g : HL) : Prop := Si D f mX8_name [.ref (ad D 115), .int 0] F h g (fun y3 h1 g2 => Q h1 g2)
theorem bX8_onRest_111 {D : DE} {f : Nat} {Q : HI → HL → Prop} {F : Frm} {h : HI} {g : HL} (hF : k_Fix F)  (H : JX8_onRest_111 D f Q F h g ) : V D mX8_onRest (f + 1) (qv F Q) 111 [(0, .ref (ad D 115))] [] (F, h, g) := by
  refine V_aload_n dX8_onRest_111 rfl 0 rfl ?_
  refine V_iconst (v := 0) dX8_onRest_112 (by decide) ?_
  refine H_calli (av := [.ref (ad D 115), .int 0]) (rest := []) H mqX8_name q88 (by decide) (Nat.le_of_ble_eq_true rfl) (k_resV (ci := 7) (av := [.int 0]) (rest := []) (fs_115 hF) (by decide) rfl rfl q1767 q1769 qs35 q1770 mhX8_name mnX8_name dX8_onRest_113) (fun y3 h1 g2 H => ?_)
  refine V_istore_n (l1 := [(3, .int y3), (0, .ref (ad D 115))]) dX8_onRest_116 rfl (by decide) rfl ?_
  refine V_goto (tgt := 364) dX8_onRest_117 (by decide) ?_
  exact H_vret rfl dX8_onRest_364 H
abbrev JX8_onRest_0 (D : DE) (f : Nat) (Q : HI → HL → Prop) (F : Frm) (h : HI) (g : HL) (x1 : Int32) (x2 : Int32) : Prop := ((x1.toInt < 13 ∨ 21 < x1.toInt → Sv D f mX8_onCouple [.ref (ad D 115), .int x2] F h g (fun h2 g3 => Q h2 g3)) ∧ (x1 = 13 → Si D f mX8_name [.ref (ad D 115), .int 0] F h g (fun y6 h4 g5 => vp_in x2 2002 ∧ ∀ h8, h8 = up2 h4 127 (ix x2) y6 → Q h8 g5)) ∧ (x1 = 14 → ((¬ (h 115 4) = 10 → JX8_onRest_111 D f Q F h g) ∧ ((h 115 4) = 10 → vp_in x2 2002 ∧ vp_in ((16 * (h 115 33)) + (h 127 (ix x2))) 384 ∧ ∀ y13 : Int32, y13 = lg_cmp (g 115 7) (g 122 (ix ((16 * (h 115 33)) + (h 127 (ix x2))))) → ((¬ y13 = 0 → JX8_onRest_111 D f Q F h g) ∧ (y13 = 0 → Sv D f mX8_stop [.ref (ad D 115), .int 3, .int (h 115 5)] F h g (fun h16 g17 => JX8_onRest_111 D f Q F h16 g17)))))) ∧ (x1 = 15 → Si D f mX8_last [.ref (ad D 115)] F h g (fun y20 h18 g19 => vp_in x2 2002 ∧ ∀ h22, h22 = up2 h18 125 (ix x2) y20 → Q h22 g19)) ∧ (x1 = 16 → Si D f mX8_last [.ref (ad D 115)] F h g (fun y26 h24 g25 => vp_in x2 2002 ∧ ∀ h28, h28 = up2 h24 126 (ix x2) y26 → Q h28 g25)) ∧ (x1 = 17 → Si D f mX8_last [.ref (ad D 115)] F h g (fun y32 h30 g31 => vp_in x2 2002 ∧ ∀ h34, h34 = up2 h30 127 (ix x2) y32 → Q h34 g31)) ∧ (x1 = 18 → Sv D f mX8_make [.ref (ad D 115), .int x2] F h g (fun h36 g37 => Q h36 g37)) ∧ (x1 = 19 → ∀ h38, h38 = up2 h 115 40 ((h 115 40) - 1) → vp_in (h38 115 40) 16 ∧ vp_in x2 2002 ∧ ∀ h42, h42 = up2 h38 125 (ix x2) (h38 137 (ix (h38 115 40))) → Sv D f mX8_make [.ref (ad D 115), .int x2] F h42 g (fun h44 g45 => Q h44 g45)) ∧ (x1 = 20 → Si D f mX8_last [.ref (ad D 115)] F h g (fun y48 h46 g47 => vp_in (h 115 32) 1100 ∧ ∀ h50, h50 = up2 h46 133 (ix (h 115 32)) y48 → ∀ h52, h52 = up2 h50 115 32 ((h50 115 32) + 1) → ((¬ (h52 115 4) = 16 → Sv D f mX8_push [.ref (ad D 115), .int 21, .int x2] F h52 g47 (fun h55 g56 => Sv D f mX8_push [.ref (ad D 115), .int 1, .int 15] F h55 g56 (fun h57 g58 => Q h57 g58))) ∧ ((h52 115 4) = 16 → Sv D f mX8_push [.ref (ad D 115), .int 20, .int x2] F h52 g47 (fun h59 g60 => Sv D f mX8_push [.ref (ad D 115), .int 4, .int 0] F h59 g60 (fun h61 g62 => Sv D f mX8_pass [.ref (ad D 115)] F h61 g62 (fun h63 g64 => Q h63 g64))))))) ∧ (x1 = 21 → vp_in x2 2002 ∧ ∀ y66 : Int32, y66 = h 126 (ix x2) → vp_in x2 2002 ∧ ∀ h69, h69 = up2 h 125 (ix x2) (h 115 30) → vp_in x2 2002 ∧ ∀ h72, h72 = up2 h69 126 (ix x2) ((h69 115 32) - y66) → V D mX8_onRest (f + 1) (qv F Q) 304 [(0, .ref (ad D 115)), (2, .int x2), (4, .int y66), (5, .int y66)] [] (F, h72, g)))
theorem bX8_onRest_0 {D : DE} {f : Nat} {Q : HI → HL → Prop} {F : Frm} {h : HI} {g : HL} (hF : k_Fix F) (x1 : Int32) (x2 : Int32) (H : JX8_onRest_0 D f Q F h g x1 x2) : V D mX8_onRest (f + 1) (qv F Q) 0 [(0, .ref (ad D 115)), (1, .int x1), (2, .int x2)] [] (F, h, g) := by
  refine V_iload_n dX8_onRest_0 rfl 1 rfl ?_
  by_cases c1 : x1.toInt < 13 ∨ 21 < x1.toInt
  · have H := H.1 c1
    refine V_tableOut (tgt := 359) dX8_onRest_1 c1 (by decide) ?_
    refine V_aload_n dX8_onRest_359 rfl 0 rfl ?_
    refine V_iload_n dX8_onRest_360 rfl 2 rfl ?_
    refine H_callv (av := [.ref (ad D 115), .int x2]) (rest := []) H mqX8_onCouple q88 (by decide) (Nat.le_of_ble_eq_true rfl) (k_resV (ci := 7) (av := [.int x2]) (rest := []) (fs_115 hF) (by decide) rfl rfl q1826 q1828 qs49 q1829 mhX8_onCouple mnX8_onCouple dX8_onRest_361) (fun h2 g3 H => ?_)
    exact H_vret rfl dX8_onRest_364 H
  · rcases tsw_13_21 c1 with c1 | c1 | c1 | c1 | c1 | c1 | c1 | c1 | c1
    · have H := H.2.1 c1
      refine V_tableIn (tgt := 52) dX8_onRest_1 (by rw [c1]; decide) (by rw [c1]; decide) (by rw [c1]; rfl) (by decide) ?_
      refine V_aload_n dX8_onRest_52 rfl 0 rfl ?_
      refine H_getr ck7 21 (by decide) (fs_115 hF) (by decide) rfl (fr_115_21 hF) q1479 dX8_onRest_53 ?_
      refine V_iload_n dX8_onRest_56 rfl 2 rfl ?_
      refine V_aload_n dX8_onRest_57 rfl 0 rfl ?_
      refine V_iconst (v := 0) dX8_onRest_58 (by decide) ?_
      refine H_calli (av := [.ref (ad D 115), .int 0]) (rest := [.int x2, .ref (ad D 127)]) H mqX8_name q88 (by decide) (Nat.le_of_ble_eq_true rfl) (k_resV (ci := 7) (av := [.int 0]) (rest := [.int x2, .ref (ad D 127)]) (fs_115 hF) (by decide) rfl rfl q1767 q1769 qs35 q1770 mhX8_name mnX8_name dX8_onRest_59) (fun y6 h4 g5 H => ?_)
      obtain ⟨i7, H⟩ := H
      refine H_iast (fs_127 hF) i7 dX8_onRest_62 (fun h8 e9 => ?_)
      have H := H h8 e9
      refine V_goto (tgt := 364) dX8_onRest_63 (by decide) ?_
      exact H_vret rfl dX8_onRest_364 H
    · have H := H.2.2.1 c1
      refine V_tableIn (tgt := 66) dX8_onRest_1 (by rw [c1]; decide) (by rw [c1]; decide) (by rw [c1]; rfl) (by decide) ?_
      refine V_aload_n dX8_onRest_66 rfl 0 rfl ?_
      refine H_geti ck7 4 (by decide) (fs_115 hF) (by decide) rfl q1462 dX8_onRest_67 ?_
      refine V_bipush (v := 10) dX8_onRest_70 (by decide) ?_
      refine V_icmp_ne (tgt := 111) dX8_onRest_72 (by decide) (fun c10 => ?_) (fun c10 => ?_)
      · have H := H.1 c10
        refine V.sub [0] rfl ?_
        exact bX8_onRest_111 hF  H
      · have H := H.2 c10
        refine V_aload_n dX8_onRest_75 rfl 0 rfl ?_
        refine H_getl ck7 7 (by decide) (fs_115 hF) (by decide) rfl q1465 dX8_onRest_76 ?_
        refine V_aload_n dX8_onRest_79 rfl 0 rfl ?_
        refine H_getr ck7 16 (by decide) (fs_115 hF) (by decide) rfl (fr_115_16 hF) q1474 dX8_onRest_80 ?_
        refine V_bipush (v := 16) dX8_onRest_83 (by decide) ?_
        refine V_aload_n dX8_onRest_85 rfl 0 rfl ?_
        refine H_geti ck7 33 (by decide) (fs_115 hF) (by decide) rfl q1491 dX8_onRest_86 ?_
        refine V_imul dX8_onRest_89 ?_
        refine V_aload_n dX8_onRest_90 rfl 0 rfl ?_
        refine H_getr ck7 21 (by decide) (fs_115 hF) (by decide) rfl (fr_115_21 hF) q1479 dX8_onRest_91 ?_
        refine V_iload_n dX8_onRest_94 rfl 2 rfl ?_
        obtain ⟨i11, H⟩ := H
        refine H_iald (fs_127 hF) i11 dX8_onRest_95 ?_
        refine V_iadd dX8_onRest_96 ?_
        obtain ⟨i12, H⟩ := H
        refine H_lald (fs_122 hF) i12 dX8_onRest_97 ?_
        refine V_lcmp dX8_onRest_98 ?_
        refine V_topi (fun y13 e14 => ?_)
        have H := H y13 e14
        refine V_if_ne (tgt := 111) dX8_onRest_99 (by decide) (fun c15 => ?_) (fun c15 => ?_)
        · have H := H.1 c15
          refine V.sub [0] rfl ?_
          exact bX8_onRest_111 hF  H
        · have H := H.2 c15
          refine V_aload_n dX8_onRest_102 rfl 0 rfl ?_
          refine V_iconst (v := 3) dX8_onRest_103 (by decide) ?_
          refine V_aload_n dX8_onRest_104 rfl 0 rfl ?_
          refine H_geti ck7 5 (by decide) (fs_115 hF) (by decide) rfl q1463 dX8_onRest_105 ?_
          refine H_callv (av := [.ref (ad D 115), .int 3, .int (h 115 5)]) (rest := []) H mqX8_stop q88 (by decide) (Nat.le_of_ble_eq_true rfl) (k_resV (ci := 7) (av := [.int 3, .int (h 115 5)]) (rest := []) (fs_115 hF) (by decide) rfl rfl q1751 q1753 qs31 q1754 mhX8_stop mnX8_stop dX8_onRest_108) (fun h16 g17 H => ?_)
          refine V.sub [0] rfl ?_
          exact bX8_onRest_111 hF  H
    · have H := H.2.2.2.1 c1
      refine V_tableIn (tgt := 120) dX8_onRest_1 (by rw [c1]; decide) (by rw [c1]; decide) (by rw [c1]; rfl) (by decide) ?_
      refine V_aload_n dX8_onRest_120 rfl 0 rfl ?_
      refine H_getr ck7 19 (by decide) (fs_115 hF) (by decide) rfl (fr_115_19 hF) q1477 dX8_onRest_121 ?_
      refine V_iload_n dX8_onRest_124 rfl 2 rfl ?_
      refine V_aload_n dX8_onRest_125 rfl 0 rfl ?_
      refine H_calli (av := [.ref (ad D 115)]) (rest := [.int x2, .ref (ad D 125)]) H mqX8_last q88 (by decide) (Nat.le_of_ble_eq_true rfl) (k_resV (ci := 7) (av := []) (rest := [.int x2, .ref (ad D 125)]) (fs_115 hF) (by decide) rfl rfl q1818 q1820 qs47 q1821 mhX8_last mnX8_last dX8_onRest_126) (fun y20 h18 g19 H => ?_)
      obtain ⟨i21, H⟩ := H
      refine H_iast (fs_125 hF) i21 dX8_onRest_129 (fun h22 e23 => ?_)
      have H := H h22 e23
      refine V_goto (tgt := 364) dX8_onRest_130 (by decide) ?_
      exact H_vret rfl dX8_onRest_364 H
    · have H := H.2.2.2.2.1 c1
      refine V_tableIn (tgt := 133) dX8_onRest_1 (by rw [c1]; decide) (by rw [c1]; decide) (by rw [c1]; rfl) (by decide) ?_
      refine V_aload_n dX8_onRest_133 rfl 0 rfl ?_
      refine H_getr ck7 20 (by decide) (fs_115 hF) (by decide) rfl (fr_115_20 hF) q1478 dX8_onRest_134 ?_
      refine V_iload_n dX8_onRest_137 rfl 2 rfl ?_
      refine V_aload_n dX8_onRest_138 rfl 0 rfl ?_
      refine H_calli (av := [.ref (ad D 115)]) (rest := [.int x2, .ref (ad D 126)]) H mqX8_last q88 (by decide) (Nat.le_of_ble_eq_true rfl) (k_resV (ci := 7) (av := []) (rest := [.int x2, .ref (ad D 126)]) (fs_115 hF) (by decide) rfl rfl q1818 q1820 qs47 q1821 mhX8_last mnX8_last dX8_onRest_139) (fun y26 h24 g25 H => ?_)
      obtain ⟨i27, H⟩ := H
      refine H_iast (fs_126 hF) i27 dX8_onRest_142 (fun h28 e29 => ?_)
      have H := H h28 e29
      refine V_goto (tgt := 364) dX8_onRest_143 (by decide) ?_
      exact H_vret rfl dX8_onRest_364 H
    · have H := H.2.2.2.2.2.1 c1
      refine V_tableIn (tgt := 146) dX8_onRest_1 (by rw [c1]; decide) (by rw [c1]; decide) (by rw [c1]; rfl) (by decide) ?_
      refine V_aload_n dX8_onRest_146 rfl 0 rfl ?_
      refine H_getr ck7 21 (by decide) (fs_115 hF) (by decide) rfl (fr_115_21 hF) q1479 dX8_onRest_147 ?_
      refine V_iload_n dX8_onRest_150 rfl 2 rfl ?_
      refine V_aload_n dX8_onRest_151 rfl 0 rfl ?_
      refine H_calli (av := [.ref (ad D 115)]) (rest := [.int x2, .ref (ad D 127)]) H mqX8_last q88 (by decide) (Nat.le_of_ble_eq_true rfl) (k_resV (ci := 7) (av := []) (rest := [.int x2, .ref (ad D 127)]) (fs_115 hF) (by decide) rfl rfl q1818 q1820 qs47 q1821 mhX8_last mnX8_last dX8_onRest_152) (fun y32 h30 g31 H => ?_)
      obtain ⟨i33, H⟩ := H
      refine H_iast (fs_127 hF) i33 dX8_onRest_155 (fun h34 e35 => ?_)
      have H := H h34 e35
      refine V_goto (tgt := 364) dX8_onRest_156 (by decide) ?_
      exact H_vret rfl dX8_onRest_364 H
    · have H := H.2.2.2.2.2.2.1 c1
      refine V_tableIn (tgt := 159) dX8_onRest_1 (by rw [c1]; decide) (by rw [c1]; decide) (by rw [c1]; rfl) (by decide) ?_
      refine V_aload_n dX8_onRest_159 rfl 0 rfl ?_
      refine V_iload_n dX8_onRest_160 rfl 2 rfl ?_
      refine H_callv (av := [.ref (ad D 115), .int x2]) (rest := []) H mqX8_make q88 (by decide) (Nat.le_of_ble_eq_true rfl) (k_resV (ci := 7) (av := [.int x2]) (rest := []) (fs_115 hF) (by decide) rfl rfl q1814 q1816 qs46 q1817 mhX8_make mnX8_make dX8_onRest_161) (fun h36 g37 H => ?_)
      refine V_goto (tgt := 364) dX8_onRest_164 (by decide) ?_
      exact H_vret rfl dX8_onRest_364 H
    · have H := H.2.2.2.2.2.2.2.1 c1
      refine V_tableIn (tgt := 167) dX8_onRest_1 (by rw [c1]; decide) (by rw [c1]; decide) (by rw [c1]; rfl) (by decide) ?_
      refine V_aload_n dX8_onRest_167 rfl 0 rfl ?_
      refine V_dup dX8_onRest_168 rfl ?_
      refine H_geti ck7 40 (by decide) (fs_115 hF) (by decide) rfl q1498 dX8_onRest_169 ?_
      refine V_iconst (v := 1) dX8_onRest_172 (by decide) ?_
      refine V_isub dX8_onRest_173 ?_
      refine H_puti ck7 40 (by decide) (fs_115 hF) (by decide) rfl rfl q1498 dX8_onRest_174 (fun h38 e39 => ?_)
      have H := H h38 e39
      refine V_aload_n dX8_onRest_177 rfl 0 rfl ?_
      refine H_getr ck7 19 (by decide) (fs_115 hF) (by decide) rfl (fr_115_19 hF) q1477 dX8_onRest_178 ?_
      refine V_iload_n dX8_onRest_181 rfl 2 rfl ?_
      refine V_aload_n dX8_onRest_182 rfl 0 rfl ?_
      refine H_getr ck7 39 (by decide) (fs_115 hF) (by decide) rfl (fr_115_39 hF) q1497 dX8_onRest_183 ?_
      refine V_aload_n dX8_onRest_186 rfl 0 rfl ?_
      refine H_geti ck7 40 (by decide) (fs_115 hF) (by decide) rfl q1498 dX8_onRest_187 ?_
      obtain ⟨i40, H⟩ := H
      refine H_iald (fs_137 hF) i40 dX8_onRest_190 ?_
      obtain ⟨i41, H⟩ := H
      refine H_iast (fs_125 hF) i41 dX8_onRest_191 (fun h42 e43 => ?_)
      have H := H h42 e43
      refine V_aload_n dX8_onRest_192 rfl 0 rfl ?_
      refine V_iload_n dX8_onRest_193 rfl 2 rfl ?_
      refine H_callv (av := [.ref (ad D 115), .int x2]) (rest := []) H mqX8_make q88 (by decide) (Nat.le_of_ble_eq_true rfl) (k_resV (ci := 7) (av := [.int x2]) (rest := []) (fs_115 hF) (by decide) rfl rfl q1814 q1816 qs46 q1817 mhX8_make mnX8_make dX8_onRest_194) (fun h44 g45 H => ?_)
      refine V_goto (tgt := 364) dX8_onRest_197 (by decide) ?_
      exact H_vret rfl dX8_onRest_364 H
    · have H := H.2.2.2.2.2.2.2.2.1 c1
      refine V_tableIn (tgt := 200) dX8_onRest_1 (by rw [c1]; decide) (by rw [c1]; decide) (by rw [c1]; rfl) (by decide) ?_
      refine V_aload_n dX8_onRest_200 rfl 0 rfl ?_
      refine H_getr ck7 31 (by decide) (fs_115 hF) (by decide) rfl (fr_115_31 hF) q1489 dX8_onRest_201 ?_
      refine V_aload_n dX8_onRest_204 rfl 0 rfl ?_
      refine H_geti ck7 32 (by decide) (fs_115 hF) (by decide) rfl q1490 dX8_onRest_205 ?_
      refine V_aload_n dX8_onRest_208 rfl 0 rfl ?_
      refine H_calli (av := [.ref (ad D 115)]) (rest := [.int (h 115 32), .ref (ad D 133)]) H mqX8_last q88 (by decide) (Nat.le_of_ble_eq_true rfl) (k_resV (ci := 7) (av := []) (rest := [.int (h 115 32), .ref (ad D 133)]) (fs_115 hF) (by decide) rfl rfl q1818 q1820 qs47 q1821 mhX8_last mnX8_last dX8_onRest_209) (fun y48 h46 g47 H => ?_)
      obtain ⟨i49, H⟩ := H
      refine H_iast (fs_133 hF) i49 dX8_onRest_212 (fun h50 e51 => ?_)
      have H := H h50 e51
      refine V_aload_n dX8_onRest_213 rfl 0 rfl ?_
      refine V_dup dX8_onRest_214 rfl ?_
      refine H_geti ck7 32 (by decide) (fs_115 hF) (by decide) rfl q1490 dX8_onRest_215 ?_
      refine V_iconst (v := 1) dX8_onRest_218 (by decide) ?_
      refine V_iadd dX8_onRest_219 ?_
      refine H_puti ck7 32 (by decide) (fs_115 hF) (by decide) rfl rfl q1490 dX8_onRest_220 (fun h52 e53 => ?_)
      have H := H h52 e53
      refine V_aload_n dX8_onRest_223 rfl 0 rfl ?_
      refine H_geti ck7 4 (by decide) (fs_115 hF) (by decide) rfl q1462 dX8_onRest_224 ?_
      refine V_bipush (v := 16) dX8_onRest_227 (by decide) ?_
      refine V_icmp_ne (tgt := 252) dX8_onRest_229 (by decide) (fun c54 => ?_) (fun c54 => ?_)
      · have H := H.1 c54
        refine V_aload_n dX8_onRest_252 rfl 0 rfl ?_
        refine V_bipush (v := 21) dX8_onRest_253 (by decide) ?_
        refine V_iload_n dX8_onRest_255 rfl 2 rfl ?_
        refine H_callv (av := [.ref (ad D 115), .int 21, .int x2]) (rest := []) H mqX8_push q88 (by decide) (Nat.le_of_ble_eq_true rfl) (k_resV (ci := 7) (av := [.int 21, .int x2]) (rest := []) (fs_115 hF) (by decide) rfl rfl q1783 q1785 qs39 q1786 mhX8_push mnX8_push dX8_onRest_256) (fun h55 g56 H => ?_)
        refine V_aload_n dX8_onRest_259 rfl 0 rfl ?_
        refine V_iconst (v := 1) dX8_onRest_260 (by decide) ?_
        refine V_bipush (v := 15) dX8_onRest_261 (by decide) ?_
        refine H_callv (av := [.ref (ad D 115), .int 1, .int 15]) (rest := []) H mqX8_push q88 (by decide) (Nat.le_of_ble_eq_true rfl) (k_resV (ci := 7) (av := [.int 1, .int 15]) (rest := []) (fs_115 hF) (by decide) rfl rfl q1783 q1785 qs39 q1786 mhX8_push mnX8_push dX8_onRest_263) (fun h57 g58 H => ?_)
        refine V_goto (tgt := 364) dX8_onRest_266 (by decide) ?_
        exact H_vret rfl dX8_onRest_364 H
      · have H := H.2 c54
        refine V_aload_n dX8_onRest_232 rfl 0 rfl ?_
        refine V_bipush (v := 20) dX8_onRest_233 (by decide) ?_
        refine V_iload_n dX8_onRest_235 rfl 2 rfl ?_
        refine H_callv (av := [.ref (ad D 115), .int 20, .int x2]) (rest := []) H mqX8_push q88 (by decide) (Nat.le_of_ble_eq_true rfl) (k_resV (ci := 7) (av := [.int 20, .int x2]) (rest := []) (fs_115 hF) (by decide) rfl rfl q1783 q1785 qs39 q1786 mhX8_push mnX8_push dX8_onRest_236) (fun h59 g60 H => ?_)
        refine V_aload_n dX8_onRest_239 rfl 0 rfl ?_
        refine V_iconst (v := 4) dX8_onRest_240 (by decide) ?_
        refine V_iconst (v := 0) dX8_onRest_241 (by decide) ?_
        refine H_callv (av := [.ref (ad D 115), .int 4, .int 0]) (rest := []) H mqX8_push q88 (by decide) (Nat.le_of_ble_eq_true rfl) (k_resV (ci := 7) (av := [.int 4, .int 0]) (rest := []) (fs_115 hF) (by decide) rfl rfl q1783 q1785 qs39 q1786 mhX8_push mnX8_push dX8_onRest_242) (fun h61 g62 H => ?_)
        refine V_aload_n dX8_onRest_245 rfl 0 rfl ?_
        refine H_callv (av := [.ref (ad D 115)]) (rest := []) H mqX8_pass q88 (by decide) (Nat.le_of_ble_eq_true rfl) (k_resV (ci := 7) (av := []) (rest := []) (fs_115 hF) (by decide) rfl rfl q1759 q1761 qs33 q1762 mhX8_pass mnX8_pass dX8_onRest_246) (fun h63 g64 H => ?_)
        refine V_goto (tgt := 364) dX8_onRest_249 (by decide) ?_
        exact H_vret rfl dX8_onRest_364 H
    · have H := H.2.2.2.2.2.2.2.2.2 c1
      refine V_tableIn (tgt := 269) dX8_onRest_1 (by rw [c1]; decide) (by rw [c1]; decide) (by rw [c1]; rfl) (by decide) ?_
      refine V_aload_n dX8_onRest_269 rfl 0 rfl ?_
      refine H_getr ck7 20 (by decide) (fs_115 hF) (by decide) rfl (fr_115_20 hF) q1478 dX8_onRest_270 ?_
      refine V_iload_n dX8_onRest_273 rfl 2 rfl ?_
      obtain ⟨i65, H⟩ := H
      refine H_iald (fs_126 hF) i65 dX8_onRest_274 ?_
      refine V_topi (fun y66 e67 => ?_)
      have H := H y66 e67
      refine V_istore (l1 := [(4, .int y66), (0, .ref (ad D 115)), (1, .int x1), (2, .int x2)]) dX8_onRest_275 (by decide) rfl ?_
      refine V_aload_n dX8_onRest_277 rfl 1 rfl ?_
      refine H_getr ck7 19 (by decide) (fs_115 hF) (by decide) rfl (fr_115_19 hF) q1477 dX8_onRest_278 ?_
      refine V_iload_n dX8_onRest_281 rfl 3 rfl ?_
      refine V_aload_n dX8_onRest_282 rfl 1 rfl ?_
      refine H_geti ck7 30 (by decide) (fs_115 hF) (by decide) rfl q1488 dX8_onRest_283 ?_
      obtain ⟨i68, H⟩ := H
      refine H_iast (fs_125 hF) i68 dX8_onRest_286 (fun h69 e70 => ?_)
      have H := H h69 e70
      refine V_aload_n dX8_onRest_287 rfl 1 rfl ?_
      refine H_getr ck7 20 (by decide) (fs_115 hF) (by decide) rfl (fr_115_20 hF) q1478 dX8_onRest_288 ?_
      refine V_iload_n dX8_onRest_291 rfl 3 rfl ?_
      refine V_aload_n dX8_onRest_292 rfl 1 rfl ?_
      refine H_geti ck7 32 (by decide) (fs_115 hF) (by decide) rfl q1490 dX8_onRest_293 ?_
      refine V_iload dX8_onRest_296 0 rfl ?_
      refine V_isub dX8_onRest_298 ?_
      obtain ⟨i71, H⟩ := H
      refine H_iast (fs_126 hF) i71 dX8_onRest_299 (fun h72 e73 => ?_)
      have H := H h72 e73
      refine V_iload dX8_onRest_300 0 rfl ?_
      refine V_istore (l1 := [(5, .int y66), (4, .int y66), (0, .ref (ad D 115)), (1, .int x1), (2, .int x2)]) dX8_onRest_302 (by decide) rfl ?_
      refine V.sub [2, 4, 1, 0] rfl ?_
      exact H
theorem wX8_onRest {D : DE} {f : Nat} {Q : HI → HL → Prop} {F : Frm} {h : HI} {g : HL} (hF : k_Fix F) (x1 : Int32) (x2 : Int32) (H : JX8_onRest_0 D f Q F h g x1 x2) : Sv D (f + 1) mX8_onRest [.ref (ad D 115), .int x1, .int x2] F h g Q := Cl.ofV (by decide) (Nat.le_of_ble_eq_true rfl) rfl (bX8_onRest_0 hF x1 x2 H)
theorem dX8_parse_0 : decode cX8_parse 0 = .ok (.aload_n 0, 1) := by decide +kernel
theorem dX8_parse_1 : decode cX8_parse 1 = .ok (.iconst 0, 1) := by decide +kernel
theorem dX8_parse_2 : decode cX8_parse 2 = .ok (.putfield 242, 3) := by decide +kernel
theorem dX8_parse_5 : decode cX8_parse 5 = .ok (.aload_n 0, 1) := by decide +kernel
theorem dX8_parse_6 : decode cX8_parse 6 = .ok (.iconst 0, 1) := by decide +kernel
theorem dX8_parse_7 : decode cX8_parse 7 = .ok (.putfield 245, 3) := by decide +kernel
theorem dX8_parse_10 : decode cX8_parse 10 = .ok (.aload_n 0, 1) := by decide +kernel
theorem dX8_parse_11 : decode cX8_parse 11 = .ok (.iconst 0, 1) := by decide +kernel
theorem dX8_parse_12 : decode cX8_parse 12 = .ok (.putfield 248, 3) := by decide +kernel
theorem dX8_parse_15 : decode cX8_parse 15 = .ok (.aload_n 0, 1) := by decide +kernel
theorem dX8_parse_16 : decode cX8_parse 16 = .ok (.iconst 0, 1) := by decide +kernel
theorem dX8_parse_17 : decode cX8_parse 17 = .ok (.putfield 251, 3) := by decide +kernel
theorem dX8_parse_20 : decode cX8_parse 20 = .ok (.aload_n 0, 1) := by decide +kernel
theorem dX8_parse_21 : decode cX8_parse 21 = .ok (.iload_n 1, 1) := by decide +kernel
theorem dX8_parse_22 : decode cX8_parse 22 = .ok (.iconst 0, 1) := by decide +kernel
theorem dX8_parse_23 : decode cX8_parse 23 = .ok (.invokevirtual 254, 3) := by decide +kernel
theorem dX8_parse_26 : decode cX8_parse 26 = .ok (.aload_n 0, 1) := by decide +kernel
theorem dX8_parse_27 : decode cX8_parse 27 = .ok (.getfield 242, 3) := by decide +kernel
theorem dX8_parse_30 : decode cX8_parse 30 = .ok (.ifCond .le 90, 3) := by decide +kernel
theorem dX8_parse_33 : decode cX8_parse 33 = .ok (.aload_n 0, 1) := by decide +kernel
theorem dX8_parse_34 : decode cX8_parse 34 = .ok (.getfield 176, 3) := by decide +kernel
theorem dX8_parse_37 : decode cX8_parse 37 = .ok (.ifCond .ne 83, 3) := by decide +kernel
theorem dX8_parse_40 : decode cX8_parse 40 = .ok (.aload_n 0, 1) := by decide +kernel
theorem dX8_parse_41 : decode cX8_parse 41 = .ok (.dup, 1) := by decide +kernel
theorem dX8_parse_42 : decode cX8_parse 42 = .ok (.getfield 242, 3) := by decide +kernel
theorem dX8_parse_45 : decode cX8_parse 45 = .ok (.iconst 1, 1) := by decide +kernel
theorem dX8_parse_46 : decode cX8_parse 46 = .ok (.isub, 1) := by decide +kernel
theorem dX8_parse_47 : decode cX8_parse 47 = .ok (.putfield 242, 3) := by decide +kernel
theorem dX8_parse_50 : decode cX8_parse 50 = .ok (.aload_n 0, 1) := by decide +kernel
theorem dX8_parse_51 : decode cX8_parse 51 = .ok (.getfield 69, 3) := by decide +kernel
theorem dX8_parse_54 : decode cX8_parse 54 = .ok (.aload_n 0, 1) := by decide +kernel
theorem dX8_parse_55 : decode cX8_parse 55 = .ok (.getfield 242, 3) := by decide +kernel
theorem dX8_parse_58 : decode cX8_parse 58 = .ok (.iaload, 1) := by decide +kernel
theorem dX8_parse_59 : decode cX8_parse 59 = .ok (.istore_n 2, 1) := by decide +kernel
theorem dX8_parse_60 : decode cX8_parse 60 = .ok (.aload_n 0, 1) := by decide +kernel
theorem dX8_parse_61 : decode cX8_parse 61 = .ok (.getfield 72, 3) := by decide +kernel
theorem dX8_parse_64 : decode cX8_parse 64 = .ok (.aload_n 0, 1) := by decide +kernel
theorem dX8_parse_65 : decode cX8_parse 65 = .ok (.getfield 242, 3) := by decide +kernel
theorem dX8_parse_68 : decode cX8_parse 68 = .ok (.iaload, 1) := by decide +kernel
theorem dX8_parse_69 : decode cX8_parse 69 = .ok (.istore_n 3, 1) := by decide +kernel
theorem dX8_parse_70 : decode cX8_parse 70 = .ok (.iload_n 2, 1) := by decide +kernel
theorem dX8_parse_71 : decode cX8_parse 71 = .ok (.iconst 3, 1) := by decide +kernel
theorem dX8_parse_72 : decode cX8_parse 72 = .ok (.if_icmp .gt 12, 3) := by decide +kernel
theorem dX8_parse_75 : decode cX8_parse 75 = .ok (.aload_n 0, 1) := by decide +kernel
theorem dX8_parse_76 : decode cX8_parse 76 = .ok (.iload_n 2, 1) := by decide +kernel
theorem dX8_parse_77 : decode cX8_parse 77 = .ok (.iload_n 3, 1) := by decide +kernel
theorem dX8_parse_78 : decode cX8_parse 78 = .ok (.invokevirtual 257, 3) := by decide +kernel
theorem dX8_parse_81 : decode cX8_parse 81 = .ok (.goto 36, 3) := by decide +kernel
theorem dX8_parse_84 : decode cX8_parse 84 = .ok (.iload_n 2, 1) := by decide +kernel
theorem dX8_parse_85 : decode cX8_parse 85 = .ok (.iconst 4, 1) := by decide +kernel
theorem dX8_parse_86 : decode cX8_parse 86 = .ok (.if_icmp .ne 10, 3) := by decide +kernel
theorem dX8_parse_89 : decode cX8_parse 89 = .ok (.aload_n 0, 1) := by decide +kernel
theorem dX8_parse_90 : decode cX8_parse 90 = .ok (.invokevirtual 260, 3) := by decide +kernel
theorem dX8_parse_93 : decode cX8_parse 93 = .ok (.goto 24, 3) := by decide +kernel
theorem dX8_parse_96 : decode cX8_parse 96 = .ok (.iload_n 2, 1) := by decide +kernel
theorem dX8_parse_97 : decode cX8_parse 97 = .ok (.bipush 12, 2) := by decide +kernel
theorem dX8_parse_99 : decode cX8_parse 99 = .ok (.if_icmp .gt 12, 3) := by decide +kernel
theorem dX8_parse_102 : decode cX8_parse 102 = .ok (.aload_n 0, 1) := by decide +kernel
theorem dX8_parse_103 : decode cX8_parse 103 = .ok (.iload_n 2, 1) := by decide +kernel
theorem dX8_parse_104 : decode cX8_parse 104 = .ok (.iload_n 3, 1) := by decide +kernel
theorem dX8_parse_105 : decode cX8_parse 105 = .ok (.invokevirtual 263, 3) := by decide +kernel
theorem dX8_parse_108 : decode cX8_parse 108 = .ok (.goto 9, 3) := by decide +kernel
theorem dX8_parse_111 : decode cX8_parse 111 = .ok (.aload_n 0, 1) := by decide +kernel
theorem dX8_parse_112 : decode cX8_parse 112 = .ok (.iload_n 2, 1) := by decide +kernel
theorem dX8_parse_113 : decode cX8_parse 113 = .ok (.iload_n 3, 1) := by decide +kernel
theorem dX8_parse_114 : decode cX8_parse 114 = .ok (.invokevirtual 266, 3) := by decide +kernel
theorem dX8_parse_117 : decode cX8_parse 117 = .ok (.goto (-91), 3) := by decide +kernel
theorem dX8_parse_120 : decode cX8_parse 120 = .ok (.return_, 1) := by decide +kernel
abbrev JX8_parse_117 (D : DE) (f : Nat) (Q : HI → HL → Prop) (F : Frm) (h : HI) (g : HL) : Prop := V D mX8_parse (f + 1) (qv F Q) 26 [(0, .ref (ad D 115))] [] (F, h, g)
theorem bX8_parse_117 {D : DE} {f : Nat} {Q : HI → HL → Prop} {F : Frm} {h : HI} {g : HL} (hF : k_Fix F)  (H : JX8_parse_117 D f Q F h g ) : V D mX8_parse (f + 1) (qv F Q) 117 [(0, .ref (ad D 115))] [] (F, h, g) := by
  refine V_goto (tgt := 26) dX8_parse_117 (by decide) ?_
  exact H
abbrev JX8_parse_26 (D : DE) (f : Nat) (Q : HI → HL → Prop) (F : Frm) (h : HI) (g : HL) : Prop := (((h 115 36) ≤ 0 → Q h g) ∧ (¬ (h 115 36) ≤ 0 → ((¬ (h 115 9) = 0 → Q h g) ∧ ((h 115 9) = 0 → ∀ h3, h3 = up2 h 115 36 ((h 115 36) - 1) → vp_in (h3 115 36) 3000 ∧ ∀ y6 : Int32, y6 = h3 134 (ix (h3 115 36)) → vp_in (h3 115 36) 3000 ∧ ∀ y9 : Int32, y9 = h3 135 (ix (h3 115 36)) → ((3 < y6 → ((¬ y6 = 4 → ((12 < y6 → Sv D f mX8_onRest [.ref (ad D 115), .int y6, .int y9] F h3 g (fun h14 g15 => JX8_parse_117 D f Q F h14 g15)) ∧ (¬ 12 < y6 → Sv D f mX8_onSum [.ref (ad D 115), .int y6, .int y9] F h3 g (fun h16 g17 => JX8_parse_117 D f Q F h16 g17)))) ∧ (y6 = 4 → Sv D f mX8_onE [.ref (ad D 115)] F h3 g (fun h18 g19 => JX8_parse_117 D f Q F h18 g19)))) ∧ (¬ 3 < y6 → Sv D f mX8_onType [.ref (ad D 115), .int y6, .int y9] F h3 g (fun h20 g21 => JX8_parse_117 D f Q F h20 g21)))))))
theorem bX8_parse_26 {D : DE} {f : Nat} {Q : HI → HL → Prop} {F : Frm} {h : HI} {g : HL} (hF : k_Fix F)  (H : JX8_parse_26 D f Q F h g ) : V D mX8_parse (f + 1) (qv F Q) 26 [(0, .ref (ad D 115))] [] (F, h, g) := by
  refine V_aload_n dX8_parse_26 rfl 0 rfl ?_
  refine H_geti ck7 36 (by decide) (fs_115 hF) (by decide) rfl q1494 dX8_parse_27 ?_
  refine V_if_le (tgt := 120) dX8_parse_30 (by decide) (fun c1 => ?_) (fun c1 => ?_)
  · have H := H.1 c1
    exact H_vret rfl dX8_parse_120 H
  · have H := H.2 c1
    refine V_aload_n dX8_parse_33 rfl 0 rfl ?_
    refine H_geti ck7 9 (by decide) (fs_115 hF) (by decide) rfl q1467 dX8_parse_34 ?_
    refine V_if_ne (tgt := 120) dX8_parse_37 (by decide) (fun c2 => ?_) (fun c2 => ?_)
    · have H := H.1 c2
      exact H_vret rfl dX8_parse_120 H
    · have H := H.2 c2
      refine V_aload_n dX8_parse_40 rfl 0 rfl ?_
      refine V_dup dX8_parse_41 rfl ?_
      refine H_geti ck7 36 (by decide) (fs_115 hF) (by decide) rfl q1494 dX8_parse_42 ?_
      refine V_iconst (v := 1) dX8_parse_45 (by decide) ?_
      refine V_isub dX8_parse_46 ?_
      refine H_puti ck7 36 (by decide) (fs_115 hF) (by decide) rfl rfl q1494 dX8_parse_47 (fun h3 e4 => ?_)
      have H := H h3 e4
      refine V_aload_n dX8_parse_50 rfl 0 rfl ?_
      refine H_getr ck7 34 (by decide) (fs_115 hF) (by decide) rfl (fr_115_34 hF) q1492 dX8_parse_51 ?_
      refine V_aload_n dX8_parse_54 rfl 0 rfl ?_
      refine H_geti ck7 36 (by decide) (fs_115 hF) (by decide) rfl q1494 dX8_parse_55 ?_
      obtain ⟨i5, H⟩ := H
      refine H_iald (fs_134 hF) i5 dX8_parse_58 ?_
      refine V_topi (fun y6 e7 => ?_)
      have H := H y6 e7
      refine V_istore_n (l1 := [(2, .int y6), (0, .ref (ad D 115))]) dX8_parse_59 rfl (by decide) rfl ?_
      refine V_aload_n dX8_parse_60 rfl 1 rfl ?_
      refine H_getr ck7 35 (by decide) (fs_115 hF) (by decide) rfl (fr_115_35 hF) q1493 dX8_parse_61 ?_
      refine V_aload_n dX8_parse_64 rfl 1 rfl ?_
      refine H_geti ck7 36 (by decide) (fs_115 hF) (by decide) rfl q1494 dX8_parse_65 ?_
      obtain ⟨i8, H⟩ := H
      refine H_iald (fs_135 hF) i8 dX8_parse_68 ?_
      refine V_topi (fun y9 e10 => ?_)
      have H := H y9 e10
      refine V_istore_n (l1 := [(3, .int y9), (2, .int y6), (0, .ref (ad D 115))]) dX8_parse_69 rfl (by decide) rfl ?_
      refine V_iload_n dX8_parse_70 rfl 1 rfl ?_
      refine V_iconst (v := 3) dX8_parse_71 (by decide) ?_
      refine V_icmp_gt (tgt := 84) dX8_parse_72 (by decide) (fun c11 => ?_) (fun c11 => ?_)
      · have H := H.1 c11
        refine V_iload_n dX8_parse_84 rfl 1 rfl ?_
        refine V_iconst (v := 4) dX8_parse_85 (by decide) ?_
        refine V_icmp_ne (tgt := 96) dX8_parse_86 (by decide) (fun c12 => ?_) (fun c12 => ?_)
        · have H := H.1 c12
          refine V_iload_n dX8_parse_96 rfl 1 rfl ?_
          refine V_bipush (v := 12) dX8_parse_97 (by decide) ?_
          refine V_icmp_gt (tgt := 111) dX8_parse_99 (by decide) (fun c13 => ?_) (fun c13 => ?_)
          · have H := H.1 c13
            refine V_aload_n dX8_parse_111 rfl 2 rfl ?_
            refine V_iload_n dX8_parse_112 rfl 1 rfl ?_
            refine V_iload_n dX8_parse_113 rfl 0 rfl ?_
            refine H_callv (av := [.ref (ad D 115), .int y6, .int y9]) (rest := []) H mqX8_onRest q88 (by decide) (Nat.le_of_ble_eq_true rfl) (k_resV (ci := 7) (av := [.int y6, .int y9]) (rest := []) (fs_115 hF) (by decide) rfl rfl q1822 q1824 qs48 q1825 mhX8_onRest mnX8_onRest dX8_parse_114) (fun h14 g15 H => ?_)
            refine V.sub [2] rfl ?_
            exact bX8_parse_117 hF  H
          · have H := H.2 c13
            refine V_aload_n dX8_parse_102 rfl 2 rfl ?_
            refine V_iload_n dX8_parse_103 rfl 1 rfl ?_
            refine V_iload_n dX8_parse_104 rfl 0 rfl ?_
            refine H_callv (av := [.ref (ad D 115), .int y6, .int y9]) (rest := []) H mqX8_onSum q88 (by decide) (Nat.le_of_ble_eq_true rfl) (k_resV (ci := 7) (av := [.int y6, .int y9]) (rest := []) (fs_115 hF) (by decide) rfl rfl q1806 q1808 qs44 q1809 mhX8_onSum mnX8_onSum dX8_parse_105) (fun h16 g17 H => ?_)
            refine V_goto (tgt := 117) dX8_parse_108 (by decide) ?_
            refine V.sub [2] rfl ?_
            exact bX8_parse_117 hF  H
        · have H := H.2 c12
          refine V_aload_n dX8_parse_89 rfl 2 rfl ?_
          refine H_callv (av := [.ref (ad D 115)]) (rest := []) H mqX8_onE q88 (by decide) (Nat.le_of_ble_eq_true rfl) (k_resV (ci := 7) (av := []) (rest := []) (fs_115 hF) (by decide) rfl rfl q1794 q1796 qs41 q1797 mhX8_onE mnX8_onE dX8_parse_90) (fun h18 g19 H => ?_)
          refine V_goto (tgt := 117) dX8_parse_93 (by decide) ?_
          refine V.sub [2] rfl ?_
          exact bX8_parse_117 hF  H
      · have H := H.2 c11
        refine V_aload_n dX8_parse_75 rfl 2 rfl ?_
        refine V_iload_n dX8_parse_76 rfl 1 rfl ?_
        refine V_iload_n dX8_parse_77 rfl 0 rfl ?_
        refine H_callv (av := [.ref (ad D 115), .int y6, .int y9]) (rest := []) H mqX8_onType q88 (by decide) (Nat.le_of_ble_eq_true rfl) (k_resV (ci := 7) (av := [.int y6, .int y9]) (rest := []) (fs_115 hF) (by decide) rfl rfl q1787 q1789 qs40 q1790 mhX8_onType mnX8_onType dX8_parse_78) (fun h20 g21 H => ?_)
        refine V_goto (tgt := 117) dX8_parse_81 (by decide) ?_
        refine V.sub [2] rfl ?_
        exact bX8_parse_117 hF  H
abbrev JX8_parse_0 (D : DE) (f : Nat) (Q : HI → HL → Prop) (F : Frm) (h : HI) (g : HL) (x1 : Int32) : Prop := ∀ h1, h1 = up2 h 115 36 0 → ∀ h3, h3 = up2 h1 115 38 0 → ∀ h5, h5 = up2 h3 115 40 0 → ∀ h7, h7 = up2 h5 115 41 0 → Sv D f mX8_push [.ref (ad D 115), .int x1, .int 0] F h7 g (fun h9 g10 => V D mX8_parse (f + 1) (qv F Q) 26 [(0, .ref (ad D 115))] [] (F, h9, g10))
theorem bX8_parse_0 {D : DE} {f : Nat} {Q : HI → HL → Prop} {F : Frm} {h : HI} {g : HL} (hF : k_Fix F) (x1 : Int32) (H : JX8_parse_0 D f Q F h g x1) : V D mX8_parse (f + 1) (qv F Q) 0 [(0, .ref (ad D 115)), (1, .int x1)] [] (F, h, g) := by
  refine V_aload_n dX8_parse_0 rfl 0 rfl ?_
  refine V_iconst (v := 0) dX8_parse_1 (by decide) ?_
  refine H_puti ck7 36 (by decide) (fs_115 hF) (by decide) rfl rfl q1494 dX8_parse_2 (fun h1 e2 => ?_)
  have H := H h1 e2
  refine V_aload_n dX8_parse_5 rfl 0 rfl ?_
  refine V_iconst (v := 0) dX8_parse_6 (by decide) ?_
  refine H_puti ck7 38 (by decide) (fs_115 hF) (by decide) rfl rfl q1496 dX8_parse_7 (fun h3 e4 => ?_)
  have H := H h3 e4
  refine V_aload_n dX8_parse_10 rfl 0 rfl ?_
  refine V_iconst (v := 0) dX8_parse_11 (by decide) ?_
  refine H_puti ck7 40 (by decide) (fs_115 hF) (by decide) rfl rfl q1498 dX8_parse_12 (fun h5 e6 => ?_)
  have H := H h5 e6
  refine V_aload_n dX8_parse_15 rfl 0 rfl ?_
  refine V_iconst (v := 0) dX8_parse_16 (by decide) ?_
  refine H_puti ck7 41 (by decide) (fs_115 hF) (by decide) rfl rfl q1499 dX8_parse_17 (fun h7 e8 => ?_)
  have H := H h7 e8
  refine V_aload_n dX8_parse_20 rfl 0 rfl ?_
  refine V_iload_n dX8_parse_21 rfl 1 rfl ?_
  refine V_iconst (v := 0) dX8_parse_22 (by decide) ?_
  refine H_callv (av := [.ref (ad D 115), .int x1, .int 0]) (rest := []) H mqX8_push q88 (by decide) (Nat.le_of_ble_eq_true rfl) (k_resV (ci := 7) (av := [.int x1, .int 0]) (rest := []) (fs_115 hF) (by decide) rfl rfl q1783 q1785 qs39 q1786 mhX8_push mnX8_push dX8_parse_23) (fun h9 g10 H => ?_)
  refine V.sub [0] rfl ?_
  exact H
theorem wX8_parse {D : DE} {f : Nat} {Q : HI → HL → Prop} {F : Frm} {h : HI} {g : HL} (hF : k_Fix F) (x1 : Int32) (H : JX8_parse_0 D f Q F h g x1) : Sv D (f + 1) mX8_parse [.ref (ad D 115), .int x1] F h g Q := Cl.ofV (by decide) (Nat.le_of_ble_eq_true rfl) rfl (bX8_parse_0 hF x1 H)
theorem dX8_type_0 : decode cX8_type 0 = .ok (.aload_n 0, 1) := by decide +kernel
theorem dX8_type_1 : decode cX8_type 1 = .ok (.getfield 176, 3) := by decide +kernel
theorem dX8_type_4 : decode cX8_type 4 = .ok (.ifCond .ne 8, 3) := by decide +kernel
theorem dX8_type_7 : decode cX8_type 7 = .ok (.aload_n 0, 1) := by decide +kernel
theorem dX8_type_8 : decode cX8_type 8 = .ok (.iconst 2, 1) := by decide +kernel
theorem dX8_type_9 : decode cX8_type 9 = .ok (.invokevirtual 307, 3) := by decide +kernel
theorem dX8_type_12 : decode cX8_type 12 = .ok (.aload_n 0, 1) := by decide +kernel
theorem dX8_type_13 : decode cX8_type 13 = .ok (.getfield 176, 3) := by decide +kernel
theorem dX8_type_16 : decode cX8_type 16 = .ok (.ifCond .ne 12, 3) := by decide +kernel
theorem dX8_type_19 : decode cX8_type 19 = .ok (.aload_n 0, 1) := by decide +kernel
theorem dX8_type_20 : decode cX8_type 20 = .ok (.getfield 78, 3) := by decide +kernel
theorem dX8_type_23 : decode cX8_type 23 = .ok (.iconst 0, 1) := by decide +kernel
theorem dX8_type_24 : decode cX8_type 24 = .ok (.iaload, 1) := by decide +kernel
theorem dX8_type_25 : decode cX8_type 25 = .ok (.goto 4, 3) := by decide +kernel
theorem dX8_type_28 : decode cX8_type 28 = .ok (.iconst 0, 1) := by decide +kernel
theorem dX8_type_29 : decode cX8_type 29 = .ok (.ireturn, 1) := by decide +kernel
abbrev JX8_type_12 (D : DE) (f : Nat) (Q : Int32 → HI → HL → Prop) (F : Frm) (h : HI) (g : HL) : Prop := ((¬ (h 115 9) = 0 → Q 0 h g) ∧ ((h 115 9) = 0 → Q (h 137 (ix 0)) h g))
theorem bX8_type_12 {D : DE} {f : Nat} {Q : Int32 → HI → HL → Prop} {F : Frm} {h : HI} {g : HL} (hF : k_Fix F)  (H : JX8_type_12 D f Q F h g ) : V D mX8_type (f + 1) (qi F Q) 12 [(0, .ref (ad D 115))] [] (F, h, g) := by
  refine V_aload_n dX8_type_12 rfl 0 rfl ?_
  refine H_geti ck7 9 (by decide) (fs_115 hF) (by decide) rfl q1467 dX8_type_13 ?_
  refine V_if_ne (tgt := 28) dX8_type_16 (by decide) (fun c1 => ?_) (fun c1 => ?_)
  · have H := H.1 c1
    refine V_iconst (v := 0) dX8_type_28 (by decide) ?_
    exact H_iret rfl dX8_type_29 H
  · have H := H.2 c1
    refine V_aload_n dX8_type_19 rfl 0 rfl ?_
    refine H_getr ck7 39 (by decide) (fs_115 hF) (by decide) rfl (fr_115_39 hF) q1497 dX8_type_20 ?_
    refine V_iconst (v := 0) dX8_type_23 (by decide) ?_
    refine H_iald (fs_137 hF) (by unfold vp_in; decide) dX8_type_24 ?_
    refine V_goto (tgt := 29) dX8_type_25 (by decide) ?_
    exact H_iret rfl dX8_type_29 H
abbrev JX8_type_0 (D : DE) (f : Nat) (Q : Int32 → HI → HL → Prop) (F : Frm) (h : HI) (g : HL) : Prop := ((¬ (h 115 9) = 0 → JX8_type_12 D f Q F h g) ∧ ((h 115 9) = 0 → Sv D f mX8_parse [.ref (ad D 115), .int 2] F h g (fun h2 g3 => JX8_type_12 D f Q F h2 g3)))
theorem bX8_type_0 {D : DE} {f : Nat} {Q : Int32 → HI → HL → Prop} {F : Frm} {h : HI} {g : HL} (hF : k_Fix F)  (H : JX8_type_0 D f Q F h g ) : V D mX8_type (f + 1) (qi F Q) 0 [(0, .ref (ad D 115))] [] (F, h, g) := by
  refine V_aload_n dX8_type_0 rfl 0 rfl ?_
  refine H_geti ck7 9 (by decide) (fs_115 hF) (by decide) rfl q1467 dX8_type_1 ?_
  refine V_if_ne (tgt := 12) dX8_type_4 (by decide) (fun c1 => ?_) (fun c1 => ?_)
  · have H := H.1 c1
    exact bX8_type_12 hF  H
  · have H := H.2 c1
    refine V_aload_n dX8_type_7 rfl 0 rfl ?_
    refine V_iconst (v := 2) dX8_type_8 (by decide) ?_
    refine H_callv (av := [.ref (ad D 115), .int 2]) (rest := []) H mqX8_parse q88 (by decide) (Nat.le_of_ble_eq_true rfl) (k_resV (ci := 7) (av := [.int 2]) (rest := []) (fs_115 hF) (by decide) rfl rfl q1779 q1781 qs38 q1782 mhX8_parse mnX8_parse dX8_type_9) (fun h2 g3 H => ?_)
    exact bX8_type_12 hF  H
theorem wX8_type {D : DE} {f : Nat} {Q : Int32 → HI → HL → Prop} {F : Frm} {h : HI} {g : HL} (hF : k_Fix F)  (H : JX8_type_0 D f Q F h g ) : Si D (f + 1) mX8_type [.ref (ad D 115)] F h g Q := Cl.ofV (by decide) (Nat.le_of_ble_eq_true rfl) rfl (bX8_type_0 hF  H)
theorem dX8_definition_0 : decode cX8_definition 0 = .ok (.aload_n 0, 1) := by decide +kernel
theorem dX8_definition_1 : decode cX8_definition 1 = .ok (.getfield 176, 3) := by decide +kernel
theorem dX8_definition_4 : decode cX8_definition 4 = .ok (.ifCond .ne 21, 3) := by decide +kernel
theorem dX8_definition_7 : decode cX8_definition 7 = .ok (.aload_n 0, 1) := by decide +kernel
theorem dX8_definition_8 : decode cX8_definition 8 = .ok (.getfield 193, 3) := by decide +kernel
theorem dX8_definition_11 : decode cX8_definition 11 = .ok (.bipush 10, 2) := by decide +kernel
theorem dX8_definition_13 : decode cX8_definition 13 = .ok (.if_icmp .eq 12, 3) := by decide +kernel
theorem dX8_definition_16 : decode cX8_definition 16 = .ok (.aload_n 0, 1) := by decide +kernel
theorem dX8_definition_17 : decode cX8_definition 17 = .ok (.iconst 2, 1) := by decide +kernel
theorem dX8_definition_18 : decode cX8_definition 18 = .ok (.aload_n 0, 1) := by decide +kernel
theorem dX8_definition_19 : decode cX8_definition 19 = .ok (.getfield 190, 3) := by decide +kernel
theorem dX8_definition_22 : decode cX8_definition 22 = .ok (.invokevirtual 205, 3) := by decide +kernel
theorem dX8_definition_25 : decode cX8_definition 25 = .ok (.bipush 12, 2) := by decide +kernel
theorem dX8_definition_27 : decode cX8_definition 27 = .ok (.aload_n 0, 1) := by decide +kernel
theorem dX8_definition_28 : decode cX8_definition 28 = .ok (.getfield 310, 3) := by decide +kernel
theorem dX8_definition_31 : decode cX8_definition 31 = .ok (.imul, 1) := by decide +kernel
theorem dX8_definition_32 : decode cX8_definition 32 = .ok (.istore_n 1, 1) := by decide +kernel
theorem dX8_definition_33 : decode cX8_definition 33 = .ok (.iload_n 1, 1) := by decide +kernel
theorem dX8_definition_34 : decode cX8_definition 34 = .ok (.bipush 12, 2) := by decide +kernel
theorem dX8_definition_36 : decode cX8_definition 36 = .ok (.aload_n 0, 1) := by decide +kernel
theorem dX8_definition_37 : decode cX8_definition 37 = .ok (.getfield 310, 3) := by decide +kernel
theorem dX8_definition_40 : decode cX8_definition 40 = .ok (.imul, 1) := by decide +kernel
theorem dX8_definition_41 : decode cX8_definition 41 = .ok (.aload_n 0, 1) := by decide +kernel
theorem dX8_definition_42 : decode cX8_definition 42 = .ok (.getfield 313, 3) := by decide +kernel
theorem dX8_definition_45 : decode cX8_definition 45 = .ok (.iadd, 1) := by decide +kernel
theorem dX8_definition_46 : decode cX8_definition 46 = .ok (.if_icmp .ge 39, 3) := by decide +kernel
theorem dX8_definition_49 : decode cX8_definition 49 = .ok (.aload_n 0, 1) := by decide +kernel
theorem dX8_definition_50 : decode cX8_definition 50 = .ok (.getfield 176, 3) := by decide +kernel
theorem dX8_definition_53 : decode cX8_definition 53 = .ok (.ifCond .ne 32, 3) := by decide +kernel
theorem dX8_definition_56 : decode cX8_definition 56 = .ok (.aload_n 0, 1) := by decide +kernel
theorem dX8_definition_57 : decode cX8_definition 57 = .ok (.getfield 17, 3) := by decide +kernel
theorem dX8_definition_60 : decode cX8_definition 60 = .ok (.iload_n 1, 1) := by decide +kernel
theorem dX8_definition_61 : decode cX8_definition 61 = .ok (.laload, 1) := by decide +kernel
theorem dX8_definition_62 : decode cX8_definition 62 = .ok (.aload_n 0, 1) := by decide +kernel
theorem dX8_definition_63 : decode cX8_definition 63 = .ok (.getfield 222, 3) := by decide +kernel
theorem dX8_definition_66 : decode cX8_definition 66 = .ok (.lcmp, 1) := by decide +kernel
theorem dX8_definition_67 : decode cX8_definition 67 = .ok (.ifCond .ne 12, 3) := by decide +kernel
theorem dX8_definition_70 : decode cX8_definition 70 = .ok (.aload_n 0, 1) := by decide +kernel
theorem dX8_definition_71 : decode cX8_definition 71 = .ok (.iconst 3, 1) := by decide +kernel
theorem dX8_definition_72 : decode cX8_definition 72 = .ok (.aload_n 0, 1) := by decide +kernel
theorem dX8_definition_73 : decode cX8_definition 73 = .ok (.getfield 190, 3) := by decide +kernel
theorem dX8_definition_76 : decode cX8_definition 76 = .ok (.invokevirtual 205, 3) := by decide +kernel
theorem dX8_definition_79 : decode cX8_definition 79 = .ok (.iinc 1 1, 3) := by decide +kernel
theorem dX8_definition_82 : decode cX8_definition 82 = .ok (.goto (-49), 3) := by decide +kernel
theorem dX8_definition_85 : decode cX8_definition 85 = .ok (.aload_n 0, 1) := by decide +kernel
theorem dX8_definition_86 : decode cX8_definition 86 = .ok (.getfield 176, 3) := by decide +kernel
theorem dX8_definition_89 : decode cX8_definition 89 = .ok (.ifCond .ne 22, 3) := by decide +kernel
theorem dX8_definition_92 : decode cX8_definition 92 = .ok (.aload_n 0, 1) := by decide +kernel
theorem dX8_definition_93 : decode cX8_definition 93 = .ok (.getfield 313, 3) := by decide +kernel
theorem dX8_definition_96 : decode cX8_definition 96 = .ok (.bipush 12, 2) := by decide +kernel
theorem dX8_definition_98 : decode cX8_definition 98 = .ok (.if_icmp .ne 13, 3) := by decide +kernel
theorem dX8_definition_101 : decode cX8_definition 101 = .ok (.aload_n 0, 1) := by decide +kernel
theorem dX8_definition_102 : decode cX8_definition 102 = .ok (.bipush 6, 2) := by decide +kernel
theorem dX8_definition_104 : decode cX8_definition 104 = .ok (.aload_n 0, 1) := by decide +kernel
theorem dX8_definition_105 : decode cX8_definition 105 = .ok (.getfield 190, 3) := by decide +kernel
theorem dX8_definition_108 : decode cX8_definition 108 = .ok (.invokevirtual 205, 3) := by decide +kernel
theorem dX8_definition_111 : decode cX8_definition 111 = .ok (.aload_n 0, 1) := by decide +kernel
theorem dX8_definition_112 : decode cX8_definition 112 = .ok (.getfield 176, 3) := by decide +kernel
theorem dX8_definition_115 : decode cX8_definition 115 = .ok (.ifCond .eq 4, 3) := by decide +kernel
theorem dX8_definition_118 : decode cX8_definition 118 = .ok (.return_, 1) := by decide +kernel
theorem dX8_definition_119 : decode cX8_definition 119 = .ok (.aload_n 0, 1) := by decide +kernel
theorem dX8_definition_120 : decode cX8_definition 120 = .ok (.bipush 12, 2) := by decide +kernel
theorem dX8_definition_122 : decode cX8_definition 122 = .ok (.aload_n 0, 1) := by decide +kernel
theorem dX8_definition_123 : decode cX8_definition 123 = .ok (.getfield 310, 3) := by decide +kernel
theorem dX8_definition_126 : decode cX8_definition 126 = .ok (.imul, 1) := by decide +kernel
theorem dX8_definition_127 : decode cX8_definition 127 = .ok (.aload_n 0, 1) := by decide +kernel
theorem dX8_definition_128 : decode cX8_definition 128 = .ok (.getfield 313, 3) := by decide +kernel
theorem dX8_definition_131 : decode cX8_definition 131 = .ok (.iadd, 1) := by decide +kernel
theorem dX8_definition_132 : decode cX8_definition 132 = .ok (.putfield 239, 3) := by decide +kernel
theorem dX8_definition_135 : decode cX8_definition 135 = .ok (.aload_n 0, 1) := by decide +kernel
theorem dX8_definition_136 : decode cX8_definition 136 = .ok (.getfield 17, 3) := by decide +kernel
theorem dX8_definition_139 : decode cX8_definition 139 = .ok (.aload_n 0, 1) := by decide +kernel
theorem dX8_definition_140 : decode cX8_definition 140 = .ok (.getfield 239, 3) := by decide +kernel
theorem dX8_definition_143 : decode cX8_definition 143 = .ok (.aload_n 0, 1) := by decide +kernel
theorem dX8_definition_144 : decode cX8_definition 144 = .ok (.getfield 222, 3) := by decide +kernel
theorem dX8_definition_147 : decode cX8_definition 147 = .ok (.lastore, 1) := by decide +kernel
theorem dX8_definition_148 : decode cX8_definition 148 = .ok (.aload_n 0, 1) := by decide +kernel
theorem dX8_definition_149 : decode cX8_definition 149 = .ok (.getfield 24, 3) := by decide +kernel
theorem dX8_definition_152 : decode cX8_definition 152 = .ok (.aload_n 0, 1) := by decide +kernel
theorem dX8_definition_153 : decode cX8_definition 153 = .ok (.getfield 239, 3) := by decide +kernel
theorem dX8_definition_156 : decode cX8_definition 156 = .ok (.iconst 0, 1) := by decide +kernel
theorem dX8_definition_157 : decode cX8_definition 157 = .ok (.iastore, 1) := by decide +kernel
theorem dX8_definition_158 : decode cX8_definition 158 = .ok (.aload_n 0, 1) := by decide +kernel
theorem dX8_definition_159 : decode cX8_definition 159 = .ok (.getfield 27, 3) := by decide +kernel
theorem dX8_definition_162 : decode cX8_definition 162 = .ok (.aload_n 0, 1) := by decide +kernel
theorem dX8_definition_163 : decode cX8_definition 163 = .ok (.getfield 239, 3) := by decide +kernel
theorem dX8_definition_166 : decode cX8_definition 166 = .ok (.iconst 0, 1) := by decide +kernel
theorem dX8_definition_167 : decode cX8_definition 167 = .ok (.iastore, 1) := by decide +kernel
theorem dX8_definition_168 : decode cX8_definition 168 = .ok (.aload_n 0, 1) := by decide +kernel
theorem dX8_definition_169 : decode cX8_definition 169 = .ok (.dup, 1) := by decide +kernel
theorem dX8_definition_170 : decode cX8_definition 170 = .ok (.getfield 313, 3) := by decide +kernel
theorem dX8_definition_173 : decode cX8_definition 173 = .ok (.iconst 1, 1) := by decide +kernel
theorem dX8_definition_174 : decode cX8_definition 174 = .ok (.iadd, 1) := by decide +kernel
theorem dX8_definition_175 : decode cX8_definition 175 = .ok (.putfield 313, 3) := by decide +kernel
theorem dX8_definition_178 : decode cX8_definition 178 = .ok (.aload_n 0, 1) := by decide +kernel
theorem dX8_definition_179 : decode cX8_definition 179 = .ok (.invokevirtual 229, 3) := by decide +kernel
theorem dX8_definition_182 : decode cX8_definition 182 = .ok (.aload_n 0, 1) := by decide +kernel
theorem dX8_definition_183 : decode cX8_definition 183 = .ok (.bipush 14, 2) := by decide +kernel
theorem dX8_definition_185 : decode cX8_definition 185 = .ok (.invokevirtual 269, 3) := by decide +kernel
theorem dX8_definition_188 : decode cX8_definition 188 = .ok (.aload_n 0, 1) := by decide +kernel
theorem dX8_definition_189 : decode cX8_definition 189 = .ok (.getfield 176, 3) := by decide +kernel
theorem dX8_definition_192 : decode cX8_definition 192 = .ok (.ifCond .ne 16, 3) := by decide +kernel
theorem dX8_definition_195 : decode cX8_definition 195 = .ok (.aload_n 0, 1) := by decide +kernel
theorem dX8_definition_196 : decode cX8_definition 196 = .ok (.getfield 193, 3) := by decide +kernel
theorem dX8_definition_199 : decode cX8_definition 199 = .ok (.bipush 15, 2) := by decide +kernel
theorem dX8_definition_201 : decode cX8_definition 201 = .ok (.if_icmp .eq 7, 3) := by decide +kernel
theorem dX8_definition_204 : decode cX8_definition 204 = .ok (.iconst 1, 1) := by decide +kernel
theorem dX8_definition_205 : decode cX8_definition 205 = .ok (.goto 4, 3) := by decide +kernel
theorem dX8_definition_208 : decode cX8_definition 208 = .ok (.iconst 0, 1) := by decide +kernel
theorem dX8_definition_209 : decode cX8_definition 209 = .ok (.istore_n 1, 1) := by decide +kernel
theorem dX8_definition_210 : decode cX8_definition 210 = .ok (.iload_n 1, 1) := by decide +kernel
theorem dX8_definition_211 : decode cX8_definition 211 = .ok (.ifCond .eq 86, 3) := by decide +kernel
theorem dX8_definition_214 : decode cX8_definition 214 = .ok (.aload_n 0, 1) := by decide +kernel
theorem dX8_definition_215 : decode cX8_definition 215 = .ok (.iconst 1, 1) := by decide +kernel
theorem dX8_definition_216 : decode cX8_definition 216 = .ok (.invokevirtual 297, 3) := by decide +kernel
theorem dX8_definition_219 : decode cX8_definition 219 = .ok (.istore_n 2, 1) := by decide +kernel
theorem dX8_definition_220 : decode cX8_definition 220 = .ok (.aload_n 0, 1) := by decide +kernel
theorem dX8_definition_221 : decode cX8_definition 221 = .ok (.getfield 176, 3) := by decide +kernel
theorem dX8_definition_224 : decode cX8_definition 224 = .ok (.ifCond .ne 16, 3) := by decide +kernel
theorem dX8_definition_227 : decode cX8_definition 227 = .ok (.aload_n 0, 1) := by decide +kernel
theorem dX8_definition_228 : decode cX8_definition 228 = .ok (.getfield 24, 3) := by decide +kernel
theorem dX8_definition_231 : decode cX8_definition 231 = .ok (.aload_n 0, 1) := by decide +kernel
theorem dX8_definition_232 : decode cX8_definition 232 = .ok (.getfield 239, 3) := by decide +kernel
theorem dX8_definition_235 : decode cX8_definition 235 = .ok (.dup2, 1) := by decide +kernel
theorem dX8_definition_236 : decode cX8_definition 236 = .ok (.iaload, 1) := by decide +kernel
theorem dX8_definition_237 : decode cX8_definition 237 = .ok (.iconst 1, 1) := by decide +kernel
theorem dX8_definition_238 : decode cX8_definition 238 = .ok (.iadd, 1) := by decide +kernel
theorem dX8_definition_239 : decode cX8_definition 239 = .ok (.iastore, 1) := by decide +kernel
theorem dX8_definition_240 : decode cX8_definition 240 = .ok (.aload_n 0, 1) := by decide +kernel
theorem dX8_definition_241 : decode cX8_definition 241 = .ok (.bipush 18, 2) := by decide +kernel
theorem dX8_definition_243 : decode cX8_definition 243 = .ok (.invokevirtual 269, 3) := by decide +kernel
theorem dX8_definition_246 : decode cX8_definition 246 = .ok (.aload_n 0, 1) := by decide +kernel
theorem dX8_definition_247 : decode cX8_definition 247 = .ok (.getfield 36, 3) := by decide +kernel
theorem dX8_definition_250 : decode cX8_definition 250 = .ok (.bipush 16, 2) := by decide +kernel
theorem dX8_definition_252 : decode cX8_definition 252 = .ok (.aload_n 0, 1) := by decide +kernel
theorem dX8_definition_253 : decode cX8_definition 253 = .ok (.getfield 239, 3) := by decide +kernel
theorem dX8_definition_256 : decode cX8_definition 256 = .ok (.imul, 1) := by decide +kernel
theorem dX8_definition_257 : decode cX8_definition 257 = .ok (.iload_n 2, 1) := by decide +kernel
theorem dX8_definition_258 : decode cX8_definition 258 = .ok (.iadd, 1) := by decide +kernel
theorem dX8_definition_259 : decode cX8_definition 259 = .ok (.aload_n 0, 1) := by decide +kernel
theorem dX8_definition_260 : decode cX8_definition 260 = .ok (.invokevirtual 316, 3) := by decide +kernel
theorem dX8_definition_263 : decode cX8_definition 263 = .ok (.iastore, 1) := by decide +kernel
theorem dX8_definition_264 : decode cX8_definition 264 = .ok (.aload_n 0, 1) := by decide +kernel
theorem dX8_definition_265 : decode cX8_definition 265 = .ok (.getfield 176, 3) := by decide +kernel
theorem dX8_definition_268 : decode cX8_definition 268 = .ok (.ifCond .ne 16, 3) := by decide +kernel
theorem dX8_definition_271 : decode cX8_definition 271 = .ok (.aload_n 0, 1) := by decide +kernel
theorem dX8_definition_272 : decode cX8_definition 272 = .ok (.getfield 193, 3) := by decide +kernel
theorem dX8_definition_275 : decode cX8_definition 275 = .ok (.bipush 16, 2) := by decide +kernel
theorem dX8_definition_277 : decode cX8_definition 277 = .ok (.if_icmp .ne 7, 3) := by decide +kernel
theorem dX8_definition_280 : decode cX8_definition 280 = .ok (.iconst 1, 1) := by decide +kernel
theorem dX8_definition_281 : decode cX8_definition 281 = .ok (.goto 4, 3) := by decide +kernel
theorem dX8_definition_284 : decode cX8_definition 284 = .ok (.iconst 0, 1) := by decide +kernel
theorem dX8_definition_285 : decode cX8_definition 285 = .ok (.istore_n 1, 1) := by decide +kernel
theorem dX8_definition_286 : decode cX8_definition 286 = .ok (.iload_n 1, 1) := by decide +kernel
theorem dX8_definition_287 : decode cX8_definition 287 = .ok (.ifCond .eq 7, 3) := by decide +kernel
theorem dX8_definition_290 : decode cX8_definition 290 = .ok (.aload_n 0, 1) := by decide +kernel
theorem dX8_definition_291 : decode cX8_definition 291 = .ok (.invokevirtual 229, 3) := by decide +kernel
theorem dX8_definition_294 : decode cX8_definition 294 = .ok (.goto (-84), 3) := by decide +kernel
theorem dX8_definition_297 : decode cX8_definition 297 = .ok (.aload_n 0, 1) := by decide +kernel
theorem dX8_definition_298 : decode cX8_definition 298 = .ok (.bipush 15, 2) := by decide +kernel
theorem dX8_definition_300 : decode cX8_definition 300 = .ok (.invokevirtual 269, 3) := by decide +kernel
theorem dX8_definition_303 : decode cX8_definition 303 = .ok (.aload_n 0, 1) := by decide +kernel
theorem dX8_definition_304 : decode cX8_definition 304 = .ok (.bipush 18, 2) := by decide +kernel
theorem dX8_definition_306 : decode cX8_definition 306 = .ok (.invokevirtual 269, 3) := by decide +kernel
theorem dX8_definition_309 : decode cX8_definition 309 = .ok (.aload_n 0, 1) := by decide +kernel
theorem dX8_definition_310 : decode cX8_definition 310 = .ok (.getfield 21, 3) := by decide +kernel
theorem dX8_definition_313 : decode cX8_definition 313 = .ok (.aload_n 0, 1) := by decide +kernel
theorem dX8_definition_314 : decode cX8_definition 314 = .ok (.getfield 239, 3) := by decide +kernel
theorem dX8_definition_317 : decode cX8_definition 317 = .ok (.aload_n 0, 1) := by decide +kernel
theorem dX8_definition_318 : decode cX8_definition 318 = .ok (.invokevirtual 316, 3) := by decide +kernel
theorem dX8_definition_321 : decode cX8_definition 321 = .ok (.iastore, 1) := by decide +kernel
theorem dX8_definition_322 : decode cX8_definition 322 = .ok (.aload_n 0, 1) := by decide +kernel
theorem dX8_definition_323 : decode cX8_definition 323 = .ok (.bipush 13, 2) := by decide +kernel
theorem dX8_definition_325 : decode cX8_definition 325 = .ok (.invokevirtual 269, 3) := by decide +kernel
theorem dX8_definition_328 : decode cX8_definition 328 = .ok (.aload_n 0, 1) := by decide +kernel
theorem dX8_definition_329 : decode cX8_definition 329 = .ok (.getfield 176, 3) := by decide +kernel
theorem dX8_definition_332 : decode cX8_definition 332 = .ok (.ifCond .ne 8, 3) := by decide +kernel
theorem dX8_definition_335 : decode cX8_definition 335 = .ok (.aload_n 0, 1) := by decide +kernel
theorem dX8_definition_336 : decode cX8_definition 336 = .ok (.iconst 4, 1) := by decide +kernel
theorem dX8_definition_337 : decode cX8_definition 337 = .ok (.invokevirtual 307, 3) := by decide +kernel
theorem dX8_definition_340 : decode cX8_definition 340 = .ok (.aload_n 0, 1) := by decide +kernel
theorem dX8_definition_341 : decode cX8_definition 341 = .ok (.getfield 30, 3) := by decide +kernel
theorem dX8_definition_344 : decode cX8_definition 344 = .ok (.aload_n 0, 1) := by decide +kernel
theorem dX8_definition_345 : decode cX8_definition 345 = .ok (.getfield 239, 3) := by decide +kernel
theorem dX8_definition_348 : decode cX8_definition 348 = .ok (.aload_n 0, 1) := by decide +kernel
theorem dX8_definition_349 : decode cX8_definition 349 = .ok (.getfield 75, 3) := by decide +kernel
theorem dX8_definition_352 : decode cX8_definition 352 = .ok (.iconst 0, 1) := by decide +kernel
theorem dX8_definition_353 : decode cX8_definition 353 = .ok (.iaload, 1) := by decide +kernel
theorem dX8_definition_354 : decode cX8_definition 354 = .ok (.iastore, 1) := by decide +kernel
theorem dX8_definition_355 : decode cX8_definition 355 = .ok (.aload_n 0, 1) := by decide +kernel
theorem dX8_definition_356 : decode cX8_definition 356 = .ok (.bipush 17, 2) := by decide +kernel
theorem dX8_definition_358 : decode cX8_definition 358 = .ok (.invokevirtual 269, 3) := by decide +kernel
theorem dX8_definition_361 : decode cX8_definition 361 = .ok (.return_, 1) := by decide +kernel
abbrev JX8_definition_340 (D : DE) (f : Nat) (Q : HI → HL → Prop) (F : Frm) (h : HI) (g : HL) : Prop := vp_in (h 115 33) 24 ∧ ∀ h2, h2 = up2 h 121 (ix (h 115 33)) (h 136 (ix 0)) → Sv D f mX8_want [.ref (ad D 115), .int 17] F h2 g (fun h4 g5 => Q h4 g5)
theorem bX8_definition_340 {D : DE} {f : Nat} {Q : HI → HL → Prop} {F : Frm} {h : HI} {g : HL} (hF : k_Fix F)  (H : JX8_definition_340 D f Q F h g ) : V D mX8_definition (f + 1) (qv F Q) 340 [(0, .ref (ad D 115))] [] (F, h, g) := by
  refine V_aload_n dX8_definition_340 rfl 0 rfl ?_
  refine H_getr ck7 15 (by decide) (fs_115 hF) (by decide) rfl (fr_115_15 hF) q1473 dX8_definition_341 ?_
  refine V_aload_n dX8_definition_344 rfl 0 rfl ?_
  refine H_geti ck7 33 (by decide) (fs_115 hF) (by decide) rfl q1491 dX8_definition_345 ?_
  refine V_aload_n dX8_definition_348 rfl 0 rfl ?_
  refine H_getr ck7 37 (by decide) (fs_115 hF) (by decide) rfl (fr_115_37 hF) q1495 dX8_definition_349 ?_
  refine V_iconst (v := 0) dX8_definition_352 (by decide) ?_
  refine H_iald (fs_136 hF) (by unfold vp_in; decide) dX8_definition_353 ?_
  obtain ⟨i1, H⟩ := H
  refine H_iast (fs_121 hF) i1 dX8_definition_354 (fun h2 e3 => ?_)
  have H := H h2 e3
  refine V_aload_n dX8_definition_355 rfl 0 rfl ?_
  refine V_bipush (v := 17) dX8_definition_356 (by decide) ?_
  refine H_callv (av := [.ref (ad D 115), .int 17]) (rest := []) H mqX8_want q88 (by decide) (Nat.le_of_ble_eq_true rfl) (k_resV (ci := 7) (av := [.int 17]) (rest := []) (fs_115 hF) (by decide) rfl rfl q1763 q1765 qs34 q1766 mhX8_want mnX8_want dX8_definition_358) (fun h4 g5 H => ?_)
  exact H_vret rfl dX8_definition_361 H
abbrev JX8_definition_294 (D : DE) (f : Nat) (Q : HI → HL → Prop) (F : Frm) (h : HI) (g : HL) (x1 : Int32) : Prop := V D mX8_definition (f + 1) (qv F Q) 210 [(0, .ref (ad D 115)), (1, .int x1)] [] (F, h, g)
theorem bX8_definition_294 {D : DE} {f : Nat} {Q : HI → HL → Prop} {F : Frm} {h : HI} {g : HL} (hF : k_Fix F) (x1 : Int32) (H : JX8_definition_294 D f Q F h g x1) : V D mX8_definition (f + 1) (qv F Q) 294 [(0, .ref (ad D 115)), (1, .int x1)] [] (F, h, g) := by
  refine V_goto (tgt := 210) dX8_definition_294 (by decide) ?_
  exact H
abbrev JX8_definition_285 (D : DE) (f : Nat) (Q : HI → HL → Prop) (F : Frm) (h : HI) (g : HL) (s0 : Int32) : Prop := ((s0 = 0 → JX8_definition_294 D f Q F h g s0) ∧ (¬ s0 = 0 → Sv D f mX8_pass [.ref (ad D 115)] F h g (fun h2 g3 => JX8_definition_294 D f Q F h2 g3 s0)))
theorem bX8_definition_285 {D : DE} {f : Nat} {Q : HI → HL → Prop} {F : Frm} {h : HI} {g : HL} (hF : k_Fix F) (s0 : Int32) (H : JX8_definition_285 D f Q F h g s0) : V D mX8_definition (f + 1) (qv F Q) 285 [(0, .ref (ad D 115))] [.int s0] (F, h, g) := by
  refine V_istore_n (l1 := [(1, .int s0), (0, .ref (ad D 115))]) dX8_definition_285 rfl (by decide) rfl ?_
  refine V_iload_n dX8_definition_286 rfl 0 rfl ?_
  refine V_if_eq (tgt := 294) dX8_definition_287 (by decide) (fun c1 => ?_) (fun c1 => ?_)
  · have H := H.1 c1
    refine V.sub [1, 0] rfl ?_
    exact bX8_definition_294 hF s0 H
  · have H := H.2 c1
    refine V_aload_n dX8_definition_290 rfl 1 rfl ?_
    refine H_callv (av := [.ref (ad D 115)]) (rest := []) H mqX8_pass q88 (by decide) (Nat.le_of_ble_eq_true rfl) (k_resV (ci := 7) (av := []) (rest := []) (fs_115 hF) (by decide) rfl rfl q1759 q1761 qs33 q1762 mhX8_pass mnX8_pass dX8_definition_291) (fun h2 g3 H => ?_)
    refine V.sub [1, 0] rfl ?_
    exact bX8_definition_294 hF s0 H
abbrev JX8_definition_284 (D : DE) (f : Nat) (Q : HI → HL → Prop) (F : Frm) (h : HI) (g : HL) : Prop := JX8_definition_285 D f Q F h g 0
theorem bX8_definition_284 {D : DE} {f : Nat} {Q : HI → HL → Prop} {F : Frm} {h : HI} {g : HL} (hF : k_Fix F)  (H : JX8_definition_284 D f Q F h g ) : V D mX8_definition (f + 1) (qv F Q) 284 [(0, .ref (ad D 115))] [] (F, h, g) := by
  refine V_iconst (v := 0) dX8_definition_284 (by decide) ?_
  exact bX8_definition_285 hF 0 H
abbrev JX8_definition_240 (D : DE) (f : Nat) (Q : HI → HL → Prop) (F : Frm) (h : HI) (g : HL) (x2 : Int32) : Prop := Sv D f mX8_want [.ref (ad D 115), .int 18] F h g (fun h1 g2 => Si D f mX8_type [.ref (ad D 115)] F h1 g2 (fun y5 h3 g4 => vp_in ((16 * (h1 115 33)) + x2) 384 ∧ ∀ h7, h7 = up2 h3 123 (ix ((16 * (h1 115 33)) + x2)) y5 → ((¬ (h7 115 9) = 0 → JX8_definition_284 D f Q F h7 g4) ∧ ((h7 115 9) = 0 → ((¬ (h7 115 4) = 16 → JX8_definition_284 D f Q F h7 g4) ∧ ((h7 115 4) = 16 → JX8_definition_285 D f Q F h7 g4 1))))))
theorem bX8_definition_240 {D : DE} {f : Nat} {Q : HI → HL → Prop} {F : Frm} {h : HI} {g : HL} (hF : k_Fix F) (x2 : Int32) (H : JX8_definition_240 D f Q F h g x2) : V D mX8_definition (f + 1) (qv F Q) 240 [(0, .ref (ad D 115)), (2, .int x2)] [] (F, h, g) := by
  refine V_aload_n dX8_definition_240 rfl 0 rfl ?_
  refine V_bipush (v := 18) dX8_definition_241 (by decide) ?_
  refine H_callv (av := [.ref (ad D 115), .int 18]) (rest := []) H mqX8_want q88 (by decide) (Nat.le_of_ble_eq_true rfl) (k_resV (ci := 7) (av := [.int 18]) (rest := []) (fs_115 hF) (by decide) rfl rfl q1763 q1765 qs34 q1766 mhX8_want mnX8_want dX8_definition_243) (fun h1 g2 H => ?_)
  refine V_aload_n dX8_definition_246 rfl 0 rfl ?_
  refine H_getr ck7 17 (by decide) (fs_115 hF) (by decide) rfl (fr_115_17 hF) q1475 dX8_definition_247 ?_
  refine V_bipush (v := 16) dX8_definition_250 (by decide) ?_
  refine V_aload_n dX8_definition_252 rfl 0 rfl ?_
  refine H_geti ck7 33 (by decide) (fs_115 hF) (by decide) rfl q1491 dX8_definition_253 ?_
  refine V_imul dX8_definition_256 ?_
  refine V_iload_n dX8_definition_257 rfl 1 rfl ?_
  refine V_iadd dX8_definition_258 ?_
  refine V_aload_n dX8_definition_259 rfl 0 rfl ?_
  refine H_calli (av := [.ref (ad D 115)]) (rest := [.int ((16 * (h1 115 33)) + x2), .ref (ad D 123)]) H mqX8_type q88 (by decide) (Nat.le_of_ble_eq_true rfl) (k_resV (ci := 7) (av := []) (rest := [.int ((16 * (h1 115 33)) + x2), .ref (ad D 123)]) (fs_115 hF) (by decide) rfl rfl q1775 q1777 qs37 q1778 mhX8_type mnX8_type dX8_definition_260) (fun y5 h3 g4 H => ?_)
  obtain ⟨i6, H⟩ := H
  refine H_iast (fs_123 hF) i6 dX8_definition_263 (fun h7 e8 => ?_)
  have H := H h7 e8
  refine V_aload_n dX8_definition_264 rfl 0 rfl ?_
  refine H_geti ck7 9 (by decide) (fs_115 hF) (by decide) rfl q1467 dX8_definition_265 ?_
  refine V_if_ne (tgt := 284) dX8_definition_268 (by decide) (fun c9 => ?_) (fun c9 => ?_)
  · have H := H.1 c9
    refine V.sub [0] rfl ?_
    exact bX8_definition_284 hF  H
  · have H := H.2 c9
    refine V_aload_n dX8_definition_271 rfl 0 rfl ?_
    refine H_geti ck7 4 (by decide) (fs_115 hF) (by decide) rfl q1462 dX8_definition_272 ?_
    refine V_bipush (v := 16) dX8_definition_275 (by decide) ?_
    refine V_icmp_ne (tgt := 284) dX8_definition_277 (by decide) (fun c10 => ?_) (fun c10 => ?_)
    · have H := H.1 c10
      refine V.sub [0] rfl ?_
      exact bX8_definition_284 hF  H
    · have H := H.2 c10
      refine V_iconst (v := 1) dX8_definition_280 (by decide) ?_
      refine V_goto (tgt := 285) dX8_definition_281 (by decide) ?_
      refine V.sub [0] rfl ?_
      exact bX8_definition_285 hF 1 H
abbrev JX8_definition_210 (D : DE) (f : Nat) (Q : HI → HL → Prop) (F : Frm) (h : HI) (g : HL) (x1 : Int32) : Prop := ((x1 = 0 → Sv D f mX8_want [.ref (ad D 115), .int 15] F h g (fun h2 g3 => Sv D f mX8_want [.ref (ad D 115), .int 18] F h2 g3 (fun h4 g5 => Si D f mX8_type [.ref (ad D 115)] F h4 g5 (fun y8 h6 g7 => vp_in (h4 115 33) 24 ∧ ∀ h10, h10 = up2 h6 118 (ix (h4 115 33)) y8 → Sv D f mX8_want [.ref (ad D 115), .int 13] F h10 g7 (fun h12 g13 => ((¬ (h12 115 9) = 0 → JX8_definition_340 D f Q F h12 g13) ∧ ((h12 115 9) = 0 → Sv D f mX8_parse [.ref (ad D 115), .int 4] F h12 g13 (fun h15 g16 => JX8_definition_340 D f Q F h15 g16)))))))) ∧ (¬ x1 = 0 → Si D f mX8_name [.ref (ad D 115), .int 1] F h g (fun y19 h17 g18 => ((¬ (h17 115 9) = 0 → JX8_definition_240 D f Q F h17 g18 y19) ∧ ((h17 115 9) = 0 → vp_in (h17 115 33) 24 ∧ vp_in (h17 115 33) 24 ∧ ∀ h23, h23 = up2 h17 119 (ix (h17 115 33)) ((h17 119 (ix (h17 115 33))) + 1) → JX8_definition_240 D f Q F h23 g18 y19)))))
theorem bX8_definition_210 {D : DE} {f : Nat} {Q : HI → HL → Prop} {F : Frm} {h : HI} {g : HL} (hF : k_Fix F) (x1 : Int32) (H : JX8_definition_210 D f Q F h g x1) : V D mX8_definition (f + 1) (qv F Q) 210 [(0, .ref (ad D 115)), (1, .int x1)] [] (F, h, g) := by
  refine V_iload_n dX8_definition_210 rfl 1 rfl ?_
  refine V_if_eq (tgt := 297) dX8_definition_211 (by decide) (fun c1 => ?_) (fun c1 => ?_)
  · have H := H.1 c1
    refine V_aload_n dX8_definition_297 rfl 0 rfl ?_
    refine V_bipush (v := 15) dX8_definition_298 (by decide) ?_
    refine H_callv (av := [.ref (ad D 115), .int 15]) (rest := []) H mqX8_want q88 (by decide) (Nat.le_of_ble_eq_true rfl) (k_resV (ci := 7) (av := [.int 15]) (rest := []) (fs_115 hF) (by decide) rfl rfl q1763 q1765 qs34 q1766 mhX8_want mnX8_want dX8_definition_300) (fun h2 g3 H => ?_)
    refine V_aload_n dX8_definition_303 rfl 0 rfl ?_
    refine V_bipush (v := 18) dX8_definition_304 (by decide) ?_
    refine H_callv (av := [.ref (ad D 115), .int 18]) (rest := []) H mqX8_want q88 (by decide) (Nat.le_of_ble_eq_true rfl) (k_resV (ci := 7) (av := [.int 18]) (rest := []) (fs_115 hF) (by decide) rfl rfl q1763 q1765 qs34 q1766 mhX8_want mnX8_want dX8_definition_306) (fun h4 g5 H => ?_)
    refine V_aload_n dX8_definition_309 rfl 0 rfl ?_
    refine H_getr ck7 12 (by decide) (fs_115 hF) (by decide) rfl (fr_115_12 hF) q1470 dX8_definition_310 ?_
    refine V_aload_n dX8_definition_313 rfl 0 rfl ?_
    refine H_geti ck7 33 (by decide) (fs_115 hF) (by decide) rfl q1491 dX8_definition_314 ?_
    refine V_aload_n dX8_definition_317 rfl 0 rfl ?_
    refine H_calli (av := [.ref (ad D 115)]) (rest := [.int (h4 115 33), .ref (ad D 118)]) H mqX8_type q88 (by decide) (Nat.le_of_ble_eq_true rfl) (k_resV (ci := 7) (av := []) (rest := [.int (h4 115 33), .ref (ad D 118)]) (fs_115 hF) (by decide) rfl rfl q1775 q1777 qs37 q1778 mhX8_type mnX8_type dX8_definition_318) (fun y8 h6 g7 H => ?_)
    obtain ⟨i9, H⟩ := H
    refine H_iast (fs_118 hF) i9 dX8_definition_321 (fun h10 e11 => ?_)
    have H := H h10 e11
    refine V_aload_n dX8_definition_322 rfl 0 rfl ?_
    refine V_bipush (v := 13) dX8_definition_323 (by decide) ?_
    refine H_callv (av := [.ref (ad D 115), .int 13]) (rest := []) H mqX8_want q88 (by decide) (Nat.le_of_ble_eq_true rfl) (k_resV (ci := 7) (av := [.int 13]) (rest := []) (fs_115 hF) (by decide) rfl rfl q1763 q1765 qs34 q1766 mhX8_want mnX8_want dX8_definition_325) (fun h12 g13 H => ?_)
    refine V_aload_n dX8_definition_328 rfl 0 rfl ?_
    refine H_geti ck7 9 (by decide) (fs_115 hF) (by decide) rfl q1467 dX8_definition_329 ?_
    refine V_if_ne (tgt := 340) dX8_definition_332 (by decide) (fun c14 => ?_) (fun c14 => ?_)
    · have H := H.1 c14
      refine V.sub [0] rfl ?_
      exact bX8_definition_340 hF  H
    · have H := H.2 c14
      refine V_aload_n dX8_definition_335 rfl 0 rfl ?_
      refine V_iconst (v := 4) dX8_definition_336 (by decide) ?_
      refine H_callv (av := [.ref (ad D 115), .int 4]) (rest := []) H mqX8_parse q88 (by decide) (Nat.le_of_ble_eq_true rfl) (k_resV (ci := 7) (av := [.int 4]) (rest := []) (fs_115 hF) (by decide) rfl rfl q1779 q1781 qs38 q1782 mhX8_parse mnX8_parse dX8_definition_337) (fun h15 g16 H => ?_)
      refine V.sub [0] rfl ?_
      exact bX8_definition_340 hF  H
  · have H := H.2 c1
    refine V_aload_n dX8_definition_214 rfl 0 rfl ?_
    refine V_iconst (v := 1) dX8_definition_215 (by decide) ?_
    refine H_calli (av := [.ref (ad D 115), .int 1]) (rest := []) H mqX8_name q88 (by decide) (Nat.le_of_ble_eq_true rfl) (k_resV (ci := 7) (av := [.int 1]) (rest := []) (fs_115 hF) (by decide) rfl rfl q1767 q1769 qs35 q1770 mhX8_name mnX8_name dX8_definition_216) (fun y19 h17 g18 H => ?_)
    refine V_istore_n (l1 := [(2, .int y19), (0, .ref (ad D 115)), (1, .int x1)]) dX8_definition_219 rfl (by decide) rfl ?_
    refine V_aload_n dX8_definition_220 rfl 1 rfl ?_
    refine H_geti ck7 9 (by decide) (fs_115 hF) (by decide) rfl q1467 dX8_definition_221 ?_
    refine V_if_ne (tgt := 240) dX8_definition_224 (by decide) (fun c20 => ?_) (fun c20 => ?_)
    · have H := H.1 c20
      refine V.sub [1, 0] rfl ?_
      exact bX8_definition_240 hF y19 H
    · have H := H.2 c20
      refine V_aload_n dX8_definition_227 rfl 1 rfl ?_
      refine H_getr ck7 13 (by decide) (fs_115 hF) (by decide) rfl (fr_115_13 hF) q1471 dX8_definition_228 ?_
      refine V_aload_n dX8_definition_231 rfl 1 rfl ?_
      refine H_geti ck7 33 (by decide) (fs_115 hF) (by decide) rfl q1491 dX8_definition_232 ?_
      refine V_dup2 dX8_definition_235 rfl rfl ?_
      obtain ⟨i21, H⟩ := H
      refine H_iald (fs_119 hF) i21 dX8_definition_236 ?_
      refine V_iconst (v := 1) dX8_definition_237 (by decide) ?_
      refine V_iadd dX8_definition_238 ?_
      obtain ⟨i22, H⟩ := H
      refine H_iast (fs_119 hF) i22 dX8_definition_239 (fun h23 e24 => ?_)
      have H := H h23 e24
      refine V.sub [1, 0] rfl ?_
      exact bX8_definition_240 hF y19 H
abbrev JX8_definition_209 (D : DE) (f : Nat) (Q : HI → HL → Prop) (F : Frm) (h : HI) (g : HL) (s0 : Int32) : Prop := V D mX8_definition (f + 1) (qv F Q) 210 [(0, .ref (ad D 115)), (1, .int s0)] [] (F, h, g)
theorem bX8_definition_209 {D : DE} {f : Nat} {Q : HI → HL → Prop} {F : Frm} {h : HI} {g : HL} (hF : k_Fix F) (s0 : Int32) (H : JX8_definition_209 D f Q F h g s0) : V D mX8_definition (f + 1) (qv F Q) 209 [(0, .ref (ad D 115))] [.int s0] (F, h, g) := by
  refine V_istore_n (l1 := [(1, .int s0), (0, .ref (ad D 115))]) dX8_definition_209 rfl (by decide) rfl ?_
  refine V.sub [1, 0] rfl ?_
  exact H
abbrev JX8_definition_208 (D : DE) (f : Nat) (Q : HI → HL → Prop) (F : Frm) (h : HI) (g : HL) : Prop := JX8_definition_209 D f Q F h g 0
theorem bX8_definition_208 {D : DE} {f : Nat} {Q : HI → HL → Prop} {F : Frm} {h : HI} {g : HL} (hF : k_Fix F)  (H : JX8_definition_208 D f Q F h g ) : V D mX8_definition (f + 1) (qv F Q) 208 [(0, .ref (ad D 115))] [] (F, h, g) := by
  refine V_iconst (v := 0) dX8_definition_208 (by decide) ?_
  exact bX8_definition_209 hF 0 H
abbrev JX8_definition_111 (D : DE) (f : Nat) (Q : HI → HL → Prop) (F : Frm) (h : HI) (g : HL) : Prop := (((h 115 9) = 0 → ∀ h2, h2 = up2 h 115 33 ((12 * (h 115 27)) + (h 115 28)) → vp_in (h2 115 33) 24 ∧ ∀ g5, g5 = up2 g 117 (ix (h2 115 33)) (g 115 7) → vp_in (h2 115 33) 24 ∧ ∀ h8, h8 = up2 h2 119 (ix (h2 115 33)) 0 → vp_in (h8 115 33) 24 ∧ ∀ h11, h11 = up2 h8 120 (ix (h8 115 33)) 0 → ∀ h13, h13 = up2 h11 115 28 ((h11 115 28) + 1) → Sv D f mX8_pass [.ref (ad D 115)] F h13 g5 (fun h15 g16 => Sv D f mX8_want [.ref (ad D 115), .int 14] F h15 g16 (fun h17 g18 => ((¬ (h17 115 9) = 0 → JX8_definition_208 D f Q F h17 g18) ∧ ((h17 115 9) = 0 → (((h17 115 4) = 15 → JX8_definition_208 D f Q F h17 g18) ∧ (¬ (h17 115 4) = 15 → JX8_definition_209 D f Q F h17 g18 1))))))) ∧ (¬ (h 115 9) = 0 → Q h g))
theorem bX8_definition_111 {D : DE} {f : Nat} {Q : HI → HL → Prop} {F : Frm} {h : HI} {g : HL} (hF : k_Fix F)  (H : JX8_definition_111 D f Q F h g ) : V D mX8_definition (f + 1) (qv F Q) 111 [(0, .ref (ad D 115))] [] (F, h, g) := by
  refine V_aload_n dX8_definition_111 rfl 0 rfl ?_
  refine H_geti ck7 9 (by decide) (fs_115 hF) (by decide) rfl q1467 dX8_definition_112 ?_
  refine V_if_eq (tgt := 119) dX8_definition_115 (by decide) (fun c1 => ?_) (fun c1 => ?_)
  · have H := H.1 c1
    refine V_aload_n dX8_definition_119 rfl 0 rfl ?_
    refine V_bipush (v := 12) dX8_definition_120 (by decide) ?_
    refine V_aload_n dX8_definition_122 rfl 0 rfl ?_
    refine H_geti ck7 27 (by decide) (fs_115 hF) (by decide) rfl q1485 dX8_definition_123 ?_
    refine V_imul dX8_definition_126 ?_
    refine V_aload_n dX8_definition_127 rfl 0 rfl ?_
    refine H_geti ck7 28 (by decide) (fs_115 hF) (by decide) rfl q1486 dX8_definition_128 ?_
    refine V_iadd dX8_definition_131 ?_
    refine H_puti ck7 33 (by decide) (fs_115 hF) (by decide) rfl rfl q1491 dX8_definition_132 (fun h2 e3 => ?_)
    have H := H h2 e3
    refine V_aload_n dX8_definition_135 rfl 0 rfl ?_
    refine H_getr ck7 11 (by decide) (fs_115 hF) (by decide) rfl (fr_115_11 hF) q1469 dX8_definition_136 ?_
    refine V_aload_n dX8_definition_139 rfl 0 rfl ?_
    refine H_geti ck7 33 (by decide) (fs_115 hF) (by decide) rfl q1491 dX8_definition_140 ?_
    refine V_aload_n dX8_definition_143 rfl 0 rfl ?_
    refine H_getl ck7 7 (by decide) (fs_115 hF) (by decide) rfl q1465 dX8_definition_144 ?_
    obtain ⟨i4, H⟩ := H
    refine H_last (fs_117 hF) i4 dX8_definition_147 (fun g5 e6 => ?_)
    have H := H g5 e6
    refine V_aload_n dX8_definition_148 rfl 0 rfl ?_
    refine H_getr ck7 13 (by decide) (fs_115 hF) (by decide) rfl (fr_115_13 hF) q1471 dX8_definition_149 ?_
    refine V_aload_n dX8_definition_152 rfl 0 rfl ?_
    refine H_geti ck7 33 (by decide) (fs_115 hF) (by decide) rfl q1491 dX8_definition_153 ?_
    refine V_iconst (v := 0) dX8_definition_156 (by decide) ?_
    obtain ⟨i7, H⟩ := H
    refine H_iast (fs_119 hF) i7 dX8_definition_157 (fun h8 e9 => ?_)
    have H := H h8 e9
    refine V_aload_n dX8_definition_158 rfl 0 rfl ?_
    refine H_getr ck7 14 (by decide) (fs_115 hF) (by decide) rfl (fr_115_14 hF) q1472 dX8_definition_159 ?_
    refine V_aload_n dX8_definition_162 rfl 0 rfl ?_
    refine H_geti ck7 33 (by decide) (fs_115 hF) (by decide) rfl q1491 dX8_definition_163 ?_
    refine V_iconst (v := 0) dX8_definition_166 (by decide) ?_
    obtain ⟨i10, H⟩ := H
    refine H_iast (fs_120 hF) i10 dX8_definition_167 (fun h11 e12 => ?_)
    have H := H h11 e12
    refine V_aload_n dX8_definition_168 rfl 0 rfl ?_
    refine V_dup dX8_definition_169 rfl ?_
    refine H_geti ck7 28 (by decide) (fs_115 hF) (by decide) rfl q1486 dX8_definition_170 ?_
    refine V_iconst (v := 1) dX8_definition_173 (by decide) ?_
    refine V_iadd dX8_definition_174 ?_
    refine H_puti ck7 28 (by decide) (fs_115 hF) (by decide) rfl rfl q1486 dX8_definition_175 (fun h13 e14 => ?_)
    have H := H h13 e14
    refine V_aload_n dX8_definition_178 rfl 0 rfl ?_
    refine H_callv (av := [.ref (ad D 115)]) (rest := []) H mqX8_pass q88 (by decide) (Nat.le_of_ble_eq_true rfl) (k_resV (ci := 7) (av := []) (rest := []) (fs_115 hF) (by decide) rfl rfl q1759 q1761 qs33 q1762 mhX8_pass mnX8_pass dX8_definition_179) (fun h15 g16 H => ?_)
    refine V_aload_n dX8_definition_182 rfl 0 rfl ?_
    refine V_bipush (v := 14) dX8_definition_183 (by decide) ?_
    refine H_callv (av := [.ref (ad D 115), .int 14]) (rest := []) H mqX8_want q88 (by decide) (Nat.le_of_ble_eq_true rfl) (k_resV (ci := 7) (av := [.int 14]) (rest := []) (fs_115 hF) (by decide) rfl rfl q1763 q1765 qs34 q1766 mhX8_want mnX8_want dX8_definition_185) (fun h17 g18 H => ?_)
    refine V_aload_n dX8_definition_188 rfl 0 rfl ?_
    refine H_geti ck7 9 (by decide) (fs_115 hF) (by decide) rfl q1467 dX8_definition_189 ?_
    refine V_if_ne (tgt := 208) dX8_definition_192 (by decide) (fun c19 => ?_) (fun c19 => ?_)
    · have H := H.1 c19
      exact bX8_definition_208 hF  H
    · have H := H.2 c19
      refine V_aload_n dX8_definition_195 rfl 0 rfl ?_
      refine H_geti ck7 4 (by decide) (fs_115 hF) (by decide) rfl q1462 dX8_definition_196 ?_
      refine V_bipush (v := 15) dX8_definition_199 (by decide) ?_
      refine V_icmp_eq (tgt := 208) dX8_definition_201 (by decide) (fun c20 => ?_) (fun c20 => ?_)
      · have H := H.1 c20
        exact bX8_definition_208 hF  H
      · have H := H.2 c20
        refine V_iconst (v := 1) dX8_definition_204 (by decide) ?_
        refine V_goto (tgt := 209) dX8_definition_205 (by decide) ?_
        exact bX8_definition_209 hF 1 H
  · have H := H.2 c1
    exact H_vret rfl dX8_definition_118 H
abbrev JX8_definition_85 (D : DE) (f : Nat) (Q : HI → HL → Prop) (F : Frm) (h : HI) (g : HL) : Prop := ((¬ (h 115 9) = 0 → JX8_definition_111 D f Q F h g) ∧ ((h 115 9) = 0 → ((¬ (h 115 28) = 12 → JX8_definition_111 D f Q F h g) ∧ ((h 115 28) = 12 → Sv D f mX8_stop [.ref (ad D 115), .int 6, .int (h 115 5)] F h g (fun h3 g4 => JX8_definition_111 D f Q F h3 g4)))))
theorem bX8_definition_85 {D : DE} {f : Nat} {Q : HI → HL → Prop} {F : Frm} {h : HI} {g : HL} (hF : k_Fix F)  (H : JX8_definition_85 D f Q F h g ) : V D mX8_definition (f + 1) (qv F Q) 85 [(0, .ref (ad D 115))] [] (F, h, g) := by
  refine V_aload_n dX8_definition_85 rfl 0 rfl ?_
  refine H_geti ck7 9 (by decide) (fs_115 hF) (by decide) rfl q1467 dX8_definition_86 ?_
  refine V_if_ne (tgt := 111) dX8_definition_89 (by decide) (fun c1 => ?_) (fun c1 => ?_)
  · have H := H.1 c1
    exact bX8_definition_111 hF  H
  · have H := H.2 c1
    refine V_aload_n dX8_definition_92 rfl 0 rfl ?_
    refine H_geti ck7 28 (by decide) (fs_115 hF) (by decide) rfl q1486 dX8_definition_93 ?_
    refine V_bipush (v := 12) dX8_definition_96 (by decide) ?_
    refine V_icmp_ne (tgt := 111) dX8_definition_98 (by decide) (fun c2 => ?_) (fun c2 => ?_)
    · have H := H.1 c2
      exact bX8_definition_111 hF  H
    · have H := H.2 c2
      refine V_aload_n dX8_definition_101 rfl 0 rfl ?_
      refine V_bipush (v := 6) dX8_definition_102 (by decide) ?_
      refine V_aload_n dX8_definition_104 rfl 0 rfl ?_
      refine H_geti ck7 5 (by decide) (fs_115 hF) (by decide) rfl q1463 dX8_definition_105 ?_
      refine H_callv (av := [.ref (ad D 115), .int 6, .int (h 115 5)]) (rest := []) H mqX8_stop q88 (by decide) (Nat.le_of_ble_eq_true rfl) (k_resV (ci := 7) (av := [.int 6, .int (h 115 5)]) (rest := []) (fs_115 hF) (by decide) rfl rfl q1751 q1753 qs31 q1754 mhX8_stop mnX8_stop dX8_definition_108) (fun h3 g4 H => ?_)
      exact bX8_definition_111 hF  H
abbrev JX8_definition_79 (D : DE) (f : Nat) (Q : HI → HL → Prop) (F : Frm) (h : HI) (g : HL) (x1 : Int32) : Prop := ∀ y1 : Int32, y1 = x1 + 1 → V D mX8_definition (f + 1) (qv F Q) 33 [(0, .ref (ad D 115)), (1, .int y1)] [] (F, h, g)
theorem bX8_definition_79 {D : DE} {f : Nat} {Q : HI → HL → Prop} {F : Frm} {h : HI} {g : HL} (hF : k_Fix F) (x1 : Int32) (H : JX8_definition_79 D f Q F h g x1) : V D mX8_definition (f + 1) (qv F Q) 79 [(0, .ref (ad D 115)), (1, .int x1)] [] (F, h, g) := by
  obtain ⟨y1, e2⟩ : ∃ y : Int32, y = x1 + 1 := ⟨_, rfl⟩
  have H := H y1 e2
  refine V_iinc (j := 1) (v := y1) (l1 := [(1, .int y1), (0, .ref (ad D 115))]) dX8_definition_79 rfl (by rw [e2]; rfl) (by decide) rfl ?_
  refine V_goto (tgt := 33) dX8_definition_82 (by decide) ?_
  refine V.sub [1, 0] rfl ?_
  exact H
abbrev JX8_definition_33 (D : DE) (f : Nat) (Q : HI → HL → Prop) (F : Frm) (h : HI) (g : HL) (x1 : Int32) : Prop := ((((12 * (h 115 27)) + (h 115 28)) ≤ x1 → JX8_definition_85 D f Q F h g) ∧ (¬ ((12 * (h 115 27)) + (h 115 28)) ≤ x1 → ((¬ (h 115 9) = 0 → JX8_definition_85 D f Q F h g) ∧ ((h 115 9) = 0 → vp_in x1 24 ∧ ((¬ (lg_cmp (g 117 (ix x1)) (g 115 7)) = 0 → JX8_definition_79 D f Q F h g x1) ∧ ((lg_cmp (g 117 (ix x1)) (g 115 7)) = 0 → Sv D f mX8_stop [.ref (ad D 115), .int 3, .int (h 115 5)] F h g (fun h5 g6 => JX8_definition_79 D f Q F h5 g6 x1)))))))
theorem bX8_definition_33 {D : DE} {f : Nat} {Q : HI → HL → Prop} {F : Frm} {h : HI} {g : HL} (hF : k_Fix F) (x1 : Int32) (H : JX8_definition_33 D f Q F h g x1) : V D mX8_definition (f + 1) (qv F Q) 33 [(0, .ref (ad D 115)), (1, .int x1)] [] (F, h, g) := by
  refine V_iload_n dX8_definition_33 rfl 1 rfl ?_
  refine V_bipush (v := 12) dX8_definition_34 (by decide) ?_
  refine V_aload_n dX8_definition_36 rfl 0 rfl ?_
  refine H_geti ck7 27 (by decide) (fs_115 hF) (by decide) rfl q1485 dX8_definition_37 ?_
  refine V_imul dX8_definition_40 ?_
  refine V_aload_n dX8_definition_41 rfl 0 rfl ?_
  refine H_geti ck7 28 (by decide) (fs_115 hF) (by decide) rfl q1486 dX8_definition_42 ?_
  refine V_iadd dX8_definition_45 ?_
  refine V_icmp_ge (tgt := 85) dX8_definition_46 (by decide) (fun c1 => ?_) (fun c1 => ?_)
  · have H := H.1 c1
    refine V.sub [0] rfl ?_
    exact bX8_definition_85 hF  H
  · have H := H.2 c1
    refine V_aload_n dX8_definition_49 rfl 0 rfl ?_
    refine H_geti ck7 9 (by decide) (fs_115 hF) (by decide) rfl q1467 dX8_definition_50 ?_
    refine V_if_ne (tgt := 85) dX8_definition_53 (by decide) (fun c2 => ?_) (fun c2 => ?_)
    · have H := H.1 c2
      refine V.sub [0] rfl ?_
      exact bX8_definition_85 hF  H
    · have H := H.2 c2
      refine V_aload_n dX8_definition_56 rfl 0 rfl ?_
      refine H_getr ck7 11 (by decide) (fs_115 hF) (by decide) rfl (fr_115_11 hF) q1469 dX8_definition_57 ?_
      refine V_iload_n dX8_definition_60 rfl 1 rfl ?_
      obtain ⟨i3, H⟩ := H
      refine H_lald (fs_117 hF) i3 dX8_definition_61 ?_
      refine V_aload_n dX8_definition_62 rfl 0 rfl ?_
      refine H_getl ck7 7 (by decide) (fs_115 hF) (by decide) rfl q1465 dX8_definition_63 ?_
      refine V_lcmp dX8_definition_66 ?_
      refine V_if_ne (tgt := 79) dX8_definition_67 (by decide) (fun c4 => ?_) (fun c4 => ?_)
      · have H := H.1 c4
        exact bX8_definition_79 hF x1 H
      · have H := H.2 c4
        refine V_aload_n dX8_definition_70 rfl 0 rfl ?_
        refine V_iconst (v := 3) dX8_definition_71 (by decide) ?_
        refine V_aload_n dX8_definition_72 rfl 0 rfl ?_
        refine H_geti ck7 5 (by decide) (fs_115 hF) (by decide) rfl q1463 dX8_definition_73 ?_
        refine H_callv (av := [.ref (ad D 115), .int 3, .int (h 115 5)]) (rest := []) H mqX8_stop q88 (by decide) (Nat.le_of_ble_eq_true rfl) (k_resV (ci := 7) (av := [.int 3, .int (h 115 5)]) (rest := []) (fs_115 hF) (by decide) rfl rfl q1751 q1753 qs31 q1754 mhX8_stop mnX8_stop dX8_definition_76) (fun h5 g6 H => ?_)
        exact bX8_definition_79 hF x1 H
abbrev JX8_definition_25 (D : DE) (f : Nat) (Q : HI → HL → Prop) (F : Frm) (h : HI) (g : HL) : Prop := ∀ y1 : Int32, y1 = 12 * (h 115 27) → V D mX8_definition (f + 1) (qv F Q) 33 [(0, .ref (ad D 115)), (1, .int y1)] [] (F, h, g)
theorem bX8_definition_25 {D : DE} {f : Nat} {Q : HI → HL → Prop} {F : Frm} {h : HI} {g : HL} (hF : k_Fix F)  (H : JX8_definition_25 D f Q F h g ) : V D mX8_definition (f + 1) (qv F Q) 25 [(0, .ref (ad D 115))] [] (F, h, g) := by
  refine V_bipush (v := 12) dX8_definition_25 (by decide) ?_
  refine V_aload_n dX8_definition_27 rfl 0 rfl ?_
  refine H_geti ck7 27 (by decide) (fs_115 hF) (by decide) rfl q1485 dX8_definition_28 ?_
  refine V_imul dX8_definition_31 ?_
  refine V_topi (fun y1 e2 => ?_)
  have H := H y1 e2
  refine V_istore_n (l1 := [(1, .int y1), (0, .ref (ad D 115))]) dX8_definition_32 rfl (by decide) rfl ?_
  refine V.sub [1, 0] rfl ?_
  exact H
abbrev JX8_definition_0 (D : DE) (f : Nat) (Q : HI → HL → Prop) (F : Frm) (h : HI) (g : HL) : Prop := ((¬ (h 115 9) = 0 → JX8_definition_25 D f Q F h g) ∧ ((h 115 9) = 0 → (((h 115 4) = 10 → JX8_definition_25 D f Q F h g) ∧ (¬ (h 115 4) = 10 → Sv D f mX8_stop [.ref (ad D 115), .int 2, .int (h 115 5)] F h g (fun h3 g4 => JX8_definition_25 D f Q F h3 g4)))))
theorem bX8_definition_0 {D : DE} {f : Nat} {Q : HI → HL → Prop} {F : Frm} {h : HI} {g : HL} (hF : k_Fix F)  (H : JX8_definition_0 D f Q F h g ) : V D mX8_definition (f + 1) (qv F Q) 0 [(0, .ref (ad D 115))] [] (F, h, g) := by
  refine V_aload_n dX8_definition_0 rfl 0 rfl ?_
  refine H_geti ck7 9 (by decide) (fs_115 hF) (by decide) rfl q1467 dX8_definition_1 ?_
  refine V_if_ne (tgt := 25) dX8_definition_4 (by decide) (fun c1 => ?_) (fun c1 => ?_)
  · have H := H.1 c1
    exact bX8_definition_25 hF  H
  · have H := H.2 c1
    refine V_aload_n dX8_definition_7 rfl 0 rfl ?_
    refine H_geti ck7 4 (by decide) (fs_115 hF) (by decide) rfl q1462 dX8_definition_8 ?_
    refine V_bipush (v := 10) dX8_definition_11 (by decide) ?_
    refine V_icmp_eq (tgt := 25) dX8_definition_13 (by decide) (fun c2 => ?_) (fun c2 => ?_)
    · have H := H.1 c2
      exact bX8_definition_25 hF  H
    · have H := H.2 c2
      refine V_aload_n dX8_definition_16 rfl 0 rfl ?_
      refine V_iconst (v := 2) dX8_definition_17 (by decide) ?_
      refine V_aload_n dX8_definition_18 rfl 0 rfl ?_
      refine H_geti ck7 5 (by decide) (fs_115 hF) (by decide) rfl q1463 dX8_definition_19 ?_
      refine H_callv (av := [.ref (ad D 115), .int 2, .int (h 115 5)]) (rest := []) H mqX8_stop q88 (by decide) (Nat.le_of_ble_eq_true rfl) (k_resV (ci := 7) (av := [.int 2, .int (h 115 5)]) (rest := []) (fs_115 hF) (by decide) rfl rfl q1751 q1753 qs31 q1754 mhX8_stop mnX8_stop dX8_definition_22) (fun h3 g4 H => ?_)
      exact bX8_definition_25 hF  H
theorem wX8_definition {D : DE} {f : Nat} {Q : HI → HL → Prop} {F : Frm} {h : HI} {g : HL} (hF : k_Fix F)  (H : JX8_definition_0 D f Q F h g ) : Sv D (f + 1) mX8_definition [.ref (ad D 115)] F h g Q := Cl.ofV (by decide) (Nat.le_of_ble_eq_true rfl) rfl (bX8_definition_0 hF  H)
theorem dX8_task_0 : decode cX8_task 0 = .ok (.aload_n 0, 1) := by decide +kernel
theorem dX8_task_1 : decode cX8_task 1 = .ok (.getfield 242, 3) := by decide +kernel
theorem dX8_task_4 : decode cX8_task 4 = .ok (.sipush 3000, 3) := by decide +kernel
theorem dX8_task_7 : decode cX8_task 7 = .ok (.if_icmp .ge 19, 3) := by decide +kernel
theorem dX8_task_10 : decode cX8_task 10 = .ok (.aload_n 0, 1) := by decide +kernel
theorem dX8_task_11 : decode cX8_task 11 = .ok (.getfield 81, 3) := by decide +kernel
theorem dX8_task_14 : decode cX8_task 14 = .ok (.aload_n 0, 1) := by decide +kernel
theorem dX8_task_15 : decode cX8_task 15 = .ok (.getfield 242, 3) := by decide +kernel
theorem dX8_task_18 : decode cX8_task 18 = .ok (.iload_n 3, 1) := by decide +kernel
theorem dX8_task_19 : decode cX8_task 19 = .ok (.iastore, 1) := by decide +kernel
theorem dX8_task_20 : decode cX8_task 20 = .ok (.aload_n 0, 1) := by decide +kernel
theorem dX8_task_21 : decode cX8_task 21 = .ok (.iload_n 1, 1) := by decide +kernel
theorem dX8_task_22 : decode cX8_task 22 = .ok (.iload_n 2, 1) := by decide +kernel
theorem dX8_task_23 : decode cX8_task 23 = .ok (.invokevirtual 254, 3) := by decide +kernel
theorem dX8_task_26 : decode cX8_task 26 = .ok (.return_, 1) := by decide +kernel
abbrev JX8_task_0 (D : DE) (f : Nat) (Q : HI → HL → Prop) (F : Frm) (h : HI) (g : HL) (x1 : Int32) (x2 : Int32) (x3 : Int32) : Prop := ((3000 ≤ (h 115 36) → Q h g) ∧ (¬ 3000 ≤ (h 115 36) → vp_in (h 115 36) 3000 ∧ ∀ h3, h3 = up2 h 138 (ix (h 115 36)) x3 → Sv D f mX8_push [.ref (ad D 115), .int x1, .int x2] F h3 g (fun h5 g6 => Q h5 g6)))
theorem bX8_task_0 {D : DE} {f : Nat} {Q : HI → HL → Prop} {F : Frm} {h : HI} {g : HL} (hF : k_Fix F) (x1 : Int32) (x2 : Int32) (x3 : Int32) (H : JX8_task_0 D f Q F h g x1 x2 x3) : V D mX8_task (f + 1) (qv F Q) 0 [(0, .ref (ad D 115)), (1, .int x1), (2, .int x2), (3, .int x3)] [] (F, h, g) := by
  refine V_aload_n dX8_task_0 rfl 0 rfl ?_
  refine H_geti ck7 36 (by decide) (fs_115 hF) (by decide) rfl q1494 dX8_task_1 ?_
  refine V_sipush (v := 3000) dX8_task_4 (by decide) ?_
  refine V_icmp_ge (tgt := 26) dX8_task_7 (by decide) (fun c1 => ?_) (fun c1 => ?_)
  · have H := H.1 c1
    exact H_vret rfl dX8_task_26 H
  · have H := H.2 c1
    refine V_aload_n dX8_task_10 rfl 0 rfl ?_
    refine H_getr ck7 42 (by decide) (fs_115 hF) (by decide) rfl (fr_115_42 hF) q1500 dX8_task_11 ?_
    refine V_aload_n dX8_task_14 rfl 0 rfl ?_
    refine H_geti ck7 36 (by decide) (fs_115 hF) (by decide) rfl q1494 dX8_task_15 ?_
    refine V_iload_n dX8_task_18 rfl 3 rfl ?_
    obtain ⟨i2, H⟩ := H
    refine H_iast (fs_138 hF) i2 dX8_task_19 (fun h3 e4 => ?_)
    have H := H h3 e4
    refine V_aload_n dX8_task_20 rfl 0 rfl ?_
    refine V_iload_n dX8_task_21 rfl 1 rfl ?_
    refine V_iload_n dX8_task_22 rfl 2 rfl ?_
    refine H_callv (av := [.ref (ad D 115), .int x1, .int x2]) (rest := []) H mqX8_push q88 (by decide) (Nat.le_of_ble_eq_true rfl) (k_resV (ci := 7) (av := [.int x1, .int x2]) (rest := []) (fs_115 hF) (by decide) rfl rfl q1783 q1785 qs39 q1786 mhX8_push mnX8_push dX8_task_23) (fun h5 g6 H => ?_)
    exact H_vret rfl dX8_task_26 H
theorem wX8_task {D : DE} {f : Nat} {Q : HI → HL → Prop} {F : Frm} {h : HI} {g : HL} (hF : k_Fix F) (x1 : Int32) (x2 : Int32) (x3 : Int32) (H : JX8_task_0 D f Q F h g x1 x2 x3) : Sv D (f + 1) mX8_task [.ref (ad D 115), .int x1, .int x2, .int x3] F h g Q := Cl.ofV (by decide) (Nat.le_of_ble_eq_true rfl) rfl (bX8_task_0 hF x1 x2 x3 H)
theorem dX8_meant_0 : decode cX8_meant 0 = .ok (.aload_n 0, 1) := by decide +kernel
theorem dX8_meant_1 : decode cX8_meant 1 = .ok (.getfield 319, 3) := by decide +kernel
theorem dX8_meant_4 : decode cX8_meant 4 = .ok (.iconst 1, 1) := by decide +kernel
theorem dX8_meant_5 : decode cX8_meant 5 = .ok (.isub, 1) := by decide +kernel
theorem dX8_meant_6 : decode cX8_meant 6 = .ok (.istore_n 3, 1) := by decide +kernel
theorem dX8_meant_7 : decode cX8_meant 7 = .ok (.iload_n 3, 1) := by decide +kernel
theorem dX8_meant_8 : decode cX8_meant 8 = .ok (.ifCond .lt 40, 3) := by decide +kernel
theorem dX8_meant_11 : decode cX8_meant 11 = .ok (.aload_n 0, 1) := by decide +kernel
theorem dX8_meant_12 : decode cX8_meant 12 = .ok (.getfield 33, 3) := by decide +kernel
theorem dX8_meant_15 : decode cX8_meant 15 = .ok (.bipush 16, 2) := by decide +kernel
theorem dX8_meant_17 : decode cX8_meant 17 = .ok (.aload_n 0, 1) := by decide +kernel
theorem dX8_meant_18 : decode cX8_meant 18 = .ok (.getfield 239, 3) := by decide +kernel
theorem dX8_meant_21 : decode cX8_meant 21 = .ok (.imul, 1) := by decide +kernel
theorem dX8_meant_22 : decode cX8_meant 22 = .ok (.aload_n 0, 1) := by decide +kernel
theorem dX8_meant_23 : decode cX8_meant 23 = .ok (.getfield 84, 3) := by decide +kernel
theorem dX8_meant_26 : decode cX8_meant 26 = .ok (.iload_n 3, 1) := by decide +kernel
theorem dX8_meant_27 : decode cX8_meant 27 = .ok (.iaload, 1) := by decide +kernel
theorem dX8_meant_28 : decode cX8_meant 28 = .ok (.iadd, 1) := by decide +kernel
theorem dX8_meant_29 : decode cX8_meant 29 = .ok (.laload, 1) := by decide +kernel
theorem dX8_meant_30 : decode cX8_meant 30 = .ok (.lload_n 1, 1) := by decide +kernel
theorem dX8_meant_31 : decode cX8_meant 31 = .ok (.lcmp, 1) := by decide +kernel
theorem dX8_meant_32 : decode cX8_meant 32 = .ok (.ifCond .ne 10, 3) := by decide +kernel
theorem dX8_meant_35 : decode cX8_meant 35 = .ok (.aload_n 0, 1) := by decide +kernel
theorem dX8_meant_36 : decode cX8_meant 36 = .ok (.getfield 84, 3) := by decide +kernel
theorem dX8_meant_39 : decode cX8_meant 39 = .ok (.iload_n 3, 1) := by decide +kernel
theorem dX8_meant_40 : decode cX8_meant 40 = .ok (.iaload, 1) := by decide +kernel
theorem dX8_meant_41 : decode cX8_meant 41 = .ok (.ireturn, 1) := by decide +kernel
theorem dX8_meant_42 : decode cX8_meant 42 = .ok (.iinc 3 (-1), 3) := by decide +kernel
theorem dX8_meant_45 : decode cX8_meant 45 = .ok (.goto (-38), 3) := by decide +kernel
theorem dX8_meant_48 : decode cX8_meant 48 = .ok (.iconst (-1), 1) := by decide +kernel
theorem dX8_meant_49 : decode cX8_meant 49 = .ok (.ireturn, 1) := by decide +kernel
abbrev JX8_meant_7 (D : DE) (f : Nat) (Q : Int32 → HI → HL → Prop) (F : Frm) (h : HI) (g : HL) (x1 : Int64) (x3 : Int32) : Prop := ((x3 < 0 → Q (-1) h g) ∧ (¬ x3 < 0 → vp_in x3 16 ∧ vp_in ((16 * (h 115 33)) + (h 139 (ix x3))) 384 ∧ ∀ y4 : Int32, y4 = lg_cmp (g 122 (ix ((16 * (h 115 33)) + (h 139 (ix x3))))) x1 → ((¬ y4 = 0 → ∀ y7 : Int32, y7 = x3 + (-1) → V D mX8_meant f (qi F Q) 7 [(0, .ref (ad D 115)), (1, .long x1), (3, .int y7)] [] (F, h, g)) ∧ (y4 = 0 → vp_in x3 16 ∧ Q (h 139 (ix x3)) h g))))
theorem bX8_meant_7 {D : DE} {f : Nat} {Q : Int32 → HI → HL → Prop} {F : Frm} {h : HI} {g : HL} (hF : k_Fix F) (x1 : Int64) (x3 : Int32) (H : JX8_meant_7 D f Q F h g x1 x3) : V D mX8_meant f (qi F Q) 7 [(0, .ref (ad D 115)), (1, .long x1), (3, .int x3)] [] (F, h, g) := by
  refine V_iload_n dX8_meant_7 rfl 2 rfl ?_
  refine V_if_lt (tgt := 48) dX8_meant_8 (by decide) (fun c1 => ?_) (fun c1 => ?_)
  · have H := H.1 c1
    refine V_iconst (v := (-1)) dX8_meant_48 (by decide) ?_
    exact H_iret rfl dX8_meant_49 H
  · have H := H.2 c1
    refine V_aload_n dX8_meant_11 rfl 0 rfl ?_
    refine H_getr ck7 16 (by decide) (fs_115 hF) (by decide) rfl (fr_115_16 hF) q1474 dX8_meant_12 ?_
    refine V_bipush (v := 16) dX8_meant_15 (by decide) ?_
    refine V_aload_n dX8_meant_17 rfl 0 rfl ?_
    refine H_geti ck7 33 (by decide) (fs_115 hF) (by decide) rfl q1491 dX8_meant_18 ?_
    refine V_imul dX8_meant_21 ?_
    refine V_aload_n dX8_meant_22 rfl 0 rfl ?_
    refine H_getr ck7 43 (by decide) (fs_115 hF) (by decide) rfl (fr_115_43 hF) q1501 dX8_meant_23 ?_
    refine V_iload_n dX8_meant_26 rfl 2 rfl ?_
    obtain ⟨i2, H⟩ := H
    refine H_iald (fs_139 hF) i2 dX8_meant_27 ?_
    refine V_iadd dX8_meant_28 ?_
    obtain ⟨i3, H⟩ := H
    refine H_lald (fs_122 hF) i3 dX8_meant_29 ?_
    refine V_lload_n dX8_meant_30 rfl 1 rfl ?_
    refine V_lcmp dX8_meant_31 ?_
    refine V_topi (fun y4 e5 => ?_)
    have H := H y4 e5
    refine V_if_ne (tgt := 42) dX8_meant_32 (by decide) (fun c6 => ?_) (fun c6 => ?_)
    · have H := H.1 c6
      obtain ⟨y7, e8⟩ : ∃ y : Int32, y = x3 + (-1) := ⟨_, rfl⟩
      have H := H y7 e8
      refine V_iinc (j := 2) (v := y7) (l1 := [(3, .int y7), (0, .ref (ad D 115)), (1, .long x1)]) dX8_meant_42 rfl (by rw [e8]; rfl) (by decide) rfl ?_
      refine V_goto (tgt := 7) dX8_meant_45 (by decide) ?_
      refine V.sub [1, 2, 0] rfl ?_
      exact H
    · have H := H.2 c6
      refine V_aload_n dX8_meant_35 rfl 0 rfl ?_
      refine H_getr ck7 43 (by decide) (fs_115 hF) (by decide) rfl (fr_115_43 hF) q1501 dX8_meant_36 ?_
      refine V_iload_n dX8_meant_39 rfl 2 rfl ?_
      obtain ⟨i9, H⟩ := H
      refine H_iald (fs_139 hF) i9 dX8_meant_40 ?_
      exact H_iret rfl dX8_meant_41 H
abbrev JX8_meant_0 (D : DE) (f : Nat) (Q : Int32 → HI → HL → Prop) (F : Frm) (h : HI) (g : HL) (x1 : Int64) : Prop := ∀ y1 : Int32, y1 = (h 115 44) - 1 → V D mX8_meant f (qi F Q) 7 [(0, .ref (ad D 115)), (1, .long x1), (3, .int y1)] [] (F, h, g)
theorem bX8_meant_0 {D : DE} {f : Nat} {Q : Int32 → HI → HL → Prop} {F : Frm} {h : HI} {g : HL} (hF : k_Fix F) (x1 : Int64) (H : JX8_meant_0 D f Q F h g x1) : V D mX8_meant f (qi F Q) 0 [(0, .ref (ad D 115)), (1, .long x1)] [] (F, h, g) := by
  refine V_aload_n dX8_meant_0 rfl 0 rfl ?_
  refine H_geti ck7 44 (by decide) (fs_115 hF) (by decide) rfl q1502 dX8_meant_1 ?_
  refine V_iconst (v := 1) dX8_meant_4 (by decide) ?_
  refine V_isub dX8_meant_5 ?_
  refine V_topi (fun y1 e2 => ?_)
  have H := H y1 e2
  refine V_istore_n (l1 := [(3, .int y1), (0, .ref (ad D 115)), (1, .long x1)]) dX8_meant_6 rfl (by decide) rfl ?_
  refine V.sub [1, 2, 0] rfl ?_
  exact H
theorem wX8_meant {D : DE} {f : Nat} {Q : Int32 → HI → HL → Prop} {F : Frm} {h : HI} {g : HL} (hF : k_Fix F) (x1 : Int64) (H : JX8_meant_0 D f Q F h g x1) : Si D f mX8_meant [.ref (ad D 115), .long x1] F h g Q := Cl.ofV (by decide) (Nat.le_of_ble_eq_true rfl) rfl (bX8_meant_0 hF x1 H)
theorem dX8_tells_0 : decode cX8_tells 0 = .ok (.aload_n 0, 1) := by decide +kernel
theorem dX8_tells_1 : decode cX8_tells 1 = .ok (.getfield 36, 3) := by decide +kernel
theorem dX8_tells_4 : decode cX8_tells 4 = .ok (.bipush 16, 2) := by decide +kernel
theorem dX8_tells_6 : decode cX8_tells 6 = .ok (.aload_n 0, 1) := by decide +kernel
theorem dX8_tells_7 : decode cX8_tells 7 = .ok (.getfield 239, 3) := by decide +kernel
theorem dX8_tells_10 : decode cX8_tells 10 = .ok (.imul, 1) := by decide +kernel
theorem dX8_tells_11 : decode cX8_tells 11 = .ok (.iload_n 1, 1) := by decide +kernel
theorem dX8_tells_12 : decode cX8_tells 12 = .ok (.iadd, 1) := by decide +kernel
theorem dX8_tells_13 : decode cX8_tells 13 = .ok (.iload_n 2, 1) := by decide +kernel
theorem dX8_tells_14 : decode cX8_tells 14 = .ok (.iastore, 1) := by decide +kernel
theorem dX8_tells_15 : decode cX8_tells 15 = .ok (.aload_n 0, 1) := by decide +kernel
theorem dX8_tells_16 : decode cX8_tells 16 = .ok (.getfield 84, 3) := by decide +kernel
theorem dX8_tells_19 : decode cX8_tells 19 = .ok (.aload_n 0, 1) := by decide +kernel
theorem dX8_tells_20 : decode cX8_tells 20 = .ok (.getfield 319, 3) := by decide +kernel
theorem dX8_tells_23 : decode cX8_tells 23 = .ok (.iload_n 1, 1) := by decide +kernel
theorem dX8_tells_24 : decode cX8_tells 24 = .ok (.iastore, 1) := by decide +kernel
theorem dX8_tells_25 : decode cX8_tells 25 = .ok (.aload_n 0, 1) := by decide +kernel
theorem dX8_tells_26 : decode cX8_tells 26 = .ok (.dup, 1) := by decide +kernel
theorem dX8_tells_27 : decode cX8_tells 27 = .ok (.getfield 319, 3) := by decide +kernel
theorem dX8_tells_30 : decode cX8_tells 30 = .ok (.iconst 1, 1) := by decide +kernel
theorem dX8_tells_31 : decode cX8_tells 31 = .ok (.iadd, 1) := by decide +kernel
theorem dX8_tells_32 : decode cX8_tells 32 = .ok (.putfield 319, 3) := by decide +kernel
theorem dX8_tells_35 : decode cX8_tells 35 = .ok (.return_, 1) := by decide +kernel
abbrev JX8_tells_0 (D : DE) (f : Nat) (Q : HI → HL → Prop) (F : Frm) (h : HI) (g : HL) (x1 : Int32) (x2 : Int32) : Prop := vp_in ((16 * (h 115 33)) + x1) 384 ∧ ∀ h2, h2 = up2 h 123 (ix ((16 * (h 115 33)) + x1)) x2 → vp_in (h2 115 44) 16 ∧ ∀ h5, h5 = up2 h2 139 (ix (h2 115 44)) x1 → ∀ h7, h7 = up2 h5 115 44 ((h5 115 44) + 1) → Q h7 g
theorem bX8_tells_0 {D : DE} {f : Nat} {Q : HI → HL → Prop} {F : Frm} {h : HI} {g : HL} (hF : k_Fix F) (x1 : Int32) (x2 : Int32) (H : JX8_tells_0 D f Q F h g x1 x2) : V D mX8_tells f (qv F Q) 0 [(0, .ref (ad D 115)), (1, .int x1), (2, .int x2)] [] (F, h, g) := by
  refine V_aload_n dX8_tells_0 rfl 0 rfl ?_
  refine H_getr ck7 17 (by decide) (fs_115 hF) (by decide) rfl (fr_115_17 hF) q1475 dX8_tells_1 ?_
  refine V_bipush (v := 16) dX8_tells_4 (by decide) ?_
  refine V_aload_n dX8_tells_6 rfl 0 rfl ?_
  refine H_geti ck7 33 (by decide) (fs_115 hF) (by decide) rfl q1491 dX8_tells_7 ?_
  refine V_imul dX8_tells_10 ?_
  refine V_iload_n dX8_tells_11 rfl 1 rfl ?_
  refine V_iadd dX8_tells_12 ?_
  refine V_iload_n dX8_tells_13 rfl 2 rfl ?_
  obtain ⟨i1, H⟩ := H
  refine H_iast (fs_123 hF) i1 dX8_tells_14 (fun h2 e3 => ?_)
  have H := H h2 e3
  refine V_aload_n dX8_tells_15 rfl 0 rfl ?_
  refine H_getr ck7 43 (by decide) (fs_115 hF) (by decide) rfl (fr_115_43 hF) q1501 dX8_tells_16 ?_
  refine V_aload_n dX8_tells_19 rfl 0 rfl ?_
  refine H_geti ck7 44 (by decide) (fs_115 hF) (by decide) rfl q1502 dX8_tells_20 ?_
  refine V_iload_n dX8_tells_23 rfl 1 rfl ?_
  obtain ⟨i4, H⟩ := H
  refine H_iast (fs_139 hF) i4 dX8_tells_24 (fun h5 e6 => ?_)
  have H := H h5 e6
  refine V_aload_n dX8_tells_25 rfl 0 rfl ?_
  refine V_dup dX8_tells_26 rfl ?_
  refine H_geti ck7 44 (by decide) (fs_115 hF) (by decide) rfl q1502 dX8_tells_27 ?_
  refine V_iconst (v := 1) dX8_tells_30 (by decide) ?_
  refine V_iadd dX8_tells_31 ?_
  refine H_puti ck7 44 (by decide) (fs_115 hF) (by decide) rfl rfl q1502 dX8_tells_32 (fun h7 e8 => ?_)
  have H := H h7 e8
  exact H_vret rfl dX8_tells_35 H
theorem wX8_tells {D : DE} {f : Nat} {Q : HI → HL → Prop} {F : Frm} {h : HI} {g : HL} (hF : k_Fix F) (x1 : Int32) (x2 : Int32) (H : JX8_tells_0 D f Q F h g x1 x2) : Sv D f mX8_tells [.ref (ad D 115), .int x1, .int x2] F h g Q := Cl.ofV (by decide) (Nat.le_of_ble_eq_true rfl) rfl (bX8_tells_0 hF x1 x2 H)
theorem dX8_judgeCall_0 : decode cX8_judgeCall 0 = .ok (.iconst (-1), 1) := by decide +kernel
theorem dX8_judgeCall_1 : decode cX8_judgeCall 1 = .ok (.istore_n 2, 1) := by decide +kernel
theorem dX8_judgeCall_2 : decode cX8_judgeCall 2 = .ok (.bipush 12, 2) := by decide +kernel
theorem dX8_judgeCall_4 : decode cX8_judgeCall 4 = .ok (.aload_n 0, 1) := by decide +kernel
theorem dX8_judgeCall_5 : decode cX8_judgeCall 5 = .ok (.getfield 310, 3) := by decide +kernel
theorem dX8_judgeCall_8 : decode cX8_judgeCall 8 = .ok (.imul, 1) := by decide +kernel
theorem dX8_judgeCall_9 : decode cX8_judgeCall 9 = .ok (.istore_n 3, 1) := by decide +kernel
theorem dX8_judgeCall_10 : decode cX8_judgeCall 10 = .ok (.iload_n 3, 1) := by decide +kernel
theorem dX8_judgeCall_11 : decode cX8_judgeCall 11 = .ok (.bipush 12, 2) := by decide +kernel
theorem dX8_judgeCall_13 : decode cX8_judgeCall 13 = .ok (.aload_n 0, 1) := by decide +kernel
theorem dX8_judgeCall_14 : decode cX8_judgeCall 14 = .ok (.getfield 310, 3) := by decide +kernel
theorem dX8_judgeCall_17 : decode cX8_judgeCall 17 = .ok (.imul, 1) := by decide +kernel
theorem dX8_judgeCall_18 : decode cX8_judgeCall 18 = .ok (.aload_n 0, 1) := by decide +kernel
theorem dX8_judgeCall_19 : decode cX8_judgeCall 19 = .ok (.getfield 313, 3) := by decide +kernel
theorem dX8_judgeCall_22 : decode cX8_judgeCall 22 = .ok (.iadd, 1) := by decide +kernel
theorem dX8_judgeCall_23 : decode cX8_judgeCall 23 = .ok (.if_icmp .ge 31, 3) := by decide +kernel
theorem dX8_judgeCall_26 : decode cX8_judgeCall 26 = .ok (.aload_n 0, 1) := by decide +kernel
theorem dX8_judgeCall_27 : decode cX8_judgeCall 27 = .ok (.getfield 17, 3) := by decide +kernel
theorem dX8_judgeCall_30 : decode cX8_judgeCall 30 = .ok (.iload_n 3, 1) := by decide +kernel
theorem dX8_judgeCall_31 : decode cX8_judgeCall 31 = .ok (.laload, 1) := by decide +kernel
theorem dX8_judgeCall_32 : decode cX8_judgeCall 32 = .ok (.aload_n 0, 1) := by decide +kernel
theorem dX8_judgeCall_33 : decode cX8_judgeCall 33 = .ok (.getfield 57, 3) := by decide +kernel
theorem dX8_judgeCall_36 : decode cX8_judgeCall 36 = .ok (.iload_n 1, 1) := by decide +kernel
theorem dX8_judgeCall_37 : decode cX8_judgeCall 37 = .ok (.laload, 1) := by decide +kernel
theorem dX8_judgeCall_38 : decode cX8_judgeCall 38 = .ok (.lcmp, 1) := by decide +kernel
theorem dX8_judgeCall_39 : decode cX8_judgeCall 39 = .ok (.ifCond .ne 7, 3) := by decide +kernel
theorem dX8_judgeCall_42 : decode cX8_judgeCall 42 = .ok (.iload_n 3, 1) := by decide +kernel
theorem dX8_judgeCall_43 : decode cX8_judgeCall 43 = .ok (.goto 4, 3) := by decide +kernel
theorem dX8_judgeCall_46 : decode cX8_judgeCall 46 = .ok (.iload_n 2, 1) := by decide +kernel
theorem dX8_judgeCall_47 : decode cX8_judgeCall 47 = .ok (.istore_n 2, 1) := by decide +kernel
theorem dX8_judgeCall_48 : decode cX8_judgeCall 48 = .ok (.iinc 3 1, 3) := by decide +kernel
theorem dX8_judgeCall_51 : decode cX8_judgeCall 51 = .ok (.goto (-41), 3) := by decide +kernel
theorem dX8_judgeCall_54 : decode cX8_judgeCall 54 = .ok (.iload_n 2, 1) := by decide +kernel
theorem dX8_judgeCall_55 : decode cX8_judgeCall 55 = .ok (.iconst (-1), 1) := by decide +kernel
theorem dX8_judgeCall_56 : decode cX8_judgeCall 56 = .ok (.if_icmp .eq 18, 3) := by decide +kernel
theorem dX8_judgeCall_59 : decode cX8_judgeCall 59 = .ok (.aload_n 0, 1) := by decide +kernel
theorem dX8_judgeCall_60 : decode cX8_judgeCall 60 = .ok (.getfield 24, 3) := by decide +kernel
theorem dX8_judgeCall_63 : decode cX8_judgeCall 63 = .ok (.iload_n 2, 1) := by decide +kernel
theorem dX8_judgeCall_64 : decode cX8_judgeCall 64 = .ok (.iaload, 1) := by decide +kernel
theorem dX8_judgeCall_65 : decode cX8_judgeCall 65 = .ok (.aload_n 0, 1) := by decide +kernel
theorem dX8_judgeCall_66 : decode cX8_judgeCall 66 = .ok (.getfield 45, 3) := by decide +kernel
theorem dX8_judgeCall_69 : decode cX8_judgeCall 69 = .ok (.iload_n 1, 1) := by decide +kernel
theorem dX8_judgeCall_70 : decode cX8_judgeCall 70 = .ok (.iaload, 1) := by decide +kernel
theorem dX8_judgeCall_71 : decode cX8_judgeCall 71 = .ok (.if_icmp .eq 24, 3) := by decide +kernel
theorem dX8_judgeCall_74 : decode cX8_judgeCall 74 = .ok (.aload_n 0, 1) := by decide +kernel
theorem dX8_judgeCall_75 : decode cX8_judgeCall 75 = .ok (.iload_n 2, 1) := by decide +kernel
theorem dX8_judgeCall_76 : decode cX8_judgeCall 76 = .ok (.iconst (-1), 1) := by decide +kernel
theorem dX8_judgeCall_77 : decode cX8_judgeCall 77 = .ok (.if_icmp .ne 7, 3) := by decide +kernel
theorem dX8_judgeCall_80 : decode cX8_judgeCall 80 = .ok (.iconst 4, 1) := by decide +kernel
theorem dX8_judgeCall_81 : decode cX8_judgeCall 81 = .ok (.goto 4, 3) := by decide +kernel
theorem dX8_judgeCall_84 : decode cX8_judgeCall 84 = .ok (.iconst 5, 1) := by decide +kernel
theorem dX8_judgeCall_85 : decode cX8_judgeCall 85 = .ok (.aload_n 0, 1) := by decide +kernel
theorem dX8_judgeCall_86 : decode cX8_judgeCall 86 = .ok (.getfield 51, 3) := by decide +kernel
theorem dX8_judgeCall_89 : decode cX8_judgeCall 89 = .ok (.iload_n 1, 1) := by decide +kernel
theorem dX8_judgeCall_90 : decode cX8_judgeCall 90 = .ok (.iaload, 1) := by decide +kernel
theorem dX8_judgeCall_91 : decode cX8_judgeCall 91 = .ok (.invokevirtual 205, 3) := by decide +kernel
theorem dX8_judgeCall_94 : decode cX8_judgeCall 94 = .ok (.return_, 1) := by decide +kernel
theorem dX8_judgeCall_95 : decode cX8_judgeCall 95 = .ok (.aload_n 0, 1) := by decide +kernel
theorem dX8_judgeCall_96 : decode cX8_judgeCall 96 = .ok (.getfield 48, 3) := by decide +kernel
theorem dX8_judgeCall_99 : decode cX8_judgeCall 99 = .ok (.iload_n 1, 1) := by decide +kernel
theorem dX8_judgeCall_100 : decode cX8_judgeCall 100 = .ok (.iload_n 2, 1) := by decide +kernel
theorem dX8_judgeCall_101 : decode cX8_judgeCall 101 = .ok (.iastore, 1) := by decide +kernel
theorem dX8_judgeCall_102 : decode cX8_judgeCall 102 = .ok (.aload_n 0, 1) := by decide +kernel
theorem dX8_judgeCall_103 : decode cX8_judgeCall 103 = .ok (.getfield 45, 3) := by decide +kernel
theorem dX8_judgeCall_106 : decode cX8_judgeCall 106 = .ok (.iload_n 1, 1) := by decide +kernel
theorem dX8_judgeCall_107 : decode cX8_judgeCall 107 = .ok (.iaload, 1) := by decide +kernel
theorem dX8_judgeCall_108 : decode cX8_judgeCall 108 = .ok (.iconst 1, 1) := by decide +kernel
theorem dX8_judgeCall_109 : decode cX8_judgeCall 109 = .ok (.isub, 1) := by decide +kernel
theorem dX8_judgeCall_110 : decode cX8_judgeCall 110 = .ok (.istore_n 3, 1) := by decide +kernel
theorem dX8_judgeCall_111 : decode cX8_judgeCall 111 = .ok (.iload_n 3, 1) := by decide +kernel
theorem dX8_judgeCall_112 : decode cX8_judgeCall 112 = .ok (.ifCond .lt 38, 3) := by decide +kernel
theorem dX8_judgeCall_115 : decode cX8_judgeCall 115 = .ok (.aload_n 0, 1) := by decide +kernel
theorem dX8_judgeCall_116 : decode cX8_judgeCall 116 = .ok (.iconst 1, 1) := by decide +kernel
theorem dX8_judgeCall_117 : decode cX8_judgeCall 117 = .ok (.aload_n 0, 1) := by decide +kernel
theorem dX8_judgeCall_118 : decode cX8_judgeCall 118 = .ok (.getfield 60, 3) := by decide +kernel
theorem dX8_judgeCall_121 : decode cX8_judgeCall 121 = .ok (.aload_n 0, 1) := by decide +kernel
theorem dX8_judgeCall_122 : decode cX8_judgeCall 122 = .ok (.getfield 42, 3) := by decide +kernel
theorem dX8_judgeCall_125 : decode cX8_judgeCall 125 = .ok (.iload_n 1, 1) := by decide +kernel
theorem dX8_judgeCall_126 : decode cX8_judgeCall 126 = .ok (.iaload, 1) := by decide +kernel
theorem dX8_judgeCall_127 : decode cX8_judgeCall 127 = .ok (.iload_n 3, 1) := by decide +kernel
theorem dX8_judgeCall_128 : decode cX8_judgeCall 128 = .ok (.iadd, 1) := by decide +kernel
theorem dX8_judgeCall_129 : decode cX8_judgeCall 129 = .ok (.iaload, 1) := by decide +kernel
theorem dX8_judgeCall_130 : decode cX8_judgeCall 130 = .ok (.aload_n 0, 1) := by decide +kernel
theorem dX8_judgeCall_131 : decode cX8_judgeCall 131 = .ok (.getfield 36, 3) := by decide +kernel
theorem dX8_judgeCall_134 : decode cX8_judgeCall 134 = .ok (.bipush 16, 2) := by decide +kernel
theorem dX8_judgeCall_136 : decode cX8_judgeCall 136 = .ok (.iload_n 2, 1) := by decide +kernel
theorem dX8_judgeCall_137 : decode cX8_judgeCall 137 = .ok (.imul, 1) := by decide +kernel
theorem dX8_judgeCall_138 : decode cX8_judgeCall 138 = .ok (.iload_n 3, 1) := by decide +kernel
theorem dX8_judgeCall_139 : decode cX8_judgeCall 139 = .ok (.iadd, 1) := by decide +kernel
theorem dX8_judgeCall_140 : decode cX8_judgeCall 140 = .ok (.iaload, 1) := by decide +kernel
theorem dX8_judgeCall_141 : decode cX8_judgeCall 141 = .ok (.invokevirtual 322, 3) := by decide +kernel
theorem dX8_judgeCall_144 : decode cX8_judgeCall 144 = .ok (.iinc 3 (-1), 3) := by decide +kernel
theorem dX8_judgeCall_147 : decode cX8_judgeCall 147 = .ok (.goto (-36), 3) := by decide +kernel
theorem dX8_judgeCall_150 : decode cX8_judgeCall 150 = .ok (.return_, 1) := by decide +kernel
abbrev JX8_judgeCall_111 (D : DE) (f : Nat) (Q : HI → HL → Prop) (F : Frm) (h : HI) (g : HL) (x1 : Int32) (x2 : Int32) (x3 : Int32) : Prop := ((x3 < 0 → Q h g) ∧ (¬ x3 < 0 → vp_in x1 2002 ∧ vp_in ((h 125 (ix x1)) + x3) 2002 ∧ vp_in ((16 * x2) + x3) 384 ∧ Sv D f mX8_task [.ref (ad D 115), .int 1, .int (h 131 (ix ((h 125 (ix x1)) + x3))), .int (h 123 (ix ((16 * x2) + x3)))] F h g (fun h5 g6 => ∀ y7 : Int32, y7 = x3 + (-1) → V D mX8_judgeCall (f + 1) (qv F Q) 111 [(0, .ref (ad D 115)), (1, .int x1), (2, .int x2), (3, .int y7)] [] (F, h5, g6))))
theorem bX8_judgeCall_111 {D : DE} {f : Nat} {Q : HI → HL → Prop} {F : Frm} {h : HI} {g : HL} (hF : k_Fix F) (x1 : Int32) (x2 : Int32) (x3 : Int32) (H : JX8_judgeCall_111 D f Q F h g x1 x2 x3) : V D mX8_judgeCall (f + 1) (qv F Q) 111 [(0, .ref (ad D 115)), (1, .int x1), (2, .int x2), (3, .int x3)] [] (F, h, g) := by
  refine V_iload_n dX8_judgeCall_111 rfl 3 rfl ?_
  refine V_if_lt (tgt := 150) dX8_judgeCall_112 (by decide) (fun c1 => ?_) (fun c1 => ?_)
  · have H := H.1 c1
    exact H_vret rfl dX8_judgeCall_150 H
  · have H := H.2 c1
    refine V_aload_n dX8_judgeCall_115 rfl 0 rfl ?_
    refine V_iconst (v := 1) dX8_judgeCall_116 (by decide) ?_
    refine V_aload_n dX8_judgeCall_117 rfl 0 rfl ?_
    refine H_getr ck7 25 (by decide) (fs_115 hF) (by decide) rfl (fr_115_25 hF) q1483 dX8_judgeCall_118 ?_
    refine V_aload_n dX8_judgeCall_121 rfl 0 rfl ?_
    refine H_getr ck7 19 (by decide) (fs_115 hF) (by decide) rfl (fr_115_19 hF) q1477 dX8_judgeCall_122 ?_
    refine V_iload_n dX8_judgeCall_125 rfl 1 rfl ?_
    obtain ⟨i2, H⟩ := H
    refine H_iald (fs_125 hF) i2 dX8_judgeCall_126 ?_
    refine V_iload_n dX8_judgeCall_127 rfl 3 rfl ?_
    refine V_iadd dX8_judgeCall_128 ?_
    obtain ⟨i3, H⟩ := H
    refine H_iald (fs_131 hF) i3 dX8_judgeCall_129 ?_
    refine V_aload_n dX8_judgeCall_130 rfl 0 rfl ?_
    refine H_getr ck7 17 (by decide) (fs_115 hF) (by decide) rfl (fr_115_17 hF) q1475 dX8_judgeCall_131 ?_
    refine V_bipush (v := 16) dX8_judgeCall_134 (by decide) ?_
    refine V_iload_n dX8_judgeCall_136 rfl 2 rfl ?_
    refine V_imul dX8_judgeCall_137 ?_
    refine V_iload_n dX8_judgeCall_138 rfl 3 rfl ?_
    refine V_iadd dX8_judgeCall_139 ?_
    obtain ⟨i4, H⟩ := H
    refine H_iald (fs_123 hF) i4 dX8_judgeCall_140 ?_
    refine H_callv (av := [.ref (ad D 115), .int 1, .int (h 131 (ix ((h 125 (ix x1)) + x3))), .int (h 123 (ix ((16 * x2) + x3)))]) (rest := []) H mqX8_task q88 (by decide) (Nat.le_of_ble_eq_true rfl) (k_resV (ci := 7) (av := [.int 1, .int (h 131 (ix ((h 125 (ix x1)) + x3))), .int (h 123 (ix ((16 * x2) + x3)))]) (rest := []) (fs_115 hF) (by decide) rfl rfl q1834 q1836 qs51 q1837 mhX8_task mnX8_task dX8_judgeCall_141) (fun h5 g6 H => ?_)
    obtain ⟨y7, e8⟩ : ∃ y : Int32, y = x3 + (-1) := ⟨_, rfl⟩
    have H := H y7 e8
    refine V_iinc (j := 3) (v := y7) (l1 := [(3, .int y7), (0, .ref (ad D 115)), (1, .int x1), (2, .int x2)]) dX8_judgeCall_144 rfl (by rw [e8]; rfl) (by decide) rfl ?_
    refine V_goto (tgt := 111) dX8_judgeCall_147 (by decide) ?_
    refine V.sub [1, 2, 3, 0] rfl ?_
    exact H
abbrev JX8_judgeCall_85 (D : DE) (f : Nat) (Q : HI → HL → Prop) (F : Frm) (h : HI) (g : HL) (x1 : Int32) (s1 : Int32) : Prop := vp_in x1 2002 ∧ Sv D f mX8_stop [.ref (ad D 115), .int s1, .int (h 128 (ix x1))] F h g (fun h2 g3 => Q h2 g3)
theorem bX8_judgeCall_85 {D : DE} {f : Nat} {Q : HI → HL → Prop} {F : Frm} {h : HI} {g : HL} (hF : k_Fix F) (x1 : Int32) (s1 : Int32) (H : JX8_judgeCall_85 D f Q F h g x1 s1) : V D mX8_judgeCall (f + 1) (qv F Q) 85 [(0, .ref (ad D 115)), (1, .int x1)] [.int s1, .ref (ad D 115)] (F, h, g) := by
  refine V_aload_n dX8_judgeCall_85 rfl 0 rfl ?_
  refine H_getr ck7 22 (by decide) (fs_115 hF) (by decide) rfl (fr_115_22 hF) q1480 dX8_judgeCall_86 ?_
  refine V_iload_n dX8_judgeCall_89 rfl 1 rfl ?_
  obtain ⟨i1, H⟩ := H
  refine H_iald (fs_128 hF) i1 dX8_judgeCall_90 ?_
  refine H_callv (av := [.ref (ad D 115), .int s1, .int (h 128 (ix x1))]) (rest := []) H mqX8_stop q88 (by decide) (Nat.le_of_ble_eq_true rfl) (k_resV (ci := 7) (av := [.int s1, .int (h 128 (ix x1))]) (rest := []) (fs_115 hF) (by decide) rfl rfl q1751 q1753 qs31 q1754 mhX8_stop mnX8_stop dX8_judgeCall_91) (fun h2 g3 H => ?_)
  exact H_vret rfl dX8_judgeCall_94 H
abbrev JX8_judgeCall_74 (D : DE) (f : Nat) (Q : HI → HL → Prop) (F : Frm) (h : HI) (g : HL) (x1 : Int32) (x2 : Int32) : Prop := ((¬ x2 = (-1) → JX8_judgeCall_85 D f Q F h g x1 5) ∧ (x2 = (-1) → JX8_judgeCall_85 D f Q F h g x1 4))
theorem bX8_judgeCall_74 {D : DE} {f : Nat} {Q : HI → HL → Prop} {F : Frm} {h : HI} {g : HL} (hF : k_Fix F) (x1 : Int32) (x2 : Int32) (H : JX8_judgeCall_74 D f Q F h g x1 x2) : V D mX8_judgeCall (f + 1) (qv F Q) 74 [(0, .ref (ad D 115)), (1, .int x1), (2, .int x2)] [] (F, h, g) := by
  refine V_aload_n dX8_judgeCall_74 rfl 0 rfl ?_
  refine V_iload_n dX8_judgeCall_75 rfl 2 rfl ?_
  refine V_iconst (v := (-1)) dX8_judgeCall_76 (by decide) ?_
  refine V_icmp_ne (tgt := 84) dX8_judgeCall_77 (by decide) (fun c1 => ?_) (fun c1 => ?_)
  · have H := H.1 c1
    refine V_iconst (v := 5) dX8_judgeCall_84 (by decide) ?_
    refine V.sub [0, 1] rfl ?_
    exact bX8_judgeCall_85 hF x1 5 H
  · have H := H.2 c1
    refine V_iconst (v := 4) dX8_judgeCall_80 (by decide) ?_
    refine V_goto (tgt := 85) dX8_judgeCall_81 (by decide) ?_
    refine V.sub [0, 1] rfl ?_
    exact bX8_judgeCall_85 hF x1 4 H
abbrev JX8_judgeCall_47 (D : DE) (f : Nat) (Q : HI → HL → Prop) (F : Frm) (h : HI) (g : HL) (x1 : Int32) (x3 : Int32) (s0 : Int32) : Prop := ∀ y1 : Int32, y1 = x3 + 1 → V D mX8_judgeCall (f + 1) (qv F Q) 10 [(0, .ref (ad D 115)), (1, .int x1), (2, .int s0), (3, .int y1)] [] (F, h, g)
theorem bX8_judgeCall_47 {D : DE} {f : Nat} {Q : HI → HL → Prop} {F : Frm} {h : HI} {g : HL} (hF : k_Fix F) (x1 : Int32) (x3 : Int32) (s0 : Int32) (H : JX8_judgeCall_47 D f Q F h g x1 x3 s0) : V D mX8_judgeCall (f + 1) (qv F Q) 47 [(0, .ref (ad D 115)), (1, .int x1), (3, .int x3)] [.int s0] (F, h, g) := by
  refine V_istore_n (l1 := [(2, .int s0), (0, .ref (ad D 115)), (1, .int x1), (3, .int x3)]) dX8_judgeCall_47 rfl (by decide) rfl ?_
  obtain ⟨y1, e2⟩ : ∃ y : Int32, y = x3 + 1 := ⟨_, rfl⟩
  have H := H y1 e2
  refine V_iinc (j := 3) (v := y1) (l1 := [(3, .int y1), (2, .int s0), (0, .ref (ad D 115)), (1, .int x1)]) dX8_judgeCall_48 rfl (by rw [e2]; rfl) (by decide) rfl ?_
  refine V_goto (tgt := 10) dX8_judgeCall_51 (by decide) ?_
  refine V.sub [2, 3, 1, 0] rfl ?_
  exact H
abbrev JX8_judgeCall_10 (D : DE) (f : Nat) (Q : HI → HL → Prop) (F : Frm) (h : HI) (g : HL) (x1 : Int32) (x2 : Int32) (x3 : Int32) : Prop := ((((12 * (h 115 27)) + (h 115 28)) ≤ x3 → ((x2 = (-1) → JX8_judgeCall_74 D f Q F h g x1 x2) ∧ (¬ x2 = (-1) → vp_in x2 24 ∧ vp_in x1 2002 ∧ (((h 119 (ix x2)) = (h 126 (ix x1)) → vp_in x1 2002 ∧ ∀ h7, h7 = up2 h 127 (ix x1) x2 → vp_in x1 2002 ∧ ∀ y10 : Int32, y10 = (h7 126 (ix x1)) - 1 → V D mX8_judgeCall (f + 1) (qv F Q) 111 [(0, .ref (ad D 115)), (1, .int x1), (2, .int x2), (3, .int y10)] [] (F, h7, g)) ∧ (¬ (h 119 (ix x2)) = (h 126 (ix x1)) → JX8_judgeCall_74 D f Q F h g x1 x2))))) ∧ (¬ ((12 * (h 115 27)) + (h 115 28)) ≤ x3 → vp_in x3 24 ∧ vp_in x1 2002 ∧ ((¬ (lg_cmp (g 117 (ix x3)) (g 130 (ix x1))) = 0 → JX8_judgeCall_47 D f Q F h g x1 x3 x2) ∧ ((lg_cmp (g 117 (ix x3)) (g 130 (ix x1))) = 0 → JX8_judgeCall_47 D f Q F h g x1 x3 x3))))
theorem bX8_judgeCall_10 {D : DE} {f : Nat} {Q : HI → HL → Prop} {F : Frm} {h : HI} {g : HL} (hF : k_Fix F) (x1 : Int32) (x2 : Int32) (x3 : Int32) (H : JX8_judgeCall_10 D f Q F h g x1 x2 x3) : V D mX8_judgeCall (f + 1) (qv F Q) 10 [(0, .ref (ad D 115)), (1, .int x1), (2, .int x2), (3, .int x3)] [] (F, h, g) := by
  refine V_iload_n dX8_judgeCall_10 rfl 3 rfl ?_
  refine V_bipush (v := 12) dX8_judgeCall_11 (by decide) ?_
  refine V_aload_n dX8_judgeCall_13 rfl 0 rfl ?_
  refine H_geti ck7 27 (by decide) (fs_115 hF) (by decide) rfl q1485 dX8_judgeCall_14 ?_
  refine V_imul dX8_judgeCall_17 ?_
  refine V_aload_n dX8_judgeCall_18 rfl 0 rfl ?_
  refine H_geti ck7 28 (by decide) (fs_115 hF) (by decide) rfl q1486 dX8_judgeCall_19 ?_
  refine V_iadd dX8_judgeCall_22 ?_
  refine V_icmp_ge (tgt := 54) dX8_judgeCall_23 (by decide) (fun c1 => ?_) (fun c1 => ?_)
  · have H := H.1 c1
    refine V_iload_n dX8_judgeCall_54 rfl 2 rfl ?_
    refine V_iconst (v := (-1)) dX8_judgeCall_55 (by decide) ?_
    refine V_icmp_eq (tgt := 74) dX8_judgeCall_56 (by decide) (fun c2 => ?_) (fun c2 => ?_)
    · have H := H.1 c2
      refine V.sub [0, 1, 2] rfl ?_
      exact bX8_judgeCall_74 hF x1 x2 H
    · have H := H.2 c2
      refine V_aload_n dX8_judgeCall_59 rfl 0 rfl ?_
      refine H_getr ck7 13 (by decide) (fs_115 hF) (by decide) rfl (fr_115_13 hF) q1471 dX8_judgeCall_60 ?_
      refine V_iload_n dX8_judgeCall_63 rfl 2 rfl ?_
      obtain ⟨i3, H⟩ := H
      refine H_iald (fs_119 hF) i3 dX8_judgeCall_64 ?_
      refine V_aload_n dX8_judgeCall_65 rfl 0 rfl ?_
      refine H_getr ck7 20 (by decide) (fs_115 hF) (by decide) rfl (fr_115_20 hF) q1478 dX8_judgeCall_66 ?_
      refine V_iload_n dX8_judgeCall_69 rfl 1 rfl ?_
      obtain ⟨i4, H⟩ := H
      refine H_iald (fs_126 hF) i4 dX8_judgeCall_70 ?_
      refine V_icmp_eq (tgt := 95) dX8_judgeCall_71 (by decide) (fun c5 => ?_) (fun c5 => ?_)
      · have H := H.1 c5
        refine V_aload_n dX8_judgeCall_95 rfl 0 rfl ?_
        refine H_getr ck7 21 (by decide) (fs_115 hF) (by decide) rfl (fr_115_21 hF) q1479 dX8_judgeCall_96 ?_
        refine V_iload_n dX8_judgeCall_99 rfl 1 rfl ?_
        refine V_iload_n dX8_judgeCall_100 rfl 2 rfl ?_
        obtain ⟨i6, H⟩ := H
        refine H_iast (fs_127 hF) i6 dX8_judgeCall_101 (fun h7 e8 => ?_)
        have H := H h7 e8
        refine V_aload_n dX8_judgeCall_102 rfl 0 rfl ?_
        refine H_getr ck7 20 (by decide) (fs_115 hF) (by decide) rfl (fr_115_20 hF) q1478 dX8_judgeCall_103 ?_
        refine V_iload_n dX8_judgeCall_106 rfl 1 rfl ?_
        obtain ⟨i9, H⟩ := H
        refine H_iald (fs_126 hF) i9 dX8_judgeCall_107 ?_
        refine V_iconst (v := 1) dX8_judgeCall_108 (by decide) ?_
        refine V_isub dX8_judgeCall_109 ?_
        refine V_topi (fun y10 e11 => ?_)
        have H := H y10 e11
        refine V_istore_n (l1 := [(3, .int y10), (0, .ref (ad D 115)), (1, .int x1), (2, .int x2)]) dX8_judgeCall_110 rfl (by decide) rfl ?_
        refine V.sub [1, 2, 3, 0] rfl ?_
        exact H
      · have H := H.2 c5
        refine V.sub [0, 1, 2] rfl ?_
        exact bX8_judgeCall_74 hF x1 x2 H
  · have H := H.2 c1
    refine V_aload_n dX8_judgeCall_26 rfl 0 rfl ?_
    refine H_getr ck7 11 (by decide) (fs_115 hF) (by decide) rfl (fr_115_11 hF) q1469 dX8_judgeCall_27 ?_
    refine V_iload_n dX8_judgeCall_30 rfl 3 rfl ?_
    obtain ⟨i12, H⟩ := H
    refine H_lald (fs_117 hF) i12 dX8_judgeCall_31 ?_
    refine V_aload_n dX8_judgeCall_32 rfl 0 rfl ?_
    refine H_getr ck7 24 (by decide) (fs_115 hF) (by decide) rfl (fr_115_24 hF) q1482 dX8_judgeCall_33 ?_
    refine V_iload_n dX8_judgeCall_36 rfl 1 rfl ?_
    obtain ⟨i13, H⟩ := H
    refine H_lald (fs_130 hF) i13 dX8_judgeCall_37 ?_
    refine V_lcmp dX8_judgeCall_38 ?_
    refine V_if_ne (tgt := 46) dX8_judgeCall_39 (by decide) (fun c14 => ?_) (fun c14 => ?_)
    · have H := H.1 c14
      refine V_iload_n dX8_judgeCall_46 rfl 2 rfl ?_
      refine V.sub [0, 1, 3] rfl ?_
      exact bX8_judgeCall_47 hF x1 x3 x2 H
    · have H := H.2 c14
      refine V_iload_n dX8_judgeCall_42 rfl 3 rfl ?_
      refine V_goto (tgt := 47) dX8_judgeCall_43 (by decide) ?_
      refine V.sub [0, 1, 3] rfl ?_
      exact bX8_judgeCall_47 hF x1 x3 x3 H
abbrev JX8_judgeCall_0 (D : DE) (f : Nat) (Q : HI → HL → Prop) (F : Frm) (h : HI) (g : HL) (x1 : Int32) : Prop := ∀ y1 : Int32, y1 = 12 * (h 115 27) → V D mX8_judgeCall (f + 1) (qv F Q) 10 [(0, .ref (ad D 115)), (1, .int x1), (2, .int (-1)), (3, .int y1)] [] (F, h, g)
theorem bX8_judgeCall_0 {D : DE} {f : Nat} {Q : HI → HL → Prop} {F : Frm} {h : HI} {g : HL} (hF : k_Fix F) (x1 : Int32) (H : JX8_judgeCall_0 D f Q F h g x1) : V D mX8_judgeCall (f + 1) (qv F Q) 0 [(0, .ref (ad D 115)), (1, .int x1)] [] (F, h, g) := by
  refine V_iconst (v := (-1)) dX8_judgeCall_0 (by decide) ?_
  refine V_istore_n (l1 := [(2, .int (-1)), (0, .ref (ad D 115)), (1, .int x1)]) dX8_judgeCall_1 rfl (by decide) rfl ?_
  refine V_bipush (v := 12) dX8_judgeCall_2 (by decide) ?_
  refine V_aload_n dX8_judgeCall_4 rfl 1 rfl ?_
  refine H_geti ck7 27 (by decide) (fs_115 hF) (by decide) rfl q1485 dX8_judgeCall_5 ?_
  refine V_imul dX8_judgeCall_8 ?_
  refine V_topi (fun y1 e2 => ?_)
  have H := H y1 e2
  refine V_istore_n (l1 := [(3, .int y1), (2, .int (-1)), (0, .ref (ad D 115)), (1, .int x1)]) dX8_judgeCall_9 rfl (by decide) rfl ?_
  refine V.sub [2, 3, 1, 0] rfl ?_
  exact H
theorem wX8_judgeCall {D : DE} {f : Nat} {Q : HI → HL → Prop} {F : Frm} {h : HI} {g : HL} (hF : k_Fix F) (x1 : Int32) (H : JX8_judgeCall_0 D f Q F h g x1) : Sv D (f + 1) mX8_judgeCall [.ref (ad D 115), .int x1] F h g Q := Cl.ofV (by decide) (Nat.le_of_ble_eq_true rfl) rfl (bX8_judgeCall_0 hF x1 H)
theorem dX8_onJudge_0 : decode cX8_onJudge 0 = .ok (.aload_n 0, 1) := by decide +kernel
theorem dX8_onJudge_1 : decode cX8_onJudge 1 = .ok (.iconst 4, 1) := by decide +kernel
theorem dX8_onJudge_2 : decode cX8_onJudge 2 = .ok (.iload_n 1, 1) := by decide +kernel
theorem dX8_onJudge_3 : decode cX8_onJudge 3 = .ok (.iload_n 2, 1) := by decide +kernel
theorem dX8_onJudge_4 : decode cX8_onJudge 4 = .ok (.invokevirtual 322, 3) := by decide +kernel
theorem dX8_onJudge_7 : decode cX8_onJudge 7 = .ok (.aload_n 0, 1) := by decide +kernel
theorem dX8_onJudge_8 : decode cX8_onJudge 8 = .ok (.getfield 39, 3) := by decide +kernel
theorem dX8_onJudge_11 : decode cX8_onJudge 11 = .ok (.iload_n 1, 1) := by decide +kernel
theorem dX8_onJudge_12 : decode cX8_onJudge 12 = .ok (.iaload, 1) := by decide +kernel
theorem dX8_onJudge_13 : decode cX8_onJudge 13 = .ok (.tableswitch 255 1 9 #[88, 115, 149, 149, 255, 255, 51, 198, 206], 51) := by decide +kernel
theorem dX8_onJudge_64 : decode cX8_onJudge 64 = .ok (.aload_n 0, 1) := by decide +kernel
theorem dX8_onJudge_65 : decode cX8_onJudge 65 = .ok (.aload_n 0, 1) := by decide +kernel
theorem dX8_onJudge_66 : decode cX8_onJudge 66 = .ok (.getfield 57, 3) := by decide +kernel
theorem dX8_onJudge_69 : decode cX8_onJudge 69 = .ok (.iload_n 1, 1) := by decide +kernel
theorem dX8_onJudge_70 : decode cX8_onJudge 70 = .ok (.laload, 1) := by decide +kernel
theorem dX8_onJudge_71 : decode cX8_onJudge 71 = .ok (.invokevirtual 335, 3) := by decide +kernel
theorem dX8_onJudge_74 : decode cX8_onJudge 74 = .ok (.istore_n 3, 1) := by decide +kernel
theorem dX8_onJudge_75 : decode cX8_onJudge 75 = .ok (.iload_n 3, 1) := by decide +kernel
theorem dX8_onJudge_76 : decode cX8_onJudge 76 = .ok (.iconst (-1), 1) := by decide +kernel
theorem dX8_onJudge_77 : decode cX8_onJudge 77 = .ok (.if_icmp .ne 14, 3) := by decide +kernel
theorem dX8_onJudge_80 : decode cX8_onJudge 80 = .ok (.aload_n 0, 1) := by decide +kernel
theorem dX8_onJudge_81 : decode cX8_onJudge 81 = .ok (.iconst 4, 1) := by decide +kernel
theorem dX8_onJudge_82 : decode cX8_onJudge 82 = .ok (.aload_n 0, 1) := by decide +kernel
theorem dX8_onJudge_83 : decode cX8_onJudge 83 = .ok (.getfield 51, 3) := by decide +kernel
theorem dX8_onJudge_86 : decode cX8_onJudge 86 = .ok (.iload_n 1, 1) := by decide +kernel
theorem dX8_onJudge_87 : decode cX8_onJudge 87 = .ok (.iaload, 1) := by decide +kernel
theorem dX8_onJudge_88 : decode cX8_onJudge 88 = .ok (.invokevirtual 205, 3) := by decide +kernel
theorem dX8_onJudge_91 : decode cX8_onJudge 91 = .ok (.aload_n 0, 1) := by decide +kernel
theorem dX8_onJudge_92 : decode cX8_onJudge 92 = .ok (.getfield 42, 3) := by decide +kernel
theorem dX8_onJudge_95 : decode cX8_onJudge 95 = .ok (.iload_n 1, 1) := by decide +kernel
theorem dX8_onJudge_96 : decode cX8_onJudge 96 = .ok (.iload_n 3, 1) := by decide +kernel
theorem dX8_onJudge_97 : decode cX8_onJudge 97 = .ok (.iastore, 1) := by decide +kernel
theorem dX8_onJudge_98 : decode cX8_onJudge 98 = .ok (.goto 170, 3) := by decide +kernel
theorem dX8_onJudge_101 : decode cX8_onJudge 101 = .ok (.aload_n 0, 1) := by decide +kernel
theorem dX8_onJudge_102 : decode cX8_onJudge 102 = .ok (.iconst 1, 1) := by decide +kernel
theorem dX8_onJudge_103 : decode cX8_onJudge 103 = .ok (.aload_n 0, 1) := by decide +kernel
theorem dX8_onJudge_104 : decode cX8_onJudge 104 = .ok (.getfield 45, 3) := by decide +kernel
theorem dX8_onJudge_107 : decode cX8_onJudge 107 = .ok (.iload_n 1, 1) := by decide +kernel
theorem dX8_onJudge_108 : decode cX8_onJudge 108 = .ok (.iaload, 1) := by decide +kernel
theorem dX8_onJudge_109 : decode cX8_onJudge 109 = .ok (.iconst 0, 1) := by decide +kernel
theorem dX8_onJudge_110 : decode cX8_onJudge 110 = .ok (.invokevirtual 322, 3) := by decide +kernel
theorem dX8_onJudge_113 : decode cX8_onJudge 113 = .ok (.aload_n 0, 1) := by decide +kernel
theorem dX8_onJudge_114 : decode cX8_onJudge 114 = .ok (.iconst 1, 1) := by decide +kernel
theorem dX8_onJudge_115 : decode cX8_onJudge 115 = .ok (.aload_n 0, 1) := by decide +kernel
theorem dX8_onJudge_116 : decode cX8_onJudge 116 = .ok (.getfield 42, 3) := by decide +kernel
theorem dX8_onJudge_119 : decode cX8_onJudge 119 = .ok (.iload_n 1, 1) := by decide +kernel
theorem dX8_onJudge_120 : decode cX8_onJudge 120 = .ok (.iaload, 1) := by decide +kernel
theorem dX8_onJudge_121 : decode cX8_onJudge 121 = .ok (.iconst 0, 1) := by decide +kernel
theorem dX8_onJudge_122 : decode cX8_onJudge 122 = .ok (.invokevirtual 322, 3) := by decide +kernel
theorem dX8_onJudge_125 : decode cX8_onJudge 125 = .ok (.goto 143, 3) := by decide +kernel
theorem dX8_onJudge_128 : decode cX8_onJudge 128 = .ok (.aload_n 0, 1) := by decide +kernel
theorem dX8_onJudge_129 : decode cX8_onJudge 129 = .ok (.iconst 2, 1) := by decide +kernel
theorem dX8_onJudge_130 : decode cX8_onJudge 130 = .ok (.iload_n 1, 1) := by decide +kernel
theorem dX8_onJudge_131 : decode cX8_onJudge 131 = .ok (.iload_n 2, 1) := by decide +kernel
theorem dX8_onJudge_132 : decode cX8_onJudge 132 = .ok (.invokevirtual 322, 3) := by decide +kernel
theorem dX8_onJudge_135 : decode cX8_onJudge 135 = .ok (.aload_n 0, 1) := by decide +kernel
theorem dX8_onJudge_136 : decode cX8_onJudge 136 = .ok (.iconst 1, 1) := by decide +kernel
theorem dX8_onJudge_137 : decode cX8_onJudge 137 = .ok (.aload_n 0, 1) := by decide +kernel
theorem dX8_onJudge_138 : decode cX8_onJudge 138 = .ok (.getfield 45, 3) := by decide +kernel
theorem dX8_onJudge_141 : decode cX8_onJudge 141 = .ok (.iload_n 1, 1) := by decide +kernel
theorem dX8_onJudge_142 : decode cX8_onJudge 142 = .ok (.iaload, 1) := by decide +kernel
theorem dX8_onJudge_143 : decode cX8_onJudge 143 = .ok (.iload_n 2, 1) := by decide +kernel
theorem dX8_onJudge_144 : decode cX8_onJudge 144 = .ok (.invokevirtual 322, 3) := by decide +kernel
theorem dX8_onJudge_147 : decode cX8_onJudge 147 = .ok (.aload_n 0, 1) := by decide +kernel
theorem dX8_onJudge_148 : decode cX8_onJudge 148 = .ok (.iconst 1, 1) := by decide +kernel
theorem dX8_onJudge_149 : decode cX8_onJudge 149 = .ok (.aload_n 0, 1) := by decide +kernel
theorem dX8_onJudge_150 : decode cX8_onJudge 150 = .ok (.getfield 42, 3) := by decide +kernel
theorem dX8_onJudge_153 : decode cX8_onJudge 153 = .ok (.iload_n 1, 1) := by decide +kernel
theorem dX8_onJudge_154 : decode cX8_onJudge 154 = .ok (.iaload, 1) := by decide +kernel
theorem dX8_onJudge_155 : decode cX8_onJudge 155 = .ok (.iconst 0, 1) := by decide +kernel
theorem dX8_onJudge_156 : decode cX8_onJudge 156 = .ok (.invokevirtual 322, 3) := by decide +kernel
theorem dX8_onJudge_159 : decode cX8_onJudge 159 = .ok (.goto 109, 3) := by decide +kernel
theorem dX8_onJudge_162 : decode cX8_onJudge 162 = .ok (.aload_n 0, 1) := by decide +kernel
theorem dX8_onJudge_163 : decode cX8_onJudge 163 = .ok (.iconst 1, 1) := by decide +kernel
theorem dX8_onJudge_164 : decode cX8_onJudge 164 = .ok (.aload_n 0, 1) := by decide +kernel
theorem dX8_onJudge_165 : decode cX8_onJudge 165 = .ok (.getfield 45, 3) := by decide +kernel
theorem dX8_onJudge_168 : decode cX8_onJudge 168 = .ok (.iload_n 1, 1) := by decide +kernel
theorem dX8_onJudge_169 : decode cX8_onJudge 169 = .ok (.iaload, 1) := by decide +kernel
theorem dX8_onJudge_170 : decode cX8_onJudge 170 = .ok (.iload_n 2, 1) := by decide +kernel
theorem dX8_onJudge_171 : decode cX8_onJudge 171 = .ok (.invokevirtual 322, 3) := by decide +kernel
theorem dX8_onJudge_174 : decode cX8_onJudge 174 = .ok (.aload_n 0, 1) := by decide +kernel
theorem dX8_onJudge_175 : decode cX8_onJudge 175 = .ok (.iconst 3, 1) := by decide +kernel
theorem dX8_onJudge_176 : decode cX8_onJudge 176 = .ok (.iload_n 1, 1) := by decide +kernel
theorem dX8_onJudge_177 : decode cX8_onJudge 177 = .ok (.iconst 0, 1) := by decide +kernel
theorem dX8_onJudge_178 : decode cX8_onJudge 178 = .ok (.invokevirtual 322, 3) := by decide +kernel
theorem dX8_onJudge_181 : decode cX8_onJudge 181 = .ok (.aload_n 0, 1) := by decide +kernel
theorem dX8_onJudge_182 : decode cX8_onJudge 182 = .ok (.iconst 1, 1) := by decide +kernel
theorem dX8_onJudge_183 : decode cX8_onJudge 183 = .ok (.aload_n 0, 1) := by decide +kernel
theorem dX8_onJudge_184 : decode cX8_onJudge 184 = .ok (.getfield 42, 3) := by decide +kernel
theorem dX8_onJudge_187 : decode cX8_onJudge 187 = .ok (.iload_n 1, 1) := by decide +kernel
theorem dX8_onJudge_188 : decode cX8_onJudge 188 = .ok (.iaload, 1) := by decide +kernel
theorem dX8_onJudge_189 : decode cX8_onJudge 189 = .ok (.aload_n 0, 1) := by decide +kernel
theorem dX8_onJudge_190 : decode cX8_onJudge 190 = .ok (.getfield 39, 3) := by decide +kernel
theorem dX8_onJudge_193 : decode cX8_onJudge 193 = .ok (.iload_n 1, 1) := by decide +kernel
theorem dX8_onJudge_194 : decode cX8_onJudge 194 = .ok (.iaload, 1) := by decide +kernel
theorem dX8_onJudge_195 : decode cX8_onJudge 195 = .ok (.iconst 3, 1) := by decide +kernel
theorem dX8_onJudge_196 : decode cX8_onJudge 196 = .ok (.if_icmp .ne 7, 3) := by decide +kernel
theorem dX8_onJudge_199 : decode cX8_onJudge 199 = .ok (.iconst (-1), 1) := by decide +kernel
theorem dX8_onJudge_200 : decode cX8_onJudge 200 = .ok (.goto 5, 3) := by decide +kernel
theorem dX8_onJudge_203 : decode cX8_onJudge 203 = .ok (.bipush (-2), 2) := by decide +kernel
theorem dX8_onJudge_205 : decode cX8_onJudge 205 = .ok (.invokevirtual 322, 3) := by decide +kernel
theorem dX8_onJudge_208 : decode cX8_onJudge 208 = .ok (.goto 60, 3) := by decide +kernel
theorem dX8_onJudge_211 : decode cX8_onJudge 211 = .ok (.aload_n 0, 1) := by decide +kernel
theorem dX8_onJudge_212 : decode cX8_onJudge 212 = .ok (.iload_n 1, 1) := by decide +kernel
theorem dX8_onJudge_213 : decode cX8_onJudge 213 = .ok (.invokevirtual 338, 3) := by decide +kernel
theorem dX8_onJudge_216 : decode cX8_onJudge 216 = .ok (.goto 52, 3) := by decide +kernel
theorem dX8_onJudge_219 : decode cX8_onJudge 219 = .ok (.aload_n 0, 1) := by decide +kernel
theorem dX8_onJudge_220 : decode cX8_onJudge 220 = .ok (.iconst 1, 1) := by decide +kernel
theorem dX8_onJudge_221 : decode cX8_onJudge 221 = .ok (.aload_n 0, 1) := by decide +kernel
theorem dX8_onJudge_222 : decode cX8_onJudge 222 = .ok (.getfield 45, 3) := by decide +kernel
theorem dX8_onJudge_225 : decode cX8_onJudge 225 = .ok (.iload_n 1, 1) := by decide +kernel
theorem dX8_onJudge_226 : decode cX8_onJudge 226 = .ok (.iaload, 1) := by decide +kernel
theorem dX8_onJudge_227 : decode cX8_onJudge 227 = .ok (.iload_n 2, 1) := by decide +kernel
theorem dX8_onJudge_228 : decode cX8_onJudge 228 = .ok (.ifCond .le 10, 3) := by decide +kernel
theorem dX8_onJudge_231 : decode cX8_onJudge 231 = .ok (.iload_n 2, 1) := by decide +kernel
theorem dX8_onJudge_232 : decode cX8_onJudge 232 = .ok (.invokestatic 162, 3) := by decide +kernel
theorem dX8_onJudge_235 : decode cX8_onJudge 235 = .ok (.goto 4, 3) := by decide +kernel
theorem dX8_onJudge_238 : decode cX8_onJudge 238 = .ok (.iconst (-1), 1) := by decide +kernel
theorem dX8_onJudge_239 : decode cX8_onJudge 239 = .ok (.invokevirtual 322, 3) := by decide +kernel
theorem dX8_onJudge_242 : decode cX8_onJudge 242 = .ok (.aload_n 0, 1) := by decide +kernel
theorem dX8_onJudge_243 : decode cX8_onJudge 243 = .ok (.iconst 1, 1) := by decide +kernel
theorem dX8_onJudge_244 : decode cX8_onJudge 244 = .ok (.aload_n 0, 1) := by decide +kernel
theorem dX8_onJudge_245 : decode cX8_onJudge 245 = .ok (.getfield 42, 3) := by decide +kernel
theorem dX8_onJudge_248 : decode cX8_onJudge 248 = .ok (.iload_n 1, 1) := by decide +kernel
theorem dX8_onJudge_249 : decode cX8_onJudge 249 = .ok (.iaload, 1) := by decide +kernel
theorem dX8_onJudge_250 : decode cX8_onJudge 250 = .ok (.iload_n 2, 1) := by decide +kernel
theorem dX8_onJudge_251 : decode cX8_onJudge 251 = .ok (.ifCond .le 10, 3) := by decide +kernel
theorem dX8_onJudge_254 : decode cX8_onJudge 254 = .ok (.iload_n 2, 1) := by decide +kernel
theorem dX8_onJudge_255 : decode cX8_onJudge 255 = .ok (.invokestatic 169, 3) := by decide +kernel
theorem dX8_onJudge_258 : decode cX8_onJudge 258 = .ok (.goto 4, 3) := by decide +kernel
theorem dX8_onJudge_261 : decode cX8_onJudge 261 = .ok (.iconst (-1), 1) := by decide +kernel
theorem dX8_onJudge_262 : decode cX8_onJudge 262 = .ok (.invokevirtual 322, 3) := by decide +kernel
theorem dX8_onJudge_265 : decode cX8_onJudge 265 = .ok (.goto 3, 3) := by decide +kernel
theorem dX8_onJudge_268 : decode cX8_onJudge 268 = .ok (.return_, 1) := by decide +kernel
abbrev JX8_onJudge_239 (D : DE) (f : Nat) (Q : HI → HL → Prop) (F : Frm) (h : HI) (g : HL) (x1 : Int32) (x2 : Int32) (s1 : Int32) (s2 : Int32) (s3 : Int32) : Prop := Sv D f mX8_task [.ref (ad D 115), .int s1, .int s2, .int s3] F h g (fun h1 g2 => vp_in x1 2002 ∧ ((x2 ≤ 0 → Sv D f mX8_task [.ref (ad D 115), .int 1, .int (h1 125 (ix x1)), .int (-1)] F h1 g2 (fun h5 g6 => Q h5 g6)) ∧ (¬ x2 ≤ 0 → Si D f mX8_firstOf [.int x2] F h1 g2 (fun y9 h7 g8 => Sv D f mX8_task [.ref (ad D 115), .int 1, .int (h1 125 (ix x1)), .int y9] F h7 g8 (fun h10 g11 => Q h10 g11)))))
theorem bX8_onJudge_239 {D : DE} {f : Nat} {Q : HI → HL → Prop} {F : Frm} {h : HI} {g : HL} (hF : k_Fix F) (x1 : Int32) (x2 : Int32) (s1 : Int32) (s2 : Int32) (s3 : Int32) (H : JX8_onJudge_239 D f Q F h g x1 x2 s1 s2 s3) : V D mX8_onJudge (f + 1) (qv F Q) 239 [(0, .ref (ad D 115)), (1, .int x1), (2, .int x2)] [.int s3, .int s2, .int s1, .ref (ad D 115)] (F, h, g) := by
  refine H_callv (av := [.ref (ad D 115), .int s1, .int s2, .int s3]) (rest := []) H mqX8_task q88 (by decide) (Nat.le_of_ble_eq_true rfl) (k_resV (ci := 7) (av := [.int s1, .int s2, .int s3]) (rest := []) (fs_115 hF) (by decide) rfl rfl q1834 q1836 qs51 q1837 mhX8_task mnX8_task dX8_onJudge_239) (fun h1 g2 H => ?_)
  refine V_aload_n dX8_onJudge_242 rfl 0 rfl ?_
  refine V_iconst (v := 1) dX8_onJudge_243 (by decide) ?_
  refine V_aload_n dX8_onJudge_244 rfl 0 rfl ?_
  refine H_getr ck7 19 (by decide) (fs_115 hF) (by decide) rfl (fr_115_19 hF) q1477 dX8_onJudge_245 ?_
  refine V_iload_n dX8_onJudge_248 rfl 1 rfl ?_
  obtain ⟨i3, H⟩ := H
  refine H_iald (fs_125 hF) i3 dX8_onJudge_249 ?_
  refine V_iload_n dX8_onJudge_250 rfl 2 rfl ?_
  refine V_if_le (tgt := 261) dX8_onJudge_251 (by decide) (fun c4 => ?_) (fun c4 => ?_)
  · have H := H.1 c4
    refine V_iconst (v := (-1)) dX8_onJudge_261 (by decide) ?_
    refine H_callv (av := [.ref (ad D 115), .int 1, .int (h1 125 (ix x1)), .int (-1)]) (rest := []) H mqX8_task q88 (by decide) (Nat.le_of_ble_eq_true rfl) (k_resV (ci := 7) (av := [.int 1, .int (h1 125 (ix x1)), .int (-1)]) (rest := []) (fs_115 hF) (by decide) rfl rfl q1834 q1836 qs51 q1837 mhX8_task mnX8_task dX8_onJudge_262) (fun h5 g6 H => ?_)
    refine V_goto (tgt := 268) dX8_onJudge_265 (by decide) ?_
    exact H_vret rfl dX8_onJudge_268 H
  · have H := H.2 c4
    refine V_iload_n dX8_onJudge_254 rfl 2 rfl ?_
    refine H_calli (av := [.int x2]) (rest := [.int (h1 125 (ix x1)), .int 1, .ref (ad D 115)]) H mqX8_firstOf q88 (by decide) (Nat.le_of_ble_eq_true rfl) (k_resS (av := [.int x2]) (rest := [.int (h1 125 (ix x1)), .int 1, .ref (ad D 115)]) (M1 := mX8_firstOf) rfl q1853 q1854 q88 mqX8_firstOf (fun _ _ h => mW_named h) mhX8_firstOf mnX8_firstOf dX8_onJudge_255) (fun y9 h7 g8 H => ?_)
    refine V_goto (tgt := 262) dX8_onJudge_258 (by decide) ?_
    refine H_callv (av := [.ref (ad D 115), .int 1, .int (h1 125 (ix x1)), .int y9]) (rest := []) H mqX8_task q88 (by decide) (Nat.le_of_ble_eq_true rfl) (k_resV (ci := 7) (av := [.int 1, .int (h1 125 (ix x1)), .int y9]) (rest := []) (fs_115 hF) (by decide) rfl rfl q1834 q1836 qs51 q1837 mhX8_task mnX8_task dX8_onJudge_262) (fun h10 g11 H => ?_)
    refine V_goto (tgt := 268) dX8_onJudge_265 (by decide) ?_
    exact H_vret rfl dX8_onJudge_268 H
abbrev JX8_onJudge_91 (D : DE) (f : Nat) (Q : HI → HL → Prop) (F : Frm) (h : HI) (g : HL) (x1 : Int32) (x3 : Int32) : Prop := vp_in x1 2002 ∧ ∀ h2, h2 = up2 h 125 (ix x1) x3 → Q h2 g
theorem bX8_onJudge_91 {D : DE} {f : Nat} {Q : HI → HL → Prop} {F : Frm} {h : HI} {g : HL} (hF : k_Fix F) (x1 : Int32) (x3 : Int32) (H : JX8_onJudge_91 D f Q F h g x1 x3) : V D mX8_onJudge (f + 1) (qv F Q) 91 [(0, .ref (ad D 115)), (1, .int x1), (3, .int x3)] [] (F, h, g) := by
  refine V_aload_n dX8_onJudge_91 rfl 0 rfl ?_
  refine H_getr ck7 19 (by decide) (fs_115 hF) (by decide) rfl (fr_115_19 hF) q1477 dX8_onJudge_92 ?_
  refine V_iload_n dX8_onJudge_95 rfl 1 rfl ?_
  refine V_iload_n dX8_onJudge_96 rfl 2 rfl ?_
  obtain ⟨i1, H⟩ := H
  refine H_iast (fs_125 hF) i1 dX8_onJudge_97 (fun h2 e3 => ?_)
  have H := H h2 e3
  refine V_goto (tgt := 268) dX8_onJudge_98 (by decide) ?_
  exact H_vret rfl dX8_onJudge_268 H
abbrev JX8_onJudge_0 (D : DE) (f : Nat) (Q : HI → HL → Prop) (F : Frm) (h : HI) (g : HL) (x1 : Int32) (x2 : Int32) : Prop := Sv D f mX8_task [.ref (ad D 115), .int 4, .int x1, .int x2] F h g (fun h1 g2 => vp_in x1 2002 ∧ ∀ y4 : Int32, y4 = h1 124 (ix x1) → ((y4.toInt < 1 ∨ 9 < y4.toInt → Q h1 g2) ∧ (y4 = 1 → vp_in x1 2002 ∧ Sv D f mX8_task [.ref (ad D 115), .int 1, .int (h1 126 (ix x1)), .int 0] F h1 g2 (fun h8 g9 => vp_in x1 2002 ∧ Sv D f mX8_task [.ref (ad D 115), .int 1, .int (h8 125 (ix x1)), .int 0] F h8 g9 (fun h11 g12 => Q h11 g12))) ∧ (y4 = 2 → Sv D f mX8_task [.ref (ad D 115), .int 2, .int x1, .int x2] F h1 g2 (fun h13 g14 => vp_in x1 2002 ∧ Sv D f mX8_task [.ref (ad D 115), .int 1, .int (h13 126 (ix x1)), .int x2] F h13 g14 (fun h16 g17 => vp_in x1 2002 ∧ Sv D f mX8_task [.ref (ad D 115), .int 1, .int (h16 125 (ix x1)), .int 0] F h16 g17 (fun h19 g20 => Q h19 g20)))) ∧ (y4 = 3 → vp_in x1 2002 ∧ Sv D f mX8_task [.ref (ad D 115), .int 1, .int (h1 126 (ix x1)), .int x2] F h1 g2 (fun h22 g23 => Sv D f mX8_task [.ref (ad D 115), .int 3, .int x1, .int 0] F h22 g23 (fun h24 g25 => vp_in x1 2002 ∧ vp_in x1 2002 ∧ ((¬ (h24 124 (ix x1)) = 3 → Sv D f mX8_task [.ref (ad D 115), .int 1, .int (h24 125 (ix x1)), .int (-2)] F h24 g25 (fun h29 g30 => Q h29 g30)) ∧ ((h24 124 (ix x1)) = 3 → Sv D f mX8_task [.ref (ad D 115), .int 1, .int (h24 125 (ix x1)), .int (-1)] F h24 g25 (fun h31 g32 => Q h31 g32)))))) ∧ (y4 = 4 → vp_in x1 2002 ∧ Sv D f mX8_task [.ref (ad D 115), .int 1, .int (h1 126 (ix x1)), .int x2] F h1 g2 (fun h34 g35 => Sv D f mX8_task [.ref (ad D 115), .int 3, .int x1, .int 0] F h34 g35 (fun h36 g37 => vp_in x1 2002 ∧ vp_in x1 2002 ∧ ((¬ (h36 124 (ix x1)) = 3 → Sv D f mX8_task [.ref (ad D 115), .int 1, .int (h36 125 (ix x1)), .int (-2)] F h36 g37 (fun h41 g42 => Q h41 g42)) ∧ ((h36 124 (ix x1)) = 3 → Sv D f mX8_task [.ref (ad D 115), .int 1, .int (h36 125 (ix x1)), .int (-1)] F h36 g37 (fun h43 g44 => Q h43 g44)))))) ∧ (y4 = 5 → Q h1 g2) ∧ (y4 = 6 → Q h1 g2) ∧ (y4 = 7 → vp_in x1 2002 ∧ Si D f mX8_meant [.ref (ad D 115), .long (g2 130 (ix x1))] F h1 g2 (fun y48 h46 g47 => ((¬ y48 = (-1) → JX8_onJudge_91 D f Q F h46 g47 x1 y48) ∧ (y48 = (-1) → vp_in x1 2002 ∧ Sv D f mX8_stop [.ref (ad D 115), .int 4, .int (h46 128 (ix x1))] F h46 g47 (fun h51 g52 => JX8_onJudge_91 D f Q F h51 g52 x1 y48))))) ∧ (y4 = 8 → Sv D f mX8_judgeCall [.ref (ad D 115), .int x1] F h1 g2 (fun h53 g54 => Q h53 g54)) ∧ (y4 = 9 → vp_in x1 2002 ∧ ((x2 ≤ 0 → JX8_onJudge_239 D f Q F h1 g2 x1 x2 1 (h1 126 (ix x1)) (-1)) ∧ (¬ x2 ≤ 0 → Si D f mX8_secondOf [.int x2] F h1 g2 (fun y59 h57 g58 => JX8_onJudge_239 D f Q F h57 g58 x1 x2 1 (h1 126 (ix x1)) y59))))))
theorem bX8_onJudge_0 {D : DE} {f : Nat} {Q : HI → HL → Prop} {F : Frm} {h : HI} {g : HL} (hF : k_Fix F) (x1 : Int32) (x2 : Int32) (H : JX8_onJudge_0 D f Q F h g x1 x2) : V D mX8_onJudge (f + 1) (qv F Q) 0 [(0, .ref (ad D 115)), (1, .int x1), (2, .int x2)] [] (F, h, g) := by
  refine V_aload_n dX8_onJudge_0 rfl 0 rfl ?_
  refine V_iconst (v := 4) dX8_onJudge_1 (by decide) ?_
  refine V_iload_n dX8_onJudge_2 rfl 1 rfl ?_
  refine V_iload_n dX8_onJudge_3 rfl 2 rfl ?_
  refine H_callv (av := [.ref (ad D 115), .int 4, .int x1, .int x2]) (rest := []) H mqX8_task q88 (by decide) (Nat.le_of_ble_eq_true rfl) (k_resV (ci := 7) (av := [.int 4, .int x1, .int x2]) (rest := []) (fs_115 hF) (by decide) rfl rfl q1834 q1836 qs51 q1837 mhX8_task mnX8_task dX8_onJudge_4) (fun h1 g2 H => ?_)
  refine V_aload_n dX8_onJudge_7 rfl 0 rfl ?_
  refine H_getr ck7 18 (by decide) (fs_115 hF) (by decide) rfl (fr_115_18 hF) q1476 dX8_onJudge_8 ?_
  refine V_iload_n dX8_onJudge_11 rfl 1 rfl ?_
  obtain ⟨i3, H⟩ := H
  refine H_iald (fs_124 hF) i3 dX8_onJudge_12 ?_
  refine V_topi (fun y4 e5 => ?_)
  have H := H y4 e5
  by_cases c6 : y4.toInt < 1 ∨ 9 < y4.toInt
  · have H := H.1 c6
    refine V_tableOut (tgt := 268) dX8_onJudge_13 c6 (by decide) ?_
    exact H_vret rfl dX8_onJudge_268 H
  · rcases tsw_1_9 c6 with c6 | c6 | c6 | c6 | c6 | c6 | c6 | c6 | c6
    · have H := H.2.1 c6
      refine V_tableIn (tgt := 101) dX8_onJudge_13 (by rw [c6]; decide) (by rw [c6]; decide) (by rw [c6]; rfl) (by decide) ?_
      refine V_aload_n dX8_onJudge_101 rfl 0 rfl ?_
      refine V_iconst (v := 1) dX8_onJudge_102 (by decide) ?_
      refine V_aload_n dX8_onJudge_103 rfl 0 rfl ?_
      refine H_getr ck7 20 (by decide) (fs_115 hF) (by decide) rfl (fr_115_20 hF) q1478 dX8_onJudge_104 ?_
      refine V_iload_n dX8_onJudge_107 rfl 1 rfl ?_
      obtain ⟨i7, H⟩ := H
      refine H_iald (fs_126 hF) i7 dX8_onJudge_108 ?_
      refine V_iconst (v := 0) dX8_onJudge_109 (by decide) ?_
      refine H_callv (av := [.ref (ad D 115), .int 1, .int (h1 126 (ix x1)), .int 0]) (rest := []) H mqX8_task q88 (by decide) (Nat.le_of_ble_eq_true rfl) (k_resV (ci := 7) (av := [.int 1, .int (h1 126 (ix x1)), .int 0]) (rest := []) (fs_115 hF) (by decide) rfl rfl q1834 q1836 qs51 q1837 mhX8_task mnX8_task dX8_onJudge_110) (fun h8 g9 H => ?_)
      refine V_aload_n dX8_onJudge_113 rfl 0 rfl ?_
      refine V_iconst (v := 1) dX8_onJudge_114 (by decide) ?_
      refine V_aload_n dX8_onJudge_115 rfl 0 rfl ?_
      refine H_getr ck7 19 (by decide) (fs_115 hF) (by decide) rfl (fr_115_19 hF) q1477 dX8_onJudge_116 ?_
      refine V_iload_n dX8_onJudge_119 rfl 1 rfl ?_
      obtain ⟨i10, H⟩ := H
      refine H_iald (fs_125 hF) i10 dX8_onJudge_120 ?_
      refine V_iconst (v := 0) dX8_onJudge_121 (by decide) ?_
      refine H_callv (av := [.ref (ad D 115), .int 1, .int (h8 125 (ix x1)), .int 0]) (rest := []) H mqX8_task q88 (by decide) (Nat.le_of_ble_eq_true rfl) (k_resV (ci := 7) (av := [.int 1, .int (h8 125 (ix x1)), .int 0]) (rest := []) (fs_115 hF) (by decide) rfl rfl q1834 q1836 qs51 q1837 mhX8_task mnX8_task dX8_onJudge_122) (fun h11 g12 H => ?_)
      refine V_goto (tgt := 268) dX8_onJudge_125 (by decide) ?_
      exact H_vret rfl dX8_onJudge_268 H
    · have H := H.2.2.1 c6
      refine V_tableIn (tgt := 128) dX8_onJudge_13 (by rw [c6]; decide) (by rw [c6]; decide) (by rw [c6]; rfl) (by decide) ?_
      refine V_aload_n dX8_onJudge_128 rfl 0 rfl ?_
      refine V_iconst (v := 2) dX8_onJudge_129 (by decide) ?_
      refine V_iload_n dX8_onJudge_130 rfl 1 rfl ?_
      refine V_iload_n dX8_onJudge_131 rfl 2 rfl ?_
      refine H_callv (av := [.ref (ad D 115), .int 2, .int x1, .int x2]) (rest := []) H mqX8_task q88 (by decide) (Nat.le_of_ble_eq_true rfl) (k_resV (ci := 7) (av := [.int 2, .int x1, .int x2]) (rest := []) (fs_115 hF) (by decide) rfl rfl q1834 q1836 qs51 q1837 mhX8_task mnX8_task dX8_onJudge_132) (fun h13 g14 H => ?_)
      refine V_aload_n dX8_onJudge_135 rfl 0 rfl ?_
      refine V_iconst (v := 1) dX8_onJudge_136 (by decide) ?_
      refine V_aload_n dX8_onJudge_137 rfl 0 rfl ?_
      refine H_getr ck7 20 (by decide) (fs_115 hF) (by decide) rfl (fr_115_20 hF) q1478 dX8_onJudge_138 ?_
      refine V_iload_n dX8_onJudge_141 rfl 1 rfl ?_
      obtain ⟨i15, H⟩ := H
      refine H_iald (fs_126 hF) i15 dX8_onJudge_142 ?_
      refine V_iload_n dX8_onJudge_143 rfl 2 rfl ?_
      refine H_callv (av := [.ref (ad D 115), .int 1, .int (h13 126 (ix x1)), .int x2]) (rest := []) H mqX8_task q88 (by decide) (Nat.le_of_ble_eq_true rfl) (k_resV (ci := 7) (av := [.int 1, .int (h13 126 (ix x1)), .int x2]) (rest := []) (fs_115 hF) (by decide) rfl rfl q1834 q1836 qs51 q1837 mhX8_task mnX8_task dX8_onJudge_144) (fun h16 g17 H => ?_)
      refine V_aload_n dX8_onJudge_147 rfl 0 rfl ?_
      refine V_iconst (v := 1) dX8_onJudge_148 (by decide) ?_
      refine V_aload_n dX8_onJudge_149 rfl 0 rfl ?_
      refine H_getr ck7 19 (by decide) (fs_115 hF) (by decide) rfl (fr_115_19 hF) q1477 dX8_onJudge_150 ?_
      refine V_iload_n dX8_onJudge_153 rfl 1 rfl ?_
      obtain ⟨i18, H⟩ := H
      refine H_iald (fs_125 hF) i18 dX8_onJudge_154 ?_
      refine V_iconst (v := 0) dX8_onJudge_155 (by decide) ?_
      refine H_callv (av := [.ref (ad D 115), .int 1, .int (h16 125 (ix x1)), .int 0]) (rest := []) H mqX8_task q88 (by decide) (Nat.le_of_ble_eq_true rfl) (k_resV (ci := 7) (av := [.int 1, .int (h16 125 (ix x1)), .int 0]) (rest := []) (fs_115 hF) (by decide) rfl rfl q1834 q1836 qs51 q1837 mhX8_task mnX8_task dX8_onJudge_156) (fun h19 g20 H => ?_)
      refine V_goto (tgt := 268) dX8_onJudge_159 (by decide) ?_
      exact H_vret rfl dX8_onJudge_268 H
    · have H := H.2.2.2.1 c6
      refine V_tableIn (tgt := 162) dX8_onJudge_13 (by rw [c6]; decide) (by rw [c6]; decide) (by rw [c6]; rfl) (by decide) ?_
      refine V_aload_n dX8_onJudge_162 rfl 0 rfl ?_
      refine V_iconst (v := 1) dX8_onJudge_163 (by decide) ?_
      refine V_aload_n dX8_onJudge_164 rfl 0 rfl ?_
      refine H_getr ck7 20 (by decide) (fs_115 hF) (by decide) rfl (fr_115_20 hF) q1478 dX8_onJudge_165 ?_
      refine V_iload_n dX8_onJudge_168 rfl 1 rfl ?_
      obtain ⟨i21, H⟩ := H
      refine H_iald (fs_126 hF) i21 dX8_onJudge_169 ?_
      refine V_iload_n dX8_onJudge_170 rfl 2 rfl ?_
      refine H_callv (av := [.ref (ad D 115), .int 1, .int (h1 126 (ix x1)), .int x2]) (rest := []) H mqX8_task q88 (by decide) (Nat.le_of_ble_eq_true rfl) (k_resV (ci := 7) (av := [.int 1, .int (h1 126 (ix x1)), .int x2]) (rest := []) (fs_115 hF) (by decide) rfl rfl q1834 q1836 qs51 q1837 mhX8_task mnX8_task dX8_onJudge_171) (fun h22 g23 H => ?_)
      refine V_aload_n dX8_onJudge_174 rfl 0 rfl ?_
      refine V_iconst (v := 3) dX8_onJudge_175 (by decide) ?_
      refine V_iload_n dX8_onJudge_176 rfl 1 rfl ?_
      refine V_iconst (v := 0) dX8_onJudge_177 (by decide) ?_
      refine H_callv (av := [.ref (ad D 115), .int 3, .int x1, .int 0]) (rest := []) H mqX8_task q88 (by decide) (Nat.le_of_ble_eq_true rfl) (k_resV (ci := 7) (av := [.int 3, .int x1, .int 0]) (rest := []) (fs_115 hF) (by decide) rfl rfl q1834 q1836 qs51 q1837 mhX8_task mnX8_task dX8_onJudge_178) (fun h24 g25 H => ?_)
      refine V_aload_n dX8_onJudge_181 rfl 0 rfl ?_
      refine V_iconst (v := 1) dX8_onJudge_182 (by decide) ?_
      refine V_aload_n dX8_onJudge_183 rfl 0 rfl ?_
      refine H_getr ck7 19 (by decide) (fs_115 hF) (by decide) rfl (fr_115_19 hF) q1477 dX8_onJudge_184 ?_
      refine V_iload_n dX8_onJudge_187 rfl 1 rfl ?_
      obtain ⟨i26, H⟩ := H
      refine H_iald (fs_125 hF) i26 dX8_onJudge_188 ?_
      refine V_aload_n dX8_onJudge_189 rfl 0 rfl ?_
      refine H_getr ck7 18 (by decide) (fs_115 hF) (by decide) rfl (fr_115_18 hF) q1476 dX8_onJudge_190 ?_
      refine V_iload_n dX8_onJudge_193 rfl 1 rfl ?_
      obtain ⟨i27, H⟩ := H
      refine H_iald (fs_124 hF) i27 dX8_onJudge_194 ?_
      refine V_iconst (v := 3) dX8_onJudge_195 (by decide) ?_
      refine V_icmp_ne (tgt := 203) dX8_onJudge_196 (by decide) (fun c28 => ?_) (fun c28 => ?_)
      · have H := H.1 c28
        refine V_bipush (v := (-2)) dX8_onJudge_203 (by decide) ?_
        refine H_callv (av := [.ref (ad D 115), .int 1, .int (h24 125 (ix x1)), .int (-2)]) (rest := []) H mqX8_task q88 (by decide) (Nat.le_of_ble_eq_true rfl) (k_resV (ci := 7) (av := [.int 1, .int (h24 125 (ix x1)), .int (-2)]) (rest := []) (fs_115 hF) (by decide) rfl rfl q1834 q1836 qs51 q1837 mhX8_task mnX8_task dX8_onJudge_205) (fun h29 g30 H => ?_)
        refine V_goto (tgt := 268) dX8_onJudge_208 (by decide) ?_
        exact H_vret rfl dX8_onJudge_268 H
      · have H := H.2 c28
        refine V_iconst (v := (-1)) dX8_onJudge_199 (by decide) ?_
        refine V_goto (tgt := 205) dX8_onJudge_200 (by decide) ?_
        refine H_callv (av := [.ref (ad D 115), .int 1, .int (h24 125 (ix x1)), .int (-1)]) (rest := []) H mqX8_task q88 (by decide) (Nat.le_of_ble_eq_true rfl) (k_resV (ci := 7) (av := [.int 1, .int (h24 125 (ix x1)), .int (-1)]) (rest := []) (fs_115 hF) (by decide) rfl rfl q1834 q1836 qs51 q1837 mhX8_task mnX8_task dX8_onJudge_205) (fun h31 g32 H => ?_)
        refine V_goto (tgt := 268) dX8_onJudge_208 (by decide) ?_
        exact H_vret rfl dX8_onJudge_268 H
    · have H := H.2.2.2.2.1 c6
      refine V_tableIn (tgt := 162) dX8_onJudge_13 (by rw [c6]; decide) (by rw [c6]; decide) (by rw [c6]; rfl) (by decide) ?_
      refine V_aload_n dX8_onJudge_162 rfl 0 rfl ?_
      refine V_iconst (v := 1) dX8_onJudge_163 (by decide) ?_
      refine V_aload_n dX8_onJudge_164 rfl 0 rfl ?_
      refine H_getr ck7 20 (by decide) (fs_115 hF) (by decide) rfl (fr_115_20 hF) q1478 dX8_onJudge_165 ?_
      refine V_iload_n dX8_onJudge_168 rfl 1 rfl ?_
      obtain ⟨i33, H⟩ := H
      refine H_iald (fs_126 hF) i33 dX8_onJudge_169 ?_
      refine V_iload_n dX8_onJudge_170 rfl 2 rfl ?_
      refine H_callv (av := [.ref (ad D 115), .int 1, .int (h1 126 (ix x1)), .int x2]) (rest := []) H mqX8_task q88 (by decide) (Nat.le_of_ble_eq_true rfl) (k_resV (ci := 7) (av := [.int 1, .int (h1 126 (ix x1)), .int x2]) (rest := []) (fs_115 hF) (by decide) rfl rfl q1834 q1836 qs51 q1837 mhX8_task mnX8_task dX8_onJudge_171) (fun h34 g35 H => ?_)
      refine V_aload_n dX8_onJudge_174 rfl 0 rfl ?_
      refine V_iconst (v := 3) dX8_onJudge_175 (by decide) ?_
      refine V_iload_n dX8_onJudge_176 rfl 1 rfl ?_
      refine V_iconst (v := 0) dX8_onJudge_177 (by decide) ?_
      refine H_callv (av := [.ref (ad D 115), .int 3, .int x1, .int 0]) (rest := []) H mqX8_task q88 (by decide) (Nat.le_of_ble_eq_true rfl) (k_resV (ci := 7) (av := [.int 3, .int x1, .int 0]) (rest := []) (fs_115 hF) (by decide) rfl rfl q1834 q1836 qs51 q1837 mhX8_task mnX8_task dX8_onJudge_178) (fun h36 g37 H => ?_)
      refine V_aload_n dX8_onJudge_181 rfl 0 rfl ?_
      refine V_iconst (v := 1) dX8_onJudge_182 (by decide) ?_
      refine V_aload_n dX8_onJudge_183 rfl 0 rfl ?_
      refine H_getr ck7 19 (by decide) (fs_115 hF) (by decide) rfl (fr_115_19 hF) q1477 dX8_onJudge_184 ?_
      refine V_iload_n dX8_onJudge_187 rfl 1 rfl ?_
      obtain ⟨i38, H⟩ := H
      refine H_iald (fs_125 hF) i38 dX8_onJudge_188 ?_
      refine V_aload_n dX8_onJudge_189 rfl 0 rfl ?_
      refine H_getr ck7 18 (by decide) (fs_115 hF) (by decide) rfl (fr_115_18 hF) q1476 dX8_onJudge_190 ?_
      refine V_iload_n dX8_onJudge_193 rfl 1 rfl ?_
      obtain ⟨i39, H⟩ := H
      refine H_iald (fs_124 hF) i39 dX8_onJudge_194 ?_
      refine V_iconst (v := 3) dX8_onJudge_195 (by decide) ?_
      refine V_icmp_ne (tgt := 203) dX8_onJudge_196 (by decide) (fun c40 => ?_) (fun c40 => ?_)
      · have H := H.1 c40
        refine V_bipush (v := (-2)) dX8_onJudge_203 (by decide) ?_
        refine H_callv (av := [.ref (ad D 115), .int 1, .int (h36 125 (ix x1)), .int (-2)]) (rest := []) H mqX8_task q88 (by decide) (Nat.le_of_ble_eq_true rfl) (k_resV (ci := 7) (av := [.int 1, .int (h36 125 (ix x1)), .int (-2)]) (rest := []) (fs_115 hF) (by decide) rfl rfl q1834 q1836 qs51 q1837 mhX8_task mnX8_task dX8_onJudge_205) (fun h41 g42 H => ?_)
        refine V_goto (tgt := 268) dX8_onJudge_208 (by decide) ?_
        exact H_vret rfl dX8_onJudge_268 H
      · have H := H.2 c40
        refine V_iconst (v := (-1)) dX8_onJudge_199 (by decide) ?_
        refine V_goto (tgt := 205) dX8_onJudge_200 (by decide) ?_
        refine H_callv (av := [.ref (ad D 115), .int 1, .int (h36 125 (ix x1)), .int (-1)]) (rest := []) H mqX8_task q88 (by decide) (Nat.le_of_ble_eq_true rfl) (k_resV (ci := 7) (av := [.int 1, .int (h36 125 (ix x1)), .int (-1)]) (rest := []) (fs_115 hF) (by decide) rfl rfl q1834 q1836 qs51 q1837 mhX8_task mnX8_task dX8_onJudge_205) (fun h43 g44 H => ?_)
        refine V_goto (tgt := 268) dX8_onJudge_208 (by decide) ?_
        exact H_vret rfl dX8_onJudge_268 H
    · have H := H.2.2.2.2.2.1 c6
      refine V_tableIn (tgt := 268) dX8_onJudge_13 (by rw [c6]; decide) (by rw [c6]; decide) (by rw [c6]; rfl) (by decide) ?_
      exact H_vret rfl dX8_onJudge_268 H
    · have H := H.2.2.2.2.2.2.1 c6
      refine V_tableIn (tgt := 268) dX8_onJudge_13 (by rw [c6]; decide) (by rw [c6]; decide) (by rw [c6]; rfl) (by decide) ?_
      exact H_vret rfl dX8_onJudge_268 H
    · have H := H.2.2.2.2.2.2.2.1 c6
      refine V_tableIn (tgt := 64) dX8_onJudge_13 (by rw [c6]; decide) (by rw [c6]; decide) (by rw [c6]; rfl) (by decide) ?_
      refine V_aload_n dX8_onJudge_64 rfl 0 rfl ?_
      refine V_aload_n dX8_onJudge_65 rfl 0 rfl ?_
      refine H_getr ck7 24 (by decide) (fs_115 hF) (by decide) rfl (fr_115_24 hF) q1482 dX8_onJudge_66 ?_
      refine V_iload_n dX8_onJudge_69 rfl 1 rfl ?_
      obtain ⟨i45, H⟩ := H
      refine H_lald (fs_130 hF) i45 dX8_onJudge_70 ?_
      refine H_calli (av := [.ref (ad D 115), .long (g2 130 (ix x1))]) (rest := []) H mqX8_meant q88 (by decide) (Nat.le_of_ble_eq_true rfl) (k_resV (ci := 7) (av := [.long (g2 130 (ix x1))]) (rest := []) (fs_115 hF) (by decide) rfl rfl q1842 q1844 qs53 q1845 mhX8_meant mnX8_meant dX8_onJudge_71) (fun y48 h46 g47 H => ?_)
      refine V_istore_n (l1 := [(3, .int y48), (0, .ref (ad D 115)), (1, .int x1), (2, .int x2)]) dX8_onJudge_74 rfl (by decide) rfl ?_
      refine V_iload_n dX8_onJudge_75 rfl 0 rfl ?_
      refine V_iconst (v := (-1)) dX8_onJudge_76 (by decide) ?_
      refine V_icmp_ne (tgt := 91) dX8_onJudge_77 (by decide) (fun c49 => ?_) (fun c49 => ?_)
      · have H := H.1 c49
        refine V.sub [1, 2, 0] rfl ?_
        exact bX8_onJudge_91 hF x1 y48 H
      · have H := H.2 c49
        refine V_aload_n dX8_onJudge_80 rfl 1 rfl ?_
        refine V_iconst (v := 4) dX8_onJudge_81 (by decide) ?_
        refine V_aload_n dX8_onJudge_82 rfl 1 rfl ?_
        refine H_getr ck7 22 (by decide) (fs_115 hF) (by decide) rfl (fr_115_22 hF) q1480 dX8_onJudge_83 ?_
        refine V_iload_n dX8_onJudge_86 rfl 2 rfl ?_
        obtain ⟨i50, H⟩ := H
        refine H_iald (fs_128 hF) i50 dX8_onJudge_87 ?_
        refine H_callv (av := [.ref (ad D 115), .int 4, .int (h46 128 (ix x1))]) (rest := []) H mqX8_stop q88 (by decide) (Nat.le_of_ble_eq_true rfl) (k_resV (ci := 7) (av := [.int 4, .int (h46 128 (ix x1))]) (rest := []) (fs_115 hF) (by decide) rfl rfl q1751 q1753 qs31 q1754 mhX8_stop mnX8_stop dX8_onJudge_88) (fun h51 g52 H => ?_)
        refine V.sub [1, 2, 0] rfl ?_
        exact bX8_onJudge_91 hF x1 y48 H
    · have H := H.2.2.2.2.2.2.2.2.1 c6
      refine V_tableIn (tgt := 211) dX8_onJudge_13 (by rw [c6]; decide) (by rw [c6]; decide) (by rw [c6]; rfl) (by decide) ?_
      refine V_aload_n dX8_onJudge_211 rfl 0 rfl ?_
      refine V_iload_n dX8_onJudge_212 rfl 1 rfl ?_
      refine H_callv (av := [.ref (ad D 115), .int x1]) (rest := []) H mqX8_judgeCall q88 (by decide) (Nat.le_of_ble_eq_true rfl) (k_resV (ci := 7) (av := [.int x1]) (rest := []) (fs_115 hF) (by decide) rfl rfl q1846 q1848 qs54 q1849 mhX8_judgeCall mnX8_judgeCall dX8_onJudge_213) (fun h53 g54 H => ?_)
      refine V_goto (tgt := 268) dX8_onJudge_216 (by decide) ?_
      exact H_vret rfl dX8_onJudge_268 H
    · have H := H.2.2.2.2.2.2.2.2.2 c6
      refine V_tableIn (tgt := 219) dX8_onJudge_13 (by rw [c6]; decide) (by rw [c6]; decide) (by rw [c6]; rfl) (by decide) ?_
      refine V_aload_n dX8_onJudge_219 rfl 0 rfl ?_
      refine V_iconst (v := 1) dX8_onJudge_220 (by decide) ?_
      refine V_aload_n dX8_onJudge_221 rfl 0 rfl ?_
      refine H_getr ck7 20 (by decide) (fs_115 hF) (by decide) rfl (fr_115_20 hF) q1478 dX8_onJudge_222 ?_
      refine V_iload_n dX8_onJudge_225 rfl 1 rfl ?_
      obtain ⟨i55, H⟩ := H
      refine H_iald (fs_126 hF) i55 dX8_onJudge_226 ?_
      refine V_iload_n dX8_onJudge_227 rfl 2 rfl ?_
      refine V_if_le (tgt := 238) dX8_onJudge_228 (by decide) (fun c56 => ?_) (fun c56 => ?_)
      · have H := H.1 c56
        refine V_iconst (v := (-1)) dX8_onJudge_238 (by decide) ?_
        exact bX8_onJudge_239 hF x1 x2 1 (h1 126 (ix x1)) (-1) H
      · have H := H.2 c56
        refine V_iload_n dX8_onJudge_231 rfl 2 rfl ?_
        refine H_calli (av := [.int x2]) (rest := [.int (h1 126 (ix x1)), .int 1, .ref (ad D 115)]) H mqX8_secondOf q88 (by decide) (Nat.le_of_ble_eq_true rfl) (k_resS (av := [.int x2]) (rest := [.int (h1 126 (ix x1)), .int 1, .ref (ad D 115)]) (M1 := mX8_secondOf) rfl q1850 q1851 q88 mqX8_secondOf (fun _ _ h => mW_named h) mhX8_secondOf mnX8_secondOf dX8_onJudge_232) (fun y59 h57 g58 H => ?_)
        refine V_goto (tgt := 239) dX8_onJudge_235 (by decide) ?_
        exact bX8_onJudge_239 hF x1 x2 1 (h1 126 (ix x1)) y59 H
theorem wX8_onJudge {D : DE} {f : Nat} {Q : HI → HL → Prop} {F : Frm} {h : HI} {g : HL} (hF : k_Fix F) (x1 : Int32) (x2 : Int32) (H : JX8_onJudge_0 D f Q F h g x1 x2) : Sv D (f + 1) mX8_onJudge [.ref (ad D 115), .int x1, .int x2] F h g Q := Cl.ofV (by decide) (Nat.le_of_ble_eq_true rfl) rfl (bX8_onJudge_0 hF x1 x2 H)
theorem dX8_onShut_0 : decode cX8_onShut 0 = .ok (.aload_n 0, 1) := by decide +kernel
theorem dX8_onShut_1 : decode cX8_onShut 1 = .ok (.getfield 39, 3) := by decide +kernel
theorem dX8_onShut_4 : decode cX8_onShut 4 = .ok (.iload_n 1, 1) := by decide +kernel
theorem dX8_onShut_5 : decode cX8_onShut 5 = .ok (.iaload, 1) := by decide +kernel
theorem dX8_onShut_6 : decode cX8_onShut 6 = .ok (.istore_n 3, 1) := by decide +kernel
theorem dX8_onShut_7 : decode cX8_onShut 7 = .ok (.aload_n 0, 1) := by decide +kernel
theorem dX8_onShut_8 : decode cX8_onShut 8 = .ok (.dup, 1) := by decide +kernel
theorem dX8_onShut_9 : decode cX8_onShut 9 = .ok (.getfield 319, 3) := by decide +kernel
theorem dX8_onShut_12 : decode cX8_onShut 12 = .ok (.iload_n 3, 1) := by decide +kernel
theorem dX8_onShut_13 : decode cX8_onShut 13 = .ok (.iconst 3, 1) := by decide +kernel
theorem dX8_onShut_14 : decode cX8_onShut 14 = .ok (.if_icmp .ne 7, 3) := by decide +kernel
theorem dX8_onShut_17 : decode cX8_onShut 17 = .ok (.iconst 1, 1) := by decide +kernel
theorem dX8_onShut_18 : decode cX8_onShut 18 = .ok (.goto 13, 3) := by decide +kernel
theorem dX8_onShut_21 : decode cX8_onShut 21 = .ok (.iload_n 3, 1) := by decide +kernel
theorem dX8_onShut_22 : decode cX8_onShut 22 = .ok (.iconst 4, 1) := by decide +kernel
theorem dX8_onShut_23 : decode cX8_onShut 23 = .ok (.if_icmp .ne 7, 3) := by decide +kernel
theorem dX8_onShut_26 : decode cX8_onShut 26 = .ok (.iconst 2, 1) := by decide +kernel
theorem dX8_onShut_27 : decode cX8_onShut 27 = .ok (.goto 4, 3) := by decide +kernel
theorem dX8_onShut_30 : decode cX8_onShut 30 = .ok (.iconst 0, 1) := by decide +kernel
theorem dX8_onShut_31 : decode cX8_onShut 31 = .ok (.isub, 1) := by decide +kernel
theorem dX8_onShut_32 : decode cX8_onShut 32 = .ok (.putfield 319, 3) := by decide +kernel
theorem dX8_onShut_35 : decode cX8_onShut 35 = .ok (.iload_n 3, 1) := by decide +kernel
theorem dX8_onShut_36 : decode cX8_onShut 36 = .ok (.bipush 6, 2) := by decide +kernel
theorem dX8_onShut_38 : decode cX8_onShut 38 = .ok (.if_icmp .ne 12, 3) := by decide +kernel
theorem dX8_onShut_41 : decode cX8_onShut 41 = .ok (.aload_n 0, 1) := by decide +kernel
theorem dX8_onShut_42 : decode cX8_onShut 42 = .ok (.getfield 42, 3) := by decide +kernel
theorem dX8_onShut_45 : decode cX8_onShut 45 = .ok (.iload_n 1, 1) := by decide +kernel
theorem dX8_onShut_46 : decode cX8_onShut 46 = .ok (.iaload, 1) := by decide +kernel
theorem dX8_onShut_47 : decode cX8_onShut 47 = .ok (.goto 115, 3) := by decide +kernel
theorem dX8_onShut_50 : decode cX8_onShut 50 = .ok (.iload_n 3, 1) := by decide +kernel
theorem dX8_onShut_51 : decode cX8_onShut 51 = .ok (.bipush 7, 2) := by decide +kernel
theorem dX8_onShut_53 : decode cX8_onShut 53 = .ok (.if_icmp .ne 25, 3) := by decide +kernel
theorem dX8_onShut_56 : decode cX8_onShut 56 = .ok (.aload_n 0, 1) := by decide +kernel
theorem dX8_onShut_57 : decode cX8_onShut 57 = .ok (.getfield 36, 3) := by decide +kernel
theorem dX8_onShut_60 : decode cX8_onShut 60 = .ok (.bipush 16, 2) := by decide +kernel
theorem dX8_onShut_62 : decode cX8_onShut 62 = .ok (.aload_n 0, 1) := by decide +kernel
theorem dX8_onShut_63 : decode cX8_onShut 63 = .ok (.getfield 239, 3) := by decide +kernel
theorem dX8_onShut_66 : decode cX8_onShut 66 = .ok (.imul, 1) := by decide +kernel
theorem dX8_onShut_67 : decode cX8_onShut 67 = .ok (.aload_n 0, 1) := by decide +kernel
theorem dX8_onShut_68 : decode cX8_onShut 68 = .ok (.getfield 42, 3) := by decide +kernel
theorem dX8_onShut_71 : decode cX8_onShut 71 = .ok (.iload_n 1, 1) := by decide +kernel
theorem dX8_onShut_72 : decode cX8_onShut 72 = .ok (.iaload, 1) := by decide +kernel
theorem dX8_onShut_73 : decode cX8_onShut 73 = .ok (.iadd, 1) := by decide +kernel
theorem dX8_onShut_74 : decode cX8_onShut 74 = .ok (.iaload, 1) := by decide +kernel
theorem dX8_onShut_75 : decode cX8_onShut 75 = .ok (.goto 87, 3) := by decide +kernel
theorem dX8_onShut_78 : decode cX8_onShut 78 = .ok (.iload_n 3, 1) := by decide +kernel
theorem dX8_onShut_79 : decode cX8_onShut 79 = .ok (.iconst 2, 1) := by decide +kernel
theorem dX8_onShut_80 : decode cX8_onShut 80 = .ok (.if_icmp .eq 13, 3) := by decide +kernel
theorem dX8_onShut_83 : decode cX8_onShut 83 = .ok (.iload_n 3, 1) := by decide +kernel
theorem dX8_onShut_84 : decode cX8_onShut 84 = .ok (.iconst 3, 1) := by decide +kernel
theorem dX8_onShut_85 : decode cX8_onShut 85 = .ok (.if_icmp .eq 8, 3) := by decide +kernel
theorem dX8_onShut_88 : decode cX8_onShut 88 = .ok (.iload_n 3, 1) := by decide +kernel
theorem dX8_onShut_89 : decode cX8_onShut 89 = .ok (.iconst 4, 1) := by decide +kernel
theorem dX8_onShut_90 : decode cX8_onShut 90 = .ok (.if_icmp .ne 17, 3) := by decide +kernel
theorem dX8_onShut_93 : decode cX8_onShut 93 = .ok (.aload_n 0, 1) := by decide +kernel
theorem dX8_onShut_94 : decode cX8_onShut 94 = .ok (.getfield 54, 3) := by decide +kernel
theorem dX8_onShut_97 : decode cX8_onShut 97 = .ok (.aload_n 0, 1) := by decide +kernel
theorem dX8_onShut_98 : decode cX8_onShut 98 = .ok (.getfield 45, 3) := by decide +kernel
theorem dX8_onShut_101 : decode cX8_onShut 101 = .ok (.iload_n 1, 1) := by decide +kernel
theorem dX8_onShut_102 : decode cX8_onShut 102 = .ok (.iaload, 1) := by decide +kernel
theorem dX8_onShut_103 : decode cX8_onShut 103 = .ok (.iaload, 1) := by decide +kernel
theorem dX8_onShut_104 : decode cX8_onShut 104 = .ok (.goto 58, 3) := by decide +kernel
theorem dX8_onShut_107 : decode cX8_onShut 107 = .ok (.iload_n 3, 1) := by decide +kernel
theorem dX8_onShut_108 : decode cX8_onShut 108 = .ok (.bipush 8, 2) := by decide +kernel
theorem dX8_onShut_110 : decode cX8_onShut 110 = .ok (.if_icmp .ne 17, 3) := by decide +kernel
theorem dX8_onShut_113 : decode cX8_onShut 113 = .ok (.aload_n 0, 1) := by decide +kernel
theorem dX8_onShut_114 : decode cX8_onShut 114 = .ok (.getfield 21, 3) := by decide +kernel
theorem dX8_onShut_117 : decode cX8_onShut 117 = .ok (.aload_n 0, 1) := by decide +kernel
theorem dX8_onShut_118 : decode cX8_onShut 118 = .ok (.getfield 48, 3) := by decide +kernel
theorem dX8_onShut_121 : decode cX8_onShut 121 = .ok (.iload_n 1, 1) := by decide +kernel
theorem dX8_onShut_122 : decode cX8_onShut 122 = .ok (.iaload, 1) := by decide +kernel
theorem dX8_onShut_123 : decode cX8_onShut 123 = .ok (.iaload, 1) := by decide +kernel
theorem dX8_onShut_124 : decode cX8_onShut 124 = .ok (.goto 38, 3) := by decide +kernel
theorem dX8_onShut_127 : decode cX8_onShut 127 = .ok (.iload_n 3, 1) := by decide +kernel
theorem dX8_onShut_128 : decode cX8_onShut 128 = .ok (.bipush 9, 2) := by decide +kernel
theorem dX8_onShut_130 : decode cX8_onShut 130 = .ok (.if_icmp .ne 31, 3) := by decide +kernel
theorem dX8_onShut_133 : decode cX8_onShut 133 = .ok (.aload_n 0, 1) := by decide +kernel
theorem dX8_onShut_134 : decode cX8_onShut 134 = .ok (.getfield 54, 3) := by decide +kernel
theorem dX8_onShut_137 : decode cX8_onShut 137 = .ok (.aload_n 0, 1) := by decide +kernel
theorem dX8_onShut_138 : decode cX8_onShut 138 = .ok (.getfield 42, 3) := by decide +kernel
theorem dX8_onShut_141 : decode cX8_onShut 141 = .ok (.iload_n 1, 1) := by decide +kernel
theorem dX8_onShut_142 : decode cX8_onShut 142 = .ok (.iaload, 1) := by decide +kernel
theorem dX8_onShut_143 : decode cX8_onShut 143 = .ok (.iaload, 1) := by decide +kernel
theorem dX8_onShut_144 : decode cX8_onShut 144 = .ok (.aload_n 0, 1) := by decide +kernel
theorem dX8_onShut_145 : decode cX8_onShut 145 = .ok (.getfield 54, 3) := by decide +kernel
theorem dX8_onShut_148 : decode cX8_onShut 148 = .ok (.aload_n 0, 1) := by decide +kernel
theorem dX8_onShut_149 : decode cX8_onShut 149 = .ok (.getfield 45, 3) := by decide +kernel
theorem dX8_onShut_152 : decode cX8_onShut 152 = .ok (.iload_n 1, 1) := by decide +kernel
theorem dX8_onShut_153 : decode cX8_onShut 153 = .ok (.iaload, 1) := by decide +kernel
theorem dX8_onShut_154 : decode cX8_onShut 154 = .ok (.iaload, 1) := by decide +kernel
theorem dX8_onShut_155 : decode cX8_onShut 155 = .ok (.invokestatic 273, 3) := by decide +kernel
theorem dX8_onShut_158 : decode cX8_onShut 158 = .ok (.goto 4, 3) := by decide +kernel
theorem dX8_onShut_161 : decode cX8_onShut 161 = .ok (.iconst 0, 1) := by decide +kernel
theorem dX8_onShut_162 : decode cX8_onShut 162 = .ok (.istore 4, 2) := by decide +kernel
theorem dX8_onShut_164 : decode cX8_onShut 164 = .ok (.iload 4, 2) := by decide +kernel
theorem dX8_onShut_166 : decode cX8_onShut 166 = .ok (.iconst (-1), 1) := by decide +kernel
theorem dX8_onShut_167 : decode cX8_onShut 167 = .ok (.if_icmp .eq 24, 3) := by decide +kernel
theorem dX8_onShut_170 : decode cX8_onShut 170 = .ok (.iload_n 2, 1) := by decide +kernel
theorem dX8_onShut_171 : decode cX8_onShut 171 = .ok (.ifCond .lt 9, 3) := by decide +kernel
theorem dX8_onShut_174 : decode cX8_onShut 174 = .ok (.iload 4, 2) := by decide +kernel
theorem dX8_onShut_176 : decode cX8_onShut 176 = .ok (.iload_n 2, 1) := by decide +kernel
theorem dX8_onShut_177 : decode cX8_onShut 177 = .ok (.if_icmp .ne 14, 3) := by decide +kernel
theorem dX8_onShut_180 : decode cX8_onShut 180 = .ok (.iload_n 2, 1) := by decide +kernel
theorem dX8_onShut_181 : decode cX8_onShut 181 = .ok (.bipush (-2), 2) := by decide +kernel
theorem dX8_onShut_183 : decode cX8_onShut 183 = .ok (.if_icmp .ne 19, 3) := by decide +kernel
theorem dX8_onShut_186 : decode cX8_onShut 186 = .ok (.iload 4, 2) := by decide +kernel
theorem dX8_onShut_188 : decode cX8_onShut 188 = .ok (.ifCond .ne 14, 3) := by decide +kernel
theorem dX8_onShut_191 : decode cX8_onShut 191 = .ok (.aload_n 0, 1) := by decide +kernel
theorem dX8_onShut_192 : decode cX8_onShut 192 = .ok (.iconst 5, 1) := by decide +kernel
theorem dX8_onShut_193 : decode cX8_onShut 193 = .ok (.aload_n 0, 1) := by decide +kernel
theorem dX8_onShut_194 : decode cX8_onShut 194 = .ok (.getfield 51, 3) := by decide +kernel
theorem dX8_onShut_197 : decode cX8_onShut 197 = .ok (.iload_n 1, 1) := by decide +kernel
theorem dX8_onShut_198 : decode cX8_onShut 198 = .ok (.iaload, 1) := by decide +kernel
theorem dX8_onShut_199 : decode cX8_onShut 199 = .ok (.invokevirtual 205, 3) := by decide +kernel
theorem dX8_onShut_202 : decode cX8_onShut 202 = .ok (.aload_n 0, 1) := by decide +kernel
theorem dX8_onShut_203 : decode cX8_onShut 203 = .ok (.getfield 54, 3) := by decide +kernel
theorem dX8_onShut_206 : decode cX8_onShut 206 = .ok (.iload_n 1, 1) := by decide +kernel
theorem dX8_onShut_207 : decode cX8_onShut 207 = .ok (.iload 4, 2) := by decide +kernel
theorem dX8_onShut_209 : decode cX8_onShut 209 = .ok (.iastore, 1) := by decide +kernel
theorem dX8_onShut_210 : decode cX8_onShut 210 = .ok (.return_, 1) := by decide +kernel
abbrev JX8_onShut_202 (D : DE) (f : Nat) (Q : HI → HL → Prop) (F : Frm) (h : HI) (g : HL) (x1 : Int32) (x4 : Int32) : Prop := vp_in x1 2002 ∧ ∀ h2, h2 = up2 h 129 (ix x1) x4 → Q h2 g
theorem bX8_onShut_202 {D : DE} {f : Nat} {Q : HI → HL → Prop} {F : Frm} {h : HI} {g : HL} (hF : k_Fix F) (x1 : Int32) (x4 : Int32) (H : JX8_onShut_202 D f Q F h g x1 x4) : V D mX8_onShut (f + 1) (qv F Q) 202 [(0, .ref (ad D 115)), (1, .int x1), (4, .int x4)] [] (F, h, g) := by
  refine V_aload_n dX8_onShut_202 rfl 0 rfl ?_
  refine H_getr ck7 23 (by decide) (fs_115 hF) (by decide) rfl (fr_115_23 hF) q1481 dX8_onShut_203 ?_
  refine V_iload_n dX8_onShut_206 rfl 1 rfl ?_
  refine V_iload dX8_onShut_207 2 rfl ?_
  obtain ⟨i1, H⟩ := H
  refine H_iast (fs_129 hF) i1 dX8_onShut_209 (fun h2 e3 => ?_)
  have H := H h2 e3
  exact H_vret rfl dX8_onShut_210 H
abbrev JX8_onShut_191 (D : DE) (f : Nat) (Q : HI → HL → Prop) (F : Frm) (h : HI) (g : HL) (x1 : Int32) (x4 : Int32) : Prop := vp_in x1 2002 ∧ Sv D f mX8_stop [.ref (ad D 115), .int 5, .int (h 128 (ix x1))] F h g (fun h2 g3 => JX8_onShut_202 D f Q F h2 g3 x1 x4)
theorem bX8_onShut_191 {D : DE} {f : Nat} {Q : HI → HL → Prop} {F : Frm} {h : HI} {g : HL} (hF : k_Fix F) (x1 : Int32) (x4 : Int32) (H : JX8_onShut_191 D f Q F h g x1 x4) : V D mX8_onShut (f + 1) (qv F Q) 191 [(0, .ref (ad D 115)), (1, .int x1), (4, .int x4)] [] (F, h, g) := by
  refine V_aload_n dX8_onShut_191 rfl 0 rfl ?_
  refine V_iconst (v := 5) dX8_onShut_192 (by decide) ?_
  refine V_aload_n dX8_onShut_193 rfl 0 rfl ?_
  refine H_getr ck7 22 (by decide) (fs_115 hF) (by decide) rfl (fr_115_22 hF) q1480 dX8_onShut_194 ?_
  refine V_iload_n dX8_onShut_197 rfl 1 rfl ?_
  obtain ⟨i1, H⟩ := H
  refine H_iald (fs_128 hF) i1 dX8_onShut_198 ?_
  refine H_callv (av := [.ref (ad D 115), .int 5, .int (h 128 (ix x1))]) (rest := []) H mqX8_stop q88 (by decide) (Nat.le_of_ble_eq_true rfl) (k_resV (ci := 7) (av := [.int 5, .int (h 128 (ix x1))]) (rest := []) (fs_115 hF) (by decide) rfl rfl q1751 q1753 qs31 q1754 mhX8_stop mnX8_stop dX8_onShut_199) (fun h2 g3 H => ?_)
  exact bX8_onShut_202 hF x1 x4 H
abbrev JX8_onShut_180 (D : DE) (f : Nat) (Q : HI → HL → Prop) (F : Frm) (h : HI) (g : HL) (x1 : Int32) (x2 : Int32) (x4 : Int32) : Prop := ((¬ x2 = (-2) → JX8_onShut_202 D f Q F h g x1 x4) ∧ (x2 = (-2) → ((¬ x4 = 0 → JX8_onShut_202 D f Q F h g x1 x4) ∧ (x4 = 0 → JX8_onShut_191 D f Q F h g x1 x4))))
theorem bX8_onShut_180 {D : DE} {f : Nat} {Q : HI → HL → Prop} {F : Frm} {h : HI} {g : HL} (hF : k_Fix F) (x1 : Int32) (x2 : Int32) (x4 : Int32) (H : JX8_onShut_180 D f Q F h g x1 x2 x4) : V D mX8_onShut (f + 1) (qv F Q) 180 [(0, .ref (ad D 115)), (1, .int x1), (2, .int x2), (4, .int x4)] [] (F, h, g) := by
  refine V_iload_n dX8_onShut_180 rfl 2 rfl ?_
  refine V_bipush (v := (-2)) dX8_onShut_181 (by decide) ?_
  refine V_icmp_ne (tgt := 202) dX8_onShut_183 (by decide) (fun c1 => ?_) (fun c1 => ?_)
  · have H := H.1 c1
    refine V.sub [0, 1, 3] rfl ?_
    exact bX8_onShut_202 hF x1 x4 H
  · have H := H.2 c1
    refine V_iload dX8_onShut_186 3 rfl ?_
    refine V_if_ne (tgt := 202) dX8_onShut_188 (by decide) (fun c2 => ?_) (fun c2 => ?_)
    · have H := H.1 c2
      refine V.sub [0, 1, 3] rfl ?_
      exact bX8_onShut_202 hF x1 x4 H
    · have H := H.2 c2
      refine V.sub [0, 1, 3] rfl ?_
      exact bX8_onShut_191 hF x1 x4 H
abbrev JX8_onShut_162 (D : DE) (f : Nat) (Q : HI → HL → Prop) (F : Frm) (h : HI) (g : HL) (x1 : Int32) (x2 : Int32) (s0 : Int32) : Prop := ((s0 = (-1) → JX8_onShut_191 D f Q F h g x1 s0) ∧ (¬ s0 = (-1) → ((x2 < 0 → JX8_onShut_180 D f Q F h g x1 x2 s0) ∧ (¬ x2 < 0 → ((¬ s0 = x2 → JX8_onShut_191 D f Q F h g x1 s0) ∧ (s0 = x2 → JX8_onShut_180 D f Q F h g x1 x2 s0))))))
theorem bX8_onShut_162 {D : DE} {f : Nat} {Q : HI → HL → Prop} {F : Frm} {h : HI} {g : HL} (hF : k_Fix F) (x1 : Int32) (x2 : Int32) (s0 : Int32) (H : JX8_onShut_162 D f Q F h g x1 x2 s0) : V D mX8_onShut (f + 1) (qv F Q) 162 [(0, .ref (ad D 115)), (1, .int x1), (2, .int x2)] [.int s0] (F, h, g) := by
  refine V_istore (l1 := [(4, .int s0), (0, .ref (ad D 115)), (1, .int x1), (2, .int x2)]) dX8_onShut_162 (by decide) rfl ?_
  refine V_iload dX8_onShut_164 0 rfl ?_
  refine V_iconst (v := (-1)) dX8_onShut_166 (by decide) ?_
  refine V_icmp_eq (tgt := 191) dX8_onShut_167 (by decide) (fun c1 => ?_) (fun c1 => ?_)
  · have H := H.1 c1
    refine V.sub [1, 2, 0] rfl ?_
    exact bX8_onShut_191 hF x1 s0 H
  · have H := H.2 c1
    refine V_iload_n dX8_onShut_170 rfl 3 rfl ?_
    refine V_if_lt (tgt := 180) dX8_onShut_171 (by decide) (fun c2 => ?_) (fun c2 => ?_)
    · have H := H.1 c2
      refine V.sub [1, 2, 3, 0] rfl ?_
      exact bX8_onShut_180 hF x1 x2 s0 H
    · have H := H.2 c2
      refine V_iload dX8_onShut_174 0 rfl ?_
      refine V_iload_n dX8_onShut_176 rfl 3 rfl ?_
      refine V_icmp_ne (tgt := 191) dX8_onShut_177 (by decide) (fun c3 => ?_) (fun c3 => ?_)
      · have H := H.1 c3
        refine V.sub [1, 2, 0] rfl ?_
        exact bX8_onShut_191 hF x1 s0 H
      · have H := H.2 c3
        refine V.sub [1, 2, 3, 0] rfl ?_
        exact bX8_onShut_180 hF x1 x2 s0 H
abbrev JX8_onShut_93 (D : DE) (f : Nat) (Q : HI → HL → Prop) (F : Frm) (h : HI) (g : HL) (x1 : Int32) (x2 : Int32) : Prop := vp_in x1 2002 ∧ vp_in (h 126 (ix x1)) 2002 ∧ JX8_onShut_162 D f Q F h g x1 x2 (h 129 (ix (h 126 (ix x1))))
theorem bX8_onShut_93 {D : DE} {f : Nat} {Q : HI → HL → Prop} {F : Frm} {h : HI} {g : HL} (hF : k_Fix F) (x1 : Int32) (x2 : Int32) (H : JX8_onShut_93 D f Q F h g x1 x2) : V D mX8_onShut (f + 1) (qv F Q) 93 [(0, .ref (ad D 115)), (1, .int x1), (2, .int x2)] [] (F, h, g) := by
  refine V_aload_n dX8_onShut_93 rfl 0 rfl ?_
  refine H_getr ck7 23 (by decide) (fs_115 hF) (by decide) rfl (fr_115_23 hF) q1481 dX8_onShut_94 ?_
  refine V_aload_n dX8_onShut_97 rfl 0 rfl ?_
  refine H_getr ck7 20 (by decide) (fs_115 hF) (by decide) rfl (fr_115_20 hF) q1478 dX8_onShut_98 ?_
  refine V_iload_n dX8_onShut_101 rfl 1 rfl ?_
  obtain ⟨i1, H⟩ := H
  refine H_iald (fs_126 hF) i1 dX8_onShut_102 ?_
  obtain ⟨i2, H⟩ := H
  refine H_iald (fs_129 hF) i2 dX8_onShut_103 ?_
  refine V_goto (tgt := 162) dX8_onShut_104 (by decide) ?_
  exact bX8_onShut_162 hF x1 x2 (h 129 (ix (h 126 (ix x1)))) H
abbrev JX8_onShut_31 (D : DE) (f : Nat) (Q : HI → HL → Prop) (F : Frm) (h : HI) (g : HL) (x1 : Int32) (x2 : Int32) (x3 : Int32) (s1 : Int32) (s2 : Int32) : Prop := ∀ h1, h1 = up2 h 115 44 (s1 - s2) → ((¬ x3 = 6 → ((¬ x3 = 7 → ((x3 = 2 → JX8_onShut_93 D f Q F h1 g x1 x2) ∧ (¬ x3 = 2 → ((x3 = 3 → JX8_onShut_93 D f Q F h1 g x1 x2) ∧ (¬ x3 = 3 → ((¬ x3 = 4 → ((¬ x3 = 8 → ((¬ x3 = 9 → JX8_onShut_162 D f Q F h1 g x1 x2 0) ∧ (x3 = 9 → vp_in x1 2002 ∧ vp_in (h1 125 (ix x1)) 2002 ∧ vp_in x1 2002 ∧ vp_in (h1 126 (ix x1)) 2002 ∧ Si D f mX8_pairOf [.int (h1 129 (ix (h1 125 (ix x1)))), .int (h1 129 (ix (h1 126 (ix x1))))] F h1 g (fun y16 h14 g15 => JX8_onShut_162 D f Q F h14 g15 x1 x2 y16)))) ∧ (x3 = 8 → vp_in x1 2002 ∧ vp_in (h1 127 (ix x1)) 24 ∧ JX8_onShut_162 D f Q F h1 g x1 x2 (h1 118 (ix (h1 127 (ix x1))))))) ∧ (x3 = 4 → JX8_onShut_93 D f Q F h1 g x1 x2))))))) ∧ (x3 = 7 → vp_in x1 2002 ∧ vp_in ((16 * (h1 115 33)) + (h1 125 (ix x1))) 384 ∧ ∀ y21 : Int32, y21 = h1 123 (ix ((16 * (h1 115 33)) + (h1 125 (ix x1)))) → JX8_onShut_162 D f Q F h1 g x1 x2 y21))) ∧ (x3 = 6 → vp_in x1 2002 ∧ JX8_onShut_162 D f Q F h1 g x1 x2 (h1 125 (ix x1))))
theorem bX8_onShut_31 {D : DE} {f : Nat} {Q : HI → HL → Prop} {F : Frm} {h : HI} {g : HL} (hF : k_Fix F) (x1 : Int32) (x2 : Int32) (x3 : Int32) (s1 : Int32) (s2 : Int32) (H : JX8_onShut_31 D f Q F h g x1 x2 x3 s1 s2) : V D mX8_onShut (f + 1) (qv F Q) 31 [(0, .ref (ad D 115)), (1, .int x1), (2, .int x2), (3, .int x3)] [.int s2, .int s1, .ref (ad D 115)] (F, h, g) := by
  refine V_isub dX8_onShut_31 ?_
  refine H_puti ck7 44 (by decide) (fs_115 hF) (by decide) rfl rfl q1502 dX8_onShut_32 (fun h1 e2 => ?_)
  have H := H h1 e2
  refine V_iload_n dX8_onShut_35 rfl 3 rfl ?_
  refine V_bipush (v := 6) dX8_onShut_36 (by decide) ?_
  refine V_icmp_ne (tgt := 50) dX8_onShut_38 (by decide) (fun c3 => ?_) (fun c3 => ?_)
  · have H := H.1 c3
    refine V_iload_n dX8_onShut_50 rfl 3 rfl ?_
    refine V_bipush (v := 7) dX8_onShut_51 (by decide) ?_
    refine V_icmp_ne (tgt := 78) dX8_onShut_53 (by decide) (fun c4 => ?_) (fun c4 => ?_)
    · have H := H.1 c4
      refine V_iload_n dX8_onShut_78 rfl 3 rfl ?_
      refine V_iconst (v := 2) dX8_onShut_79 (by decide) ?_
      refine V_icmp_eq (tgt := 93) dX8_onShut_80 (by decide) (fun c5 => ?_) (fun c5 => ?_)
      · have H := H.1 c5
        refine V.sub [0, 1, 2] rfl ?_
        exact bX8_onShut_93 hF x1 x2 H
      · have H := H.2 c5
        refine V_iload_n dX8_onShut_83 rfl 3 rfl ?_
        refine V_iconst (v := 3) dX8_onShut_84 (by decide) ?_
        refine V_icmp_eq (tgt := 93) dX8_onShut_85 (by decide) (fun c6 => ?_) (fun c6 => ?_)
        · have H := H.1 c6
          refine V.sub [0, 1, 2] rfl ?_
          exact bX8_onShut_93 hF x1 x2 H
        · have H := H.2 c6
          refine V_iload_n dX8_onShut_88 rfl 3 rfl ?_
          refine V_iconst (v := 4) dX8_onShut_89 (by decide) ?_
          refine V_icmp_ne (tgt := 107) dX8_onShut_90 (by decide) (fun c7 => ?_) (fun c7 => ?_)
          · have H := H.1 c7
            refine V_iload_n dX8_onShut_107 rfl 3 rfl ?_
            refine V_bipush (v := 8) dX8_onShut_108 (by decide) ?_
            refine V_icmp_ne (tgt := 127) dX8_onShut_110 (by decide) (fun c8 => ?_) (fun c8 => ?_)
            · have H := H.1 c8
              refine V_iload_n dX8_onShut_127 rfl 3 rfl ?_
              refine V_bipush (v := 9) dX8_onShut_128 (by decide) ?_
              refine V_icmp_ne (tgt := 161) dX8_onShut_130 (by decide) (fun c9 => ?_) (fun c9 => ?_)
              · have H := H.1 c9
                refine V_iconst (v := 0) dX8_onShut_161 (by decide) ?_
                refine V.sub [0, 1, 2] rfl ?_
                exact bX8_onShut_162 hF x1 x2 0 H
              · have H := H.2 c9
                refine V_aload_n dX8_onShut_133 rfl 0 rfl ?_
                refine H_getr ck7 23 (by decide) (fs_115 hF) (by decide) rfl (fr_115_23 hF) q1481 dX8_onShut_134 ?_
                refine V_aload_n dX8_onShut_137 rfl 0 rfl ?_
                refine H_getr ck7 19 (by decide) (fs_115 hF) (by decide) rfl (fr_115_19 hF) q1477 dX8_onShut_138 ?_
                refine V_iload_n dX8_onShut_141 rfl 1 rfl ?_
                obtain ⟨i10, H⟩ := H
                refine H_iald (fs_125 hF) i10 dX8_onShut_142 ?_
                obtain ⟨i11, H⟩ := H
                refine H_iald (fs_129 hF) i11 dX8_onShut_143 ?_
                refine V_aload_n dX8_onShut_144 rfl 0 rfl ?_
                refine H_getr ck7 23 (by decide) (fs_115 hF) (by decide) rfl (fr_115_23 hF) q1481 dX8_onShut_145 ?_
                refine V_aload_n dX8_onShut_148 rfl 0 rfl ?_
                refine H_getr ck7 20 (by decide) (fs_115 hF) (by decide) rfl (fr_115_20 hF) q1478 dX8_onShut_149 ?_
                refine V_iload_n dX8_onShut_152 rfl 1 rfl ?_
                obtain ⟨i12, H⟩ := H
                refine H_iald (fs_126 hF) i12 dX8_onShut_153 ?_
                obtain ⟨i13, H⟩ := H
                refine H_iald (fs_129 hF) i13 dX8_onShut_154 ?_
                refine H_calli (av := [.int (h1 129 (ix (h1 125 (ix x1)))), .int (h1 129 (ix (h1 126 (ix x1))))]) (rest := []) H mqX8_pairOf q88 (by decide) (Nat.le_of_ble_eq_true rfl) (k_resS (av := [.int (h1 129 (ix (h1 125 (ix x1)))), .int (h1 129 (ix (h1 126 (ix x1))))]) (rest := []) (M1 := mX8_pairOf) rfl q1791 q1792 q88 mqX8_pairOf (fun _ _ h => mW_named h) mhX8_pairOf mnX8_pairOf dX8_onShut_155) (fun y16 h14 g15 H => ?_)
                refine V_goto (tgt := 162) dX8_onShut_158 (by decide) ?_
                refine V.sub [0, 1, 2] rfl ?_
                exact bX8_onShut_162 hF x1 x2 y16 H
            · have H := H.2 c8
              refine V_aload_n dX8_onShut_113 rfl 0 rfl ?_
              refine H_getr ck7 12 (by decide) (fs_115 hF) (by decide) rfl (fr_115_12 hF) q1470 dX8_onShut_114 ?_
              refine V_aload_n dX8_onShut_117 rfl 0 rfl ?_
              refine H_getr ck7 21 (by decide) (fs_115 hF) (by decide) rfl (fr_115_21 hF) q1479 dX8_onShut_118 ?_
              refine V_iload_n dX8_onShut_121 rfl 1 rfl ?_
              obtain ⟨i17, H⟩ := H
              refine H_iald (fs_127 hF) i17 dX8_onShut_122 ?_
              obtain ⟨i18, H⟩ := H
              refine H_iald (fs_118 hF) i18 dX8_onShut_123 ?_
              refine V_goto (tgt := 162) dX8_onShut_124 (by decide) ?_
              refine V.sub [0, 1, 2] rfl ?_
              exact bX8_onShut_162 hF x1 x2 (h1 118 (ix (h1 127 (ix x1)))) H
          · have H := H.2 c7
            refine V.sub [0, 1, 2] rfl ?_
            exact bX8_onShut_93 hF x1 x2 H
    · have H := H.2 c4
      refine V_aload_n dX8_onShut_56 rfl 0 rfl ?_
      refine H_getr ck7 17 (by decide) (fs_115 hF) (by decide) rfl (fr_115_17 hF) q1475 dX8_onShut_57 ?_
      refine V_bipush (v := 16) dX8_onShut_60 (by decide) ?_
      refine V_aload_n dX8_onShut_62 rfl 0 rfl ?_
      refine H_geti ck7 33 (by decide) (fs_115 hF) (by decide) rfl q1491 dX8_onShut_63 ?_
      refine V_imul dX8_onShut_66 ?_
      refine V_aload_n dX8_onShut_67 rfl 0 rfl ?_
      refine H_getr ck7 19 (by decide) (fs_115 hF) (by decide) rfl (fr_115_19 hF) q1477 dX8_onShut_68 ?_
      refine V_iload_n dX8_onShut_71 rfl 1 rfl ?_
      obtain ⟨i19, H⟩ := H
      refine H_iald (fs_125 hF) i19 dX8_onShut_72 ?_
      refine V_iadd dX8_onShut_73 ?_
      obtain ⟨i20, H⟩ := H
      refine H_iald (fs_123 hF) i20 dX8_onShut_74 ?_
      refine V_topi (fun y21 e22 => ?_)
      have H := H y21 e22
      refine V_goto (tgt := 162) dX8_onShut_75 (by decide) ?_
      refine V.sub [0, 1, 2] rfl ?_
      exact bX8_onShut_162 hF x1 x2 y21 H
  · have H := H.2 c3
    refine V_aload_n dX8_onShut_41 rfl 0 rfl ?_
    refine H_getr ck7 19 (by decide) (fs_115 hF) (by decide) rfl (fr_115_19 hF) q1477 dX8_onShut_42 ?_
    refine V_iload_n dX8_onShut_45 rfl 1 rfl ?_
    obtain ⟨i23, H⟩ := H
    refine H_iald (fs_125 hF) i23 dX8_onShut_46 ?_
    refine V_goto (tgt := 162) dX8_onShut_47 (by decide) ?_
    refine V.sub [0, 1, 2] rfl ?_
    exact bX8_onShut_162 hF x1 x2 (h1 125 (ix x1)) H
abbrev JX8_onShut_0 (D : DE) (f : Nat) (Q : HI → HL → Prop) (F : Frm) (h : HI) (g : HL) (x1 : Int32) (x2 : Int32) : Prop := vp_in x1 2002 ∧ ∀ y2 : Int32, y2 = h 124 (ix x1) → ((¬ y2 = 3 → ((¬ y2 = 4 → JX8_onShut_31 D f Q F h g x1 x2 y2 (h 115 44) 0) ∧ (y2 = 4 → JX8_onShut_31 D f Q F h g x1 x2 y2 (h 115 44) 2))) ∧ (y2 = 3 → JX8_onShut_31 D f Q F h g x1 x2 y2 (h 115 44) 1))
theorem bX8_onShut_0 {D : DE} {f : Nat} {Q : HI → HL → Prop} {F : Frm} {h : HI} {g : HL} (hF : k_Fix F) (x1 : Int32) (x2 : Int32) (H : JX8_onShut_0 D f Q F h g x1 x2) : V D mX8_onShut (f + 1) (qv F Q) 0 [(0, .ref (ad D 115)), (1, .int x1), (2, .int x2)] [] (F, h, g) := by
  refine V_aload_n dX8_onShut_0 rfl 0 rfl ?_
  refine H_getr ck7 18 (by decide) (fs_115 hF) (by decide) rfl (fr_115_18 hF) q1476 dX8_onShut_1 ?_
  refine V_iload_n dX8_onShut_4 rfl 1 rfl ?_
  obtain ⟨i1, H⟩ := H
  refine H_iald (fs_124 hF) i1 dX8_onShut_5 ?_
  refine V_topi (fun y2 e3 => ?_)
  have H := H y2 e3
  refine V_istore_n (l1 := [(3, .int y2), (0, .ref (ad D 115)), (1, .int x1), (2, .int x2)]) dX8_onShut_6 rfl (by decide) rfl ?_
  refine V_aload_n dX8_onShut_7 rfl 1 rfl ?_
  refine V_dup dX8_onShut_8 rfl ?_
  refine H_geti ck7 44 (by decide) (fs_115 hF) (by decide) rfl q1502 dX8_onShut_9 ?_
  refine V_iload_n dX8_onShut_12 rfl 0 rfl ?_
  refine V_iconst (v := 3) dX8_onShut_13 (by decide) ?_
  refine V_icmp_ne (tgt := 21) dX8_onShut_14 (by decide) (fun c4 => ?_) (fun c4 => ?_)
  · have H := H.1 c4
    refine V_iload_n dX8_onShut_21 rfl 0 rfl ?_
    refine V_iconst (v := 4) dX8_onShut_22 (by decide) ?_
    refine V_icmp_ne (tgt := 30) dX8_onShut_23 (by decide) (fun c5 => ?_) (fun c5 => ?_)
    · have H := H.1 c5
      refine V_iconst (v := 0) dX8_onShut_30 (by decide) ?_
      refine V.sub [1, 2, 3, 0] rfl ?_
      exact bX8_onShut_31 hF x1 x2 y2 (h 115 44) 0 H
    · have H := H.2 c5
      refine V_iconst (v := 2) dX8_onShut_26 (by decide) ?_
      refine V_goto (tgt := 31) dX8_onShut_27 (by decide) ?_
      refine V.sub [1, 2, 3, 0] rfl ?_
      exact bX8_onShut_31 hF x1 x2 y2 (h 115 44) 2 H
  · have H := H.2 c4
    refine V_iconst (v := 1) dX8_onShut_17 (by decide) ?_
    refine V_goto (tgt := 31) dX8_onShut_18 (by decide) ?_
    refine V.sub [1, 2, 3, 0] rfl ?_
    exact bX8_onShut_31 hF x1 x2 y2 (h 115 44) 1 H
theorem wX8_onShut {D : DE} {f : Nat} {Q : HI → HL → Prop} {F : Frm} {h : HI} {g : HL} (hF : k_Fix F) (x1 : Int32) (x2 : Int32) (H : JX8_onShut_0 D f Q F h g x1 x2) : Sv D (f + 1) mX8_onShut [.ref (ad D 115), .int x1, .int x2] F h g Q := Cl.ofV (by decide) (Nat.le_of_ble_eq_true rfl) rfl (bX8_onShut_0 hF x1 x2 H)
