/-! walks of StrictProofsModel, printed by gen/mkmodel.py -/
set_option maxRecDepth 100000
theorem dX8_judge_0 : decode cX8_judge 0 = .ok (.aload_n 0, 1) := by decide +kernel
theorem dX8_judge_1 : decode cX8_judge 1 = .ok (.iconst 0, 1) := by decide +kernel
theorem dX8_judge_2 : decode cX8_judge 2 = .ok (.putfield 319, 3) := by decide +kernel
theorem dX8_judge_5 : decode cX8_judge 5 = .ok (.iconst 0, 1) := by decide +kernel
theorem dX8_judge_6 : decode cX8_judge 6 = .ok (.istore_n 1, 1) := by decide +kernel
theorem dX8_judge_7 : decode cX8_judge 7 = .ok (.iload_n 1, 1) := by decide +kernel
theorem dX8_judge_8 : decode cX8_judge 8 = .ok (.aload_n 0, 1) := by decide +kernel
theorem dX8_judge_9 : decode cX8_judge 9 = .ok (.getfield 24, 3) := by decide +kernel
theorem dX8_judge_12 : decode cX8_judge 12 = .ok (.aload_n 0, 1) := by decide +kernel
theorem dX8_judge_13 : decode cX8_judge 13 = .ok (.getfield 239, 3) := by decide +kernel
theorem dX8_judge_16 : decode cX8_judge 16 = .ok (.iaload, 1) := by decide +kernel
theorem dX8_judge_17 : decode cX8_judge 17 = .ok (.if_icmp .ge 26, 3) := by decide +kernel
theorem dX8_judge_20 : decode cX8_judge 20 = .ok (.aload_n 0, 1) := by decide +kernel
theorem dX8_judge_21 : decode cX8_judge 21 = .ok (.getfield 84, 3) := by decide +kernel
theorem dX8_judge_24 : decode cX8_judge 24 = .ok (.iload_n 1, 1) := by decide +kernel
theorem dX8_judge_25 : decode cX8_judge 25 = .ok (.iload_n 1, 1) := by decide +kernel
theorem dX8_judge_26 : decode cX8_judge 26 = .ok (.iastore, 1) := by decide +kernel
theorem dX8_judge_27 : decode cX8_judge 27 = .ok (.aload_n 0, 1) := by decide +kernel
theorem dX8_judge_28 : decode cX8_judge 28 = .ok (.dup, 1) := by decide +kernel
theorem dX8_judge_29 : decode cX8_judge 29 = .ok (.getfield 319, 3) := by decide +kernel
theorem dX8_judge_32 : decode cX8_judge 32 = .ok (.iconst 1, 1) := by decide +kernel
theorem dX8_judge_33 : decode cX8_judge 33 = .ok (.iadd, 1) := by decide +kernel
theorem dX8_judge_34 : decode cX8_judge 34 = .ok (.putfield 319, 3) := by decide +kernel
theorem dX8_judge_37 : decode cX8_judge 37 = .ok (.iinc 1 1, 3) := by decide +kernel
theorem dX8_judge_40 : decode cX8_judge 40 = .ok (.goto (-33), 3) := by decide +kernel
theorem dX8_judge_43 : decode cX8_judge 43 = .ok (.aload_n 0, 1) := by decide +kernel
theorem dX8_judge_44 : decode cX8_judge 44 = .ok (.iconst 0, 1) := by decide +kernel
theorem dX8_judge_45 : decode cX8_judge 45 = .ok (.putfield 242, 3) := by decide +kernel
theorem dX8_judge_48 : decode cX8_judge 48 = .ok (.aload_n 0, 1) := by decide +kernel
theorem dX8_judge_49 : decode cX8_judge 49 = .ok (.iconst 1, 1) := by decide +kernel
theorem dX8_judge_50 : decode cX8_judge 50 = .ok (.aload_n 0, 1) := by decide +kernel
theorem dX8_judge_51 : decode cX8_judge 51 = .ok (.getfield 30, 3) := by decide +kernel
theorem dX8_judge_54 : decode cX8_judge 54 = .ok (.aload_n 0, 1) := by decide +kernel
theorem dX8_judge_55 : decode cX8_judge 55 = .ok (.getfield 239, 3) := by decide +kernel
theorem dX8_judge_58 : decode cX8_judge 58 = .ok (.iaload, 1) := by decide +kernel
theorem dX8_judge_59 : decode cX8_judge 59 = .ok (.aload_n 0, 1) := by decide +kernel
theorem dX8_judge_60 : decode cX8_judge 60 = .ok (.getfield 21, 3) := by decide +kernel
theorem dX8_judge_63 : decode cX8_judge 63 = .ok (.aload_n 0, 1) := by decide +kernel
theorem dX8_judge_64 : decode cX8_judge 64 = .ok (.getfield 239, 3) := by decide +kernel
theorem dX8_judge_67 : decode cX8_judge 67 = .ok (.iaload, 1) := by decide +kernel
theorem dX8_judge_68 : decode cX8_judge 68 = .ok (.invokevirtual 322, 3) := by decide +kernel
theorem dX8_judge_71 : decode cX8_judge 71 = .ok (.aload_n 0, 1) := by decide +kernel
theorem dX8_judge_72 : decode cX8_judge 72 = .ok (.getfield 242, 3) := by decide +kernel
theorem dX8_judge_75 : decode cX8_judge 75 = .ok (.ifCond .le 199, 3) := by decide +kernel
theorem dX8_judge_78 : decode cX8_judge 78 = .ok (.aload_n 0, 1) := by decide +kernel
theorem dX8_judge_79 : decode cX8_judge 79 = .ok (.getfield 176, 3) := by decide +kernel
theorem dX8_judge_82 : decode cX8_judge 82 = .ok (.ifCond .ne 192, 3) := by decide +kernel
theorem dX8_judge_85 : decode cX8_judge 85 = .ok (.aload_n 0, 1) := by decide +kernel
theorem dX8_judge_86 : decode cX8_judge 86 = .ok (.dup, 1) := by decide +kernel
theorem dX8_judge_87 : decode cX8_judge 87 = .ok (.getfield 242, 3) := by decide +kernel
theorem dX8_judge_90 : decode cX8_judge 90 = .ok (.iconst 1, 1) := by decide +kernel
theorem dX8_judge_91 : decode cX8_judge 91 = .ok (.isub, 1) := by decide +kernel
theorem dX8_judge_92 : decode cX8_judge 92 = .ok (.putfield 242, 3) := by decide +kernel
theorem dX8_judge_95 : decode cX8_judge 95 = .ok (.aload_n 0, 1) := by decide +kernel
theorem dX8_judge_96 : decode cX8_judge 96 = .ok (.getfield 72, 3) := by decide +kernel
theorem dX8_judge_99 : decode cX8_judge 99 = .ok (.aload_n 0, 1) := by decide +kernel
theorem dX8_judge_100 : decode cX8_judge 100 = .ok (.getfield 242, 3) := by decide +kernel
theorem dX8_judge_103 : decode cX8_judge 103 = .ok (.iaload, 1) := by decide +kernel
theorem dX8_judge_104 : decode cX8_judge 104 = .ok (.istore_n 1, 1) := by decide +kernel
theorem dX8_judge_105 : decode cX8_judge 105 = .ok (.aload_n 0, 1) := by decide +kernel
theorem dX8_judge_106 : decode cX8_judge 106 = .ok (.getfield 81, 3) := by decide +kernel
theorem dX8_judge_109 : decode cX8_judge 109 = .ok (.aload_n 0, 1) := by decide +kernel
theorem dX8_judge_110 : decode cX8_judge 110 = .ok (.getfield 242, 3) := by decide +kernel
theorem dX8_judge_113 : decode cX8_judge 113 = .ok (.iaload, 1) := by decide +kernel
theorem dX8_judge_114 : decode cX8_judge 114 = .ok (.istore_n 2, 1) := by decide +kernel
theorem dX8_judge_115 : decode cX8_judge 115 = .ok (.aload_n 0, 1) := by decide +kernel
theorem dX8_judge_116 : decode cX8_judge 116 = .ok (.getfield 69, 3) := by decide +kernel
theorem dX8_judge_119 : decode cX8_judge 119 = .ok (.aload_n 0, 1) := by decide +kernel
theorem dX8_judge_120 : decode cX8_judge 120 = .ok (.getfield 242, 3) := by decide +kernel
theorem dX8_judge_123 : decode cX8_judge 123 = .ok (.iaload, 1) := by decide +kernel
theorem dX8_judge_124 : decode cX8_judge 124 = .ok (.iconst 1, 1) := by decide +kernel
theorem dX8_judge_125 : decode cX8_judge 125 = .ok (.if_icmp .ne 12, 3) := by decide +kernel
theorem dX8_judge_128 : decode cX8_judge 128 = .ok (.aload_n 0, 1) := by decide +kernel
theorem dX8_judge_129 : decode cX8_judge 129 = .ok (.iload_n 1, 1) := by decide +kernel
theorem dX8_judge_130 : decode cX8_judge 130 = .ok (.iload_n 2, 1) := by decide +kernel
theorem dX8_judge_131 : decode cX8_judge 131 = .ok (.invokevirtual 326, 3) := by decide +kernel
theorem dX8_judge_134 : decode cX8_judge 134 = .ok (.goto 137, 3) := by decide +kernel
theorem dX8_judge_137 : decode cX8_judge 137 = .ok (.aload_n 0, 1) := by decide +kernel
theorem dX8_judge_138 : decode cX8_judge 138 = .ok (.getfield 69, 3) := by decide +kernel
theorem dX8_judge_141 : decode cX8_judge 141 = .ok (.aload_n 0, 1) := by decide +kernel
theorem dX8_judge_142 : decode cX8_judge 142 = .ok (.getfield 242, 3) := by decide +kernel
theorem dX8_judge_145 : decode cX8_judge 145 = .ok (.iaload, 1) := by decide +kernel
theorem dX8_judge_146 : decode cX8_judge 146 = .ok (.iconst 2, 1) := by decide +kernel
theorem dX8_judge_147 : decode cX8_judge 147 = .ok (.if_icmp .ne 36, 3) := by decide +kernel
theorem dX8_judge_150 : decode cX8_judge 150 = .ok (.aload_n 0, 1) := by decide +kernel
theorem dX8_judge_151 : decode cX8_judge 151 = .ok (.iconst 1, 1) := by decide +kernel
theorem dX8_judge_152 : decode cX8_judge 152 = .ok (.aload_n 0, 1) := by decide +kernel
theorem dX8_judge_153 : decode cX8_judge 153 = .ok (.getfield 48, 3) := by decide +kernel
theorem dX8_judge_156 : decode cX8_judge 156 = .ok (.iload_n 1, 1) := by decide +kernel
theorem dX8_judge_157 : decode cX8_judge 157 = .ok (.iaload, 1) := by decide +kernel
theorem dX8_judge_158 : decode cX8_judge 158 = .ok (.iload_n 2, 1) := by decide +kernel
theorem dX8_judge_159 : decode cX8_judge 159 = .ok (.ifCond .ge 17, 3) := by decide +kernel
theorem dX8_judge_162 : decode cX8_judge 162 = .ok (.aload_n 0, 1) := by decide +kernel
theorem dX8_judge_163 : decode cX8_judge 163 = .ok (.getfield 54, 3) := by decide +kernel
theorem dX8_judge_166 : decode cX8_judge 166 = .ok (.aload_n 0, 1) := by decide +kernel
theorem dX8_judge_167 : decode cX8_judge 167 = .ok (.getfield 45, 3) := by decide +kernel
theorem dX8_judge_170 : decode cX8_judge 170 = .ok (.iload_n 1, 1) := by decide +kernel
theorem dX8_judge_171 : decode cX8_judge 171 = .ok (.iaload, 1) := by decide +kernel
theorem dX8_judge_172 : decode cX8_judge 172 = .ok (.iaload, 1) := by decide +kernel
theorem dX8_judge_173 : decode cX8_judge 173 = .ok (.goto 4, 3) := by decide +kernel
theorem dX8_judge_176 : decode cX8_judge 176 = .ok (.iload_n 2, 1) := by decide +kernel
theorem dX8_judge_177 : decode cX8_judge 177 = .ok (.invokevirtual 322, 3) := by decide +kernel
theorem dX8_judge_180 : decode cX8_judge 180 = .ok (.goto 91, 3) := by decide +kernel
theorem dX8_judge_183 : decode cX8_judge 183 = .ok (.aload_n 0, 1) := by decide +kernel
theorem dX8_judge_184 : decode cX8_judge 184 = .ok (.getfield 69, 3) := by decide +kernel
theorem dX8_judge_187 : decode cX8_judge 187 = .ok (.aload_n 0, 1) := by decide +kernel
theorem dX8_judge_188 : decode cX8_judge 188 = .ok (.getfield 242, 3) := by decide +kernel
theorem dX8_judge_191 : decode cX8_judge 191 = .ok (.iaload, 1) := by decide +kernel
theorem dX8_judge_192 : decode cX8_judge 192 = .ok (.iconst 3, 1) := by decide +kernel
theorem dX8_judge_193 : decode cX8_judge 193 = .ok (.if_icmp .ne 72, 3) := by decide +kernel
theorem dX8_judge_196 : decode cX8_judge 196 = .ok (.aload_n 0, 1) := by decide +kernel
theorem dX8_judge_197 : decode cX8_judge 197 = .ok (.getfield 54, 3) := by decide +kernel
theorem dX8_judge_200 : decode cX8_judge 200 = .ok (.aload_n 0, 1) := by decide +kernel
theorem dX8_judge_201 : decode cX8_judge 201 = .ok (.getfield 42, 3) := by decide +kernel
theorem dX8_judge_204 : decode cX8_judge 204 = .ok (.iload_n 1, 1) := by decide +kernel
theorem dX8_judge_205 : decode cX8_judge 205 = .ok (.iaload, 1) := by decide +kernel
theorem dX8_judge_206 : decode cX8_judge 206 = .ok (.iaload, 1) := by decide +kernel
theorem dX8_judge_207 : decode cX8_judge 207 = .ok (.istore_n 3, 1) := by decide +kernel
theorem dX8_judge_208 : decode cX8_judge 208 = .ok (.aload_n 0, 1) := by decide +kernel
theorem dX8_judge_209 : decode cX8_judge 209 = .ok (.aload_n 0, 1) := by decide +kernel
theorem dX8_judge_210 : decode cX8_judge 210 = .ok (.getfield 48, 3) := by decide +kernel
theorem dX8_judge_213 : decode cX8_judge 213 = .ok (.iload_n 1, 1) := by decide +kernel
theorem dX8_judge_214 : decode cX8_judge 214 = .ok (.iaload, 1) := by decide +kernel
theorem dX8_judge_215 : decode cX8_judge 215 = .ok (.aload_n 0, 1) := by decide +kernel
theorem dX8_judge_216 : decode cX8_judge 216 = .ok (.getfield 39, 3) := by decide +kernel
theorem dX8_judge_219 : decode cX8_judge 219 = .ok (.iload_n 1, 1) := by decide +kernel
theorem dX8_judge_220 : decode cX8_judge 220 = .ok (.iaload, 1) := by decide +kernel
theorem dX8_judge_221 : decode cX8_judge 221 = .ok (.iconst 3, 1) := by decide +kernel
theorem dX8_judge_222 : decode cX8_judge 222 = .ok (.if_icmp .ne 7, 3) := by decide +kernel
theorem dX8_judge_225 : decode cX8_judge 225 = .ok (.iload_n 3, 1) := by decide +kernel
theorem dX8_judge_226 : decode cX8_judge 226 = .ok (.goto 7, 3) := by decide +kernel
theorem dX8_judge_229 : decode cX8_judge 229 = .ok (.iload_n 3, 1) := by decide +kernel
theorem dX8_judge_230 : decode cX8_judge 230 = .ok (.invokestatic 169, 3) := by decide +kernel
theorem dX8_judge_233 : decode cX8_judge 233 = .ok (.invokevirtual 329, 3) := by decide +kernel
theorem dX8_judge_236 : decode cX8_judge 236 = .ok (.aload_n 0, 1) := by decide +kernel
theorem dX8_judge_237 : decode cX8_judge 237 = .ok (.getfield 39, 3) := by decide +kernel
theorem dX8_judge_240 : decode cX8_judge 240 = .ok (.iload_n 1, 1) := by decide +kernel
theorem dX8_judge_241 : decode cX8_judge 241 = .ok (.iaload, 1) := by decide +kernel
theorem dX8_judge_242 : decode cX8_judge 242 = .ok (.iconst 4, 1) := by decide +kernel
theorem dX8_judge_243 : decode cX8_judge 243 = .ok (.if_icmp .ne 19, 3) := by decide +kernel
theorem dX8_judge_246 : decode cX8_judge 246 = .ok (.aload_n 0, 1) := by decide +kernel
theorem dX8_judge_247 : decode cX8_judge 247 = .ok (.aload_n 0, 1) := by decide +kernel
theorem dX8_judge_248 : decode cX8_judge 248 = .ok (.getfield 48, 3) := by decide +kernel
theorem dX8_judge_251 : decode cX8_judge 251 = .ok (.iload_n 1, 1) := by decide +kernel
theorem dX8_judge_252 : decode cX8_judge 252 = .ok (.iaload, 1) := by decide +kernel
theorem dX8_judge_253 : decode cX8_judge 253 = .ok (.iconst 1, 1) := by decide +kernel
theorem dX8_judge_254 : decode cX8_judge 254 = .ok (.iadd, 1) := by decide +kernel
theorem dX8_judge_255 : decode cX8_judge 255 = .ok (.iload_n 3, 1) := by decide +kernel
theorem dX8_judge_256 : decode cX8_judge 256 = .ok (.invokestatic 162, 3) := by decide +kernel
theorem dX8_judge_259 : decode cX8_judge 259 = .ok (.invokevirtual 329, 3) := by decide +kernel
theorem dX8_judge_262 : decode cX8_judge 262 = .ok (.goto 9, 3) := by decide +kernel
theorem dX8_judge_265 : decode cX8_judge 265 = .ok (.aload_n 0, 1) := by decide +kernel
theorem dX8_judge_266 : decode cX8_judge 266 = .ok (.iload_n 1, 1) := by decide +kernel
theorem dX8_judge_267 : decode cX8_judge 267 = .ok (.iload_n 2, 1) := by decide +kernel
theorem dX8_judge_268 : decode cX8_judge 268 = .ok (.invokevirtual 332, 3) := by decide +kernel
theorem dX8_judge_271 : decode cX8_judge 271 = .ok (.goto (-200), 3) := by decide +kernel
theorem dX8_judge_274 : decode cX8_judge 274 = .ok (.return_, 1) := by decide +kernel
abbrev JX8_judge_271 (D : DE) (f : Nat) (Q : HI → HL → Prop) (F : Frm) (h : HI) (g : HL) : Prop := V D mX8_judge (f + 1) (qv F Q) 71 [(0, .ref (ad D 115))] [] (F, h, g)
theorem bX8_judge_271 {D : DE} {f : Nat} {Q : HI → HL → Prop} {F : Frm} {h : HI} {g : HL} (hF : k_Fix F)  (H : JX8_judge_271 D f Q F h g ) : V D mX8_judge (f + 1) (qv F Q) 271 [(0, .ref (ad D 115))] [] (F, h, g) := by
  refine V_goto (tgt := 71) dX8_judge_271 (by decide) ?_
  exact H
abbrev JX8_judge_262 (D : DE) (f : Nat) (Q : HI → HL → Prop) (F : Frm) (h : HI) (g : HL) : Prop := JX8_judge_271 D f Q F h g
theorem bX8_judge_262 {D : DE} {f : Nat} {Q : HI → HL → Prop} {F : Frm} {h : HI} {g : HL} (hF : k_Fix F)  (H : JX8_judge_262 D f Q F h g ) : V D mX8_judge (f + 1) (qv F Q) 262 [(0, .ref (ad D 115))] [] (F, h, g) := by
  refine V_goto (tgt := 271) dX8_judge_262 (by decide) ?_
  exact bX8_judge_271 hF  H
abbrev JX8_judge_233 (D : DE) (f : Nat) (Q : HI → HL → Prop) (F : Frm) (h : HI) (g : HL) (x1 : Int32) (x3 : Int32) (s1 : Int32) (s2 : Int32) : Prop := Sv D f mX8_tells [.ref (ad D 115), .int s1, .int s2] F h g (fun h1 g2 => vp_in x1 2002 ∧ ((¬ (h1 124 (ix x1)) = 4 → JX8_judge_262 D f Q F h1 g2) ∧ ((h1 124 (ix x1)) = 4 → vp_in x1 2002 ∧ Si D f mX8_secondOf [.int x3] F h1 g2 (fun y8 h6 g7 => Sv D f mX8_tells [.ref (ad D 115), .int ((h1 127 (ix x1)) + 1), .int y8] F h6 g7 (fun h9 g10 => JX8_judge_262 D f Q F h9 g10)))))
theorem bX8_judge_233 {D : DE} {f : Nat} {Q : HI → HL → Prop} {F : Frm} {h : HI} {g : HL} (hF : k_Fix F) (x1 : Int32) (x3 : Int32) (s1 : Int32) (s2 : Int32) (H : JX8_judge_233 D f Q F h g x1 x3 s1 s2) : V D mX8_judge (f + 1) (qv F Q) 233 [(0, .ref (ad D 115)), (1, .int x1), (3, .int x3)] [.int s2, .int s1, .ref (ad D 115)] (F, h, g) := by
  refine H_callv (av := [.ref (ad D 115), .int s1, .int s2]) (rest := []) H mqX8_tells q88 (by decide) (Nat.le_of_ble_eq_true rfl) (k_resV (ci := 7) (av := [.int s1, .int s2]) (rest := []) (fs_115 hF) (by decide) rfl rfl q1856 q1858 qs55 q1859 mhX8_tells mnX8_tells dX8_judge_233) (fun h1 g2 H => ?_)
  refine V_aload_n dX8_judge_236 rfl 0 rfl ?_
  refine H_getr ck7 18 (by decide) (fs_115 hF) (by decide) rfl (fr_115_18 hF) q1476 dX8_judge_237 ?_
  refine V_iload_n dX8_judge_240 rfl 1 rfl ?_
  obtain ⟨i3, H⟩ := H
  refine H_iald (fs_124 hF) i3 dX8_judge_241 ?_
  refine V_iconst (v := 4) dX8_judge_242 (by decide) ?_
  refine V_icmp_ne (tgt := 262) dX8_judge_243 (by decide) (fun c4 => ?_) (fun c4 => ?_)
  · have H := H.1 c4
    refine V.sub [0] rfl ?_
    exact bX8_judge_262 hF  H
  · have H := H.2 c4
    refine V_aload_n dX8_judge_246 rfl 0 rfl ?_
    refine V_aload_n dX8_judge_247 rfl 0 rfl ?_
    refine H_getr ck7 21 (by decide) (fs_115 hF) (by decide) rfl (fr_115_21 hF) q1479 dX8_judge_248 ?_
    refine V_iload_n dX8_judge_251 rfl 1 rfl ?_
    obtain ⟨i5, H⟩ := H
    refine H_iald (fs_127 hF) i5 dX8_judge_252 ?_
    refine V_iconst (v := 1) dX8_judge_253 (by decide) ?_
    refine V_iadd dX8_judge_254 ?_
    refine V_iload_n dX8_judge_255 rfl 2 rfl ?_
    refine H_calli (av := [.int x3]) (rest := [.int ((h1 127 (ix x1)) + 1), .ref (ad D 115)]) H mqX8_secondOf q88 (by decide) (Nat.le_of_ble_eq_true rfl) (k_resS (av := [.int x3]) (rest := [.int ((h1 127 (ix x1)) + 1), .ref (ad D 115)]) (M1 := mX8_secondOf) rfl q1850 q1851 q88 mqX8_secondOf (fun _ _ h => mW_named h) mhX8_secondOf mnX8_secondOf dX8_judge_256) (fun y8 h6 g7 H => ?_)
    refine H_callv (av := [.ref (ad D 115), .int ((h1 127 (ix x1)) + 1), .int y8]) (rest := []) H mqX8_tells q88 (by decide) (Nat.le_of_ble_eq_true rfl) (k_resV (ci := 7) (av := [.int ((h1 127 (ix x1)) + 1), .int y8]) (rest := []) (fs_115 hF) (by decide) rfl rfl q1856 q1858 qs55 q1859 mhX8_tells mnX8_tells dX8_judge_259) (fun h9 g10 H => ?_)
    refine V.sub [0] rfl ?_
    exact bX8_judge_262 hF  H
abbrev JX8_judge_177 (D : DE) (f : Nat) (Q : HI → HL → Prop) (F : Frm) (h : HI) (g : HL) (s1 : Int32) (s2 : Int32) (s3 : Int32) : Prop := Sv D f mX8_task [.ref (ad D 115), .int s1, .int s2, .int s3] F h g (fun h1 g2 => JX8_judge_271 D f Q F h1 g2)
theorem bX8_judge_177 {D : DE} {f : Nat} {Q : HI → HL → Prop} {F : Frm} {h : HI} {g : HL} (hF : k_Fix F) (s1 : Int32) (s2 : Int32) (s3 : Int32) (H : JX8_judge_177 D f Q F h g s1 s2 s3) : V D mX8_judge (f + 1) (qv F Q) 177 [(0, .ref (ad D 115))] [.int s3, .int s2, .int s1, .ref (ad D 115)] (F, h, g) := by
  refine H_callv (av := [.ref (ad D 115), .int s1, .int s2, .int s3]) (rest := []) H mqX8_task q88 (by decide) (Nat.le_of_ble_eq_true rfl) (k_resV (ci := 7) (av := [.int s1, .int s2, .int s3]) (rest := []) (fs_115 hF) (by decide) rfl rfl q1834 q1836 qs51 q1837 mhX8_task mnX8_task dX8_judge_177) (fun h1 g2 H => ?_)
  refine V_goto (tgt := 271) dX8_judge_180 (by decide) ?_
  exact bX8_judge_271 hF  H
abbrev JX8_judge_71 (D : DE) (f : Nat) (Q : HI → HL → Prop) (F : Frm) (h : HI) (g : HL) : Prop := (((h 115 36) ≤ 0 → Q h g) ∧ (¬ (h 115 36) ≤ 0 → ((¬ (h 115 9) = 0 → Q h g) ∧ ((h 115 9) = 0 → ∀ h3, h3 = up2 h 115 36 ((h 115 36) - 1) → vp_in (h3 115 36) 3000 ∧ ∀ y6 : Int32, y6 = h3 135 (ix (h3 115 36)) → vp_in (h3 115 36) 3000 ∧ ∀ y9 : Int32, y9 = h3 138 (ix (h3 115 36)) → vp_in (h3 115 36) 3000 ∧ ((¬ (h3 134 (ix (h3 115 36))) = 1 → vp_in (h3 115 36) 3000 ∧ ((¬ (h3 134 (ix (h3 115 36))) = 2 → vp_in (h3 115 36) 3000 ∧ ((¬ (h3 134 (ix (h3 115 36))) = 3 → Sv D f mX8_onShut [.ref (ad D 115), .int y6, .int y9] F h3 g (fun h17 g18 => JX8_judge_271 D f Q F h17 g18)) ∧ ((h3 134 (ix (h3 115 36))) = 3 → vp_in y6 2002 ∧ vp_in (h3 125 (ix y6)) 2002 ∧ ∀ y21 : Int32, y21 = h3 129 (ix (h3 125 (ix y6))) → vp_in y6 2002 ∧ vp_in y6 2002 ∧ ((¬ (h3 124 (ix y6)) = 3 → Si D f mX8_firstOf [.int y21] F h3 g (fun y28 h26 g27 => JX8_judge_233 D f Q F h26 g27 y6 y21 (h3 127 (ix y6)) y28)) ∧ ((h3 124 (ix y6)) = 3 → JX8_judge_233 D f Q F h3 g y6 y21 (h3 127 (ix y6)) y21))))) ∧ ((h3 134 (ix (h3 115 36))) = 2 → vp_in y6 2002 ∧ ((0 ≤ y9 → JX8_judge_177 D f Q F h3 g 1 (h3 127 (ix y6)) y9) ∧ (¬ 0 ≤ y9 → vp_in y6 2002 ∧ vp_in (h3 126 (ix y6)) 2002 ∧ JX8_judge_177 D f Q F h3 g 1 (h3 127 (ix y6)) (h3 129 (ix (h3 126 (ix y6))))))))) ∧ ((h3 134 (ix (h3 115 36))) = 1 → Sv D f mX8_onJudge [.ref (ad D 115), .int y6, .int y9] F h3 g (fun h33 g34 => JX8_judge_271 D f Q F h33 g34)))))))
theorem bX8_judge_71 {D : DE} {f : Nat} {Q : HI → HL → Prop} {F : Frm} {h : HI} {g : HL} (hF : k_Fix F)  (H : JX8_judge_71 D f Q F h g ) : V D mX8_judge (f + 1) (qv F Q) 71 [(0, .ref (ad D 115))] [] (F, h, g) := by
  refine V_aload_n dX8_judge_71 rfl 0 rfl ?_
  refine H_geti ck7 36 (by decide) (fs_115 hF) (by decide) rfl q1494 dX8_judge_72 ?_
  refine V_if_le (tgt := 274) dX8_judge_75 (by decide) (fun c1 => ?_) (fun c1 => ?_)
  · have H := H.1 c1
    exact H_vret rfl dX8_judge_274 H
  · have H := H.2 c1
    refine V_aload_n dX8_judge_78 rfl 0 rfl ?_
    refine H_geti ck7 9 (by decide) (fs_115 hF) (by decide) rfl q1467 dX8_judge_79 ?_
    refine V_if_ne (tgt := 274) dX8_judge_82 (by decide) (fun c2 => ?_) (fun c2 => ?_)
    · have H := H.1 c2
      exact H_vret rfl dX8_judge_274 H
    · have H := H.2 c2
      refine V_aload_n dX8_judge_85 rfl 0 rfl ?_
      refine V_dup dX8_judge_86 rfl ?_
      refine H_geti ck7 36 (by decide) (fs_115 hF) (by decide) rfl q1494 dX8_judge_87 ?_
      refine V_iconst (v := 1) dX8_judge_90 (by decide) ?_
      refine V_isub dX8_judge_91 ?_
      refine H_puti ck7 36 (by decide) (fs_115 hF) (by decide) rfl rfl q1494 dX8_judge_92 (fun h3 e4 => ?_)
      have H := H h3 e4
      refine V_aload_n dX8_judge_95 rfl 0 rfl ?_
      refine H_getr ck7 35 (by decide) (fs_115 hF) (by decide) rfl (fr_115_35 hF) q1493 dX8_judge_96 ?_
      refine V_aload_n dX8_judge_99 rfl 0 rfl ?_
      refine H_geti ck7 36 (by decide) (fs_115 hF) (by decide) rfl q1494 dX8_judge_100 ?_
      obtain ⟨i5, H⟩ := H
      refine H_iald (fs_135 hF) i5 dX8_judge_103 ?_
      refine V_topi (fun y6 e7 => ?_)
      have H := H y6 e7
      refine V_istore_n (l1 := [(1, .int y6), (0, .ref (ad D 115))]) dX8_judge_104 rfl (by decide) rfl ?_
      refine V_aload_n dX8_judge_105 rfl 1 rfl ?_
      refine H_getr ck7 42 (by decide) (fs_115 hF) (by decide) rfl (fr_115_42 hF) q1500 dX8_judge_106 ?_
      refine V_aload_n dX8_judge_109 rfl 1 rfl ?_
      refine H_geti ck7 36 (by decide) (fs_115 hF) (by decide) rfl q1494 dX8_judge_110 ?_
      obtain ⟨i8, H⟩ := H
      refine H_iald (fs_138 hF) i8 dX8_judge_113 ?_
      refine V_topi (fun y9 e10 => ?_)
      have H := H y9 e10
      refine V_istore_n (l1 := [(2, .int y9), (1, .int y6), (0, .ref (ad D 115))]) dX8_judge_114 rfl (by decide) rfl ?_
      refine V_aload_n dX8_judge_115 rfl 2 rfl ?_
      refine H_getr ck7 34 (by decide) (fs_115 hF) (by decide) rfl (fr_115_34 hF) q1492 dX8_judge_116 ?_
      refine V_aload_n dX8_judge_119 rfl 2 rfl ?_
      refine H_geti ck7 36 (by decide) (fs_115 hF) (by decide) rfl q1494 dX8_judge_120 ?_
      obtain ⟨i11, H⟩ := H
      refine H_iald (fs_134 hF) i11 dX8_judge_123 ?_
      refine V_iconst (v := 1) dX8_judge_124 (by decide) ?_
      refine V_icmp_ne (tgt := 137) dX8_judge_125 (by decide) (fun c12 => ?_) (fun c12 => ?_)
      · have H := H.1 c12
        refine V_aload_n dX8_judge_137 rfl 2 rfl ?_
        refine H_getr ck7 34 (by decide) (fs_115 hF) (by decide) rfl (fr_115_34 hF) q1492 dX8_judge_138 ?_
        refine V_aload_n dX8_judge_141 rfl 2 rfl ?_
        refine H_geti ck7 36 (by decide) (fs_115 hF) (by decide) rfl q1494 dX8_judge_142 ?_
        obtain ⟨i13, H⟩ := H
        refine H_iald (fs_134 hF) i13 dX8_judge_145 ?_
        refine V_iconst (v := 2) dX8_judge_146 (by decide) ?_
        refine V_icmp_ne (tgt := 183) dX8_judge_147 (by decide) (fun c14 => ?_) (fun c14 => ?_)
        · have H := H.1 c14
          refine V_aload_n dX8_judge_183 rfl 2 rfl ?_
          refine H_getr ck7 34 (by decide) (fs_115 hF) (by decide) rfl (fr_115_34 hF) q1492 dX8_judge_184 ?_
          refine V_aload_n dX8_judge_187 rfl 2 rfl ?_
          refine H_geti ck7 36 (by decide) (fs_115 hF) (by decide) rfl q1494 dX8_judge_188 ?_
          obtain ⟨i15, H⟩ := H
          refine H_iald (fs_134 hF) i15 dX8_judge_191 ?_
          refine V_iconst (v := 3) dX8_judge_192 (by decide) ?_
          refine V_icmp_ne (tgt := 265) dX8_judge_193 (by decide) (fun c16 => ?_) (fun c16 => ?_)
          · have H := H.1 c16
            refine V_aload_n dX8_judge_265 rfl 2 rfl ?_
            refine V_iload_n dX8_judge_266 rfl 1 rfl ?_
            refine V_iload_n dX8_judge_267 rfl 0 rfl ?_
            refine H_callv (av := [.ref (ad D 115), .int y6, .int y9]) (rest := []) H mqX8_onShut q88 (by decide) (Nat.le_of_ble_eq_true rfl) (k_resV (ci := 7) (av := [.int y6, .int y9]) (rest := []) (fs_115 hF) (by decide) rfl rfl q1860 q1862 qs56 q1863 mhX8_onShut mnX8_onShut dX8_judge_268) (fun h17 g18 H => ?_)
            refine V.sub [2] rfl ?_
            exact bX8_judge_271 hF  H
          · have H := H.2 c16
            refine V_aload_n dX8_judge_196 rfl 2 rfl ?_
            refine H_getr ck7 23 (by decide) (fs_115 hF) (by decide) rfl (fr_115_23 hF) q1481 dX8_judge_197 ?_
            refine V_aload_n dX8_judge_200 rfl 2 rfl ?_
            refine H_getr ck7 19 (by decide) (fs_115 hF) (by decide) rfl (fr_115_19 hF) q1477 dX8_judge_201 ?_
            refine V_iload_n dX8_judge_204 rfl 1 rfl ?_
            obtain ⟨i19, H⟩ := H
            refine H_iald (fs_125 hF) i19 dX8_judge_205 ?_
            obtain ⟨i20, H⟩ := H
            refine H_iald (fs_129 hF) i20 dX8_judge_206 ?_
            refine V_topi (fun y21 e22 => ?_)
            have H := H y21 e22
            refine V_istore_n (l1 := [(3, .int y21), (2, .int y9), (1, .int y6), (0, .ref (ad D 115))]) dX8_judge_207 rfl (by decide) rfl ?_
            refine V_aload_n dX8_judge_208 rfl 3 rfl ?_
            refine V_aload_n dX8_judge_209 rfl 3 rfl ?_
            refine H_getr ck7 21 (by decide) (fs_115 hF) (by decide) rfl (fr_115_21 hF) q1479 dX8_judge_210 ?_
            refine V_iload_n dX8_judge_213 rfl 2 rfl ?_
            obtain ⟨i23, H⟩ := H
            refine H_iald (fs_127 hF) i23 dX8_judge_214 ?_
            refine V_aload_n dX8_judge_215 rfl 3 rfl ?_
            refine H_getr ck7 18 (by decide) (fs_115 hF) (by decide) rfl (fr_115_18 hF) q1476 dX8_judge_216 ?_
            refine V_iload_n dX8_judge_219 rfl 2 rfl ?_
            obtain ⟨i24, H⟩ := H
            refine H_iald (fs_124 hF) i24 dX8_judge_220 ?_
            refine V_iconst (v := 3) dX8_judge_221 (by decide) ?_
            refine V_icmp_ne (tgt := 229) dX8_judge_222 (by decide) (fun c25 => ?_) (fun c25 => ?_)
            · have H := H.1 c25
              refine V_iload_n dX8_judge_229 rfl 0 rfl ?_
              refine H_calli (av := [.int y21]) (rest := [.int (h3 127 (ix y6)), .ref (ad D 115)]) H mqX8_firstOf q88 (by decide) (Nat.le_of_ble_eq_true rfl) (k_resS (av := [.int y21]) (rest := [.int (h3 127 (ix y6)), .ref (ad D 115)]) (M1 := mX8_firstOf) rfl q1853 q1854 q88 mqX8_firstOf (fun _ _ h => mW_named h) mhX8_firstOf mnX8_firstOf dX8_judge_230) (fun y28 h26 g27 H => ?_)
              refine V.sub [3, 2, 0] rfl ?_
              exact bX8_judge_233 hF y6 y21 (h3 127 (ix y6)) y28 H
            · have H := H.2 c25
              refine V_iload_n dX8_judge_225 rfl 0 rfl ?_
              refine V_goto (tgt := 233) dX8_judge_226 (by decide) ?_
              refine V.sub [3, 2, 0] rfl ?_
              exact bX8_judge_233 hF y6 y21 (h3 127 (ix y6)) y21 H
        · have H := H.2 c14
          refine V_aload_n dX8_judge_150 rfl 2 rfl ?_
          refine V_iconst (v := 1) dX8_judge_151 (by decide) ?_
          refine V_aload_n dX8_judge_152 rfl 2 rfl ?_
          refine H_getr ck7 21 (by decide) (fs_115 hF) (by decide) rfl (fr_115_21 hF) q1479 dX8_judge_153 ?_
          refine V_iload_n dX8_judge_156 rfl 1 rfl ?_
          obtain ⟨i29, H⟩ := H
          refine H_iald (fs_127 hF) i29 dX8_judge_157 ?_
          refine V_iload_n dX8_judge_158 rfl 0 rfl ?_
          refine V_if_ge (tgt := 176) dX8_judge_159 (by decide) (fun c30 => ?_) (fun c30 => ?_)
          · have H := H.1 c30
            refine V_iload_n dX8_judge_176 rfl 0 rfl ?_
            refine V.sub [2] rfl ?_
            exact bX8_judge_177 hF 1 (h3 127 (ix y6)) y9 H
          · have H := H.2 c30
            refine V_aload_n dX8_judge_162 rfl 2 rfl ?_
            refine H_getr ck7 23 (by decide) (fs_115 hF) (by decide) rfl (fr_115_23 hF) q1481 dX8_judge_163 ?_
            refine V_aload_n dX8_judge_166 rfl 2 rfl ?_
            refine H_getr ck7 20 (by decide) (fs_115 hF) (by decide) rfl (fr_115_20 hF) q1478 dX8_judge_167 ?_
            refine V_iload_n dX8_judge_170 rfl 1 rfl ?_
            obtain ⟨i31, H⟩ := H
            refine H_iald (fs_126 hF) i31 dX8_judge_171 ?_
            obtain ⟨i32, H⟩ := H
            refine H_iald (fs_129 hF) i32 dX8_judge_172 ?_
            refine V_goto (tgt := 177) dX8_judge_173 (by decide) ?_
            refine V.sub [2] rfl ?_
            exact bX8_judge_177 hF 1 (h3 127 (ix y6)) (h3 129 (ix (h3 126 (ix y6)))) H
      · have H := H.2 c12
        refine V_aload_n dX8_judge_128 rfl 2 rfl ?_
        refine V_iload_n dX8_judge_129 rfl 1 rfl ?_
        refine V_iload_n dX8_judge_130 rfl 0 rfl ?_
        refine H_callv (av := [.ref (ad D 115), .int y6, .int y9]) (rest := []) H mqX8_onJudge q88 (by decide) (Nat.le_of_ble_eq_true rfl) (k_resV (ci := 7) (av := [.int y6, .int y9]) (rest := []) (fs_115 hF) (by decide) rfl rfl q1838 q1840 qs52 q1841 mhX8_onJudge mnX8_onJudge dX8_judge_131) (fun h33 g34 H => ?_)
        refine V_goto (tgt := 271) dX8_judge_134 (by decide) ?_
        refine V.sub [2] rfl ?_
        exact bX8_judge_271 hF  H
abbrev JX8_judge_7 (D : DE) (f : Nat) (Q : HI → HL → Prop) (F : Frm) (h : HI) (g : HL) (x1 : Int32) : Prop := vp_in (h 115 33) 24 ∧ (((h 119 (ix (h 115 33))) ≤ x1 → ∀ h3, h3 = up2 h 115 36 0 → vp_in (h3 115 33) 24 ∧ vp_in (h3 115 33) 24 ∧ Sv D f mX8_task [.ref (ad D 115), .int 1, .int (h3 121 (ix (h3 115 33))), .int (h3 118 (ix (h3 115 33)))] F h3 g (fun h7 g8 => V D mX8_judge (f + 1) (qv F Q) 71 [(0, .ref (ad D 115))] [] (F, h7, g8))) ∧ (¬ (h 119 (ix (h 115 33))) ≤ x1 → vp_in x1 16 ∧ ∀ h10, h10 = up2 h 139 (ix x1) x1 → ∀ h12, h12 = up2 h10 115 44 ((h10 115 44) + 1) → ∀ y14 : Int32, y14 = x1 + 1 → V D mX8_judge (f + 1) (qv F Q) 7 [(0, .ref (ad D 115)), (1, .int y14)] [] (F, h12, g)))
theorem bX8_judge_7 {D : DE} {f : Nat} {Q : HI → HL → Prop} {F : Frm} {h : HI} {g : HL} (hF : k_Fix F) (x1 : Int32) (H : JX8_judge_7 D f Q F h g x1) : V D mX8_judge (f + 1) (qv F Q) 7 [(0, .ref (ad D 115)), (1, .int x1)] [] (F, h, g) := by
  refine V_iload_n dX8_judge_7 rfl 1 rfl ?_
  refine V_aload_n dX8_judge_8 rfl 0 rfl ?_
  refine H_getr ck7 13 (by decide) (fs_115 hF) (by decide) rfl (fr_115_13 hF) q1471 dX8_judge_9 ?_
  refine V_aload_n dX8_judge_12 rfl 0 rfl ?_
  refine H_geti ck7 33 (by decide) (fs_115 hF) (by decide) rfl q1491 dX8_judge_13 ?_
  obtain ⟨i1, H⟩ := H
  refine H_iald (fs_119 hF) i1 dX8_judge_16 ?_
  refine V_icmp_ge (tgt := 43) dX8_judge_17 (by decide) (fun c2 => ?_) (fun c2 => ?_)
  · have H := H.1 c2
    refine V_aload_n dX8_judge_43 rfl 0 rfl ?_
    refine V_iconst (v := 0) dX8_judge_44 (by decide) ?_
    refine H_puti ck7 36 (by decide) (fs_115 hF) (by decide) rfl rfl q1494 dX8_judge_45 (fun h3 e4 => ?_)
    have H := H h3 e4
    refine V_aload_n dX8_judge_48 rfl 0 rfl ?_
    refine V_iconst (v := 1) dX8_judge_49 (by decide) ?_
    refine V_aload_n dX8_judge_50 rfl 0 rfl ?_
    refine H_getr ck7 15 (by decide) (fs_115 hF) (by decide) rfl (fr_115_15 hF) q1473 dX8_judge_51 ?_
    refine V_aload_n dX8_judge_54 rfl 0 rfl ?_
    refine H_geti ck7 33 (by decide) (fs_115 hF) (by decide) rfl q1491 dX8_judge_55 ?_
    obtain ⟨i5, H⟩ := H
    refine H_iald (fs_121 hF) i5 dX8_judge_58 ?_
    refine V_aload_n dX8_judge_59 rfl 0 rfl ?_
    refine H_getr ck7 12 (by decide) (fs_115 hF) (by decide) rfl (fr_115_12 hF) q1470 dX8_judge_60 ?_
    refine V_aload_n dX8_judge_63 rfl 0 rfl ?_
    refine H_geti ck7 33 (by decide) (fs_115 hF) (by decide) rfl q1491 dX8_judge_64 ?_
    obtain ⟨i6, H⟩ := H
    refine H_iald (fs_118 hF) i6 dX8_judge_67 ?_
    refine H_callv (av := [.ref (ad D 115), .int 1, .int (h3 121 (ix (h3 115 33))), .int (h3 118 (ix (h3 115 33)))]) (rest := []) H mqX8_task q88 (by decide) (Nat.le_of_ble_eq_true rfl) (k_resV (ci := 7) (av := [.int 1, .int (h3 121 (ix (h3 115 33))), .int (h3 118 (ix (h3 115 33)))]) (rest := []) (fs_115 hF) (by decide) rfl rfl q1834 q1836 qs51 q1837 mhX8_task mnX8_task dX8_judge_68) (fun h7 g8 H => ?_)
    refine V.sub [0] rfl ?_
    exact H
  · have H := H.2 c2
    refine V_aload_n dX8_judge_20 rfl 0 rfl ?_
    refine H_getr ck7 43 (by decide) (fs_115 hF) (by decide) rfl (fr_115_43 hF) q1501 dX8_judge_21 ?_
    refine V_iload_n dX8_judge_24 rfl 1 rfl ?_
    refine V_iload_n dX8_judge_25 rfl 1 rfl ?_
    obtain ⟨i9, H⟩ := H
    refine H_iast (fs_139 hF) i9 dX8_judge_26 (fun h10 e11 => ?_)
    have H := H h10 e11
    refine V_aload_n dX8_judge_27 rfl 0 rfl ?_
    refine V_dup dX8_judge_28 rfl ?_
    refine H_geti ck7 44 (by decide) (fs_115 hF) (by decide) rfl q1502 dX8_judge_29 ?_
    refine V_iconst (v := 1) dX8_judge_32 (by decide) ?_
    refine V_iadd dX8_judge_33 ?_
    refine H_puti ck7 44 (by decide) (fs_115 hF) (by decide) rfl rfl q1502 dX8_judge_34 (fun h12 e13 => ?_)
    have H := H h12 e13
    obtain ⟨y14, e15⟩ : ∃ y : Int32, y = x1 + 1 := ⟨_, rfl⟩
    have H := H y14 e15
    refine V_iinc (j := 1) (v := y14) (l1 := [(1, .int y14), (0, .ref (ad D 115))]) dX8_judge_37 rfl (by rw [e15]; rfl) (by decide) rfl ?_
    refine V_goto (tgt := 7) dX8_judge_40 (by decide) ?_
    refine V.sub [1, 0] rfl ?_
    exact H
abbrev JX8_judge_0 (D : DE) (f : Nat) (Q : HI → HL → Prop) (F : Frm) (h : HI) (g : HL) : Prop := ∀ h1, h1 = up2 h 115 44 0 → V D mX8_judge (f + 1) (qv F Q) 7 [(0, .ref (ad D 115)), (1, .int 0)] [] (F, h1, g)
theorem bX8_judge_0 {D : DE} {f : Nat} {Q : HI → HL → Prop} {F : Frm} {h : HI} {g : HL} (hF : k_Fix F)  (H : JX8_judge_0 D f Q F h g ) : V D mX8_judge (f + 1) (qv F Q) 0 [(0, .ref (ad D 115))] [] (F, h, g) := by
  refine V_aload_n dX8_judge_0 rfl 0 rfl ?_
  refine V_iconst (v := 0) dX8_judge_1 (by decide) ?_
  refine H_puti ck7 44 (by decide) (fs_115 hF) (by decide) rfl rfl q1502 dX8_judge_2 (fun h1 e2 => ?_)
  have H := H h1 e2
  refine V_iconst (v := 0) dX8_judge_5 (by decide) ?_
  refine V_istore_n (l1 := [(1, .int 0), (0, .ref (ad D 115))]) dX8_judge_6 rfl (by decide) rfl ?_
  refine V.sub [1, 0] rfl ?_
  exact H
theorem wX8_judge {D : DE} {f : Nat} {Q : HI → HL → Prop} {F : Frm} {h : HI} {g : HL} (hF : k_Fix F)  (H : JX8_judge_0 D f Q F h g ) : Sv D (f + 1) mX8_judge [.ref (ad D 115)] F h g Q := Cl.ofV (by decide) (Nat.le_of_ble_eq_true rfl) rfl (bX8_judge_0 hF  H)
theorem dX8_read_0 : decode cX8_read 0 = .ok (.aload_n 0, 1) := by decide +kernel
theorem dX8_read_1 : decode cX8_read 1 = .ok (.iconst 0, 1) := by decide +kernel
theorem dX8_read_2 : decode cX8_read 2 = .ok (.putfield 148, 3) := by decide +kernel
theorem dX8_read_5 : decode cX8_read 5 = .ok (.aload_n 0, 1) := by decide +kernel
theorem dX8_read_6 : decode cX8_read 6 = .ok (.aload_n 0, 1) := by decide +kernel
theorem dX8_read_7 : decode cX8_read 7 = .ok (.getfield 341, 3) := by decide +kernel
theorem dX8_read_10 : decode cX8_read 10 = .ok (.ifCond .eq 12, 3) := by decide +kernel
theorem dX8_read_13 : decode cX8_read 13 = .ok (.iconst 1, 1) := by decide +kernel
theorem dX8_read_14 : decode cX8_read 14 = .ok (.aload_n 0, 1) := by decide +kernel
theorem dX8_read_15 : decode cX8_read 15 = .ok (.getfield 345, 3) := by decide +kernel
theorem dX8_read_18 : decode cX8_read 18 = .ok (.isub, 1) := by decide +kernel
theorem dX8_read_19 : decode cX8_read 19 = .ok (.goto 7, 3) := by decide +kernel
theorem dX8_read_22 : decode cX8_read 22 = .ok (.aload_n 0, 1) := by decide +kernel
theorem dX8_read_23 : decode cX8_read 23 = .ok (.getfield 345, 3) := by decide +kernel
theorem dX8_read_26 : decode cX8_read 26 = .ok (.putfield 310, 3) := by decide +kernel
theorem dX8_read_29 : decode cX8_read 29 = .ok (.aload_n 0, 1) := by decide +kernel
theorem dX8_read_30 : decode cX8_read 30 = .ok (.iconst 0, 1) := by decide +kernel
theorem dX8_read_31 : decode cX8_read 31 = .ok (.putfield 313, 3) := by decide +kernel
theorem dX8_read_34 : decode cX8_read 34 = .ok (.aload_n 0, 1) := by decide +kernel
theorem dX8_read_35 : decode cX8_read 35 = .ok (.sipush 1001, 3) := by decide +kernel
theorem dX8_read_38 : decode cX8_read 38 = .ok (.aload_n 0, 1) := by decide +kernel
theorem dX8_read_39 : decode cX8_read 39 = .ok (.getfield 310, 3) := by decide +kernel
theorem dX8_read_42 : decode cX8_read 42 = .ok (.imul, 1) := by decide +kernel
theorem dX8_read_43 : decode cX8_read 43 = .ok (.putfield 232, 3) := by decide +kernel
theorem dX8_read_46 : decode cX8_read 46 = .ok (.aload_n 0, 1) := by decide +kernel
theorem dX8_read_47 : decode cX8_read 47 = .ok (.sipush 1001, 3) := by decide +kernel
theorem dX8_read_50 : decode cX8_read 50 = .ok (.aload_n 0, 1) := by decide +kernel
theorem dX8_read_51 : decode cX8_read 51 = .ok (.getfield 310, 3) := by decide +kernel
theorem dX8_read_54 : decode cX8_read 54 = .ok (.imul, 1) := by decide +kernel
theorem dX8_read_55 : decode cX8_read 55 = .ok (.putfield 301, 3) := by decide +kernel
theorem dX8_read_58 : decode cX8_read 58 = .ok (.aload_n 0, 1) := by decide +kernel
theorem dX8_read_59 : decode cX8_read 59 = .ok (.iconst 0, 1) := by decide +kernel
theorem dX8_read_60 : decode cX8_read 60 = .ok (.putfield 294, 3) := by decide +kernel
theorem dX8_read_63 : decode cX8_read 63 = .ok (.aload_n 0, 1) := by decide +kernel
theorem dX8_read_64 : decode cX8_read 64 = .ok (.iconst 0, 1) := by decide +kernel
theorem dX8_read_65 : decode cX8_read 65 = .ok (.putfield 187, 3) := by decide +kernel
theorem dX8_read_68 : decode cX8_read 68 = .ok (.aload_n 0, 1) := by decide +kernel
theorem dX8_read_69 : decode cX8_read 69 = .ok (.iconst 0, 1) := by decide +kernel
theorem dX8_read_70 : decode cX8_read 70 = .ok (.putfield 196, 3) := by decide +kernel
theorem dX8_read_73 : decode cX8_read 73 = .ok (.aload_n 0, 1) := by decide +kernel
theorem dX8_read_74 : decode cX8_read 74 = .ok (.iconst 0, 1) := by decide +kernel
theorem dX8_read_75 : decode cX8_read 75 = .ok (.putfield 176, 3) := by decide +kernel
theorem dX8_read_78 : decode cX8_read 78 = .ok (.aload_n 0, 1) := by decide +kernel
theorem dX8_read_79 : decode cX8_read 79 = .ok (.iconst (-1), 1) := by decide +kernel
theorem dX8_read_80 : decode cX8_read 80 = .ok (.putfield 13, 3) := by decide +kernel
theorem dX8_read_83 : decode cX8_read 83 = .ok (.aload_n 0, 1) := by decide +kernel
theorem dX8_read_84 : decode cX8_read 84 = .ok (.invokevirtual 226, 3) := by decide +kernel
theorem dX8_read_87 : decode cX8_read 87 = .ok (.aload_n 0, 1) := by decide +kernel
theorem dX8_read_88 : decode cX8_read 88 = .ok (.invokevirtual 348, 3) := by decide +kernel
theorem dX8_read_91 : decode cX8_read 91 = .ok (.aload_n 0, 1) := by decide +kernel
theorem dX8_read_92 : decode cX8_read 92 = .ok (.getfield 176, 3) := by decide +kernel
theorem dX8_read_95 : decode cX8_read 95 = .ok (.ifCond .ne 19, 3) := by decide +kernel
theorem dX8_read_98 : decode cX8_read 98 = .ok (.aload_n 0, 1) := by decide +kernel
theorem dX8_read_99 : decode cX8_read 99 = .ok (.getfield 193, 3) := by decide +kernel
theorem dX8_read_102 : decode cX8_read 102 = .ok (.bipush 23, 2) := by decide +kernel
theorem dX8_read_104 : decode cX8_read 104 = .ok (.if_icmp .eq 10, 3) := by decide +kernel
theorem dX8_read_107 : decode cX8_read 107 = .ok (.aload_n 0, 1) := by decide +kernel
theorem dX8_read_108 : decode cX8_read 108 = .ok (.invokevirtual 348, 3) := by decide +kernel
theorem dX8_read_111 : decode cX8_read 111 = .ok (.goto (-20), 3) := by decide +kernel
theorem dX8_read_114 : decode cX8_read 114 = .ok (.aload_n 0, 1) := by decide +kernel
theorem dX8_read_115 : decode cX8_read 115 = .ok (.bipush 12, 2) := by decide +kernel
theorem dX8_read_117 : decode cX8_read 117 = .ok (.aload_n 0, 1) := by decide +kernel
theorem dX8_read_118 : decode cX8_read 118 = .ok (.getfield 310, 3) := by decide +kernel
theorem dX8_read_121 : decode cX8_read 121 = .ok (.imul, 1) := by decide +kernel
theorem dX8_read_122 : decode cX8_read 122 = .ok (.putfield 239, 3) := by decide +kernel
theorem dX8_read_125 : decode cX8_read 125 = .ok (.aload_n 0, 1) := by decide +kernel
theorem dX8_read_126 : decode cX8_read 126 = .ok (.getfield 239, 3) := by decide +kernel
theorem dX8_read_129 : decode cX8_read 129 = .ok (.bipush 12, 2) := by decide +kernel
theorem dX8_read_131 : decode cX8_read 131 = .ok (.aload_n 0, 1) := by decide +kernel
theorem dX8_read_132 : decode cX8_read 132 = .ok (.getfield 310, 3) := by decide +kernel
theorem dX8_read_135 : decode cX8_read 135 = .ok (.imul, 1) := by decide +kernel
theorem dX8_read_136 : decode cX8_read 136 = .ok (.aload_n 0, 1) := by decide +kernel
theorem dX8_read_137 : decode cX8_read 137 = .ok (.getfield 313, 3) := by decide +kernel
theorem dX8_read_140 : decode cX8_read 140 = .ok (.iadd, 1) := by decide +kernel
theorem dX8_read_141 : decode cX8_read 141 = .ok (.if_icmp .ge 27, 3) := by decide +kernel
theorem dX8_read_144 : decode cX8_read 144 = .ok (.aload_n 0, 1) := by decide +kernel
theorem dX8_read_145 : decode cX8_read 145 = .ok (.getfield 176, 3) := by decide +kernel
theorem dX8_read_148 : decode cX8_read 148 = .ok (.ifCond .ne 20, 3) := by decide +kernel
theorem dX8_read_151 : decode cX8_read 151 = .ok (.aload_n 0, 1) := by decide +kernel
theorem dX8_read_152 : decode cX8_read 152 = .ok (.invokevirtual 351, 3) := by decide +kernel
theorem dX8_read_155 : decode cX8_read 155 = .ok (.aload_n 0, 1) := by decide +kernel
theorem dX8_read_156 : decode cX8_read 156 = .ok (.dup, 1) := by decide +kernel
theorem dX8_read_157 : decode cX8_read 157 = .ok (.getfield 239, 3) := by decide +kernel
theorem dX8_read_160 : decode cX8_read 160 = .ok (.iconst 1, 1) := by decide +kernel
theorem dX8_read_161 : decode cX8_read 161 = .ok (.iadd, 1) := by decide +kernel
theorem dX8_read_162 : decode cX8_read 162 = .ok (.putfield 239, 3) := by decide +kernel
theorem dX8_read_165 : decode cX8_read 165 = .ok (.goto (-40), 3) := by decide +kernel
theorem dX8_read_168 : decode cX8_read 168 = .ok (.aload_n 0, 1) := by decide +kernel
theorem dX8_read_169 : decode cX8_read 169 = .ok (.iconst 0, 1) := by decide +kernel
theorem dX8_read_170 : decode cX8_read 170 = .ok (.putfield 151, 3) := by decide +kernel
theorem dX8_read_173 : decode cX8_read 173 = .ok (.aload_n 0, 1) := by decide +kernel
theorem dX8_read_174 : decode cX8_read 174 = .ok (.getfield 176, 3) := by decide +kernel
theorem dX8_read_177 : decode cX8_read 177 = .ok (.ifCond .eq 9, 3) := by decide +kernel
theorem dX8_read_180 : decode cX8_read 180 = .ok (.aload_n 0, 1) := by decide +kernel
theorem dX8_read_181 : decode cX8_read 181 = .ok (.getfield 176, 3) := by decide +kernel
theorem dX8_read_184 : decode cX8_read 184 = .ok (.ineg, 1) := by decide +kernel
theorem dX8_read_185 : decode cX8_read 185 = .ok (.ireturn, 1) := by decide +kernel
theorem dX8_read_186 : decode cX8_read 186 = .ok (.aload_n 0, 1) := by decide +kernel
theorem dX8_read_187 : decode cX8_read 187 = .ok (.aload_n 0, 1) := by decide +kernel
theorem dX8_read_188 : decode cX8_read 188 = .ok (.getfield 310, 3) := by decide +kernel
theorem dX8_read_191 : decode cX8_read 191 = .ok (.putfield 345, 3) := by decide +kernel
theorem dX8_read_194 : decode cX8_read 194 = .ok (.aload_n 0, 1) := by decide +kernel
theorem dX8_read_195 : decode cX8_read 195 = .ok (.getfield 63, 3) := by decide +kernel
theorem dX8_read_198 : decode cX8_read 198 = .ok (.aload_n 0, 1) := by decide +kernel
theorem dX8_read_199 : decode cX8_read 199 = .ok (.getfield 345, 3) := by decide +kernel
theorem dX8_read_202 : decode cX8_read 202 = .ok (.aload_n 0, 1) := by decide +kernel
theorem dX8_read_203 : decode cX8_read 203 = .ok (.getfield 313, 3) := by decide +kernel
theorem dX8_read_206 : decode cX8_read 206 = .ok (.iastore, 1) := by decide +kernel
theorem dX8_read_207 : decode cX8_read 207 = .ok (.aload_n 0, 1) := by decide +kernel
theorem dX8_read_208 : decode cX8_read 208 = .ok (.iconst 1, 1) := by decide +kernel
theorem dX8_read_209 : decode cX8_read 209 = .ok (.putfield 341, 3) := by decide +kernel
theorem dX8_read_212 : decode cX8_read 212 = .ok (.aload_n 0, 1) := by decide +kernel
theorem dX8_read_213 : decode cX8_read 213 = .ok (.iconst 0, 1) := by decide +kernel
theorem dX8_read_214 : decode cX8_read 214 = .ok (.putfield 354, 3) := by decide +kernel
theorem dX8_read_217 : decode cX8_read 217 = .ok (.aload_n 0, 1) := by decide +kernel
theorem dX8_read_218 : decode cX8_read 218 = .ok (.iconst (-1), 1) := by decide +kernel
theorem dX8_read_219 : decode cX8_read 219 = .ok (.putfield 142, 3) := by decide +kernel
theorem dX8_read_222 : decode cX8_read 222 = .ok (.aload_n 0, 1) := by decide +kernel
theorem dX8_read_223 : decode cX8_read 223 = .ok (.getfield 313, 3) := by decide +kernel
theorem dX8_read_226 : decode cX8_read 226 = .ok (.ireturn, 1) := by decide +kernel
abbrev JX8_read_168 (D : DE) (f : Nat) (Q : Int32 → HI → HL → Prop) (F : Frm) (h : HI) (g : HL) : Prop := ∀ h1, h1 = up2 h 115 2 0 → (((h1 115 9) = 0 → ∀ h4, h4 = up2 h1 115 47 (h1 115 27) → vp_in (h4 115 47) 2 ∧ ∀ h7, h7 = up2 h4 132 (ix (h4 115 47)) (h4 115 28) → ∀ h9, h9 = up2 h7 115 45 1 → ∀ h11, h11 = up2 h9 115 46 0 → ∀ h13, h13 = up2 h11 115 75 (-1) → Q (h13 115 28) h13 g) ∧ (¬ (h1 115 9) = 0 → Q (-(h1 115 9)) h1 g))
theorem bX8_read_168 {D : DE} {f : Nat} {Q : Int32 → HI → HL → Prop} {F : Frm} {h : HI} {g : HL} (hF : k_Fix F)  (H : JX8_read_168 D f Q F h g ) : V D mX8_read (f + 1) (qi F Q) 168 [(0, .ref (ad D 115))] [] (F, h, g) := by
  refine V_aload_n dX8_read_168 rfl 0 rfl ?_
  refine V_iconst (v := 0) dX8_read_169 (by decide) ?_
  refine H_puti ck7 2 (by decide) (fs_115 hF) (by decide) rfl rfl q1460 dX8_read_170 (fun h1 e2 => ?_)
  have H := H h1 e2
  refine V_aload_n dX8_read_173 rfl 0 rfl ?_
  refine H_geti ck7 9 (by decide) (fs_115 hF) (by decide) rfl q1467 dX8_read_174 ?_
  refine V_if_eq (tgt := 186) dX8_read_177 (by decide) (fun c3 => ?_) (fun c3 => ?_)
  · have H := H.1 c3
    refine V_aload_n dX8_read_186 rfl 0 rfl ?_
    refine V_aload_n dX8_read_187 rfl 0 rfl ?_
    refine H_geti ck7 27 (by decide) (fs_115 hF) (by decide) rfl q1485 dX8_read_188 ?_
    refine H_puti ck7 47 (by decide) (fs_115 hF) (by decide) rfl rfl q1505 dX8_read_191 (fun h4 e5 => ?_)
    have H := H h4 e5
    refine V_aload_n dX8_read_194 rfl 0 rfl ?_
    refine H_getr ck7 26 (by decide) (fs_115 hF) (by decide) rfl (fr_115_26 hF) q1484 dX8_read_195 ?_
    refine V_aload_n dX8_read_198 rfl 0 rfl ?_
    refine H_geti ck7 47 (by decide) (fs_115 hF) (by decide) rfl q1505 dX8_read_199 ?_
    refine V_aload_n dX8_read_202 rfl 0 rfl ?_
    refine H_geti ck7 28 (by decide) (fs_115 hF) (by decide) rfl q1486 dX8_read_203 ?_
    obtain ⟨i6, H⟩ := H
    refine H_iast (fs_132 hF) i6 dX8_read_206 (fun h7 e8 => ?_)
    have H := H h7 e8
    refine V_aload_n dX8_read_207 rfl 0 rfl ?_
    refine V_iconst (v := 1) dX8_read_208 (by decide) ?_
    refine H_putz ck7 45 (by decide) (fs_115 hF) (by decide) rfl isB1 rfl q1503 dX8_read_209 (fun h9 e10 => ?_)
    have H := H h9 e10
    refine V_aload_n dX8_read_212 rfl 0 rfl ?_
    refine V_iconst (v := 0) dX8_read_213 (by decide) ?_
    refine H_putz ck7 46 (by decide) (fs_115 hF) (by decide) rfl isB0 rfl q1504 dX8_read_214 (fun h11 e12 => ?_)
    have H := H h11 e12
    refine V_aload_n dX8_read_217 rfl 0 rfl ?_
    refine V_iconst (v := (-1)) dX8_read_218 (by decide) ?_
    refine H_puti ck7 75 (by decide) (fs_115 hF) (by decide) rfl rfl q1533 dX8_read_219 (fun h13 e14 => ?_)
    have H := H h13 e14
    refine V_aload_n dX8_read_222 rfl 0 rfl ?_
    refine H_geti ck7 28 (by decide) (fs_115 hF) (by decide) rfl q1486 dX8_read_223 ?_
    exact H_iret rfl dX8_read_226 H
  · have H := H.2 c3
    refine V_aload_n dX8_read_180 rfl 0 rfl ?_
    refine H_geti ck7 9 (by decide) (fs_115 hF) (by decide) rfl q1467 dX8_read_181 ?_
    refine V_ineg dX8_read_184 ?_
    exact H_iret rfl dX8_read_185 H
abbrev JX8_read_125 (D : DE) (f : Nat) (Q : Int32 → HI → HL → Prop) (F : Frm) (h : HI) (g : HL) : Prop := ((((12 * (h 115 27)) + (h 115 28)) ≤ (h 115 33) → JX8_read_168 D f Q F h g) ∧ (¬ ((12 * (h 115 27)) + (h 115 28)) ≤ (h 115 33) → ((¬ (h 115 9) = 0 → JX8_read_168 D f Q F h g) ∧ ((h 115 9) = 0 → Sv D f mX8_judge [.ref (ad D 115)] F h g (fun h3 g4 => ∀ h5, h5 = up2 h3 115 33 ((h3 115 33) + 1) → V D mX8_read (f + 1) (qi F Q) 125 [(0, .ref (ad D 115))] [] (F, h5, g4))))))
theorem bX8_read_125 {D : DE} {f : Nat} {Q : Int32 → HI → HL → Prop} {F : Frm} {h : HI} {g : HL} (hF : k_Fix F)  (H : JX8_read_125 D f Q F h g ) : V D mX8_read (f + 1) (qi F Q) 125 [(0, .ref (ad D 115))] [] (F, h, g) := by
  refine V_aload_n dX8_read_125 rfl 0 rfl ?_
  refine H_geti ck7 33 (by decide) (fs_115 hF) (by decide) rfl q1491 dX8_read_126 ?_
  refine V_bipush (v := 12) dX8_read_129 (by decide) ?_
  refine V_aload_n dX8_read_131 rfl 0 rfl ?_
  refine H_geti ck7 27 (by decide) (fs_115 hF) (by decide) rfl q1485 dX8_read_132 ?_
  refine V_imul dX8_read_135 ?_
  refine V_aload_n dX8_read_136 rfl 0 rfl ?_
  refine H_geti ck7 28 (by decide) (fs_115 hF) (by decide) rfl q1486 dX8_read_137 ?_
  refine V_iadd dX8_read_140 ?_
  refine V_icmp_ge (tgt := 168) dX8_read_141 (by decide) (fun c1 => ?_) (fun c1 => ?_)
  · have H := H.1 c1
    exact bX8_read_168 hF  H
  · have H := H.2 c1
    refine V_aload_n dX8_read_144 rfl 0 rfl ?_
    refine H_geti ck7 9 (by decide) (fs_115 hF) (by decide) rfl q1467 dX8_read_145 ?_
    refine V_if_ne (tgt := 168) dX8_read_148 (by decide) (fun c2 => ?_) (fun c2 => ?_)
    · have H := H.1 c2
      exact bX8_read_168 hF  H
    · have H := H.2 c2
      refine V_aload_n dX8_read_151 rfl 0 rfl ?_
      refine H_callv (av := [.ref (ad D 115)]) (rest := []) H mqX8_judge q88 (by decide) (Nat.le_of_ble_eq_true rfl) (k_resV (ci := 7) (av := []) (rest := []) (fs_115 hF) (by decide) rfl rfl q1830 q1832 qs50 q1833 mhX8_judge mnX8_judge dX8_read_152) (fun h3 g4 H => ?_)
      refine V_aload_n dX8_read_155 rfl 0 rfl ?_
      refine V_dup dX8_read_156 rfl ?_
      refine H_geti ck7 33 (by decide) (fs_115 hF) (by decide) rfl q1491 dX8_read_157 ?_
      refine V_iconst (v := 1) dX8_read_160 (by decide) ?_
      refine V_iadd dX8_read_161 ?_
      refine H_puti ck7 33 (by decide) (fs_115 hF) (by decide) rfl rfl q1491 dX8_read_162 (fun h5 e6 => ?_)
      have H := H h5 e6
      refine V_goto (tgt := 125) dX8_read_165 (by decide) ?_
      exact H
abbrev JX8_read_114 (D : DE) (f : Nat) (Q : Int32 → HI → HL → Prop) (F : Frm) (h : HI) (g : HL) : Prop := ∀ h1, h1 = up2 h 115 33 (12 * (h 115 27)) → V D mX8_read (f + 1) (qi F Q) 125 [(0, .ref (ad D 115))] [] (F, h1, g)
theorem bX8_read_114 {D : DE} {f : Nat} {Q : Int32 → HI → HL → Prop} {F : Frm} {h : HI} {g : HL} (hF : k_Fix F)  (H : JX8_read_114 D f Q F h g ) : V D mX8_read (f + 1) (qi F Q) 114 [(0, .ref (ad D 115))] [] (F, h, g) := by
  refine V_aload_n dX8_read_114 rfl 0 rfl ?_
  refine V_bipush (v := 12) dX8_read_115 (by decide) ?_
  refine V_aload_n dX8_read_117 rfl 0 rfl ?_
  refine H_geti ck7 27 (by decide) (fs_115 hF) (by decide) rfl q1485 dX8_read_118 ?_
  refine V_imul dX8_read_121 ?_
  refine H_puti ck7 33 (by decide) (fs_115 hF) (by decide) rfl rfl q1491 dX8_read_122 (fun h1 e2 => ?_)
  have H := H h1 e2
  exact H
abbrev JX8_read_91 (D : DE) (f : Nat) (Q : Int32 → HI → HL → Prop) (F : Frm) (h : HI) (g : HL) : Prop := ((¬ (h 115 9) = 0 → JX8_read_114 D f Q F h g) ∧ ((h 115 9) = 0 → (((h 115 4) = 23 → JX8_read_114 D f Q F h g) ∧ (¬ (h 115 4) = 23 → Sv D f mX8_definition [.ref (ad D 115)] F h g (fun h3 g4 => V D mX8_read (f + 1) (qi F Q) 91 [(0, .ref (ad D 115))] [] (F, h3, g4))))))
theorem bX8_read_91 {D : DE} {f : Nat} {Q : Int32 → HI → HL → Prop} {F : Frm} {h : HI} {g : HL} (hF : k_Fix F)  (H : JX8_read_91 D f Q F h g ) : V D mX8_read (f + 1) (qi F Q) 91 [(0, .ref (ad D 115))] [] (F, h, g) := by
  refine V_aload_n dX8_read_91 rfl 0 rfl ?_
  refine H_geti ck7 9 (by decide) (fs_115 hF) (by decide) rfl q1467 dX8_read_92 ?_
  refine V_if_ne (tgt := 114) dX8_read_95 (by decide) (fun c1 => ?_) (fun c1 => ?_)
  · have H := H.1 c1
    exact bX8_read_114 hF  H
  · have H := H.2 c1
    refine V_aload_n dX8_read_98 rfl 0 rfl ?_
    refine H_geti ck7 4 (by decide) (fs_115 hF) (by decide) rfl q1462 dX8_read_99 ?_
    refine V_bipush (v := 23) dX8_read_102 (by decide) ?_
    refine V_icmp_eq (tgt := 114) dX8_read_104 (by decide) (fun c2 => ?_) (fun c2 => ?_)
    · have H := H.1 c2
      exact bX8_read_114 hF  H
    · have H := H.2 c2
      refine V_aload_n dX8_read_107 rfl 0 rfl ?_
      refine H_callv (av := [.ref (ad D 115)]) (rest := []) H mqX8_definition q88 (by decide) (Nat.le_of_ble_eq_true rfl) (k_resV (ci := 7) (av := []) (rest := []) (fs_115 hF) (by decide) rfl rfl q1755 q1757 qs32 q1758 mhX8_definition mnX8_definition dX8_read_108) (fun h3 g4 H => ?_)
      refine V_goto (tgt := 91) dX8_read_111 (by decide) ?_
      exact H
abbrev JX8_read_26 (D : DE) (f : Nat) (Q : Int32 → HI → HL → Prop) (F : Frm) (h : HI) (g : HL) (s1 : Int32) : Prop := ∀ h1, h1 = up2 h 115 27 s1 → ∀ h3, h3 = up2 h1 115 28 0 → ∀ h5, h5 = up2 h3 115 29 (1001 * (h3 115 27)) → ∀ h7, h7 = up2 h5 115 30 (1001 * (h5 115 27)) → ∀ h9, h9 = up2 h7 115 32 0 → ∀ h11, h11 = up2 h9 115 3 0 → ∀ h13, h13 = up2 h11 115 6 0 → ∀ h15, h15 = up2 h13 115 9 0 → ∀ h17, h17 = up2 h15 115 10 (-1) → Sv D f mX8_next [.ref (ad D 115)] F h17 g (fun h19 g20 => Sv D f mX8_definition [.ref (ad D 115)] F h19 g20 (fun h21 g22 => V D mX8_read (f + 1) (qi F Q) 91 [(0, .ref (ad D 115))] [] (F, h21, g22)))
theorem bX8_read_26 {D : DE} {f : Nat} {Q : Int32 → HI → HL → Prop} {F : Frm} {h : HI} {g : HL} (hF : k_Fix F) (s1 : Int32) (H : JX8_read_26 D f Q F h g s1) : V D mX8_read (f + 1) (qi F Q) 26 [(0, .ref (ad D 115))] [.int s1, .ref (ad D 115)] (F, h, g) := by
  refine H_puti ck7 27 (by decide) (fs_115 hF) (by decide) rfl rfl q1485 dX8_read_26 (fun h1 e2 => ?_)
  have H := H h1 e2
  refine V_aload_n dX8_read_29 rfl 0 rfl ?_
  refine V_iconst (v := 0) dX8_read_30 (by decide) ?_
  refine H_puti ck7 28 (by decide) (fs_115 hF) (by decide) rfl rfl q1486 dX8_read_31 (fun h3 e4 => ?_)
  have H := H h3 e4
  refine V_aload_n dX8_read_34 rfl 0 rfl ?_
  refine V_sipush (v := 1001) dX8_read_35 (by decide) ?_
  refine V_aload_n dX8_read_38 rfl 0 rfl ?_
  refine H_geti ck7 27 (by decide) (fs_115 hF) (by decide) rfl q1485 dX8_read_39 ?_
  refine V_imul dX8_read_42 ?_
  refine H_puti ck7 29 (by decide) (fs_115 hF) (by decide) rfl rfl q1487 dX8_read_43 (fun h5 e6 => ?_)
  have H := H h5 e6
  refine V_aload_n dX8_read_46 rfl 0 rfl ?_
  refine V_sipush (v := 1001) dX8_read_47 (by decide) ?_
  refine V_aload_n dX8_read_50 rfl 0 rfl ?_
  refine H_geti ck7 27 (by decide) (fs_115 hF) (by decide) rfl q1485 dX8_read_51 ?_
  refine V_imul dX8_read_54 ?_
  refine H_puti ck7 30 (by decide) (fs_115 hF) (by decide) rfl rfl q1488 dX8_read_55 (fun h7 e8 => ?_)
  have H := H h7 e8
  refine V_aload_n dX8_read_58 rfl 0 rfl ?_
  refine V_iconst (v := 0) dX8_read_59 (by decide) ?_
  refine H_puti ck7 32 (by decide) (fs_115 hF) (by decide) rfl rfl q1490 dX8_read_60 (fun h9 e10 => ?_)
  have H := H h9 e10
  refine V_aload_n dX8_read_63 rfl 0 rfl ?_
  refine V_iconst (v := 0) dX8_read_64 (by decide) ?_
  refine H_puti ck7 3 (by decide) (fs_115 hF) (by decide) rfl rfl q1461 dX8_read_65 (fun h11 e12 => ?_)
  have H := H h11 e12
  refine V_aload_n dX8_read_68 rfl 0 rfl ?_
  refine V_iconst (v := 0) dX8_read_69 (by decide) ?_
  refine H_puti ck7 6 (by decide) (fs_115 hF) (by decide) rfl rfl q1464 dX8_read_70 (fun h13 e14 => ?_)
  have H := H h13 e14
  refine V_aload_n dX8_read_73 rfl 0 rfl ?_
  refine V_iconst (v := 0) dX8_read_74 (by decide) ?_
  refine H_puti ck7 9 (by decide) (fs_115 hF) (by decide) rfl rfl q1467 dX8_read_75 (fun h15 e16 => ?_)
  have H := H h15 e16
  refine V_aload_n dX8_read_78 rfl 0 rfl ?_
  refine V_iconst (v := (-1)) dX8_read_79 (by decide) ?_
  refine H_puti ck7 10 (by decide) (fs_115 hF) (by decide) rfl rfl q1468 dX8_read_80 (fun h17 e18 => ?_)
  have H := H h17 e18
  refine V_aload_n dX8_read_83 rfl 0 rfl ?_
  refine H_callv (av := [.ref (ad D 115)]) (rest := []) H mqX8_next q88 (by decide) (Nat.le_of_ble_eq_true rfl) (k_resV (ci := 7) (av := []) (rest := []) (fs_115 hF) (by decide) rfl rfl q1728 q1730 qs29 q1731 mhX8_next mnX8_next dX8_read_84) (fun h19 g20 H => ?_)
  refine V_aload_n dX8_read_87 rfl 0 rfl ?_
  refine H_callv (av := [.ref (ad D 115)]) (rest := []) H mqX8_definition q88 (by decide) (Nat.le_of_ble_eq_true rfl) (k_resV (ci := 7) (av := []) (rest := []) (fs_115 hF) (by decide) rfl rfl q1755 q1757 qs32 q1758 mhX8_definition mnX8_definition dX8_read_88) (fun h21 g22 H => ?_)
  exact H
abbrev JX8_read_0 (D : DE) (f : Nat) (Q : Int32 → HI → HL → Prop) (F : Frm) (h : HI) (g : HL) : Prop := ∀ h1, h1 = up2 h 115 0 0 → (((h1 115 45) = 0 → JX8_read_26 D f Q F h1 g (h1 115 47)) ∧ (¬ (h1 115 45) = 0 → JX8_read_26 D f Q F h1 g (1 - (h1 115 47))))
theorem bX8_read_0 {D : DE} {f : Nat} {Q : Int32 → HI → HL → Prop} {F : Frm} {h : HI} {g : HL} (hF : k_Fix F)  (H : JX8_read_0 D f Q F h g ) : V D mX8_read (f + 1) (qi F Q) 0 [(0, .ref (ad D 115))] [] (F, h, g) := by
  refine V_aload_n dX8_read_0 rfl 0 rfl ?_
  refine V_iconst (v := 0) dX8_read_1 (by decide) ?_
  refine H_puti ck7 0 (by decide) (fs_115 hF) (by decide) rfl rfl q1458 dX8_read_2 (fun h1 e2 => ?_)
  have H := H h1 e2
  refine V_aload_n dX8_read_5 rfl 0 rfl ?_
  refine V_aload_n dX8_read_6 rfl 0 rfl ?_
  refine H_geti ck7 45 (by decide) (fs_115 hF) (by decide) rfl q1503 dX8_read_7 ?_
  refine V_if_eq (tgt := 22) dX8_read_10 (by decide) (fun c3 => ?_) (fun c3 => ?_)
  · have H := H.1 c3
    refine V_aload_n dX8_read_22 rfl 0 rfl ?_
    refine H_geti ck7 47 (by decide) (fs_115 hF) (by decide) rfl q1505 dX8_read_23 ?_
    exact bX8_read_26 hF (h1 115 47) H
  · have H := H.2 c3
    refine V_iconst (v := 1) dX8_read_13 (by decide) ?_
    refine V_aload_n dX8_read_14 rfl 0 rfl ?_
    refine H_geti ck7 47 (by decide) (fs_115 hF) (by decide) rfl q1505 dX8_read_15 ?_
    refine V_isub dX8_read_18 ?_
    refine V_goto (tgt := 26) dX8_read_19 (by decide) ?_
    exact bX8_read_26 hF (1 - (h1 115 47)) H
theorem wX8_read {D : DE} {f : Nat} {Q : Int32 → HI → HL → Prop} {F : Frm} {h : HI} {g : HL} (hF : k_Fix F)  (H : JX8_read_0 D f Q F h g ) : Si D (f + 1) mX8_read [.ref (ad D 115)] F h g Q := Cl.ofV (by decide) (Nat.le_of_ble_eq_true rfl) rfl (bX8_read_0 hF  H)
theorem dX8_place_0 : decode cX8_place 0 = .ok (.aload_n 0, 1) := by decide +kernel
theorem dX8_place_1 : decode cX8_place 1 = .ok (.iconst 0, 1) := by decide +kernel
theorem dX8_place_2 : decode cX8_place 2 = .ok (.putfield 148, 3) := by decide +kernel
theorem dX8_place_5 : decode cX8_place 5 = .ok (.aload_n 0, 1) := by decide +kernel
theorem dX8_place_6 : decode cX8_place 6 = .ok (.getfield 13, 3) := by decide +kernel
theorem dX8_place_9 : decode cX8_place 9 = .ok (.ireturn, 1) := by decide +kernel
abbrev JX8_place_0 (D : DE) (f : Nat) (Q : Int32 → HI → HL → Prop) (F : Frm) (h : HI) (g : HL) : Prop := ∀ h1, h1 = up2 h 115 0 0 → Q (h1 115 10) h1 g
theorem bX8_place_0 {D : DE} {f : Nat} {Q : Int32 → HI → HL → Prop} {F : Frm} {h : HI} {g : HL} (hF : k_Fix F)  (H : JX8_place_0 D f Q F h g ) : V D mX8_place f (qi F Q) 0 [(0, .ref (ad D 115))] [] (F, h, g) := by
  refine V_aload_n dX8_place_0 rfl 0 rfl ?_
  refine V_iconst (v := 0) dX8_place_1 (by decide) ?_
  refine H_puti ck7 0 (by decide) (fs_115 hF) (by decide) rfl rfl q1458 dX8_place_2 (fun h1 e2 => ?_)
  have H := H h1 e2
  refine V_aload_n dX8_place_5 rfl 0 rfl ?_
  refine H_geti ck7 10 (by decide) (fs_115 hF) (by decide) rfl q1468 dX8_place_6 ?_
  exact H_iret rfl dX8_place_9 H
theorem wX8_place {D : DE} {f : Nat} {Q : Int32 → HI → HL → Prop} {F : Frm} {h : HI} {g : HL} (hF : k_Fix F)  (H : JX8_place_0 D f Q F h g ) : Si D f mX8_place [.ref (ad D 115)] F h g Q := Cl.ofV (by decide) (Nat.le_of_ble_eq_true rfl) rfl (bX8_place_0 hF  H)
theorem dX8_isFn_0 : decode cX8_isFn 0 = .ok (.aload_n 0, 1) := by decide +kernel
theorem dX8_isFn_1 : decode cX8_isFn 1 = .ok (.getfield 341, 3) := by decide +kernel
theorem dX8_isFn_4 : decode cX8_isFn 4 = .ok (.ifCond .eq 28, 3) := by decide +kernel
theorem dX8_isFn_7 : decode cX8_isFn 7 = .ok (.iload_n 1, 1) := by decide +kernel
theorem dX8_isFn_8 : decode cX8_isFn 8 = .ok (.i2l, 1) := by decide +kernel
theorem dX8_isFn_9 : decode cX8_isFn 9 = .ok (.lconst 0, 1) := by decide +kernel
theorem dX8_isFn_10 : decode cX8_isFn 10 = .ok (.aload_n 0, 1) := by decide +kernel
theorem dX8_isFn_11 : decode cX8_isFn 11 = .ok (.getfield 63, 3) := by decide +kernel
theorem dX8_isFn_14 : decode cX8_isFn 14 = .ok (.aload_n 0, 1) := by decide +kernel
theorem dX8_isFn_15 : decode cX8_isFn 15 = .ok (.getfield 345, 3) := by decide +kernel
theorem dX8_isFn_18 : decode cX8_isFn 18 = .ok (.iaload, 1) := by decide +kernel
theorem dX8_isFn_19 : decode cX8_isFn 19 = .ok (.iconst 1, 1) := by decide +kernel
theorem dX8_isFn_20 : decode cX8_isFn 20 = .ok (.isub, 1) := by decide +kernel
theorem dX8_isFn_21 : decode cX8_isFn 21 = .ok (.i2l, 1) := by decide +kernel
theorem dX8_isFn_22 : decode cX8_isFn 22 = .ok (.invokestatic 154, 3) := by decide +kernel
theorem dX8_isFn_25 : decode cX8_isFn 25 = .ok (.ifCond .eq 7, 3) := by decide +kernel
theorem dX8_isFn_28 : decode cX8_isFn 28 = .ok (.iconst 1, 1) := by decide +kernel
theorem dX8_isFn_29 : decode cX8_isFn 29 = .ok (.goto 4, 3) := by decide +kernel
theorem dX8_isFn_32 : decode cX8_isFn 32 = .ok (.iconst 0, 1) := by decide +kernel
theorem dX8_isFn_33 : decode cX8_isFn 33 = .ok (.ireturn, 1) := by decide +kernel
abbrev JX8_isFn_0 (D : DE) (f : Nat) (Q : Int32 → HI → HL → Prop) (F : Frm) (h : HI) (g : HL) (x1 : Int32) : Prop := (((h 115 45) = 0 → Q 0 h g) ∧ (¬ (h 115 45) = 0 → vp_in (h 115 47) 2 ∧ Si D f mX8_within [.long x1.toInt64, .long 0, .long (((h 132 (ix (h 115 47))) - 1).toInt64)] F h g (fun y5 h3 g4 => ((y5 = 0 → Q 0 h3 g4) ∧ (¬ y5 = 0 → Q 1 h3 g4)))))
theorem bX8_isFn_0 {D : DE} {f : Nat} {Q : Int32 → HI → HL → Prop} {F : Frm} {h : HI} {g : HL} (hF : k_Fix F) (x1 : Int32) (H : JX8_isFn_0 D f Q F h g x1) : V D mX8_isFn (f + 1) (qi F Q) 0 [(0, .ref (ad D 115)), (1, .int x1)] [] (F, h, g) := by
  refine V_aload_n dX8_isFn_0 rfl 0 rfl ?_
  refine H_geti ck7 45 (by decide) (fs_115 hF) (by decide) rfl q1503 dX8_isFn_1 ?_
  refine V_if_eq (tgt := 32) dX8_isFn_4 (by decide) (fun c1 => ?_) (fun c1 => ?_)
  · have H := H.1 c1
    refine V_iconst (v := 0) dX8_isFn_32 (by decide) ?_
    exact H_zret rfl isB0 dX8_isFn_33 H
  · have H := H.2 c1
    refine V_iload_n dX8_isFn_7 rfl 1 rfl ?_
    refine V_i2l dX8_isFn_8 ?_
    refine V_lconst (v := 0) dX8_isFn_9 (by decide) ?_
    refine V_aload_n dX8_isFn_10 rfl 0 rfl ?_
    refine H_getr ck7 26 (by decide) (fs_115 hF) (by decide) rfl (fr_115_26 hF) q1484 dX8_isFn_11 ?_
    refine V_aload_n dX8_isFn_14 rfl 0 rfl ?_
    refine H_geti ck7 47 (by decide) (fs_115 hF) (by decide) rfl q1505 dX8_isFn_15 ?_
    obtain ⟨i2, H⟩ := H
    refine H_iald (fs_132 hF) i2 dX8_isFn_18 ?_
    refine V_iconst (v := 1) dX8_isFn_19 (by decide) ?_
    refine V_isub dX8_isFn_20 ?_
    refine V_i2l dX8_isFn_21 ?_
    refine H_calli (av := [.long x1.toInt64, .long 0, .long (((h 132 (ix (h 115 47))) - 1).toInt64)]) (rest := []) H mqX8_within q88 (by decide) (Nat.le_of_ble_eq_true rfl) (k_resS (av := [.long x1.toInt64, .long 0, .long (((h 132 (ix (h 115 47))) - 1).toInt64)]) (rest := []) (M1 := mX8_within) rfl q1721 q1722 q88 mqX8_within (fun _ _ h => mW_named h) mhX8_within mnX8_within dX8_isFn_22) (fun y5 h3 g4 H => ?_)
    refine V_if_eq (tgt := 32) dX8_isFn_25 (by decide) (fun c6 => ?_) (fun c6 => ?_)
    · have H := H.1 c6
      refine V_iconst (v := 0) dX8_isFn_32 (by decide) ?_
      exact H_zret rfl isB0 dX8_isFn_33 H
    · have H := H.2 c6
      refine V_iconst (v := 1) dX8_isFn_28 (by decide) ?_
      refine V_goto (tgt := 33) dX8_isFn_29 (by decide) ?_
      exact H_zret rfl isB1 dX8_isFn_33 H
theorem wX8_isFn {D : DE} {f : Nat} {Q : Int32 → HI → HL → Prop} {F : Frm} {h : HI} {g : HL} (hF : k_Fix F) (x1 : Int32) (H : JX8_isFn_0 D f Q F h g x1) : Si D (f + 1) mX8_isFn [.ref (ad D 115), .int x1] F h g Q := Cl.ofV (by decide) (Nat.le_of_ble_eq_true rfl) rfl (bX8_isFn_0 hF x1 H)
theorem dX8_function_0 : decode cX8_function 0 = .ok (.bipush 12, 2) := by decide +kernel
theorem dX8_function_2 : decode cX8_function 2 = .ok (.aload_n 0, 1) := by decide +kernel
theorem dX8_function_3 : decode cX8_function 3 = .ok (.getfield 345, 3) := by decide +kernel
theorem dX8_function_6 : decode cX8_function 6 = .ok (.imul, 1) := by decide +kernel
theorem dX8_function_7 : decode cX8_function 7 = .ok (.iload_n 1, 1) := by decide +kernel
theorem dX8_function_8 : decode cX8_function 8 = .ok (.iadd, 1) := by decide +kernel
theorem dX8_function_9 : decode cX8_function 9 = .ok (.istore_n 3, 1) := by decide +kernel
theorem dX8_function_10 : decode cX8_function 10 = .ok (.aload_n 0, 1) := by decide +kernel
theorem dX8_function_11 : decode cX8_function 11 = .ok (.aload_n 0, 1) := by decide +kernel
theorem dX8_function_12 : decode cX8_function 12 = .ok (.iload_n 1, 1) := by decide +kernel
theorem dX8_function_13 : decode cX8_function 13 = .ok (.invokevirtual 357, 3) := by decide +kernel
theorem dX8_function_16 : decode cX8_function 16 = .ok (.ifCond .eq 37, 3) := by decide +kernel
theorem dX8_function_19 : decode cX8_function 19 = .ok (.iload_n 2, 1) := by decide +kernel
theorem dX8_function_20 : decode cX8_function 20 = .ok (.i2l, 1) := by decide +kernel
theorem dX8_function_21 : decode cX8_function 21 = .ok (.lconst 0, 1) := by decide +kernel
theorem dX8_function_22 : decode cX8_function 22 = .ok (.iconst 2, 1) := by decide +kernel
theorem dX8_function_23 : decode cX8_function 23 = .ok (.aload_n 0, 1) := by decide +kernel
theorem dX8_function_24 : decode cX8_function 24 = .ok (.getfield 24, 3) := by decide +kernel
theorem dX8_function_27 : decode cX8_function 27 = .ok (.aload_n 0, 1) := by decide +kernel
theorem dX8_function_28 : decode cX8_function 28 = .ok (.iload_n 1, 1) := by decide +kernel
theorem dX8_function_29 : decode cX8_function 29 = .ok (.invokevirtual 357, 3) := by decide +kernel
theorem dX8_function_32 : decode cX8_function 32 = .ok (.ifCond .eq 7, 3) := by decide +kernel
theorem dX8_function_35 : decode cX8_function 35 = .ok (.iload_n 3, 1) := by decide +kernel
theorem dX8_function_36 : decode cX8_function 36 = .ok (.goto 4, 3) := by decide +kernel
theorem dX8_function_39 : decode cX8_function 39 = .ok (.iconst 0, 1) := by decide +kernel
theorem dX8_function_40 : decode cX8_function 40 = .ok (.iaload, 1) := by decide +kernel
theorem dX8_function_41 : decode cX8_function 41 = .ok (.iadd, 1) := by decide +kernel
theorem dX8_function_42 : decode cX8_function 42 = .ok (.i2l, 1) := by decide +kernel
theorem dX8_function_43 : decode cX8_function 43 = .ok (.invokestatic 154, 3) := by decide +kernel
theorem dX8_function_46 : decode cX8_function 46 = .ok (.ifCond .eq 7, 3) := by decide +kernel
theorem dX8_function_49 : decode cX8_function 49 = .ok (.iconst 0, 1) := by decide +kernel
theorem dX8_function_50 : decode cX8_function 50 = .ok (.goto 4, 3) := by decide +kernel
theorem dX8_function_53 : decode cX8_function 53 = .ok (.iconst 1, 1) := by decide +kernel
theorem dX8_function_54 : decode cX8_function 54 = .ok (.putfield 148, 3) := by decide +kernel
theorem dX8_function_57 : decode cX8_function 57 = .ok (.aload_n 0, 1) := by decide +kernel
theorem dX8_function_58 : decode cX8_function 58 = .ok (.getfield 148, 3) := by decide +kernel
theorem dX8_function_61 : decode cX8_function 61 = .ok (.ifCond .le 5, 3) := by decide +kernel
theorem dX8_function_64 : decode cX8_function 64 = .ok (.iconst 0, 1) := by decide +kernel
theorem dX8_function_65 : decode cX8_function 65 = .ok (.ireturn, 1) := by decide +kernel
theorem dX8_function_66 : decode cX8_function 66 = .ok (.iload_n 2, 1) := by decide +kernel
theorem dX8_function_67 : decode cX8_function 67 = .ok (.ifCond .ne 12, 3) := by decide +kernel
theorem dX8_function_70 : decode cX8_function 70 = .ok (.aload_n 0, 1) := by decide +kernel
theorem dX8_function_71 : decode cX8_function 71 = .ok (.getfield 24, 3) := by decide +kernel
theorem dX8_function_74 : decode cX8_function 74 = .ok (.iload_n 3, 1) := by decide +kernel
theorem dX8_function_75 : decode cX8_function 75 = .ok (.iaload, 1) := by decide +kernel
theorem dX8_function_76 : decode cX8_function 76 = .ok (.goto 47, 3) := by decide +kernel
theorem dX8_function_79 : decode cX8_function 79 = .ok (.iload_n 2, 1) := by decide +kernel
theorem dX8_function_80 : decode cX8_function 80 = .ok (.iconst 1, 1) := by decide +kernel
theorem dX8_function_81 : decode cX8_function 81 = .ok (.if_icmp .ne 12, 3) := by decide +kernel
theorem dX8_function_84 : decode cX8_function 84 = .ok (.aload_n 0, 1) := by decide +kernel
theorem dX8_function_85 : decode cX8_function 85 = .ok (.getfield 27, 3) := by decide +kernel
theorem dX8_function_88 : decode cX8_function 88 = .ok (.iload_n 3, 1) := by decide +kernel
theorem dX8_function_89 : decode cX8_function 89 = .ok (.iaload, 1) := by decide +kernel
theorem dX8_function_90 : decode cX8_function 90 = .ok (.goto 33, 3) := by decide +kernel
theorem dX8_function_93 : decode cX8_function 93 = .ok (.iload_n 2, 1) := by decide +kernel
theorem dX8_function_94 : decode cX8_function 94 = .ok (.iconst 2, 1) := by decide +kernel
theorem dX8_function_95 : decode cX8_function 95 = .ok (.if_icmp .ne 12, 3) := by decide +kernel
theorem dX8_function_98 : decode cX8_function 98 = .ok (.aload_n 0, 1) := by decide +kernel
theorem dX8_function_99 : decode cX8_function 99 = .ok (.getfield 21, 3) := by decide +kernel
theorem dX8_function_102 : decode cX8_function 102 = .ok (.iload_n 3, 1) := by decide +kernel
theorem dX8_function_103 : decode cX8_function 103 = .ok (.iaload, 1) := by decide +kernel
theorem dX8_function_104 : decode cX8_function 104 = .ok (.goto 16, 3) := by decide +kernel
theorem dX8_function_107 : decode cX8_function 107 = .ok (.aload_n 0, 1) := by decide +kernel
theorem dX8_function_108 : decode cX8_function 108 = .ok (.getfield 36, 3) := by decide +kernel
theorem dX8_function_111 : decode cX8_function 111 = .ok (.bipush 16, 2) := by decide +kernel
theorem dX8_function_113 : decode cX8_function 113 = .ok (.iload_n 3, 1) := by decide +kernel
theorem dX8_function_114 : decode cX8_function 114 = .ok (.imul, 1) := by decide +kernel
theorem dX8_function_115 : decode cX8_function 115 = .ok (.iload_n 2, 1) := by decide +kernel
theorem dX8_function_116 : decode cX8_function 116 = .ok (.iadd, 1) := by decide +kernel
theorem dX8_function_117 : decode cX8_function 117 = .ok (.iconst 3, 1) := by decide +kernel
theorem dX8_function_118 : decode cX8_function 118 = .ok (.isub, 1) := by decide +kernel
theorem dX8_function_119 : decode cX8_function 119 = .ok (.iaload, 1) := by decide +kernel
theorem dX8_function_120 : decode cX8_function 120 = .ok (.invokestatic 166, 3) := by decide +kernel
theorem dX8_function_123 : decode cX8_function 123 = .ok (.ireturn, 1) := by decide +kernel
abbrev JX8_function_54 (D : DE) (f : Nat) (Q : Int32 → HI → HL → Prop) (F : Frm) (h : HI) (g : HL) (x2 : Int32) (x3 : Int32) (s1 : Int32) : Prop := ∀ h1, h1 = up2 h 115 0 s1 → (((h1 115 0) ≤ 0 → ((¬ x2 = 0 → ((¬ x2 = 1 → ((¬ x2 = 2 → vp_in (((16 * x3) + x2) - 3) 384 ∧ Si D f mX8_demands [.int (h1 123 (ix (((16 * x3) + x2) - 3)))] F h1 g (fun y10 h8 g9 => Q y10 h8 g9)) ∧ (x2 = 2 → vp_in x3 24 ∧ Si D f mX8_demands [.int (h1 118 (ix x3))] F h1 g (fun y14 h12 g13 => Q y14 h12 g13)))) ∧ (x2 = 1 → vp_in x3 24 ∧ Q (h1 120 (ix x3)) h1 g))) ∧ (x2 = 0 → vp_in x3 24 ∧ Q (h1 119 (ix x3)) h1 g))) ∧ (¬ (h1 115 0) ≤ 0 → Q 0 h1 g))
theorem bX8_function_54 {D : DE} {f : Nat} {Q : Int32 → HI → HL → Prop} {F : Frm} {h : HI} {g : HL} (hF : k_Fix F) (x2 : Int32) (x3 : Int32) (s1 : Int32) (H : JX8_function_54 D f Q F h g x2 x3 s1) : V D mX8_function (f + 1) (qi F Q) 54 [(0, .ref (ad D 115)), (2, .int x2), (3, .int x3)] [.int s1, .ref (ad D 115)] (F, h, g) := by
  refine H_puti ck7 0 (by decide) (fs_115 hF) (by decide) rfl rfl q1458 dX8_function_54 (fun h1 e2 => ?_)
  have H := H h1 e2
  refine V_aload_n dX8_function_57 rfl 0 rfl ?_
  refine H_geti ck7 0 (by decide) (fs_115 hF) (by decide) rfl q1458 dX8_function_58 ?_
  refine V_if_le (tgt := 66) dX8_function_61 (by decide) (fun c3 => ?_) (fun c3 => ?_)
  · have H := H.1 c3
    refine V_iload_n dX8_function_66 rfl 1 rfl ?_
    refine V_if_ne (tgt := 79) dX8_function_67 (by decide) (fun c4 => ?_) (fun c4 => ?_)
    · have H := H.1 c4
      refine V_iload_n dX8_function_79 rfl 1 rfl ?_
      refine V_iconst (v := 1) dX8_function_80 (by decide) ?_
      refine V_icmp_ne (tgt := 93) dX8_function_81 (by decide) (fun c5 => ?_) (fun c5 => ?_)
      · have H := H.1 c5
        refine V_iload_n dX8_function_93 rfl 1 rfl ?_
        refine V_iconst (v := 2) dX8_function_94 (by decide) ?_
        refine V_icmp_ne (tgt := 107) dX8_function_95 (by decide) (fun c6 => ?_) (fun c6 => ?_)
        · have H := H.1 c6
          refine V_aload_n dX8_function_107 rfl 0 rfl ?_
          refine H_getr ck7 17 (by decide) (fs_115 hF) (by decide) rfl (fr_115_17 hF) q1475 dX8_function_108 ?_
          refine V_bipush (v := 16) dX8_function_111 (by decide) ?_
          refine V_iload_n dX8_function_113 rfl 2 rfl ?_
          refine V_imul dX8_function_114 ?_
          refine V_iload_n dX8_function_115 rfl 1 rfl ?_
          refine V_iadd dX8_function_116 ?_
          refine V_iconst (v := 3) dX8_function_117 (by decide) ?_
          refine V_isub dX8_function_118 ?_
          obtain ⟨i7, H⟩ := H
          refine H_iald (fs_123 hF) i7 dX8_function_119 ?_
          refine H_calli (av := [.int (h1 123 (ix (((16 * x3) + x2) - 3)))]) (rest := []) H mqX8_demands q88 (by decide) (Nat.le_of_ble_eq_true rfl) (k_resS (av := [.int (h1 123 (ix (((16 * x3) + x2) - 3)))]) (rest := []) (M1 := mX8_demands) rfl q1876 q1877 q88 mqX8_demands (fun _ _ h => mW_named h) mhX8_demands mnX8_demands dX8_function_120) (fun y10 h8 g9 H => ?_)
          exact H_iret rfl dX8_function_123 H
        · have H := H.2 c6
          refine V_aload_n dX8_function_98 rfl 0 rfl ?_
          refine H_getr ck7 12 (by decide) (fs_115 hF) (by decide) rfl (fr_115_12 hF) q1470 dX8_function_99 ?_
          refine V_iload_n dX8_function_102 rfl 2 rfl ?_
          obtain ⟨i11, H⟩ := H
          refine H_iald (fs_118 hF) i11 dX8_function_103 ?_
          refine V_goto (tgt := 120) dX8_function_104 (by decide) ?_
          refine H_calli (av := [.int (h1 118 (ix x3))]) (rest := []) H mqX8_demands q88 (by decide) (Nat.le_of_ble_eq_true rfl) (k_resS (av := [.int (h1 118 (ix x3))]) (rest := []) (M1 := mX8_demands) rfl q1876 q1877 q88 mqX8_demands (fun _ _ h => mW_named h) mhX8_demands mnX8_demands dX8_function_120) (fun y14 h12 g13 H => ?_)
          exact H_iret rfl dX8_function_123 H
      · have H := H.2 c5
        refine V_aload_n dX8_function_84 rfl 0 rfl ?_
        refine H_getr ck7 14 (by decide) (fs_115 hF) (by decide) rfl (fr_115_14 hF) q1472 dX8_function_85 ?_
        refine V_iload_n dX8_function_88 rfl 2 rfl ?_
        obtain ⟨i15, H⟩ := H
        refine H_iald (fs_120 hF) i15 dX8_function_89 ?_
        refine V_goto (tgt := 123) dX8_function_90 (by decide) ?_
        exact H_iret rfl dX8_function_123 H
    · have H := H.2 c4
      refine V_aload_n dX8_function_70 rfl 0 rfl ?_
      refine H_getr ck7 13 (by decide) (fs_115 hF) (by decide) rfl (fr_115_13 hF) q1471 dX8_function_71 ?_
      refine V_iload_n dX8_function_74 rfl 2 rfl ?_
      obtain ⟨i16, H⟩ := H
      refine H_iald (fs_119 hF) i16 dX8_function_75 ?_
      refine V_goto (tgt := 123) dX8_function_76 (by decide) ?_
      exact H_iret rfl dX8_function_123 H
  · have H := H.2 c3
    refine V_iconst (v := 0) dX8_function_64 (by decide) ?_
    exact H_iret rfl dX8_function_65 H
abbrev JX8_function_53 (D : DE) (f : Nat) (Q : Int32 → HI → HL → Prop) (F : Frm) (h : HI) (g : HL) (x2 : Int32) (x3 : Int32) : Prop := JX8_function_54 D f Q F h g x2 x3 1
theorem bX8_function_53 {D : DE} {f : Nat} {Q : Int32 → HI → HL → Prop} {F : Frm} {h : HI} {g : HL} (hF : k_Fix F) (x2 : Int32) (x3 : Int32) (H : JX8_function_53 D f Q F h g x2 x3) : V D mX8_function (f + 1) (qi F Q) 53 [(0, .ref (ad D 115)), (2, .int x2), (3, .int x3)] [.ref (ad D 115)] (F, h, g) := by
  refine V_iconst (v := 1) dX8_function_53 (by decide) ?_
  exact bX8_function_54 hF x2 x3 1 H
abbrev JX8_function_40 (D : DE) (f : Nat) (Q : Int32 → HI → HL → Prop) (F : Frm) (h : HI) (g : HL) (x2 : Int32) (x3 : Int32) (s1 : Int64) (s2 : Int64) (s3 : Int32) (s5 : Int32) : Prop := vp_in s5 24 ∧ Si D f mX8_within [.long s1, .long s2, .long ((s3 + (h 119 (ix s5))).toInt64)] F h g (fun y4 h2 g3 => ((y4 = 0 → JX8_function_53 D f Q F h2 g3 x2 x3) ∧ (¬ y4 = 0 → JX8_function_54 D f Q F h2 g3 x2 x3 0)))
theorem bX8_function_40 {D : DE} {f : Nat} {Q : Int32 → HI → HL → Prop} {F : Frm} {h : HI} {g : HL} (hF : k_Fix F) (x2 : Int32) (x3 : Int32) (s1 : Int64) (s2 : Int64) (s3 : Int32) (s5 : Int32) (H : JX8_function_40 D f Q F h g x2 x3 s1 s2 s3 s5) : V D mX8_function (f + 1) (qi F Q) 40 [(0, .ref (ad D 115)), (2, .int x2), (3, .int x3)] [.int s5, .ref (ad D 119), .int s3, .long s2, .long s1, .ref (ad D 115)] (F, h, g) := by
  obtain ⟨i1, H⟩ := H
  refine H_iald (fs_119 hF) i1 dX8_function_40 ?_
  refine V_iadd dX8_function_41 ?_
  refine V_i2l dX8_function_42 ?_
  refine H_calli (av := [.long s1, .long s2, .long ((s3 + (h 119 (ix s5))).toInt64)]) (rest := [.ref (ad D 115)]) H mqX8_within q88 (by decide) (Nat.le_of_ble_eq_true rfl) (k_resS (av := [.long s1, .long s2, .long ((s3 + (h 119 (ix s5))).toInt64)]) (rest := [.ref (ad D 115)]) (M1 := mX8_within) rfl q1721 q1722 q88 mqX8_within (fun _ _ h => mW_named h) mhX8_within mnX8_within dX8_function_43) (fun y4 h2 g3 H => ?_)
  refine V_if_eq (tgt := 53) dX8_function_46 (by decide) (fun c5 => ?_) (fun c5 => ?_)
  · have H := H.1 c5
    exact bX8_function_53 hF x2 x3 H
  · have H := H.2 c5
    refine V_iconst (v := 0) dX8_function_49 (by decide) ?_
    refine V_goto (tgt := 54) dX8_function_50 (by decide) ?_
    exact bX8_function_54 hF x2 x3 0 H
abbrev JX8_function_0 (D : DE) (f : Nat) (Q : Int32 → HI → HL → Prop) (F : Frm) (h : HI) (g : HL) (x1 : Int32) (x2 : Int32) : Prop := ∀ y1 : Int32, y1 = (12 * (h 115 47)) + x1 → Si D f mX8_isFn [.ref (ad D 115), .int x1] F h g (fun y5 h3 g4 => ((y5 = 0 → JX8_function_53 D f Q F h3 g4 x2 y1) ∧ (¬ y5 = 0 → Si D f mX8_isFn [.ref (ad D 115), .int x1] F h3 g4 (fun y9 h7 g8 => ((y9 = 0 → JX8_function_40 D f Q F h7 g8 x2 y1 x2.toInt64 0 2 0) ∧ (¬ y9 = 0 → JX8_function_40 D f Q F h7 g8 x2 y1 x2.toInt64 0 2 y1))))))
theorem bX8_function_0 {D : DE} {f : Nat} {Q : Int32 → HI → HL → Prop} {F : Frm} {h : HI} {g : HL} (hF : k_Fix F) (x1 : Int32) (x2 : Int32) (H : JX8_function_0 D f Q F h g x1 x2) : V D mX8_function (f + 1) (qi F Q) 0 [(0, .ref (ad D 115)), (1, .int x1), (2, .int x2)] [] (F, h, g) := by
  refine V_bipush (v := 12) dX8_function_0 (by decide) ?_
  refine V_aload_n dX8_function_2 rfl 0 rfl ?_
  refine H_geti ck7 47 (by decide) (fs_115 hF) (by decide) rfl q1505 dX8_function_3 ?_
  refine V_imul dX8_function_6 ?_
  refine V_iload_n dX8_function_7 rfl 1 rfl ?_
  refine V_iadd dX8_function_8 ?_
  refine V_topi (fun y1 e2 => ?_)
  have H := H y1 e2
  refine V_istore_n (l1 := [(3, .int y1), (0, .ref (ad D 115)), (1, .int x1), (2, .int x2)]) dX8_function_9 rfl (by decide) rfl ?_
  refine V_aload_n dX8_function_10 rfl 1 rfl ?_
  refine V_aload_n dX8_function_11 rfl 1 rfl ?_
  refine V_iload_n dX8_function_12 rfl 2 rfl ?_
  refine H_calli (av := [.ref (ad D 115), .int x1]) (rest := [.ref (ad D 115)]) H mqX8_isFn q88 (by decide) (Nat.le_of_ble_eq_true rfl) (k_resV (ci := 7) (av := [.int x1]) (rest := [.ref (ad D 115)]) (fs_115 hF) (by decide) rfl rfl q1872 q1874 qs57 q1875 mhX8_isFn mnX8_isFn dX8_function_13) (fun y5 h3 g4 H => ?_)
  refine V_if_eq (tgt := 53) dX8_function_16 (by decide) (fun c6 => ?_) (fun c6 => ?_)
  · have H := H.1 c6
    refine V.sub [1, 3, 0] rfl ?_
    exact bX8_function_53 hF x2 y1 H
  · have H := H.2 c6
    refine V_iload_n dX8_function_19 rfl 3 rfl ?_
    refine V_i2l dX8_function_20 ?_
    refine V_lconst (v := 0) dX8_function_21 (by decide) ?_
    refine V_iconst (v := 2) dX8_function_22 (by decide) ?_
    refine V_aload_n dX8_function_23 rfl 1 rfl ?_
    refine H_getr ck7 13 (by decide) (fs_115 hF) (by decide) rfl (fr_115_13 hF) q1471 dX8_function_24 ?_
    refine V_aload_n dX8_function_27 rfl 1 rfl ?_
    refine V_iload_n dX8_function_28 rfl 2 rfl ?_
    refine H_calli (av := [.ref (ad D 115), .int x1]) (rest := [.ref (ad D 119), .int 2, .long 0, .long x2.toInt64, .ref (ad D 115)]) H mqX8_isFn q88 (by decide) (Nat.le_of_ble_eq_true rfl) (k_resV (ci := 7) (av := [.int x1]) (rest := [.ref (ad D 119), .int 2, .long 0, .long x2.toInt64, .ref (ad D 115)]) (fs_115 hF) (by decide) rfl rfl q1872 q1874 qs57 q1875 mhX8_isFn mnX8_isFn dX8_function_29) (fun y9 h7 g8 H => ?_)
    refine V_if_eq (tgt := 39) dX8_function_32 (by decide) (fun c10 => ?_) (fun c10 => ?_)
    · have H := H.1 c10
      refine V_iconst (v := 0) dX8_function_39 (by decide) ?_
      refine V.sub [1, 3, 0] rfl ?_
      exact bX8_function_40 hF x2 y1 x2.toInt64 0 2 0 H
    · have H := H.2 c10
      refine V_iload_n dX8_function_35 rfl 0 rfl ?_
      refine V_goto (tgt := 40) dX8_function_36 (by decide) ?_
      refine V.sub [1, 3, 0] rfl ?_
      exact bX8_function_40 hF x2 y1 x2.toInt64 0 2 y1 H
theorem wX8_function {D : DE} {f : Nat} {Q : Int32 → HI → HL → Prop} {F : Frm} {h : HI} {g : HL} (hF : k_Fix F) (x1 : Int32) (x2 : Int32) (H : JX8_function_0 D f Q F h g x1 x2) : Si D (f + 1) mX8_function [.ref (ad D 115), .int x1, .int x2] F h g Q := Cl.ofV (by decide) (Nat.le_of_ble_eq_true rfl) rfl (bX8_function_0 hF x1 x2 H)
theorem dX8_asking_0 : decode cX8_asking 0 = .ok (.aload_n 0, 1) := by decide +kernel
theorem dX8_asking_1 : decode cX8_asking 1 = .ok (.getfield 242, 3) := by decide +kernel
theorem dX8_asking_4 : decode cX8_asking 4 = .ok (.sipush 3000, 3) := by decide +kernel
theorem dX8_asking_7 : decode cX8_asking 7 = .ok (.if_icmp .ge 29, 3) := by decide +kernel
theorem dX8_asking_10 : decode cX8_asking 10 = .ok (.iload 4, 2) := by decide +kernel
theorem dX8_asking_12 : decode cX8_asking 12 = .ok (.sipush 7900, 3) := by decide +kernel
theorem dX8_asking_15 : decode cX8_asking 15 = .ok (.if_icmp .gt 21, 3) := by decide +kernel
theorem dX8_asking_18 : decode cX8_asking 18 = .ok (.aload_n 0, 1) := by decide +kernel
theorem dX8_asking_19 : decode cX8_asking 19 = .ok (.getfield 87, 3) := by decide +kernel
theorem dX8_asking_22 : decode cX8_asking 22 = .ok (.aload_n 0, 1) := by decide +kernel
theorem dX8_asking_23 : decode cX8_asking 23 = .ok (.getfield 242, 3) := by decide +kernel
theorem dX8_asking_26 : decode cX8_asking 26 = .ok (.iload_n 3, 1) := by decide +kernel
theorem dX8_asking_27 : decode cX8_asking 27 = .ok (.iastore, 1) := by decide +kernel
theorem dX8_asking_28 : decode cX8_asking 28 = .ok (.aload_n 0, 1) := by decide +kernel
theorem dX8_asking_29 : decode cX8_asking 29 = .ok (.iload_n 1, 1) := by decide +kernel
theorem dX8_asking_30 : decode cX8_asking 30 = .ok (.iload_n 2, 1) := by decide +kernel
theorem dX8_asking_31 : decode cX8_asking 31 = .ok (.iload 4, 2) := by decide +kernel
theorem dX8_asking_33 : decode cX8_asking 33 = .ok (.invokevirtual 322, 3) := by decide +kernel
theorem dX8_asking_36 : decode cX8_asking 36 = .ok (.return_, 1) := by decide +kernel
abbrev JX8_asking_0 (D : DE) (f : Nat) (Q : HI → HL → Prop) (F : Frm) (h : HI) (g : HL) (x1 : Int32) (x2 : Int32) (x3 : Int32) (x4 : Int32) : Prop := ((3000 ≤ (h 115 36) → Q h g) ∧ (¬ 3000 ≤ (h 115 36) → ((7900 < x4 → Q h g) ∧ (¬ 7900 < x4 → vp_in (h 115 36) 3000 ∧ ∀ h4, h4 = up2 h 140 (ix (h 115 36)) x3 → Sv D f mX8_task [.ref (ad D 115), .int x1, .int x2, .int x4] F h4 g (fun h6 g7 => Q h6 g7)))))
theorem bX8_asking_0 {D : DE} {f : Nat} {Q : HI → HL → Prop} {F : Frm} {h : HI} {g : HL} (hF : k_Fix F) (x1 : Int32) (x2 : Int32) (x3 : Int32) (x4 : Int32) (H : JX8_asking_0 D f Q F h g x1 x2 x3 x4) : V D mX8_asking (f + 1) (qv F Q) 0 [(0, .ref (ad D 115)), (1, .int x1), (2, .int x2), (3, .int x3), (4, .int x4)] [] (F, h, g) := by
  refine V_aload_n dX8_asking_0 rfl 0 rfl ?_
  refine H_geti ck7 36 (by decide) (fs_115 hF) (by decide) rfl q1494 dX8_asking_1 ?_
  refine V_sipush (v := 3000) dX8_asking_4 (by decide) ?_
  refine V_icmp_ge (tgt := 36) dX8_asking_7 (by decide) (fun c1 => ?_) (fun c1 => ?_)
  · have H := H.1 c1
    exact H_vret rfl dX8_asking_36 H
  · have H := H.2 c1
    refine V_iload dX8_asking_10 4 rfl ?_
    refine V_sipush (v := 7900) dX8_asking_12 (by decide) ?_
    refine V_icmp_gt (tgt := 36) dX8_asking_15 (by decide) (fun c2 => ?_) (fun c2 => ?_)
    · have H := H.1 c2
      exact H_vret rfl dX8_asking_36 H
    · have H := H.2 c2
      refine V_aload_n dX8_asking_18 rfl 0 rfl ?_
      refine H_getr ck7 48 (by decide) (fs_115 hF) (by decide) rfl (fr_115_48 hF) q1506 dX8_asking_19 ?_
      refine V_aload_n dX8_asking_22 rfl 0 rfl ?_
      refine H_geti ck7 36 (by decide) (fs_115 hF) (by decide) rfl q1494 dX8_asking_23 ?_
      refine V_iload_n dX8_asking_26 rfl 3 rfl ?_
      obtain ⟨i3, H⟩ := H
      refine H_iast (fs_140 hF) i3 dX8_asking_27 (fun h4 e5 => ?_)
      have H := H h4 e5
      refine V_aload_n dX8_asking_28 rfl 0 rfl ?_
      refine V_iload_n dX8_asking_29 rfl 1 rfl ?_
      refine V_iload_n dX8_asking_30 rfl 2 rfl ?_
      refine V_iload dX8_asking_31 4 rfl ?_
      refine H_callv (av := [.ref (ad D 115), .int x1, .int x2, .int x4]) (rest := []) H mqX8_task q88 (by decide) (Nat.le_of_ble_eq_true rfl) (k_resV (ci := 7) (av := [.int x1, .int x2, .int x4]) (rest := []) (fs_115 hF) (by decide) rfl rfl q1834 q1836 qs51 q1837 mhX8_task mnX8_task dX8_asking_33) (fun h6 g7 H => ?_)
      exact H_vret rfl dX8_asking_36 H
theorem wX8_asking {D : DE} {f : Nat} {Q : HI → HL → Prop} {F : Frm} {h : HI} {g : HL} (hF : k_Fix F) (x1 : Int32) (x2 : Int32) (x3 : Int32) (x4 : Int32) (H : JX8_asking_0 D f Q F h g x1 x2 x3 x4) : Sv D (f + 1) mX8_asking [.ref (ad D 115), .int x1, .int x2, .int x3, .int x4] F h g Q := Cl.ofV (by decide) (Nat.le_of_ble_eq_true rfl) rfl (bX8_asking_0 hF x1 x2 x3 x4 H)
theorem dX8_join_0 : decode cX8_join 0 = .ok (.aload_n 0, 1) := by decide +kernel
theorem dX8_join_1 : decode cX8_join 1 = .ok (.getfield 93, 3) := by decide +kernel
theorem dX8_join_4 : decode cX8_join 4 = .ok (.iload_n 1, 1) := by decide +kernel
theorem dX8_join_5 : decode cX8_join 5 = .ok (.bipush 16, 2) := by decide +kernel
theorem dX8_join_7 : decode cX8_join 7 = .ok (.idiv, 1) := by decide +kernel
theorem dX8_join_8 : decode cX8_join 8 = .ok (.baload, 1) := by decide +kernel
theorem dX8_join_9 : decode cX8_join 9 = .ok (.istore_n 3, 1) := by decide +kernel
theorem dX8_join_10 : decode cX8_join 10 = .ok (.aload_n 0, 1) := by decide +kernel
theorem dX8_join_11 : decode cX8_join 11 = .ok (.getfield 93, 3) := by decide +kernel
theorem dX8_join_14 : decode cX8_join 14 = .ok (.iload_n 1, 1) := by decide +kernel
theorem dX8_join_15 : decode cX8_join 15 = .ok (.bipush 16, 2) := by decide +kernel
theorem dX8_join_17 : decode cX8_join 17 = .ok (.idiv, 1) := by decide +kernel
theorem dX8_join_18 : decode cX8_join 18 = .ok (.iconst 1, 1) := by decide +kernel
theorem dX8_join_19 : decode cX8_join 19 = .ok (.iadd, 1) := by decide +kernel
theorem dX8_join_20 : decode cX8_join 20 = .ok (.baload, 1) := by decide +kernel
theorem dX8_join_21 : decode cX8_join 21 = .ok (.istore 4, 2) := by decide +kernel
theorem dX8_join_23 : decode cX8_join 23 = .ok (.iconst 0, 1) := by decide +kernel
theorem dX8_join_24 : decode cX8_join 24 = .ok (.istore 5, 2) := by decide +kernel
theorem dX8_join_26 : decode cX8_join 26 = .ok (.iload 5, 2) := by decide +kernel
theorem dX8_join_28 : decode cX8_join 28 = .ok (.aload_n 0, 1) := by decide +kernel
theorem dX8_join_29 : decode cX8_join 29 = .ok (.getfield 27, 3) := by decide +kernel
theorem dX8_join_32 : decode cX8_join 32 = .ok (.aload_n 0, 1) := by decide +kernel
theorem dX8_join_33 : decode cX8_join 33 = .ok (.getfield 239, 3) := by decide +kernel
theorem dX8_join_36 : decode cX8_join 36 = .ok (.iaload, 1) := by decide +kernel
theorem dX8_join_37 : decode cX8_join 37 = .ok (.if_icmp .ge 93, 3) := by decide +kernel
theorem dX8_join_40 : decode cX8_join 40 = .ok (.aload_n 0, 1) := by decide +kernel
theorem dX8_join_41 : decode cX8_join 41 = .ok (.getfield 90, 3) := by decide +kernel
theorem dX8_join_44 : decode cX8_join 44 = .ok (.iload_n 1, 1) := by decide +kernel
theorem dX8_join_45 : decode cX8_join 45 = .ok (.iload 5, 2) := by decide +kernel
theorem dX8_join_47 : decode cX8_join 47 = .ok (.iadd, 1) := by decide +kernel
theorem dX8_join_48 : decode cX8_join 48 = .ok (.iaload, 1) := by decide +kernel
theorem dX8_join_49 : decode cX8_join 49 = .ok (.istore 6, 2) := by decide +kernel
theorem dX8_join_51 : decode cX8_join 51 = .ok (.aload_n 0, 1) := by decide +kernel
theorem dX8_join_52 : decode cX8_join 52 = .ok (.getfield 90, 3) := by decide +kernel
theorem dX8_join_55 : decode cX8_join 55 = .ok (.iload_n 1, 1) := by decide +kernel
theorem dX8_join_56 : decode cX8_join 56 = .ok (.bipush 16, 2) := by decide +kernel
theorem dX8_join_58 : decode cX8_join 58 = .ok (.iadd, 1) := by decide +kernel
theorem dX8_join_59 : decode cX8_join 59 = .ok (.iload 5, 2) := by decide +kernel
theorem dX8_join_61 : decode cX8_join 61 = .ok (.iadd, 1) := by decide +kernel
theorem dX8_join_62 : decode cX8_join 62 = .ok (.iaload, 1) := by decide +kernel
theorem dX8_join_63 : decode cX8_join 63 = .ok (.istore 7, 2) := by decide +kernel
theorem dX8_join_65 : decode cX8_join 65 = .ok (.aload_n 0, 1) := by decide +kernel
theorem dX8_join_66 : decode cX8_join 66 = .ok (.getfield 90, 3) := by decide +kernel
theorem dX8_join_69 : decode cX8_join 69 = .ok (.iload_n 1, 1) := by decide +kernel
theorem dX8_join_70 : decode cX8_join 70 = .ok (.iload 5, 2) := by decide +kernel
theorem dX8_join_72 : decode cX8_join 72 = .ok (.iadd, 1) := by decide +kernel
theorem dX8_join_73 : decode cX8_join 73 = .ok (.iload_n 2, 1) := by decide +kernel
theorem dX8_join_74 : decode cX8_join 74 = .ok (.ifCond .ne 12, 3) := by decide +kernel
theorem dX8_join_77 : decode cX8_join 77 = .ok (.iload_n 3, 1) := by decide +kernel
theorem dX8_join_78 : decode cX8_join 78 = .ok (.ifCond .eq 8, 3) := by decide +kernel
theorem dX8_join_81 : decode cX8_join 81 = .ok (.iload 7, 2) := by decide +kernel
theorem dX8_join_83 : decode cX8_join 83 = .ok (.goto 40, 3) := by decide +kernel
theorem dX8_join_86 : decode cX8_join 86 = .ok (.iload_n 2, 1) := by decide +kernel
theorem dX8_join_87 : decode cX8_join 87 = .ok (.ifCond .ne 13, 3) := by decide +kernel
theorem dX8_join_90 : decode cX8_join 90 = .ok (.iload 4, 2) := by decide +kernel
theorem dX8_join_92 : decode cX8_join 92 = .ok (.ifCond .eq 8, 3) := by decide +kernel
theorem dX8_join_95 : decode cX8_join 95 = .ok (.iload 6, 2) := by decide +kernel
theorem dX8_join_97 : decode cX8_join 97 = .ok (.goto 26, 3) := by decide +kernel
theorem dX8_join_100 : decode cX8_join 100 = .ok (.aload_n 0, 1) := by decide +kernel
theorem dX8_join_101 : decode cX8_join 101 = .ok (.getfield 36, 3) := by decide +kernel
theorem dX8_join_104 : decode cX8_join 104 = .ok (.bipush 16, 2) := by decide +kernel
theorem dX8_join_106 : decode cX8_join 106 = .ok (.aload_n 0, 1) := by decide +kernel
theorem dX8_join_107 : decode cX8_join 107 = .ok (.getfield 239, 3) := by decide +kernel
theorem dX8_join_110 : decode cX8_join 110 = .ok (.imul, 1) := by decide +kernel
theorem dX8_join_111 : decode cX8_join 111 = .ok (.iload 5, 2) := by decide +kernel
theorem dX8_join_113 : decode cX8_join 113 = .ok (.iadd, 1) := by decide +kernel
theorem dX8_join_114 : decode cX8_join 114 = .ok (.iaload, 1) := by decide +kernel
theorem dX8_join_115 : decode cX8_join 115 = .ok (.iload 6, 2) := by decide +kernel
theorem dX8_join_117 : decode cX8_join 117 = .ok (.iload 7, 2) := by decide +kernel
theorem dX8_join_119 : decode cX8_join 119 = .ok (.iload_n 2, 1) := by decide +kernel
theorem dX8_join_120 : decode cX8_join 120 = .ok (.invokestatic 360, 3) := by decide +kernel
theorem dX8_join_123 : decode cX8_join 123 = .ok (.iastore, 1) := by decide +kernel
theorem dX8_join_124 : decode cX8_join 124 = .ok (.iinc 5 1, 3) := by decide +kernel
theorem dX8_join_127 : decode cX8_join 127 = .ok (.goto (-101), 3) := by decide +kernel
theorem dX8_join_130 : decode cX8_join 130 = .ok (.aload_n 0, 1) := by decide +kernel
theorem dX8_join_131 : decode cX8_join 131 = .ok (.getfield 93, 3) := by decide +kernel
theorem dX8_join_134 : decode cX8_join 134 = .ok (.iload_n 1, 1) := by decide +kernel
theorem dX8_join_135 : decode cX8_join 135 = .ok (.bipush 16, 2) := by decide +kernel
theorem dX8_join_137 : decode cX8_join 137 = .ok (.idiv, 1) := by decide +kernel
theorem dX8_join_138 : decode cX8_join 138 = .ok (.iload_n 2, 1) := by decide +kernel
theorem dX8_join_139 : decode cX8_join 139 = .ok (.ifCond .eq 20, 3) := by decide +kernel
theorem dX8_join_142 : decode cX8_join 142 = .ok (.iload_n 3, 1) := by decide +kernel
theorem dX8_join_143 : decode cX8_join 143 = .ok (.ifCond .ne 8, 3) := by decide +kernel
theorem dX8_join_146 : decode cX8_join 146 = .ok (.iload 4, 2) := by decide +kernel
theorem dX8_join_148 : decode cX8_join 148 = .ok (.ifCond .eq 7, 3) := by decide +kernel
theorem dX8_join_151 : decode cX8_join 151 = .ok (.iconst 1, 1) := by decide +kernel
theorem dX8_join_152 : decode cX8_join 152 = .ok (.goto 21, 3) := by decide +kernel
theorem dX8_join_155 : decode cX8_join 155 = .ok (.iconst 0, 1) := by decide +kernel
theorem dX8_join_156 : decode cX8_join 156 = .ok (.goto 17, 3) := by decide +kernel
theorem dX8_join_159 : decode cX8_join 159 = .ok (.iload_n 3, 1) := by decide +kernel
theorem dX8_join_160 : decode cX8_join 160 = .ok (.ifCond .eq 12, 3) := by decide +kernel
theorem dX8_join_163 : decode cX8_join 163 = .ok (.iload 4, 2) := by decide +kernel
theorem dX8_join_165 : decode cX8_join 165 = .ok (.ifCond .eq 7, 3) := by decide +kernel
theorem dX8_join_168 : decode cX8_join 168 = .ok (.iconst 1, 1) := by decide +kernel
theorem dX8_join_169 : decode cX8_join 169 = .ok (.goto 4, 3) := by decide +kernel
theorem dX8_join_172 : decode cX8_join 172 = .ok (.iconst 0, 1) := by decide +kernel
theorem dX8_join_173 : decode cX8_join 173 = .ok (.bastore, 1) := by decide +kernel
theorem dX8_join_174 : decode cX8_join 174 = .ok (.return_, 1) := by decide +kernel
abbrev JX8_join_123 (D : DE) (f : Nat) (Q : HI → HL → Prop) (F : Frm) (h : HI) (g : HL) (x1 : Int32) (x2 : Int32) (x3 : Int32) (x4 : Int32) (x5 : Int32) (s1 : Int32) (s2 : Int32) : Prop := vp_in s1 8000 ∧ ∀ h2, h2 = up2 h 141 (ix s1) s2 → ∀ y4 : Int32, y4 = x5 + 1 → V D mX8_join (f + 1) (qv F Q) 26 [(0, .ref (ad D 115)), (1, .int x1), (2, .int x2), (3, .int x3), (4, .int x4), (5, .int y4)] [] (F, h2, g)
theorem bX8_join_123 {D : DE} {f : Nat} {Q : HI → HL → Prop} {F : Frm} {h : HI} {g : HL} (hF : k_Fix F) (x1 : Int32) (x2 : Int32) (x3 : Int32) (x4 : Int32) (x5 : Int32) (s1 : Int32) (s2 : Int32) (H : JX8_join_123 D f Q F h g x1 x2 x3 x4 x5 s1 s2) : V D mX8_join (f + 1) (qv F Q) 123 [(0, .ref (ad D 115)), (1, .int x1), (2, .int x2), (3, .int x3), (4, .int x4), (5, .int x5)] [.int s2, .int s1, .ref (ad D 141)] (F, h, g) := by
  obtain ⟨i1, H⟩ := H
  refine H_iast (fs_141 hF) i1 dX8_join_123 (fun h2 e3 => ?_)
  have H := H h2 e3
  obtain ⟨y4, e5⟩ : ∃ y : Int32, y = x5 + 1 := ⟨_, rfl⟩
  have H := H y4 e5
  refine V_iinc (j := 5) (v := y4) (l1 := [(5, .int y4), (0, .ref (ad D 115)), (1, .int x1), (2, .int x2), (3, .int x3), (4, .int x4)]) dX8_join_124 rfl (by rw [e5]; rfl) (by decide) rfl ?_
  refine V_goto (tgt := 26) dX8_join_127 (by decide) ?_
  refine V.sub [1, 2, 3, 4, 5, 0] rfl ?_
  exact H
abbrev JX8_join_100 (D : DE) (f : Nat) (Q : HI → HL → Prop) (F : Frm) (h : HI) (g : HL) (x1 : Int32) (x2 : Int32) (x3 : Int32) (x4 : Int32) (x5 : Int32) (x6 : Int32) (x7 : Int32) (s1 : Int32) : Prop := vp_in ((16 * (h 115 33)) + x5) 384 ∧ Si D f mX8_joined [.int (h 123 (ix ((16 * (h 115 33)) + x5))), .int x6, .int x7, .int x2] F h g (fun y4 h2 g3 => JX8_join_123 D f Q F h2 g3 x1 x2 x3 x4 x5 s1 y4)
theorem bX8_join_100 {D : DE} {f : Nat} {Q : HI → HL → Prop} {F : Frm} {h : HI} {g : HL} (hF : k_Fix F) (x1 : Int32) (x2 : Int32) (x3 : Int32) (x4 : Int32) (x5 : Int32) (x6 : Int32) (x7 : Int32) (s1 : Int32) (H : JX8_join_100 D f Q F h g x1 x2 x3 x4 x5 x6 x7 s1) : V D mX8_join (f + 1) (qv F Q) 100 [(0, .ref (ad D 115)), (1, .int x1), (2, .int x2), (3, .int x3), (4, .int x4), (5, .int x5), (6, .int x6), (7, .int x7)] [.int s1, .ref (ad D 141)] (F, h, g) := by
  refine V_aload_n dX8_join_100 rfl 0 rfl ?_
  refine H_getr ck7 17 (by decide) (fs_115 hF) (by decide) rfl (fr_115_17 hF) q1475 dX8_join_101 ?_
  refine V_bipush (v := 16) dX8_join_104 (by decide) ?_
  refine V_aload_n dX8_join_106 rfl 0 rfl ?_
  refine H_geti ck7 33 (by decide) (fs_115 hF) (by decide) rfl q1491 dX8_join_107 ?_
  refine V_imul dX8_join_110 ?_
  refine V_iload dX8_join_111 5 rfl ?_
  refine V_iadd dX8_join_113 ?_
  obtain ⟨i1, H⟩ := H
  refine H_iald (fs_123 hF) i1 dX8_join_114 ?_
  refine V_iload dX8_join_115 6 rfl ?_
  refine V_iload dX8_join_117 7 rfl ?_
  refine V_iload_n dX8_join_119 rfl 2 rfl ?_
  refine H_calli (av := [.int (h 123 (ix ((16 * (h 115 33)) + x5))), .int x6, .int x7, .int x2]) (rest := [.int s1, .ref (ad D 141)]) H mqX8_joined q88 (by decide) (Nat.le_of_ble_eq_true rfl) (k_resS (av := [.int (h 123 (ix ((16 * (h 115 33)) + x5))), .int x6, .int x7, .int x2]) (rest := [.int s1, .ref (ad D 141)]) (M1 := mX8_joined) rfl q1903 q1904 q88 mqX8_joined (fun _ _ h => mW_named h) mhX8_joined mnX8_joined dX8_join_120) (fun y4 h2 g3 H => ?_)
  refine V.sub [0, 1, 2, 3, 4, 5] rfl ?_
  exact bX8_join_123 hF x1 x2 x3 x4 x5 s1 y4 H
abbrev JX8_join_86 (D : DE) (f : Nat) (Q : HI → HL → Prop) (F : Frm) (h : HI) (g : HL) (x1 : Int32) (x2 : Int32) (x3 : Int32) (x4 : Int32) (x5 : Int32) (x6 : Int32) (x7 : Int32) (s1 : Int32) : Prop := ((¬ x2 = 0 → JX8_join_100 D f Q F h g x1 x2 x3 x4 x5 x6 x7 s1) ∧ (x2 = 0 → ((x4 = 0 → JX8_join_100 D f Q F h g x1 x2 x3 x4 x5 x6 x7 s1) ∧ (¬ x4 = 0 → JX8_join_123 D f Q F h g x1 x2 x3 x4 x5 s1 x6))))
theorem bX8_join_86 {D : DE} {f : Nat} {Q : HI → HL → Prop} {F : Frm} {h : HI} {g : HL} (hF : k_Fix F) (x1 : Int32) (x2 : Int32) (x3 : Int32) (x4 : Int32) (x5 : Int32) (x6 : Int32) (x7 : Int32) (s1 : Int32) (H : JX8_join_86 D f Q F h g x1 x2 x3 x4 x5 x6 x7 s1) : V D mX8_join (f + 1) (qv F Q) 86 [(0, .ref (ad D 115)), (1, .int x1), (2, .int x2), (3, .int x3), (4, .int x4), (5, .int x5), (6, .int x6), (7, .int x7)] [.int s1, .ref (ad D 141)] (F, h, g) := by
  refine V_iload_n dX8_join_86 rfl 2 rfl ?_
  refine V_if_ne (tgt := 100) dX8_join_87 (by decide) (fun c1 => ?_) (fun c1 => ?_)
  · have H := H.1 c1
    exact bX8_join_100 hF x1 x2 x3 x4 x5 x6 x7 s1 H
  · have H := H.2 c1
    refine V_iload dX8_join_90 4 rfl ?_
    refine V_if_eq (tgt := 100) dX8_join_92 (by decide) (fun c2 => ?_) (fun c2 => ?_)
    · have H := H.1 c2
      exact bX8_join_100 hF x1 x2 x3 x4 x5 x6 x7 s1 H
    · have H := H.2 c2
      refine V_iload dX8_join_95 6 rfl ?_
      refine V_goto (tgt := 123) dX8_join_97 (by decide) ?_
      refine V.sub [0, 1, 2, 3, 4, 5] rfl ?_
      exact bX8_join_123 hF x1 x2 x3 x4 x5 s1 x6 H
abbrev JX8_join_26 (D : DE) (f : Nat) (Q : HI → HL → Prop) (F : Frm) (h : HI) (g : HL) (x1 : Int32) (x2 : Int32) (x3 : Int32) (x4 : Int32) (x5 : Int32) : Prop := vp_in (h 115 33) 24 ∧ (((h 120 (ix (h 115 33))) ≤ x5 → ((x2 = 0 → ((x3 = 0 → vp_in (x1 / 16) 500 ∧ ∀ h6, h6 = up2 h 142 (ix (x1 / 16)) 0 → Q h6 g) ∧ (¬ x3 = 0 → ((x4 = 0 → vp_in (x1 / 16) 500 ∧ ∀ h10, h10 = up2 h 142 (ix (x1 / 16)) 0 → Q h10 g) ∧ (¬ x4 = 0 → vp_in (x1 / 16) 500 ∧ ∀ h13, h13 = up2 h 142 (ix (x1 / 16)) 1 → Q h13 g))))) ∧ (¬ x2 = 0 → ((¬ x3 = 0 → vp_in (x1 / 16) 500 ∧ ∀ h17, h17 = up2 h 142 (ix (x1 / 16)) 1 → Q h17 g) ∧ (x3 = 0 → ((x4 = 0 → vp_in (x1 / 16) 500 ∧ ∀ h21, h21 = up2 h 142 (ix (x1 / 16)) 0 → Q h21 g) ∧ (¬ x4 = 0 → vp_in (x1 / 16) 500 ∧ ∀ h24, h24 = up2 h 142 (ix (x1 / 16)) 1 → Q h24 g))))))) ∧ (¬ (h 120 (ix (h 115 33))) ≤ x5 → vp_in (x1 + x5) 8000 ∧ ∀ y27 : Int32, y27 = h 141 (ix (x1 + x5)) → vp_in ((x1 + 16) + x5) 8000 ∧ ∀ y30 : Int32, y30 = h 141 (ix ((x1 + 16) + x5)) → ((¬ x2 = 0 → JX8_join_86 D f Q F h g x1 x2 x3 x4 x5 y27 y30 (x1 + x5)) ∧ (x2 = 0 → ((x3 = 0 → JX8_join_86 D f Q F h g x1 x2 x3 x4 x5 y27 y30 (x1 + x5)) ∧ (¬ x3 = 0 → JX8_join_123 D f Q F h g x1 x2 x3 x4 x5 (x1 + x5) y30))))))
theorem bX8_join_26 {D : DE} {f : Nat} {Q : HI → HL → Prop} {F : Frm} {h : HI} {g : HL} (hF : k_Fix F) (x1 : Int32) (x2 : Int32) (x3 : Int32) (x4 : Int32) (x5 : Int32) (H : JX8_join_26 D f Q F h g x1 x2 x3 x4 x5) : V D mX8_join (f + 1) (qv F Q) 26 [(0, .ref (ad D 115)), (1, .int x1), (2, .int x2), (3, .int x3), (4, .int x4), (5, .int x5)] [] (F, h, g) := by
  refine V_iload dX8_join_26 5 rfl ?_
  refine V_aload_n dX8_join_28 rfl 0 rfl ?_
  refine H_getr ck7 14 (by decide) (fs_115 hF) (by decide) rfl (fr_115_14 hF) q1472 dX8_join_29 ?_
  refine V_aload_n dX8_join_32 rfl 0 rfl ?_
  refine H_geti ck7 33 (by decide) (fs_115 hF) (by decide) rfl q1491 dX8_join_33 ?_
  obtain ⟨i1, H⟩ := H
  refine H_iald (fs_120 hF) i1 dX8_join_36 ?_
  refine V_icmp_ge (tgt := 130) dX8_join_37 (by decide) (fun c2 => ?_) (fun c2 => ?_)
  · have H := H.1 c2
    refine V_aload_n dX8_join_130 rfl 0 rfl ?_
    refine H_getr ck7 50 (by decide) (fs_115 hF) (by decide) rfl (fr_115_50 hF) q1508 dX8_join_131 ?_
    refine V_iload_n dX8_join_134 rfl 1 rfl ?_
    refine V_bipush (v := 16) dX8_join_135 (by decide) ?_
    refine V_idiv dX8_join_137 (by decide) ?_
    refine V_iload_n dX8_join_138 rfl 2 rfl ?_
    refine V_if_eq (tgt := 159) dX8_join_139 (by decide) (fun c3 => ?_) (fun c3 => ?_)
    · have H := H.1 c3
      refine V_iload_n dX8_join_159 rfl 3 rfl ?_
      refine V_if_eq (tgt := 172) dX8_join_160 (by decide) (fun c4 => ?_) (fun c4 => ?_)
      · have H := H.1 c4
        refine V_iconst (v := 0) dX8_join_172 (by decide) ?_
        obtain ⟨i5, H⟩ := H
        refine H_zast (fs_142 hF) i5 isB0 dX8_join_173 (fun h6 e7 => ?_)
        have H := H h6 e7
        exact H_vret rfl dX8_join_174 H
      · have H := H.2 c4
        refine V_iload dX8_join_163 4 rfl ?_
        refine V_if_eq (tgt := 172) dX8_join_165 (by decide) (fun c8 => ?_) (fun c8 => ?_)
        · have H := H.1 c8
          refine V_iconst (v := 0) dX8_join_172 (by decide) ?_
          obtain ⟨i9, H⟩ := H
          refine H_zast (fs_142 hF) i9 isB0 dX8_join_173 (fun h10 e11 => ?_)
          have H := H h10 e11
          exact H_vret rfl dX8_join_174 H
        · have H := H.2 c8
          refine V_iconst (v := 1) dX8_join_168 (by decide) ?_
          refine V_goto (tgt := 173) dX8_join_169 (by decide) ?_
          obtain ⟨i12, H⟩ := H
          refine H_zast (fs_142 hF) i12 isB1 dX8_join_173 (fun h13 e14 => ?_)
          have H := H h13 e14
          exact H_vret rfl dX8_join_174 H
    · have H := H.2 c3
      refine V_iload_n dX8_join_142 rfl 3 rfl ?_
      refine V_if_ne (tgt := 151) dX8_join_143 (by decide) (fun c15 => ?_) (fun c15 => ?_)
      · have H := H.1 c15
        refine V_iconst (v := 1) dX8_join_151 (by decide) ?_
        refine V_goto (tgt := 173) dX8_join_152 (by decide) ?_
        obtain ⟨i16, H⟩ := H
        refine H_zast (fs_142 hF) i16 isB1 dX8_join_173 (fun h17 e18 => ?_)
        have H := H h17 e18
        exact H_vret rfl dX8_join_174 H
      · have H := H.2 c15
        refine V_iload dX8_join_146 4 rfl ?_
        refine V_if_eq (tgt := 155) dX8_join_148 (by decide) (fun c19 => ?_) (fun c19 => ?_)
        · have H := H.1 c19
          refine V_iconst (v := 0) dX8_join_155 (by decide) ?_
          refine V_goto (tgt := 173) dX8_join_156 (by decide) ?_
          obtain ⟨i20, H⟩ := H
          refine H_zast (fs_142 hF) i20 isB0 dX8_join_173 (fun h21 e22 => ?_)
          have H := H h21 e22
          exact H_vret rfl dX8_join_174 H
        · have H := H.2 c19
          refine V_iconst (v := 1) dX8_join_151 (by decide) ?_
          refine V_goto (tgt := 173) dX8_join_152 (by decide) ?_
          obtain ⟨i23, H⟩ := H
          refine H_zast (fs_142 hF) i23 isB1 dX8_join_173 (fun h24 e25 => ?_)
          have H := H h24 e25
          exact H_vret rfl dX8_join_174 H
  · have H := H.2 c2
    refine V_aload_n dX8_join_40 rfl 0 rfl ?_
    refine H_getr ck7 49 (by decide) (fs_115 hF) (by decide) rfl (fr_115_49 hF) q1507 dX8_join_41 ?_
    refine V_iload_n dX8_join_44 rfl 1 rfl ?_
    refine V_iload dX8_join_45 5 rfl ?_
    refine V_iadd dX8_join_47 ?_
    obtain ⟨i26, H⟩ := H
    refine H_iald (fs_141 hF) i26 dX8_join_48 ?_
    refine V_topi (fun y27 e28 => ?_)
    have H := H y27 e28
    refine V_istore (l1 := [(6, .int y27), (0, .ref (ad D 115)), (1, .int x1), (2, .int x2), (3, .int x3), (4, .int x4), (5, .int x5)]) dX8_join_49 (by decide) rfl ?_
    refine V_aload_n dX8_join_51 rfl 1 rfl ?_
    refine H_getr ck7 49 (by decide) (fs_115 hF) (by decide) rfl (fr_115_49 hF) q1507 dX8_join_52 ?_
    refine V_iload_n dX8_join_55 rfl 2 rfl ?_
    refine V_bipush (v := 16) dX8_join_56 (by decide) ?_
    refine V_iadd dX8_join_58 ?_
    refine V_iload dX8_join_59 6 rfl ?_
    refine V_iadd dX8_join_61 ?_
    obtain ⟨i29, H⟩ := H
    refine H_iald (fs_141 hF) i29 dX8_join_62 ?_
    refine V_topi (fun y30 e31 => ?_)
    have H := H y30 e31
    refine V_istore (l1 := [(7, .int y30), (6, .int y27), (0, .ref (ad D 115)), (1, .int x1), (2, .int x2), (3, .int x3), (4, .int x4), (5, .int x5)]) dX8_join_63 (by decide) rfl ?_
    refine V_aload_n dX8_join_65 rfl 2 rfl ?_
    refine H_getr ck7 49 (by decide) (fs_115 hF) (by decide) rfl (fr_115_49 hF) q1507 dX8_join_66 ?_
    refine V_iload_n dX8_join_69 rfl 3 rfl ?_
    refine V_iload dX8_join_70 7 rfl ?_
    refine V_iadd dX8_join_72 ?_
    refine V_iload_n dX8_join_73 rfl 4 rfl ?_
    refine V_if_ne (tgt := 86) dX8_join_74 (by decide) (fun c32 => ?_) (fun c32 => ?_)
    · have H := H.1 c32
      refine V.sub [2, 3, 4, 5, 6, 7, 1, 0] rfl ?_
      exact bX8_join_86 hF x1 x2 x3 x4 x5 y27 y30 (x1 + x5) H
    · have H := H.2 c32
      refine V_iload_n dX8_join_77 rfl 5 rfl ?_
      refine V_if_eq (tgt := 86) dX8_join_78 (by decide) (fun c33 => ?_) (fun c33 => ?_)
      · have H := H.1 c33
        refine V.sub [2, 3, 4, 5, 6, 7, 1, 0] rfl ?_
        exact bX8_join_86 hF x1 x2 x3 x4 x5 y27 y30 (x1 + x5) H
      · have H := H.2 c33
        refine V_iload dX8_join_81 0 rfl ?_
        refine V_goto (tgt := 123) dX8_join_83 (by decide) ?_
        refine V.sub [2, 3, 4, 5, 6, 7] rfl ?_
        exact bX8_join_123 hF x1 x2 x3 x4 x5 (x1 + x5) y30 H
abbrev JX8_join_0 (D : DE) (f : Nat) (Q : HI → HL → Prop) (F : Frm) (h : HI) (g : HL) (x1 : Int32) (x2 : Int32) : Prop := vp_in (x1 / 16) 500 ∧ ∀ y2 : Int32, y2 = h 142 (ix (x1 / 16)) → vp_in ((x1 / 16) + 1) 500 ∧ ∀ y5 : Int32, y5 = h 142 (ix ((x1 / 16) + 1)) → V D mX8_join (f + 1) (qv F Q) 26 [(0, .ref (ad D 115)), (1, .int x1), (2, .int x2), (3, .int y2), (4, .int y5), (5, .int 0)] [] (F, h, g)
theorem bX8_join_0 {D : DE} {f : Nat} {Q : HI → HL → Prop} {F : Frm} {h : HI} {g : HL} (hF : k_Fix F) (x1 : Int32) (x2 : Int32) (H : JX8_join_0 D f Q F h g x1 x2) : V D mX8_join (f + 1) (qv F Q) 0 [(0, .ref (ad D 115)), (1, .int x1), (2, .int x2)] [] (F, h, g) := by
  refine V_aload_n dX8_join_0 rfl 0 rfl ?_
  refine H_getr ck7 50 (by decide) (fs_115 hF) (by decide) rfl (fr_115_50 hF) q1508 dX8_join_1 ?_
  refine V_iload_n dX8_join_4 rfl 1 rfl ?_
  refine V_bipush (v := 16) dX8_join_5 (by decide) ?_
  refine V_idiv dX8_join_7 (by decide) ?_
  obtain ⟨i1, H⟩ := H
  refine H_zald (fs_142 hF) i1 dX8_join_8 ?_
  refine V_topi (fun y2 e3 => ?_)
  have H := H y2 e3
  refine V_istore_n (l1 := [(3, .int y2), (0, .ref (ad D 115)), (1, .int x1), (2, .int x2)]) dX8_join_9 rfl (by decide) rfl ?_
  refine V_aload_n dX8_join_10 rfl 1 rfl ?_
  refine H_getr ck7 50 (by decide) (fs_115 hF) (by decide) rfl (fr_115_50 hF) q1508 dX8_join_11 ?_
  refine V_iload_n dX8_join_14 rfl 2 rfl ?_
  refine V_bipush (v := 16) dX8_join_15 (by decide) ?_
  refine V_idiv dX8_join_17 (by decide) ?_
  refine V_iconst (v := 1) dX8_join_18 (by decide) ?_
  refine V_iadd dX8_join_19 ?_
  obtain ⟨i4, H⟩ := H
  refine H_zald (fs_142 hF) i4 dX8_join_20 ?_
  refine V_topi (fun y5 e6 => ?_)
  have H := H y5 e6
  refine V_istore (l1 := [(4, .int y5), (3, .int y2), (0, .ref (ad D 115)), (1, .int x1), (2, .int x2)]) dX8_join_21 (by decide) rfl ?_
  refine V_iconst (v := 0) dX8_join_23 (by decide) ?_
  refine V_istore (l1 := [(5, .int 0), (4, .int y5), (3, .int y2), (0, .ref (ad D 115)), (1, .int x1), (2, .int x2)]) dX8_join_24 (by decide) rfl ?_
  refine V.sub [3, 4, 5, 2, 1, 0] rfl ?_
  exact H
theorem wX8_join {D : DE} {f : Nat} {Q : HI → HL → Prop} {F : Frm} {h : HI} {g : HL} (hF : k_Fix F) (x1 : Int32) (x2 : Int32) (H : JX8_join_0 D f Q F h g x1 x2) : Sv D (f + 1) mX8_join [.ref (ad D 115), .int x1, .int x2] F h g Q := Cl.ofV (by decide) (Nat.le_of_ble_eq_true rfl) rfl (bX8_join_0 hF x1 x2 H)
theorem dX8_onAsk_0 : decode cX8_onAsk 0 = .ok (.iconst 0, 1) := by decide +kernel
theorem dX8_onAsk_1 : decode cX8_onAsk 1 = .ok (.istore 4, 2) := by decide +kernel
theorem dX8_onAsk_3 : decode cX8_onAsk 3 = .ok (.iload 4, 2) := by decide +kernel
theorem dX8_onAsk_5 : decode cX8_onAsk 5 = .ok (.bipush 16, 2) := by decide +kernel
theorem dX8_onAsk_7 : decode cX8_onAsk 7 = .ok (.if_icmp .ge 19, 3) := by decide +kernel
theorem dX8_onAsk_10 : decode cX8_onAsk 10 = .ok (.aload_n 0, 1) := by decide +kernel
theorem dX8_onAsk_11 : decode cX8_onAsk 11 = .ok (.getfield 90, 3) := by decide +kernel
theorem dX8_onAsk_14 : decode cX8_onAsk 14 = .ok (.iload_n 3, 1) := by decide +kernel
theorem dX8_onAsk_15 : decode cX8_onAsk 15 = .ok (.iload 4, 2) := by decide +kernel
theorem dX8_onAsk_17 : decode cX8_onAsk 17 = .ok (.iadd, 1) := by decide +kernel
theorem dX8_onAsk_18 : decode cX8_onAsk 18 = .ok (.iconst 0, 1) := by decide +kernel
theorem dX8_onAsk_19 : decode cX8_onAsk 19 = .ok (.iastore, 1) := by decide +kernel
theorem dX8_onAsk_20 : decode cX8_onAsk 20 = .ok (.iinc 4 1, 3) := by decide +kernel
theorem dX8_onAsk_23 : decode cX8_onAsk 23 = .ok (.goto (-20), 3) := by decide +kernel
theorem dX8_onAsk_26 : decode cX8_onAsk 26 = .ok (.aload_n 0, 1) := by decide +kernel
theorem dX8_onAsk_27 : decode cX8_onAsk 27 = .ok (.getfield 39, 3) := by decide +kernel
theorem dX8_onAsk_30 : decode cX8_onAsk 30 = .ok (.iload_n 1, 1) := by decide +kernel
theorem dX8_onAsk_31 : decode cX8_onAsk 31 = .ok (.iaload, 1) := by decide +kernel
theorem dX8_onAsk_32 : decode cX8_onAsk 32 = .ok (.istore 4, 2) := by decide +kernel
theorem dX8_onAsk_34 : decode cX8_onAsk 34 = .ok (.aload_n 0, 1) := by decide +kernel
theorem dX8_onAsk_35 : decode cX8_onAsk 35 = .ok (.getfield 93, 3) := by decide +kernel
theorem dX8_onAsk_38 : decode cX8_onAsk 38 = .ok (.iload_n 3, 1) := by decide +kernel
theorem dX8_onAsk_39 : decode cX8_onAsk 39 = .ok (.bipush 16, 2) := by decide +kernel
theorem dX8_onAsk_41 : decode cX8_onAsk 41 = .ok (.idiv, 1) := by decide +kernel
theorem dX8_onAsk_42 : decode cX8_onAsk 42 = .ok (.iload 4, 2) := by decide +kernel
theorem dX8_onAsk_44 : decode cX8_onAsk 44 = .ok (.bipush 6, 2) := by decide +kernel
theorem dX8_onAsk_46 : decode cX8_onAsk 46 = .ok (.if_icmp .eq 32, 3) := by decide +kernel
theorem dX8_onAsk_49 : decode cX8_onAsk 49 = .ok (.iload 4, 2) := by decide +kernel
theorem dX8_onAsk_51 : decode cX8_onAsk 51 = .ok (.bipush 8, 2) := by decide +kernel
theorem dX8_onAsk_53 : decode cX8_onAsk 53 = .ok (.if_icmp .ne 29, 3) := by decide +kernel
theorem dX8_onAsk_56 : decode cX8_onAsk 56 = .ok (.aload_n 0, 1) := by decide +kernel
theorem dX8_onAsk_57 : decode cX8_onAsk 57 = .ok (.getfield 100, 3) := by decide +kernel
theorem dX8_onAsk_60 : decode cX8_onAsk 60 = .ok (.bipush 26, 2) := by decide +kernel
theorem dX8_onAsk_62 : decode cX8_onAsk 62 = .ok (.aload_n 0, 1) := by decide +kernel
theorem dX8_onAsk_63 : decode cX8_onAsk 63 = .ok (.getfield 48, 3) := by decide +kernel
theorem dX8_onAsk_66 : decode cX8_onAsk 66 = .ok (.iload_n 1, 1) := by decide +kernel
theorem dX8_onAsk_67 : decode cX8_onAsk 67 = .ok (.iaload, 1) := by decide +kernel
theorem dX8_onAsk_68 : decode cX8_onAsk 68 = .ok (.bipush 12, 2) := by decide +kernel
theorem dX8_onAsk_70 : decode cX8_onAsk 70 = .ok (.irem, 1) := by decide +kernel
theorem dX8_onAsk_71 : decode cX8_onAsk 71 = .ok (.imul, 1) := by decide +kernel
theorem dX8_onAsk_72 : decode cX8_onAsk 72 = .ok (.iload_n 2, 1) := by decide +kernel
theorem dX8_onAsk_73 : decode cX8_onAsk 73 = .ok (.iadd, 1) := by decide +kernel
theorem dX8_onAsk_74 : decode cX8_onAsk 74 = .ok (.baload, 1) := by decide +kernel
theorem dX8_onAsk_75 : decode cX8_onAsk 75 = .ok (.ifCond .eq 7, 3) := by decide +kernel
theorem dX8_onAsk_78 : decode cX8_onAsk 78 = .ok (.iconst 1, 1) := by decide +kernel
theorem dX8_onAsk_79 : decode cX8_onAsk 79 = .ok (.goto 4, 3) := by decide +kernel
theorem dX8_onAsk_82 : decode cX8_onAsk 82 = .ok (.iconst 0, 1) := by decide +kernel
theorem dX8_onAsk_83 : decode cX8_onAsk 83 = .ok (.bastore, 1) := by decide +kernel
theorem dX8_onAsk_84 : decode cX8_onAsk 84 = .ok (.iload 4, 2) := by decide +kernel
theorem dX8_onAsk_86 : decode cX8_onAsk 86 = .ok (.bipush 7, 2) := by decide +kernel
theorem dX8_onAsk_88 : decode cX8_onAsk 88 = .ok (.if_icmp .ne 20, 3) := by decide +kernel
theorem dX8_onAsk_91 : decode cX8_onAsk 91 = .ok (.aload_n 0, 1) := by decide +kernel
theorem dX8_onAsk_92 : decode cX8_onAsk 92 = .ok (.getfield 90, 3) := by decide +kernel
theorem dX8_onAsk_95 : decode cX8_onAsk 95 = .ok (.iload_n 3, 1) := by decide +kernel
theorem dX8_onAsk_96 : decode cX8_onAsk 96 = .ok (.aload_n 0, 1) := by decide +kernel
theorem dX8_onAsk_97 : decode cX8_onAsk 97 = .ok (.getfield 42, 3) := by decide +kernel
theorem dX8_onAsk_100 : decode cX8_onAsk 100 = .ok (.iload_n 1, 1) := by decide +kernel
theorem dX8_onAsk_101 : decode cX8_onAsk 101 = .ok (.iaload, 1) := by decide +kernel
theorem dX8_onAsk_102 : decode cX8_onAsk 102 = .ok (.iadd, 1) := by decide +kernel
theorem dX8_onAsk_103 : decode cX8_onAsk 103 = .ok (.iload_n 2, 1) := by decide +kernel
theorem dX8_onAsk_104 : decode cX8_onAsk 104 = .ok (.iastore, 1) := by decide +kernel
theorem dX8_onAsk_105 : decode cX8_onAsk 105 = .ok (.goto 281, 3) := by decide +kernel
theorem dX8_onAsk_108 : decode cX8_onAsk 108 = .ok (.iload 4, 2) := by decide +kernel
theorem dX8_onAsk_110 : decode cX8_onAsk 110 = .ok (.iconst 1, 1) := by decide +kernel
theorem dX8_onAsk_111 : decode cX8_onAsk 111 = .ok (.if_icmp .eq 10, 3) := by decide +kernel
theorem dX8_onAsk_114 : decode cX8_onAsk 114 = .ok (.iload 4, 2) := by decide +kernel
theorem dX8_onAsk_116 : decode cX8_onAsk 116 = .ok (.bipush 9, 2) := by decide +kernel
theorem dX8_onAsk_118 : decode cX8_onAsk 118 = .ok (.if_icmp .ne 118, 3) := by decide +kernel
theorem dX8_onAsk_121 : decode cX8_onAsk 121 = .ok (.iload 4, 2) := by decide +kernel
theorem dX8_onAsk_123 : decode cX8_onAsk 123 = .ok (.bipush 9, 2) := by decide +kernel
theorem dX8_onAsk_125 : decode cX8_onAsk 125 = .ok (.if_icmp .ne 18, 3) := by decide +kernel
theorem dX8_onAsk_128 : decode cX8_onAsk 128 = .ok (.aload_n 0, 1) := by decide +kernel
theorem dX8_onAsk_129 : decode cX8_onAsk 129 = .ok (.getfield 54, 3) := by decide +kernel
theorem dX8_onAsk_132 : decode cX8_onAsk 132 = .ok (.iload_n 1, 1) := by decide +kernel
theorem dX8_onAsk_133 : decode cX8_onAsk 133 = .ok (.iaload, 1) := by decide +kernel
theorem dX8_onAsk_134 : decode cX8_onAsk 134 = .ok (.invokestatic 162, 3) := by decide +kernel
theorem dX8_onAsk_137 : decode cX8_onAsk 137 = .ok (.invokestatic 166, 3) := by decide +kernel
theorem dX8_onAsk_140 : decode cX8_onAsk 140 = .ok (.goto 4, 3) := by decide +kernel
theorem dX8_onAsk_143 : decode cX8_onAsk 143 = .ok (.iconst 1, 1) := by decide +kernel
theorem dX8_onAsk_144 : decode cX8_onAsk 144 = .ok (.istore 5, 2) := by decide +kernel
theorem dX8_onAsk_146 : decode cX8_onAsk 146 = .ok (.iload 4, 2) := by decide +kernel
theorem dX8_onAsk_148 : decode cX8_onAsk 148 = .ok (.bipush 9, 2) := by decide +kernel
theorem dX8_onAsk_150 : decode cX8_onAsk 150 = .ok (.if_icmp .ne 12, 3) := by decide +kernel
theorem dX8_onAsk_153 : decode cX8_onAsk 153 = .ok (.iload_n 2, 1) := by decide +kernel
theorem dX8_onAsk_154 : decode cX8_onAsk 154 = .ok (.iconst 1, 1) := by decide +kernel
theorem dX8_onAsk_155 : decode cX8_onAsk 155 = .ok (.isub, 1) := by decide +kernel
theorem dX8_onAsk_156 : decode cX8_onAsk 156 = .ok (.iload 5, 2) := by decide +kernel
theorem dX8_onAsk_158 : decode cX8_onAsk 158 = .ok (.idiv, 1) := by decide +kernel
theorem dX8_onAsk_159 : decode cX8_onAsk 159 = .ok (.goto 4, 3) := by decide +kernel
theorem dX8_onAsk_162 : decode cX8_onAsk 162 = .ok (.iconst 1, 1) := by decide +kernel
theorem dX8_onAsk_163 : decode cX8_onAsk 163 = .ok (.istore 6, 2) := by decide +kernel
theorem dX8_onAsk_165 : decode cX8_onAsk 165 = .ok (.iload 4, 2) := by decide +kernel
theorem dX8_onAsk_167 : decode cX8_onAsk 167 = .ok (.bipush 9, 2) := by decide +kernel
theorem dX8_onAsk_169 : decode cX8_onAsk 169 = .ok (.if_icmp .ne 12, 3) := by decide +kernel
theorem dX8_onAsk_172 : decode cX8_onAsk 172 = .ok (.iload_n 2, 1) := by decide +kernel
theorem dX8_onAsk_173 : decode cX8_onAsk 173 = .ok (.iconst 1, 1) := by decide +kernel
theorem dX8_onAsk_174 : decode cX8_onAsk 174 = .ok (.isub, 1) := by decide +kernel
theorem dX8_onAsk_175 : decode cX8_onAsk 175 = .ok (.iload 5, 2) := by decide +kernel
theorem dX8_onAsk_177 : decode cX8_onAsk 177 = .ok (.irem, 1) := by decide +kernel
theorem dX8_onAsk_178 : decode cX8_onAsk 178 = .ok (.goto 4, 3) := by decide +kernel
theorem dX8_onAsk_181 : decode cX8_onAsk 181 = .ok (.iconst 1, 1) := by decide +kernel
theorem dX8_onAsk_182 : decode cX8_onAsk 182 = .ok (.istore 7, 2) := by decide +kernel
theorem dX8_onAsk_184 : decode cX8_onAsk 184 = .ok (.iload 7, 2) := by decide +kernel
theorem dX8_onAsk_186 : decode cX8_onAsk 186 = .ok (.ifCond .le 28, 3) := by decide +kernel
theorem dX8_onAsk_189 : decode cX8_onAsk 189 = .ok (.aload_n 0, 1) := by decide +kernel
theorem dX8_onAsk_190 : decode cX8_onAsk 190 = .ok (.iconst 2, 1) := by decide +kernel
theorem dX8_onAsk_191 : decode cX8_onAsk 191 = .ok (.iload_n 1, 1) := by decide +kernel
theorem dX8_onAsk_192 : decode cX8_onAsk 192 = .ok (.iconst 0, 1) := by decide +kernel
theorem dX8_onAsk_193 : decode cX8_onAsk 193 = .ok (.iload_n 3, 1) := by decide +kernel
theorem dX8_onAsk_194 : decode cX8_onAsk 194 = .ok (.invokevirtual 363, 3) := by decide +kernel
theorem dX8_onAsk_197 : decode cX8_onAsk 197 = .ok (.aload_n 0, 1) := by decide +kernel
theorem dX8_onAsk_198 : decode cX8_onAsk 198 = .ok (.iconst 1, 1) := by decide +kernel
theorem dX8_onAsk_199 : decode cX8_onAsk 199 = .ok (.aload_n 0, 1) := by decide +kernel
theorem dX8_onAsk_200 : decode cX8_onAsk 200 = .ok (.getfield 45, 3) := by decide +kernel
theorem dX8_onAsk_203 : decode cX8_onAsk 203 = .ok (.iload_n 1, 1) := by decide +kernel
theorem dX8_onAsk_204 : decode cX8_onAsk 204 = .ok (.iaload, 1) := by decide +kernel
theorem dX8_onAsk_205 : decode cX8_onAsk 205 = .ok (.iload 7, 2) := by decide +kernel
theorem dX8_onAsk_207 : decode cX8_onAsk 207 = .ok (.iload_n 3, 1) := by decide +kernel
theorem dX8_onAsk_208 : decode cX8_onAsk 208 = .ok (.bipush 16, 2) := by decide +kernel
theorem dX8_onAsk_210 : decode cX8_onAsk 210 = .ok (.iadd, 1) := by decide +kernel
theorem dX8_onAsk_211 : decode cX8_onAsk 211 = .ok (.invokevirtual 363, 3) := by decide +kernel
theorem dX8_onAsk_214 : decode cX8_onAsk 214 = .ok (.iload 6, 2) := by decide +kernel
theorem dX8_onAsk_216 : decode cX8_onAsk 216 = .ok (.ifCond .le 17, 3) := by decide +kernel
theorem dX8_onAsk_219 : decode cX8_onAsk 219 = .ok (.aload_n 0, 1) := by decide +kernel
theorem dX8_onAsk_220 : decode cX8_onAsk 220 = .ok (.iconst 1, 1) := by decide +kernel
theorem dX8_onAsk_221 : decode cX8_onAsk 221 = .ok (.aload_n 0, 1) := by decide +kernel
theorem dX8_onAsk_222 : decode cX8_onAsk 222 = .ok (.getfield 42, 3) := by decide +kernel
theorem dX8_onAsk_225 : decode cX8_onAsk 225 = .ok (.iload_n 1, 1) := by decide +kernel
theorem dX8_onAsk_226 : decode cX8_onAsk 226 = .ok (.iaload, 1) := by decide +kernel
theorem dX8_onAsk_227 : decode cX8_onAsk 227 = .ok (.iload 6, 2) := by decide +kernel
theorem dX8_onAsk_229 : decode cX8_onAsk 229 = .ok (.iload_n 3, 1) := by decide +kernel
theorem dX8_onAsk_230 : decode cX8_onAsk 230 = .ok (.invokevirtual 363, 3) := by decide +kernel
theorem dX8_onAsk_233 : decode cX8_onAsk 233 = .ok (.goto 153, 3) := by decide +kernel
theorem dX8_onAsk_236 : decode cX8_onAsk 236 = .ok (.iload 4, 2) := by decide +kernel
theorem dX8_onAsk_238 : decode cX8_onAsk 238 = .ok (.iconst 2, 1) := by decide +kernel
theorem dX8_onAsk_239 : decode cX8_onAsk 239 = .ok (.if_icmp .ne 70, 3) := by decide +kernel
theorem dX8_onAsk_242 : decode cX8_onAsk 242 = .ok (.aload_n 0, 1) := by decide +kernel
theorem dX8_onAsk_243 : decode cX8_onAsk 243 = .ok (.iconst 2, 1) := by decide +kernel
theorem dX8_onAsk_244 : decode cX8_onAsk 244 = .ok (.iload_n 1, 1) := by decide +kernel
theorem dX8_onAsk_245 : decode cX8_onAsk 245 = .ok (.iconst 0, 1) := by decide +kernel
theorem dX8_onAsk_246 : decode cX8_onAsk 246 = .ok (.iload_n 3, 1) := by decide +kernel
theorem dX8_onAsk_247 : decode cX8_onAsk 247 = .ok (.invokevirtual 363, 3) := by decide +kernel
theorem dX8_onAsk_250 : decode cX8_onAsk 250 = .ok (.aload_n 0, 1) := by decide +kernel
theorem dX8_onAsk_251 : decode cX8_onAsk 251 = .ok (.iconst 3, 1) := by decide +kernel
theorem dX8_onAsk_252 : decode cX8_onAsk 252 = .ok (.iload_n 1, 1) := by decide +kernel
theorem dX8_onAsk_253 : decode cX8_onAsk 253 = .ok (.iconst 0, 1) := by decide +kernel
theorem dX8_onAsk_254 : decode cX8_onAsk 254 = .ok (.iload_n 3, 1) := by decide +kernel
theorem dX8_onAsk_255 : decode cX8_onAsk 255 = .ok (.bipush 16, 2) := by decide +kernel
theorem dX8_onAsk_257 : decode cX8_onAsk 257 = .ok (.iadd, 1) := by decide +kernel
theorem dX8_onAsk_258 : decode cX8_onAsk 258 = .ok (.invokevirtual 363, 3) := by decide +kernel
theorem dX8_onAsk_261 : decode cX8_onAsk 261 = .ok (.aload_n 0, 1) := by decide +kernel
theorem dX8_onAsk_262 : decode cX8_onAsk 262 = .ok (.iconst 1, 1) := by decide +kernel
theorem dX8_onAsk_263 : decode cX8_onAsk 263 = .ok (.aload_n 0, 1) := by decide +kernel
theorem dX8_onAsk_264 : decode cX8_onAsk 264 = .ok (.getfield 48, 3) := by decide +kernel
theorem dX8_onAsk_267 : decode cX8_onAsk 267 = .ok (.iload_n 1, 1) := by decide +kernel
theorem dX8_onAsk_268 : decode cX8_onAsk 268 = .ok (.iaload, 1) := by decide +kernel
theorem dX8_onAsk_269 : decode cX8_onAsk 269 = .ok (.iload_n 2, 1) := by decide +kernel
theorem dX8_onAsk_270 : decode cX8_onAsk 270 = .ok (.iload_n 3, 1) := by decide +kernel
theorem dX8_onAsk_271 : decode cX8_onAsk 271 = .ok (.bipush 32, 2) := by decide +kernel
theorem dX8_onAsk_273 : decode cX8_onAsk 273 = .ok (.iadd, 1) := by decide +kernel
theorem dX8_onAsk_274 : decode cX8_onAsk 274 = .ok (.invokevirtual 363, 3) := by decide +kernel
theorem dX8_onAsk_277 : decode cX8_onAsk 277 = .ok (.aload_n 0, 1) := by decide +kernel
theorem dX8_onAsk_278 : decode cX8_onAsk 278 = .ok (.iconst 1, 1) := by decide +kernel
theorem dX8_onAsk_279 : decode cX8_onAsk 279 = .ok (.aload_n 0, 1) := by decide +kernel
theorem dX8_onAsk_280 : decode cX8_onAsk 280 = .ok (.getfield 45, 3) := by decide +kernel
theorem dX8_onAsk_283 : decode cX8_onAsk 283 = .ok (.iload_n 1, 1) := by decide +kernel
theorem dX8_onAsk_284 : decode cX8_onAsk 284 = .ok (.iaload, 1) := by decide +kernel
theorem dX8_onAsk_285 : decode cX8_onAsk 285 = .ok (.iload_n 2, 1) := by decide +kernel
theorem dX8_onAsk_286 : decode cX8_onAsk 286 = .ok (.iload_n 3, 1) := by decide +kernel
theorem dX8_onAsk_287 : decode cX8_onAsk 287 = .ok (.bipush 16, 2) := by decide +kernel
theorem dX8_onAsk_289 : decode cX8_onAsk 289 = .ok (.iadd, 1) := by decide +kernel
theorem dX8_onAsk_290 : decode cX8_onAsk 290 = .ok (.invokevirtual 363, 3) := by decide +kernel
theorem dX8_onAsk_293 : decode cX8_onAsk 293 = .ok (.aload_n 0, 1) := by decide +kernel
theorem dX8_onAsk_294 : decode cX8_onAsk 294 = .ok (.iconst 1, 1) := by decide +kernel
theorem dX8_onAsk_295 : decode cX8_onAsk 295 = .ok (.aload_n 0, 1) := by decide +kernel
theorem dX8_onAsk_296 : decode cX8_onAsk 296 = .ok (.getfield 42, 3) := by decide +kernel
theorem dX8_onAsk_299 : decode cX8_onAsk 299 = .ok (.iload_n 1, 1) := by decide +kernel
theorem dX8_onAsk_300 : decode cX8_onAsk 300 = .ok (.iaload, 1) := by decide +kernel
theorem dX8_onAsk_301 : decode cX8_onAsk 301 = .ok (.iconst 1, 1) := by decide +kernel
theorem dX8_onAsk_302 : decode cX8_onAsk 302 = .ok (.iload_n 3, 1) := by decide +kernel
theorem dX8_onAsk_303 : decode cX8_onAsk 303 = .ok (.invokevirtual 363, 3) := by decide +kernel
theorem dX8_onAsk_306 : decode cX8_onAsk 306 = .ok (.goto 80, 3) := by decide +kernel
theorem dX8_onAsk_309 : decode cX8_onAsk 309 = .ok (.iload 4, 2) := by decide +kernel
theorem dX8_onAsk_311 : decode cX8_onAsk 311 = .ok (.iconst 3, 1) := by decide +kernel
theorem dX8_onAsk_312 : decode cX8_onAsk 312 = .ok (.if_icmp .eq 9, 3) := by decide +kernel
theorem dX8_onAsk_315 : decode cX8_onAsk 315 = .ok (.iload 4, 2) := by decide +kernel
theorem dX8_onAsk_317 : decode cX8_onAsk 317 = .ok (.iconst 4, 1) := by decide +kernel
theorem dX8_onAsk_318 : decode cX8_onAsk 318 = .ok (.if_icmp .ne 37, 3) := by decide +kernel
theorem dX8_onAsk_321 : decode cX8_onAsk 321 = .ok (.aload_n 0, 1) := by decide +kernel
theorem dX8_onAsk_322 : decode cX8_onAsk 322 = .ok (.iload 4, 2) := by decide +kernel
theorem dX8_onAsk_324 : decode cX8_onAsk 324 = .ok (.iconst 3, 1) := by decide +kernel
theorem dX8_onAsk_325 : decode cX8_onAsk 325 = .ok (.if_icmp .ne 7, 3) := by decide +kernel
theorem dX8_onAsk_328 : decode cX8_onAsk 328 = .ok (.iconst 4, 1) := by decide +kernel
theorem dX8_onAsk_329 : decode cX8_onAsk 329 = .ok (.goto 4, 3) := by decide +kernel
theorem dX8_onAsk_332 : decode cX8_onAsk 332 = .ok (.iconst 5, 1) := by decide +kernel
theorem dX8_onAsk_333 : decode cX8_onAsk 333 = .ok (.iload_n 1, 1) := by decide +kernel
theorem dX8_onAsk_334 : decode cX8_onAsk 334 = .ok (.iconst 0, 1) := by decide +kernel
theorem dX8_onAsk_335 : decode cX8_onAsk 335 = .ok (.iload_n 3, 1) := by decide +kernel
theorem dX8_onAsk_336 : decode cX8_onAsk 336 = .ok (.invokevirtual 363, 3) := by decide +kernel
theorem dX8_onAsk_339 : decode cX8_onAsk 339 = .ok (.aload_n 0, 1) := by decide +kernel
theorem dX8_onAsk_340 : decode cX8_onAsk 340 = .ok (.iconst 1, 1) := by decide +kernel
theorem dX8_onAsk_341 : decode cX8_onAsk 341 = .ok (.aload_n 0, 1) := by decide +kernel
theorem dX8_onAsk_342 : decode cX8_onAsk 342 = .ok (.getfield 45, 3) := by decide +kernel
theorem dX8_onAsk_345 : decode cX8_onAsk 345 = .ok (.iload_n 1, 1) := by decide +kernel
theorem dX8_onAsk_346 : decode cX8_onAsk 346 = .ok (.iaload, 1) := by decide +kernel
theorem dX8_onAsk_347 : decode cX8_onAsk 347 = .ok (.iload_n 2, 1) := by decide +kernel
theorem dX8_onAsk_348 : decode cX8_onAsk 348 = .ok (.iload_n 3, 1) := by decide +kernel
theorem dX8_onAsk_349 : decode cX8_onAsk 349 = .ok (.invokevirtual 363, 3) := by decide +kernel
theorem dX8_onAsk_352 : decode cX8_onAsk 352 = .ok (.goto 34, 3) := by decide +kernel
theorem dX8_onAsk_355 : decode cX8_onAsk 355 = .ok (.iload 4, 2) := by decide +kernel
theorem dX8_onAsk_357 : decode cX8_onAsk 357 = .ok (.bipush 8, 2) := by decide +kernel
theorem dX8_onAsk_359 : decode cX8_onAsk 359 = .ok (.if_icmp .ne 27, 3) := by decide +kernel
theorem dX8_onAsk_362 : decode cX8_onAsk 362 = .ok (.aload_n 0, 1) := by decide +kernel
theorem dX8_onAsk_363 : decode cX8_onAsk 363 = .ok (.getfield 93, 3) := by decide +kernel
theorem dX8_onAsk_366 : decode cX8_onAsk 366 = .ok (.iload_n 3, 1) := by decide +kernel
theorem dX8_onAsk_367 : decode cX8_onAsk 367 = .ok (.bipush 16, 2) := by decide +kernel
theorem dX8_onAsk_369 : decode cX8_onAsk 369 = .ok (.idiv, 1) := by decide +kernel
theorem dX8_onAsk_370 : decode cX8_onAsk 370 = .ok (.baload, 1) := by decide +kernel
theorem dX8_onAsk_371 : decode cX8_onAsk 371 = .ok (.ifCond .ne 15, 3) := by decide +kernel
theorem dX8_onAsk_374 : decode cX8_onAsk 374 = .ok (.aload_n 0, 1) := by decide +kernel
theorem dX8_onAsk_375 : decode cX8_onAsk 375 = .ok (.bipush 6, 2) := by decide +kernel
theorem dX8_onAsk_377 : decode cX8_onAsk 377 = .ok (.iload_n 1, 1) := by decide +kernel
theorem dX8_onAsk_378 : decode cX8_onAsk 378 = .ok (.bipush 8, 2) := by decide +kernel
theorem dX8_onAsk_380 : decode cX8_onAsk 380 = .ok (.iload_n 2, 1) := by decide +kernel
theorem dX8_onAsk_381 : decode cX8_onAsk 381 = .ok (.imul, 1) := by decide +kernel
theorem dX8_onAsk_382 : decode cX8_onAsk 382 = .ok (.iload_n 3, 1) := by decide +kernel
theorem dX8_onAsk_383 : decode cX8_onAsk 383 = .ok (.invokevirtual 363, 3) := by decide +kernel
theorem dX8_onAsk_386 : decode cX8_onAsk 386 = .ok (.return_, 1) := by decide +kernel
abbrev JX8_onAsk_333 (D : DE) (f : Nat) (Q : HI → HL → Prop) (F : Frm) (h : HI) (g : HL) (x1 : Int32) (x2 : Int32) (x3 : Int32) (s1 : Int32) : Prop := Sv D f mX8_asking [.ref (ad D 115), .int s1, .int x1, .int 0, .int x3] F h g (fun h1 g2 => vp_in x1 2002 ∧ Sv D f mX8_asking [.ref (ad D 115), .int 1, .int (h1 126 (ix x1)), .int x2, .int x3] F h1 g2 (fun h4 g5 => Q h4 g5))
theorem bX8_onAsk_333 {D : DE} {f : Nat} {Q : HI → HL → Prop} {F : Frm} {h : HI} {g : HL} (hF : k_Fix F) (x1 : Int32) (x2 : Int32) (x3 : Int32) (s1 : Int32) (H : JX8_onAsk_333 D f Q F h g x1 x2 x3 s1) : V D mX8_onAsk (f + 1) (qv F Q) 333 [(0, .ref (ad D 115)), (1, .int x1), (2, .int x2), (3, .int x3)] [.int s1, .ref (ad D 115)] (F, h, g) := by
  refine V_iload_n dX8_onAsk_333 rfl 1 rfl ?_
  refine V_iconst (v := 0) dX8_onAsk_334 (by decide) ?_
  refine V_iload_n dX8_onAsk_335 rfl 3 rfl ?_
  refine H_callv (av := [.ref (ad D 115), .int s1, .int x1, .int 0, .int x3]) (rest := []) H mqX8_asking q88 (by decide) (Nat.le_of_ble_eq_true rfl) (k_resV (ci := 7) (av := [.int s1, .int x1, .int 0, .int x3]) (rest := []) (fs_115 hF) (by decide) rfl rfl q1891 q1893 qs60 q1894 mhX8_asking mnX8_asking dX8_onAsk_336) (fun h1 g2 H => ?_)
  refine V_aload_n dX8_onAsk_339 rfl 0 rfl ?_
  refine V_iconst (v := 1) dX8_onAsk_340 (by decide) ?_
  refine V_aload_n dX8_onAsk_341 rfl 0 rfl ?_
  refine H_getr ck7 20 (by decide) (fs_115 hF) (by decide) rfl (fr_115_20 hF) q1478 dX8_onAsk_342 ?_
  refine V_iload_n dX8_onAsk_345 rfl 1 rfl ?_
  obtain ⟨i3, H⟩ := H
  refine H_iald (fs_126 hF) i3 dX8_onAsk_346 ?_
  refine V_iload_n dX8_onAsk_347 rfl 2 rfl ?_
  refine V_iload_n dX8_onAsk_348 rfl 3 rfl ?_
  refine H_callv (av := [.ref (ad D 115), .int 1, .int (h1 126 (ix x1)), .int x2, .int x3]) (rest := []) H mqX8_asking q88 (by decide) (Nat.le_of_ble_eq_true rfl) (k_resV (ci := 7) (av := [.int 1, .int (h1 126 (ix x1)), .int x2, .int x3]) (rest := []) (fs_115 hF) (by decide) rfl rfl q1891 q1893 qs60 q1894 mhX8_asking mnX8_asking dX8_onAsk_349) (fun h4 g5 H => ?_)
  refine V_goto (tgt := 386) dX8_onAsk_352 (by decide) ?_
  exact H_vret rfl dX8_onAsk_386 H
abbrev JX8_onAsk_321 (D : DE) (f : Nat) (Q : HI → HL → Prop) (F : Frm) (h : HI) (g : HL) (x1 : Int32) (x2 : Int32) (x3 : Int32) (x4 : Int32) : Prop := ((¬ x4 = 3 → JX8_onAsk_333 D f Q F h g x1 x2 x3 5) ∧ (x4 = 3 → JX8_onAsk_333 D f Q F h g x1 x2 x3 4))
theorem bX8_onAsk_321 {D : DE} {f : Nat} {Q : HI → HL → Prop} {F : Frm} {h : HI} {g : HL} (hF : k_Fix F) (x1 : Int32) (x2 : Int32) (x3 : Int32) (x4 : Int32) (H : JX8_onAsk_321 D f Q F h g x1 x2 x3 x4) : V D mX8_onAsk (f + 1) (qv F Q) 321 [(0, .ref (ad D 115)), (1, .int x1), (2, .int x2), (3, .int x3), (4, .int x4)] [] (F, h, g) := by
  refine V_aload_n dX8_onAsk_321 rfl 0 rfl ?_
  refine V_iload dX8_onAsk_322 4 rfl ?_
  refine V_iconst (v := 3) dX8_onAsk_324 (by decide) ?_
  refine V_icmp_ne (tgt := 332) dX8_onAsk_325 (by decide) (fun c1 => ?_) (fun c1 => ?_)
  · have H := H.1 c1
    refine V_iconst (v := 5) dX8_onAsk_332 (by decide) ?_
    refine V.sub [0, 1, 2, 3] rfl ?_
    exact bX8_onAsk_333 hF x1 x2 x3 5 H
  · have H := H.2 c1
    refine V_iconst (v := 4) dX8_onAsk_328 (by decide) ?_
    refine V_goto (tgt := 333) dX8_onAsk_329 (by decide) ?_
    refine V.sub [0, 1, 2, 3] rfl ?_
    exact bX8_onAsk_333 hF x1 x2 x3 4 H
abbrev JX8_onAsk_214 (D : DE) (f : Nat) (Q : HI → HL → Prop) (F : Frm) (h : HI) (g : HL) (x1 : Int32) (x3 : Int32) (x6 : Int32) : Prop := ((x6 ≤ 0 → Q h g) ∧ (¬ x6 ≤ 0 → vp_in x1 2002 ∧ Sv D f mX8_asking [.ref (ad D 115), .int 1, .int (h 125 (ix x1)), .int x6, .int x3] F h g (fun h3 g4 => Q h3 g4)))
theorem bX8_onAsk_214 {D : DE} {f : Nat} {Q : HI → HL → Prop} {F : Frm} {h : HI} {g : HL} (hF : k_Fix F) (x1 : Int32) (x3 : Int32) (x6 : Int32) (H : JX8_onAsk_214 D f Q F h g x1 x3 x6) : V D mX8_onAsk (f + 1) (qv F Q) 214 [(0, .ref (ad D 115)), (1, .int x1), (3, .int x3), (6, .int x6)] [] (F, h, g) := by
  refine V_iload dX8_onAsk_214 3 rfl ?_
  refine V_if_le (tgt := 233) dX8_onAsk_216 (by decide) (fun c1 => ?_) (fun c1 => ?_)
  · have H := H.1 c1
    refine V_goto (tgt := 386) dX8_onAsk_233 (by decide) ?_
    exact H_vret rfl dX8_onAsk_386 H
  · have H := H.2 c1
    refine V_aload_n dX8_onAsk_219 rfl 0 rfl ?_
    refine V_iconst (v := 1) dX8_onAsk_220 (by decide) ?_
    refine V_aload_n dX8_onAsk_221 rfl 0 rfl ?_
    refine H_getr ck7 19 (by decide) (fs_115 hF) (by decide) rfl (fr_115_19 hF) q1477 dX8_onAsk_222 ?_
    refine V_iload_n dX8_onAsk_225 rfl 1 rfl ?_
    obtain ⟨i2, H⟩ := H
    refine H_iald (fs_125 hF) i2 dX8_onAsk_226 ?_
    refine V_iload dX8_onAsk_227 3 rfl ?_
    refine V_iload_n dX8_onAsk_229 rfl 2 rfl ?_
    refine H_callv (av := [.ref (ad D 115), .int 1, .int (h 125 (ix x1)), .int x6, .int x3]) (rest := []) H mqX8_asking q88 (by decide) (Nat.le_of_ble_eq_true rfl) (k_resV (ci := 7) (av := [.int 1, .int (h 125 (ix x1)), .int x6, .int x3]) (rest := []) (fs_115 hF) (by decide) rfl rfl q1891 q1893 qs60 q1894 mhX8_asking mnX8_asking dX8_onAsk_230) (fun h3 g4 H => ?_)
    refine V_goto (tgt := 386) dX8_onAsk_233 (by decide) ?_
    exact H_vret rfl dX8_onAsk_386 H
abbrev JX8_onAsk_182 (D : DE) (f : Nat) (Q : HI → HL → Prop) (F : Frm) (h : HI) (g : HL) (x1 : Int32) (x3 : Int32) (x6 : Int32) (s0 : Int32) : Prop := ((s0 ≤ 0 → JX8_onAsk_214 D f Q F h g x1 x3 x6) ∧ (¬ s0 ≤ 0 → Sv D f mX8_asking [.ref (ad D 115), .int 2, .int x1, .int 0, .int x3] F h g (fun h2 g3 => vp_in x1 2002 ∧ Sv D f mX8_asking [.ref (ad D 115), .int 1, .int (h2 126 (ix x1)), .int s0, .int (x3 + 16)] F h2 g3 (fun h5 g6 => JX8_onAsk_214 D f Q F h5 g6 x1 x3 x6))))
theorem bX8_onAsk_182 {D : DE} {f : Nat} {Q : HI → HL → Prop} {F : Frm} {h : HI} {g : HL} (hF : k_Fix F) (x1 : Int32) (x3 : Int32) (x6 : Int32) (s0 : Int32) (H : JX8_onAsk_182 D f Q F h g x1 x3 x6 s0) : V D mX8_onAsk (f + 1) (qv F Q) 182 [(0, .ref (ad D 115)), (1, .int x1), (3, .int x3), (6, .int x6)] [.int s0] (F, h, g) := by
  refine V_istore (l1 := [(7, .int s0), (0, .ref (ad D 115)), (1, .int x1), (3, .int x3), (6, .int x6)]) dX8_onAsk_182 (by decide) rfl ?_
  refine V_iload dX8_onAsk_184 0 rfl ?_
  refine V_if_le (tgt := 214) dX8_onAsk_186 (by decide) (fun c1 => ?_) (fun c1 => ?_)
  · have H := H.1 c1
    refine V.sub [1, 2, 3, 4] rfl ?_
    exact bX8_onAsk_214 hF x1 x3 x6 H
  · have H := H.2 c1
    refine V_aload_n dX8_onAsk_189 rfl 1 rfl ?_
    refine V_iconst (v := 2) dX8_onAsk_190 (by decide) ?_
    refine V_iload_n dX8_onAsk_191 rfl 2 rfl ?_
    refine V_iconst (v := 0) dX8_onAsk_192 (by decide) ?_
    refine V_iload_n dX8_onAsk_193 rfl 3 rfl ?_
    refine H_callv (av := [.ref (ad D 115), .int 2, .int x1, .int 0, .int x3]) (rest := []) H mqX8_asking q88 (by decide) (Nat.le_of_ble_eq_true rfl) (k_resV (ci := 7) (av := [.int 2, .int x1, .int 0, .int x3]) (rest := []) (fs_115 hF) (by decide) rfl rfl q1891 q1893 qs60 q1894 mhX8_asking mnX8_asking dX8_onAsk_194) (fun h2 g3 H => ?_)
    refine V_aload_n dX8_onAsk_197 rfl 1 rfl ?_
    refine V_iconst (v := 1) dX8_onAsk_198 (by decide) ?_
    refine V_aload_n dX8_onAsk_199 rfl 1 rfl ?_
    refine H_getr ck7 20 (by decide) (fs_115 hF) (by decide) rfl (fr_115_20 hF) q1478 dX8_onAsk_200 ?_
    refine V_iload_n dX8_onAsk_203 rfl 2 rfl ?_
    obtain ⟨i4, H⟩ := H
    refine H_iald (fs_126 hF) i4 dX8_onAsk_204 ?_
    refine V_iload dX8_onAsk_205 0 rfl ?_
    refine V_iload_n dX8_onAsk_207 rfl 3 rfl ?_
    refine V_bipush (v := 16) dX8_onAsk_208 (by decide) ?_
    refine V_iadd dX8_onAsk_210 ?_
    refine H_callv (av := [.ref (ad D 115), .int 1, .int (h2 126 (ix x1)), .int s0, .int (x3 + 16)]) (rest := []) H mqX8_asking q88 (by decide) (Nat.le_of_ble_eq_true rfl) (k_resV (ci := 7) (av := [.int 1, .int (h2 126 (ix x1)), .int s0, .int (x3 + 16)]) (rest := []) (fs_115 hF) (by decide) rfl rfl q1891 q1893 qs60 q1894 mhX8_asking mnX8_asking dX8_onAsk_211) (fun h5 g6 H => ?_)
    refine V.sub [1, 2, 3, 4] rfl ?_
    exact bX8_onAsk_214 hF x1 x3 x6 H
abbrev JX8_onAsk_163 (D : DE) (f : Nat) (Q : HI → HL → Prop) (F : Frm) (h : HI) (g : HL) (x1 : Int32) (x2 : Int32) (x3 : Int32) (x4 : Int32) (x5 : Int32) (s0 : Int32) : Prop := ((¬ x4 = 9 → JX8_onAsk_182 D f Q F h g x1 x3 s0 1) ∧ (x4 = 9 → (¬ x5 = 0) ∧ JX8_onAsk_182 D f Q F h g x1 x3 s0 ((x2 - 1) - (x2 - 1) / x5 * x5)))
theorem bX8_onAsk_163 {D : DE} {f : Nat} {Q : HI → HL → Prop} {F : Frm} {h : HI} {g : HL} (hF : k_Fix F) (x1 : Int32) (x2 : Int32) (x3 : Int32) (x4 : Int32) (x5 : Int32) (s0 : Int32) (H : JX8_onAsk_163 D f Q F h g x1 x2 x3 x4 x5 s0) : V D mX8_onAsk (f + 1) (qv F Q) 163 [(0, .ref (ad D 115)), (1, .int x1), (2, .int x2), (3, .int x3), (4, .int x4), (5, .int x5)] [.int s0] (F, h, g) := by
  refine V_istore (l1 := [(6, .int s0), (0, .ref (ad D 115)), (1, .int x1), (2, .int x2), (3, .int x3), (4, .int x4), (5, .int x5)]) dX8_onAsk_163 (by decide) rfl ?_
  refine V_iload dX8_onAsk_165 5 rfl ?_
  refine V_bipush (v := 9) dX8_onAsk_167 (by decide) ?_
  refine V_icmp_ne (tgt := 181) dX8_onAsk_169 (by decide) (fun c1 => ?_) (fun c1 => ?_)
  · have H := H.1 c1
    refine V_iconst (v := 1) dX8_onAsk_181 (by decide) ?_
    refine V.sub [1, 2, 4, 0] rfl ?_
    exact bX8_onAsk_182 hF x1 x3 s0 1 H
  · have H := H.2 c1
    refine V_iload_n dX8_onAsk_172 rfl 3 rfl ?_
    refine V_iconst (v := 1) dX8_onAsk_173 (by decide) ?_
    refine V_isub dX8_onAsk_174 ?_
    refine V_iload dX8_onAsk_175 6 rfl ?_
    obtain ⟨z2, H⟩ := H
    refine V_irem dX8_onAsk_177 z2 ?_
    refine V_goto (tgt := 182) dX8_onAsk_178 (by decide) ?_
    refine V.sub [1, 2, 4, 0] rfl ?_
    exact bX8_onAsk_182 hF x1 x3 s0 ((x2 - 1) - (x2 - 1) / x5 * x5) H
abbrev JX8_onAsk_144 (D : DE) (f : Nat) (Q : HI → HL → Prop) (F : Frm) (h : HI) (g : HL) (x1 : Int32) (x2 : Int32) (x3 : Int32) (x4 : Int32) (s0 : Int32) : Prop := ((¬ x4 = 9 → JX8_onAsk_163 D f Q F h g x1 x2 x3 x4 s0 1) ∧ (x4 = 9 → (¬ s0 = 0) ∧ JX8_onAsk_163 D f Q F h g x1 x2 x3 x4 s0 ((x2 - 1) / s0)))
theorem bX8_onAsk_144 {D : DE} {f : Nat} {Q : HI → HL → Prop} {F : Frm} {h : HI} {g : HL} (hF : k_Fix F) (x1 : Int32) (x2 : Int32) (x3 : Int32) (x4 : Int32) (s0 : Int32) (H : JX8_onAsk_144 D f Q F h g x1 x2 x3 x4 s0) : V D mX8_onAsk (f + 1) (qv F Q) 144 [(0, .ref (ad D 115)), (1, .int x1), (2, .int x2), (3, .int x3), (4, .int x4)] [.int s0] (F, h, g) := by
  refine V_istore (l1 := [(5, .int s0), (0, .ref (ad D 115)), (1, .int x1), (2, .int x2), (3, .int x3), (4, .int x4)]) dX8_onAsk_144 (by decide) rfl ?_
  refine V_iload dX8_onAsk_146 5 rfl ?_
  refine V_bipush (v := 9) dX8_onAsk_148 (by decide) ?_
  refine V_icmp_ne (tgt := 162) dX8_onAsk_150 (by decide) (fun c1 => ?_) (fun c1 => ?_)
  · have H := H.1 c1
    refine V_iconst (v := 1) dX8_onAsk_162 (by decide) ?_
    refine V.sub [1, 2, 3, 4, 5, 0] rfl ?_
    exact bX8_onAsk_163 hF x1 x2 x3 x4 s0 1 H
  · have H := H.2 c1
    refine V_iload_n dX8_onAsk_153 rfl 3 rfl ?_
    refine V_iconst (v := 1) dX8_onAsk_154 (by decide) ?_
    refine V_isub dX8_onAsk_155 ?_
    refine V_iload dX8_onAsk_156 0 rfl ?_
    obtain ⟨z2, H⟩ := H
    refine V_idiv dX8_onAsk_158 z2 ?_
    refine V_goto (tgt := 163) dX8_onAsk_159 (by decide) ?_
    refine V.sub [1, 2, 3, 4, 5, 0] rfl ?_
    exact bX8_onAsk_163 hF x1 x2 x3 x4 s0 ((x2 - 1) / s0) H
abbrev JX8_onAsk_121 (D : DE) (f : Nat) (Q : HI → HL → Prop) (F : Frm) (h : HI) (g : HL) (x1 : Int32) (x2 : Int32) (x3 : Int32) (x4 : Int32) : Prop := ((¬ x4 = 9 → JX8_onAsk_144 D f Q F h g x1 x2 x3 x4 1) ∧ (x4 = 9 → vp_in x1 2002 ∧ Si D f mX8_secondOf [.int (h 129 (ix x1))] F h g (fun y5 h3 g4 => Si D f mX8_demands [.int y5] F h3 g4 (fun y8 h6 g7 => JX8_onAsk_144 D f Q F h6 g7 x1 x2 x3 x4 y8))))
theorem bX8_onAsk_121 {D : DE} {f : Nat} {Q : HI → HL → Prop} {F : Frm} {h : HI} {g : HL} (hF : k_Fix F) (x1 : Int32) (x2 : Int32) (x3 : Int32) (x4 : Int32) (H : JX8_onAsk_121 D f Q F h g x1 x2 x3 x4) : V D mX8_onAsk (f + 1) (qv F Q) 121 [(0, .ref (ad D 115)), (1, .int x1), (2, .int x2), (3, .int x3), (4, .int x4)] [] (F, h, g) := by
  refine V_iload dX8_onAsk_121 4 rfl ?_
  refine V_bipush (v := 9) dX8_onAsk_123 (by decide) ?_
  refine V_icmp_ne (tgt := 143) dX8_onAsk_125 (by decide) (fun c1 => ?_) (fun c1 => ?_)
  · have H := H.1 c1
    refine V_iconst (v := 1) dX8_onAsk_143 (by decide) ?_
    exact bX8_onAsk_144 hF x1 x2 x3 x4 1 H
  · have H := H.2 c1
    refine V_aload_n dX8_onAsk_128 rfl 0 rfl ?_
    refine H_getr ck7 23 (by decide) (fs_115 hF) (by decide) rfl (fr_115_23 hF) q1481 dX8_onAsk_129 ?_
    refine V_iload_n dX8_onAsk_132 rfl 1 rfl ?_
    obtain ⟨i2, H⟩ := H
    refine H_iald (fs_129 hF) i2 dX8_onAsk_133 ?_
    refine H_calli (av := [.int (h 129 (ix x1))]) (rest := []) H mqX8_secondOf q88 (by decide) (Nat.le_of_ble_eq_true rfl) (k_resS (av := [.int (h 129 (ix x1))]) (rest := []) (M1 := mX8_secondOf) rfl q1850 q1851 q88 mqX8_secondOf (fun _ _ h => mW_named h) mhX8_secondOf mnX8_secondOf dX8_onAsk_134) (fun y5 h3 g4 H => ?_)
    refine H_calli (av := [.int y5]) (rest := []) H mqX8_demands q88 (by decide) (Nat.le_of_ble_eq_true rfl) (k_resS (av := [.int y5]) (rest := []) (M1 := mX8_demands) rfl q1876 q1877 q88 mqX8_demands (fun _ _ h => mW_named h) mhX8_demands mnX8_demands dX8_onAsk_137) (fun y8 h6 g7 H => ?_)
    refine V_goto (tgt := 144) dX8_onAsk_140 (by decide) ?_
    exact bX8_onAsk_144 hF x1 x2 x3 x4 y8 H
abbrev JX8_onAsk_83 (D : DE) (f : Nat) (Q : HI → HL → Prop) (F : Frm) (h : HI) (g : HL) (x1 : Int32) (x2 : Int32) (x3 : Int32) (x4 : Int32) (s1 : Int32) (s2 : Int32) : Prop := vp_in s1 500 ∧ isB s2 ∧ ∀ h2, h2 = up2 h 142 (ix s1) s2 → ((¬ x4 = 7 → ((x4 = 1 → JX8_onAsk_121 D f Q F h2 g x1 x2 x3 x4) ∧ (¬ x4 = 1 → ((¬ x4 = 9 → ((¬ x4 = 2 → ((x4 = 3 → JX8_onAsk_321 D f Q F h2 g x1 x2 x3 x4) ∧ (¬ x4 = 3 → ((¬ x4 = 4 → ((¬ x4 = 8 → Q h2 g) ∧ (x4 = 8 → vp_in (x3 / 16) 500 ∧ ((¬ (h2 142 (ix (x3 / 16))) = 0 → Q h2 g) ∧ ((h2 142 (ix (x3 / 16))) = 0 → Sv D f mX8_asking [.ref (ad D 115), .int 6, .int x1, .int (8 * x2), .int x3] F h2 g (fun h14 g15 => Q h14 g15)))))) ∧ (x4 = 4 → JX8_onAsk_321 D f Q F h2 g x1 x2 x3 x4))))) ∧ (x4 = 2 → Sv D f mX8_asking [.ref (ad D 115), .int 2, .int x1, .int 0, .int x3] F h2 g (fun h16 g17 => Sv D f mX8_asking [.ref (ad D 115), .int 3, .int x1, .int 0, .int (x3 + 16)] F h16 g17 (fun h18 g19 => vp_in x1 2002 ∧ Sv D f mX8_asking [.ref (ad D 115), .int 1, .int (h18 127 (ix x1)), .int x2, .int (x3 + 32)] F h18 g19 (fun h21 g22 => vp_in x1 2002 ∧ Sv D f mX8_asking [.ref (ad D 115), .int 1, .int (h21 126 (ix x1)), .int x2, .int (x3 + 16)] F h21 g22 (fun h24 g25 => vp_in x1 2002 ∧ Sv D f mX8_asking [.ref (ad D 115), .int 1, .int (h24 125 (ix x1)), .int 1, .int x3] F h24 g25 (fun h27 g28 => Q h27 g28)))))))) ∧ (x4 = 9 → JX8_onAsk_121 D f Q F h2 g x1 x2 x3 x4))))) ∧ (x4 = 7 → vp_in x1 2002 ∧ vp_in (x3 + (h2 125 (ix x1))) 8000 ∧ ∀ h31, h31 = up2 h2 141 (ix (x3 + (h2 125 (ix x1)))) x2 → Q h31 g))
theorem bX8_onAsk_83 {D : DE} {f : Nat} {Q : HI → HL → Prop} {F : Frm} {h : HI} {g : HL} (hF : k_Fix F) (x1 : Int32) (x2 : Int32) (x3 : Int32) (x4 : Int32) (s1 : Int32) (s2 : Int32) (H : JX8_onAsk_83 D f Q F h g x1 x2 x3 x4 s1 s2) : V D mX8_onAsk (f + 1) (qv F Q) 83 [(0, .ref (ad D 115)), (1, .int x1), (2, .int x2), (3, .int x3), (4, .int x4)] [.int s2, .int s1, .ref (ad D 142)] (F, h, g) := by
  obtain ⟨i1, H⟩ := H
  obtain ⟨z4, H⟩ := H
  refine H_zast (fs_142 hF) i1 z4 dX8_onAsk_83 (fun h2 e3 => ?_)
  have H := H h2 e3
  refine V_iload dX8_onAsk_84 4 rfl ?_
  refine V_bipush (v := 7) dX8_onAsk_86 (by decide) ?_
  refine V_icmp_ne (tgt := 108) dX8_onAsk_88 (by decide) (fun c5 => ?_) (fun c5 => ?_)
  · have H := H.1 c5
    refine V_iload dX8_onAsk_108 4 rfl ?_
    refine V_iconst (v := 1) dX8_onAsk_110 (by decide) ?_
    refine V_icmp_eq (tgt := 121) dX8_onAsk_111 (by decide) (fun c6 => ?_) (fun c6 => ?_)
    · have H := H.1 c6
      exact bX8_onAsk_121 hF x1 x2 x3 x4 H
    · have H := H.2 c6
      refine V_iload dX8_onAsk_114 4 rfl ?_
      refine V_bipush (v := 9) dX8_onAsk_116 (by decide) ?_
      refine V_icmp_ne (tgt := 236) dX8_onAsk_118 (by decide) (fun c7 => ?_) (fun c7 => ?_)
      · have H := H.1 c7
        refine V_iload dX8_onAsk_236 4 rfl ?_
        refine V_iconst (v := 2) dX8_onAsk_238 (by decide) ?_
        refine V_icmp_ne (tgt := 309) dX8_onAsk_239 (by decide) (fun c8 => ?_) (fun c8 => ?_)
        · have H := H.1 c8
          refine V_iload dX8_onAsk_309 4 rfl ?_
          refine V_iconst (v := 3) dX8_onAsk_311 (by decide) ?_
          refine V_icmp_eq (tgt := 321) dX8_onAsk_312 (by decide) (fun c9 => ?_) (fun c9 => ?_)
          · have H := H.1 c9
            exact bX8_onAsk_321 hF x1 x2 x3 x4 H
          · have H := H.2 c9
            refine V_iload dX8_onAsk_315 4 rfl ?_
            refine V_iconst (v := 4) dX8_onAsk_317 (by decide) ?_
            refine V_icmp_ne (tgt := 355) dX8_onAsk_318 (by decide) (fun c10 => ?_) (fun c10 => ?_)
            · have H := H.1 c10
              refine V_iload dX8_onAsk_355 4 rfl ?_
              refine V_bipush (v := 8) dX8_onAsk_357 (by decide) ?_
              refine V_icmp_ne (tgt := 386) dX8_onAsk_359 (by decide) (fun c11 => ?_) (fun c11 => ?_)
              · have H := H.1 c11
                exact H_vret rfl dX8_onAsk_386 H
              · have H := H.2 c11
                refine V_aload_n dX8_onAsk_362 rfl 0 rfl ?_
                refine H_getr ck7 50 (by decide) (fs_115 hF) (by decide) rfl (fr_115_50 hF) q1508 dX8_onAsk_363 ?_
                refine V_iload_n dX8_onAsk_366 rfl 3 rfl ?_
                refine V_bipush (v := 16) dX8_onAsk_367 (by decide) ?_
                refine V_idiv dX8_onAsk_369 (by decide) ?_
                obtain ⟨i12, H⟩ := H
                refine H_zald (fs_142 hF) i12 dX8_onAsk_370 ?_
                refine V_if_ne (tgt := 386) dX8_onAsk_371 (by decide) (fun c13 => ?_) (fun c13 => ?_)
                · have H := H.1 c13
                  exact H_vret rfl dX8_onAsk_386 H
                · have H := H.2 c13
                  refine V_aload_n dX8_onAsk_374 rfl 0 rfl ?_
                  refine V_bipush (v := 6) dX8_onAsk_375 (by decide) ?_
                  refine V_iload_n dX8_onAsk_377 rfl 1 rfl ?_
                  refine V_bipush (v := 8) dX8_onAsk_378 (by decide) ?_
                  refine V_iload_n dX8_onAsk_380 rfl 2 rfl ?_
                  refine V_imul dX8_onAsk_381 ?_
                  refine V_iload_n dX8_onAsk_382 rfl 3 rfl ?_
                  refine H_callv (av := [.ref (ad D 115), .int 6, .int x1, .int (8 * x2), .int x3]) (rest := []) H mqX8_asking q88 (by decide) (Nat.le_of_ble_eq_true rfl) (k_resV (ci := 7) (av := [.int 6, .int x1, .int (8 * x2), .int x3]) (rest := []) (fs_115 hF) (by decide) rfl rfl q1891 q1893 qs60 q1894 mhX8_asking mnX8_asking dX8_onAsk_383) (fun h14 g15 H => ?_)
                  exact H_vret rfl dX8_onAsk_386 H
            · have H := H.2 c10
              exact bX8_onAsk_321 hF x1 x2 x3 x4 H
        · have H := H.2 c8
          refine V_aload_n dX8_onAsk_242 rfl 0 rfl ?_
          refine V_iconst (v := 2) dX8_onAsk_243 (by decide) ?_
          refine V_iload_n dX8_onAsk_244 rfl 1 rfl ?_
          refine V_iconst (v := 0) dX8_onAsk_245 (by decide) ?_
          refine V_iload_n dX8_onAsk_246 rfl 3 rfl ?_
          refine H_callv (av := [.ref (ad D 115), .int 2, .int x1, .int 0, .int x3]) (rest := []) H mqX8_asking q88 (by decide) (Nat.le_of_ble_eq_true rfl) (k_resV (ci := 7) (av := [.int 2, .int x1, .int 0, .int x3]) (rest := []) (fs_115 hF) (by decide) rfl rfl q1891 q1893 qs60 q1894 mhX8_asking mnX8_asking dX8_onAsk_247) (fun h16 g17 H => ?_)
          refine V_aload_n dX8_onAsk_250 rfl 0 rfl ?_
          refine V_iconst (v := 3) dX8_onAsk_251 (by decide) ?_
          refine V_iload_n dX8_onAsk_252 rfl 1 rfl ?_
          refine V_iconst (v := 0) dX8_onAsk_253 (by decide) ?_
          refine V_iload_n dX8_onAsk_254 rfl 3 rfl ?_
          refine V_bipush (v := 16) dX8_onAsk_255 (by decide) ?_
          refine V_iadd dX8_onAsk_257 ?_
          refine H_callv (av := [.ref (ad D 115), .int 3, .int x1, .int 0, .int (x3 + 16)]) (rest := []) H mqX8_asking q88 (by decide) (Nat.le_of_ble_eq_true rfl) (k_resV (ci := 7) (av := [.int 3, .int x1, .int 0, .int (x3 + 16)]) (rest := []) (fs_115 hF) (by decide) rfl rfl q1891 q1893 qs60 q1894 mhX8_asking mnX8_asking dX8_onAsk_258) (fun h18 g19 H => ?_)
          refine V_aload_n dX8_onAsk_261 rfl 0 rfl ?_
          refine V_iconst (v := 1) dX8_onAsk_262 (by decide) ?_
          refine V_aload_n dX8_onAsk_263 rfl 0 rfl ?_
          refine H_getr ck7 21 (by decide) (fs_115 hF) (by decide) rfl (fr_115_21 hF) q1479 dX8_onAsk_264 ?_
          refine V_iload_n dX8_onAsk_267 rfl 1 rfl ?_
          obtain ⟨i20, H⟩ := H
          refine H_iald (fs_127 hF) i20 dX8_onAsk_268 ?_
          refine V_iload_n dX8_onAsk_269 rfl 2 rfl ?_
          refine V_iload_n dX8_onAsk_270 rfl 3 rfl ?_
          refine V_bipush (v := 32) dX8_onAsk_271 (by decide) ?_
          refine V_iadd dX8_onAsk_273 ?_
          refine H_callv (av := [.ref (ad D 115), .int 1, .int (h18 127 (ix x1)), .int x2, .int (x3 + 32)]) (rest := []) H mqX8_asking q88 (by decide) (Nat.le_of_ble_eq_true rfl) (k_resV (ci := 7) (av := [.int 1, .int (h18 127 (ix x1)), .int x2, .int (x3 + 32)]) (rest := []) (fs_115 hF) (by decide) rfl rfl q1891 q1893 qs60 q1894 mhX8_asking mnX8_asking dX8_onAsk_274) (fun h21 g22 H => ?_)
          refine V_aload_n dX8_onAsk_277 rfl 0 rfl ?_
          refine V_iconst (v := 1) dX8_onAsk_278 (by decide) ?_
          refine V_aload_n dX8_onAsk_279 rfl 0 rfl ?_
          refine H_getr ck7 20 (by decide) (fs_115 hF) (by decide) rfl (fr_115_20 hF) q1478 dX8_onAsk_280 ?_
          refine V_iload_n dX8_onAsk_283 rfl 1 rfl ?_
          obtain ⟨i23, H⟩ := H
          refine H_iald (fs_126 hF) i23 dX8_onAsk_284 ?_
          refine V_iload_n dX8_onAsk_285 rfl 2 rfl ?_
          refine V_iload_n dX8_onAsk_286 rfl 3 rfl ?_
          refine V_bipush (v := 16) dX8_onAsk_287 (by decide) ?_
          refine V_iadd dX8_onAsk_289 ?_
          refine H_callv (av := [.ref (ad D 115), .int 1, .int (h21 126 (ix x1)), .int x2, .int (x3 + 16)]) (rest := []) H mqX8_asking q88 (by decide) (Nat.le_of_ble_eq_true rfl) (k_resV (ci := 7) (av := [.int 1, .int (h21 126 (ix x1)), .int x2, .int (x3 + 16)]) (rest := []) (fs_115 hF) (by decide) rfl rfl q1891 q1893 qs60 q1894 mhX8_asking mnX8_asking dX8_onAsk_290) (fun h24 g25 H => ?_)
          refine V_aload_n dX8_onAsk_293 rfl 0 rfl ?_
          refine V_iconst (v := 1) dX8_onAsk_294 (by decide) ?_
          refine V_aload_n dX8_onAsk_295 rfl 0 rfl ?_
          refine H_getr ck7 19 (by decide) (fs_115 hF) (by decide) rfl (fr_115_19 hF) q1477 dX8_onAsk_296 ?_
          refine V_iload_n dX8_onAsk_299 rfl 1 rfl ?_
          obtain ⟨i26, H⟩ := H
          refine H_iald (fs_125 hF) i26 dX8_onAsk_300 ?_
          refine V_iconst (v := 1) dX8_onAsk_301 (by decide) ?_
          refine V_iload_n dX8_onAsk_302 rfl 3 rfl ?_
          refine H_callv (av := [.ref (ad D 115), .int 1, .int (h24 125 (ix x1)), .int 1, .int x3]) (rest := []) H mqX8_asking q88 (by decide) (Nat.le_of_ble_eq_true rfl) (k_resV (ci := 7) (av := [.int 1, .int (h24 125 (ix x1)), .int 1, .int x3]) (rest := []) (fs_115 hF) (by decide) rfl rfl q1891 q1893 qs60 q1894 mhX8_asking mnX8_asking dX8_onAsk_303) (fun h27 g28 H => ?_)
          refine V_goto (tgt := 386) dX8_onAsk_306 (by decide) ?_
          exact H_vret rfl dX8_onAsk_386 H
      · have H := H.2 c7
        exact bX8_onAsk_121 hF x1 x2 x3 x4 H
  · have H := H.2 c5
    refine V_aload_n dX8_onAsk_91 rfl 0 rfl ?_
    refine H_getr ck7 49 (by decide) (fs_115 hF) (by decide) rfl (fr_115_49 hF) q1507 dX8_onAsk_92 ?_
    refine V_iload_n dX8_onAsk_95 rfl 3 rfl ?_
    refine V_aload_n dX8_onAsk_96 rfl 0 rfl ?_
    refine H_getr ck7 19 (by decide) (fs_115 hF) (by decide) rfl (fr_115_19 hF) q1477 dX8_onAsk_97 ?_
    refine V_iload_n dX8_onAsk_100 rfl 1 rfl ?_
    obtain ⟨i29, H⟩ := H
    refine H_iald (fs_125 hF) i29 dX8_onAsk_101 ?_
    refine V_iadd dX8_onAsk_102 ?_
    refine V_iload_n dX8_onAsk_103 rfl 2 rfl ?_
    obtain ⟨i30, H⟩ := H
    refine H_iast (fs_141 hF) i30 dX8_onAsk_104 (fun h31 e32 => ?_)
    have H := H h31 e32
    refine V_goto (tgt := 386) dX8_onAsk_105 (by decide) ?_
    exact H_vret rfl dX8_onAsk_386 H
abbrev JX8_onAsk_82 (D : DE) (f : Nat) (Q : HI → HL → Prop) (F : Frm) (h : HI) (g : HL) (x1 : Int32) (x2 : Int32) (x3 : Int32) (x4 : Int32) (s1 : Int32) : Prop := JX8_onAsk_83 D f Q F h g x1 x2 x3 x4 s1 0
theorem bX8_onAsk_82 {D : DE} {f : Nat} {Q : HI → HL → Prop} {F : Frm} {h : HI} {g : HL} (hF : k_Fix F) (x1 : Int32) (x2 : Int32) (x3 : Int32) (x4 : Int32) (s1 : Int32) (H : JX8_onAsk_82 D f Q F h g x1 x2 x3 x4 s1) : V D mX8_onAsk (f + 1) (qv F Q) 82 [(0, .ref (ad D 115)), (1, .int x1), (2, .int x2), (3, .int x3), (4, .int x4)] [.int s1, .ref (ad D 142)] (F, h, g) := by
  refine V_iconst (v := 0) dX8_onAsk_82 (by decide) ?_
  exact bX8_onAsk_83 hF x1 x2 x3 x4 s1 0 H
abbrev JX8_onAsk_78 (D : DE) (f : Nat) (Q : HI → HL → Prop) (F : Frm) (h : HI) (g : HL) (x1 : Int32) (x2 : Int32) (x3 : Int32) (x4 : Int32) (s1 : Int32) : Prop := JX8_onAsk_83 D f Q F h g x1 x2 x3 x4 s1 1
theorem bX8_onAsk_78 {D : DE} {f : Nat} {Q : HI → HL → Prop} {F : Frm} {h : HI} {g : HL} (hF : k_Fix F) (x1 : Int32) (x2 : Int32) (x3 : Int32) (x4 : Int32) (s1 : Int32) (H : JX8_onAsk_78 D f Q F h g x1 x2 x3 x4 s1) : V D mX8_onAsk (f + 1) (qv F Q) 78 [(0, .ref (ad D 115)), (1, .int x1), (2, .int x2), (3, .int x3), (4, .int x4)] [.int s1, .ref (ad D 142)] (F, h, g) := by
  refine V_iconst (v := 1) dX8_onAsk_78 (by decide) ?_
  refine V_goto (tgt := 83) dX8_onAsk_79 (by decide) ?_
  exact bX8_onAsk_83 hF x1 x2 x3 x4 s1 1 H
abbrev JX8_onAsk_3 (D : DE) (f : Nat) (Q : HI → HL → Prop) (F : Frm) (h : HI) (g : HL) (x1 : Int32) (x2 : Int32) (x3 : Int32) (x4 : Int32) : Prop := ((16 ≤ x4 → vp_in x1 2002 ∧ ∀ y3 : Int32, y3 = h 124 (ix x1) → ((y3 = 6 → JX8_onAsk_78 D f Q F h g x1 x2 x3 y3 (x3 / 16)) ∧ (¬ y3 = 6 → ((¬ y3 = 8 → JX8_onAsk_82 D f Q F h g x1 x2 x3 y3 (x3 / 16)) ∧ (y3 = 8 → vp_in x1 2002 ∧ ∀ y8 : Int32, y8 = 26 * ((h 127 (ix x1)) - (h 127 (ix x1)) / 12 * 12) → vp_in (y8 + x2) 312 ∧ (((h 144 (ix (y8 + x2))) = 0 → JX8_onAsk_82 D f Q F h g x1 x2 x3 y3 (x3 / 16)) ∧ (¬ (h 144 (ix (y8 + x2))) = 0 → JX8_onAsk_78 D f Q F h g x1 x2 x3 y3 (x3 / 16)))))))) ∧ (¬ 16 ≤ x4 → vp_in (x3 + x4) 8000 ∧ ∀ h13, h13 = up2 h 141 (ix (x3 + x4)) 0 → ∀ y15 : Int32, y15 = x4 + 1 → V D mX8_onAsk (f + 1) (qv F Q) 3 [(0, .ref (ad D 115)), (1, .int x1), (2, .int x2), (3, .int x3), (4, .int y15)] [] (F, h13, g)))
theorem bX8_onAsk_3 {D : DE} {f : Nat} {Q : HI → HL → Prop} {F : Frm} {h : HI} {g : HL} (hF : k_Fix F) (x1 : Int32) (x2 : Int32) (x3 : Int32) (x4 : Int32) (H : JX8_onAsk_3 D f Q F h g x1 x2 x3 x4) : V D mX8_onAsk (f + 1) (qv F Q) 3 [(0, .ref (ad D 115)), (1, .int x1), (2, .int x2), (3, .int x3), (4, .int x4)] [] (F, h, g) := by
  refine V_iload dX8_onAsk_3 4 rfl ?_
  refine V_bipush (v := 16) dX8_onAsk_5 (by decide) ?_
  refine V_icmp_ge (tgt := 26) dX8_onAsk_7 (by decide) (fun c1 => ?_) (fun c1 => ?_)
  · have H := H.1 c1
    refine V_aload_n dX8_onAsk_26 rfl 0 rfl ?_
    refine H_getr ck7 18 (by decide) (fs_115 hF) (by decide) rfl (fr_115_18 hF) q1476 dX8_onAsk_27 ?_
    refine V_iload_n dX8_onAsk_30 rfl 1 rfl ?_
    obtain ⟨i2, H⟩ := H
    refine H_iald (fs_124 hF) i2 dX8_onAsk_31 ?_
    refine V_topi (fun y3 e4 => ?_)
    have H := H y3 e4
    refine V_istore (l1 := [(4, .int y3), (0, .ref (ad D 115)), (1, .int x1), (2, .int x2), (3, .int x3)]) dX8_onAsk_32 (by decide) rfl ?_
    refine V_aload_n dX8_onAsk_34 rfl 1 rfl ?_
    refine H_getr ck7 50 (by decide) (fs_115 hF) (by decide) rfl (fr_115_50 hF) q1508 dX8_onAsk_35 ?_
    refine V_iload_n dX8_onAsk_38 rfl 4 rfl ?_
    refine V_bipush (v := 16) dX8_onAsk_39 (by decide) ?_
    refine V_idiv dX8_onAsk_41 (by decide) ?_
    refine V_iload dX8_onAsk_42 0 rfl ?_
    refine V_bipush (v := 6) dX8_onAsk_44 (by decide) ?_
    refine V_icmp_eq (tgt := 78) dX8_onAsk_46 (by decide) (fun c5 => ?_) (fun c5 => ?_)
    · have H := H.1 c5
      refine V.sub [1, 2, 3, 4, 0] rfl ?_
      exact bX8_onAsk_78 hF x1 x2 x3 y3 (x3 / 16) H
    · have H := H.2 c5
      refine V_iload dX8_onAsk_49 0 rfl ?_
      refine V_bipush (v := 8) dX8_onAsk_51 (by decide) ?_
      refine V_icmp_ne (tgt := 82) dX8_onAsk_53 (by decide) (fun c6 => ?_) (fun c6 => ?_)
      · have H := H.1 c6
        refine V.sub [1, 2, 3, 4, 0] rfl ?_
        exact bX8_onAsk_82 hF x1 x2 x3 y3 (x3 / 16) H
      · have H := H.2 c6
        refine V_aload_n dX8_onAsk_56 rfl 1 rfl ?_
        refine H_getr ck7 52 (by decide) (fs_115 hF) (by decide) rfl (fr_115_52 hF) q1510 dX8_onAsk_57 ?_
        refine V_bipush (v := 26) dX8_onAsk_60 (by decide) ?_
        refine V_aload_n dX8_onAsk_62 rfl 1 rfl ?_
        refine H_getr ck7 21 (by decide) (fs_115 hF) (by decide) rfl (fr_115_21 hF) q1479 dX8_onAsk_63 ?_
        refine V_iload_n dX8_onAsk_66 rfl 2 rfl ?_
        obtain ⟨i7, H⟩ := H
        refine H_iald (fs_127 hF) i7 dX8_onAsk_67 ?_
        refine V_bipush (v := 12) dX8_onAsk_68 (by decide) ?_
        refine V_irem dX8_onAsk_70 (by decide) ?_
        refine V_imul dX8_onAsk_71 ?_
        refine V_topi (fun y8 e9 => ?_)
        have H := H y8 e9
        refine V_iload_n dX8_onAsk_72 rfl 3 rfl ?_
        refine V_iadd dX8_onAsk_73 ?_
        obtain ⟨i10, H⟩ := H
        refine H_zald (fs_144 hF) i10 dX8_onAsk_74 ?_
        refine V_if_eq (tgt := 82) dX8_onAsk_75 (by decide) (fun c11 => ?_) (fun c11 => ?_)
        · have H := H.1 c11
          refine V.sub [1, 2, 3, 4, 0] rfl ?_
          exact bX8_onAsk_82 hF x1 x2 x3 y3 (x3 / 16) H
        · have H := H.2 c11
          refine V.sub [1, 2, 3, 4, 0] rfl ?_
          exact bX8_onAsk_78 hF x1 x2 x3 y3 (x3 / 16) H
  · have H := H.2 c1
    refine V_aload_n dX8_onAsk_10 rfl 0 rfl ?_
    refine H_getr ck7 49 (by decide) (fs_115 hF) (by decide) rfl (fr_115_49 hF) q1507 dX8_onAsk_11 ?_
    refine V_iload_n dX8_onAsk_14 rfl 3 rfl ?_
    refine V_iload dX8_onAsk_15 4 rfl ?_
    refine V_iadd dX8_onAsk_17 ?_
    refine V_iconst (v := 0) dX8_onAsk_18 (by decide) ?_
    obtain ⟨i12, H⟩ := H
    refine H_iast (fs_141 hF) i12 dX8_onAsk_19 (fun h13 e14 => ?_)
    have H := H h13 e14
    obtain ⟨y15, e16⟩ : ∃ y : Int32, y = x4 + 1 := ⟨_, rfl⟩
    have H := H y15 e16
    refine V_iinc (j := 4) (v := y15) (l1 := [(4, .int y15), (0, .ref (ad D 115)), (1, .int x1), (2, .int x2), (3, .int x3)]) dX8_onAsk_20 rfl (by rw [e16]; rfl) (by decide) rfl ?_
    refine V_goto (tgt := 3) dX8_onAsk_23 (by decide) ?_
    refine V.sub [1, 2, 3, 4, 0] rfl ?_
    exact H
abbrev JX8_onAsk_0 (D : DE) (f : Nat) (Q : HI → HL → Prop) (F : Frm) (h : HI) (g : HL) (x1 : Int32) (x2 : Int32) (x3 : Int32) : Prop := V D mX8_onAsk (f + 1) (qv F Q) 3 [(0, .ref (ad D 115)), (1, .int x1), (2, .int x2), (3, .int x3), (4, .int 0)] [] (F, h, g)
theorem bX8_onAsk_0 {D : DE} {f : Nat} {Q : HI → HL → Prop} {F : Frm} {h : HI} {g : HL} (hF : k_Fix F) (x1 : Int32) (x2 : Int32) (x3 : Int32) (H : JX8_onAsk_0 D f Q F h g x1 x2 x3) : V D mX8_onAsk (f + 1) (qv F Q) 0 [(0, .ref (ad D 115)), (1, .int x1), (2, .int x2), (3, .int x3)] [] (F, h, g) := by
  refine V_iconst (v := 0) dX8_onAsk_0 (by decide) ?_
  refine V_istore (l1 := [(4, .int 0), (0, .ref (ad D 115)), (1, .int x1), (2, .int x2), (3, .int x3)]) dX8_onAsk_1 (by decide) rfl ?_
  refine V.sub [1, 2, 3, 4, 0] rfl ?_
  exact H
theorem wX8_onAsk {D : DE} {f : Nat} {Q : HI → HL → Prop} {F : Frm} {h : HI} {g : HL} (hF : k_Fix F) (x1 : Int32) (x2 : Int32) (x3 : Int32) (H : JX8_onAsk_0 D f Q F h g x1 x2 x3) : Sv D (f + 1) mX8_onAsk [.ref (ad D 115), .int x1, .int x2, .int x3] F h g Q := Cl.ofV (by decide) (Nat.le_of_ble_eq_true rfl) rfl (bX8_onAsk_0 hF x1 x2 x3 H)
theorem dX8_onArgument_0 : decode cX8_onArgument 0 = .ok (.bipush 26, 2) := by decide +kernel
theorem dX8_onArgument_2 : decode cX8_onArgument 2 = .ok (.aload_n 0, 1) := by decide +kernel
theorem dX8_onArgument_3 : decode cX8_onArgument 3 = .ok (.getfield 48, 3) := by decide +kernel
theorem dX8_onArgument_6 : decode cX8_onArgument 6 = .ok (.iload_n 1, 1) := by decide +kernel
theorem dX8_onArgument_7 : decode cX8_onArgument 7 = .ok (.iaload, 1) := by decide +kernel
theorem dX8_onArgument_8 : decode cX8_onArgument 8 = .ok (.bipush 12, 2) := by decide +kernel
theorem dX8_onArgument_10 : decode cX8_onArgument 10 = .ok (.irem, 1) := by decide +kernel
theorem dX8_onArgument_11 : decode cX8_onArgument 11 = .ok (.imul, 1) := by decide +kernel
theorem dX8_onArgument_12 : decode cX8_onArgument 12 = .ok (.iload_n 2, 1) := by decide +kernel
theorem dX8_onArgument_13 : decode cX8_onArgument 13 = .ok (.bipush 8, 2) := by decide +kernel
theorem dX8_onArgument_15 : decode cX8_onArgument 15 = .ok (.idiv, 1) := by decide +kernel
theorem dX8_onArgument_16 : decode cX8_onArgument 16 = .ok (.iadd, 1) := by decide +kernel
theorem dX8_onArgument_17 : decode cX8_onArgument 17 = .ok (.istore 4, 2) := by decide +kernel
theorem dX8_onArgument_19 : decode cX8_onArgument 19 = .ok (.iload_n 2, 1) := by decide +kernel
theorem dX8_onArgument_20 : decode cX8_onArgument 20 = .ok (.bipush 8, 2) := by decide +kernel
theorem dX8_onArgument_22 : decode cX8_onArgument 22 = .ok (.irem, 1) := by decide +kernel
theorem dX8_onArgument_23 : decode cX8_onArgument 23 = .ok (.istore 5, 2) := by decide +kernel
theorem dX8_onArgument_25 : decode cX8_onArgument 25 = .ok (.iload 5, 2) := by decide +kernel
theorem dX8_onArgument_27 : decode cX8_onArgument 27 = .ok (.aload_n 0, 1) := by decide +kernel
theorem dX8_onArgument_28 : decode cX8_onArgument 28 = .ok (.getfield 45, 3) := by decide +kernel
theorem dX8_onArgument_31 : decode cX8_onArgument 31 = .ok (.iload_n 1, 1) := by decide +kernel
theorem dX8_onArgument_32 : decode cX8_onArgument 32 = .ok (.iaload, 1) := by decide +kernel
theorem dX8_onArgument_33 : decode cX8_onArgument 33 = .ok (.if_icmp .ge 24, 3) := by decide +kernel
theorem dX8_onArgument_36 : decode cX8_onArgument 36 = .ok (.aload_n 0, 1) := by decide +kernel
theorem dX8_onArgument_37 : decode cX8_onArgument 37 = .ok (.getfield 97, 3) := by decide +kernel
theorem dX8_onArgument_40 : decode cX8_onArgument 40 = .ok (.iconst 4, 1) := by decide +kernel
theorem dX8_onArgument_41 : decode cX8_onArgument 41 = .ok (.iload 4, 2) := by decide +kernel
theorem dX8_onArgument_43 : decode cX8_onArgument 43 = .ok (.imul, 1) := by decide +kernel
theorem dX8_onArgument_44 : decode cX8_onArgument 44 = .ok (.iload 5, 2) := by decide +kernel
theorem dX8_onArgument_46 : decode cX8_onArgument 46 = .ok (.iadd, 1) := by decide +kernel
theorem dX8_onArgument_47 : decode cX8_onArgument 47 = .ok (.iaload, 1) := by decide +kernel
theorem dX8_onArgument_48 : decode cX8_onArgument 48 = .ok (.ifCond .ne 9, 3) := by decide +kernel
theorem dX8_onArgument_51 : decode cX8_onArgument 51 = .ok (.iinc 5 1, 3) := by decide +kernel
theorem dX8_onArgument_54 : decode cX8_onArgument 54 = .ok (.goto (-29), 3) := by decide +kernel
theorem dX8_onArgument_57 : decode cX8_onArgument 57 = .ok (.iload 5, 2) := by decide +kernel
theorem dX8_onArgument_59 : decode cX8_onArgument 59 = .ok (.aload_n 0, 1) := by decide +kernel
theorem dX8_onArgument_60 : decode cX8_onArgument 60 = .ok (.getfield 45, 3) := by decide +kernel
theorem dX8_onArgument_63 : decode cX8_onArgument 63 = .ok (.iload_n 1, 1) := by decide +kernel
theorem dX8_onArgument_64 : decode cX8_onArgument 64 = .ok (.iaload, 1) := by decide +kernel
theorem dX8_onArgument_65 : decode cX8_onArgument 65 = .ok (.if_icmp .ge 78, 3) := by decide +kernel
theorem dX8_onArgument_68 : decode cX8_onArgument 68 = .ok (.aload_n 0, 1) := by decide +kernel
theorem dX8_onArgument_69 : decode cX8_onArgument 69 = .ok (.getfield 93, 3) := by decide +kernel
theorem dX8_onArgument_72 : decode cX8_onArgument 72 = .ok (.iload_n 3, 1) := by decide +kernel
theorem dX8_onArgument_73 : decode cX8_onArgument 73 = .ok (.bipush 16, 2) := by decide +kernel
theorem dX8_onArgument_75 : decode cX8_onArgument 75 = .ok (.idiv, 1) := by decide +kernel
theorem dX8_onArgument_76 : decode cX8_onArgument 76 = .ok (.baload, 1) := by decide +kernel
theorem dX8_onArgument_77 : decode cX8_onArgument 77 = .ok (.ifCond .ne 66, 3) := by decide +kernel
theorem dX8_onArgument_80 : decode cX8_onArgument 80 = .ok (.aload_n 0, 1) := by decide +kernel
theorem dX8_onArgument_81 : decode cX8_onArgument 81 = .ok (.bipush 6, 2) := by decide +kernel
theorem dX8_onArgument_83 : decode cX8_onArgument 83 = .ok (.iload_n 1, 1) := by decide +kernel
theorem dX8_onArgument_84 : decode cX8_onArgument 84 = .ok (.iload_n 2, 1) := by decide +kernel
theorem dX8_onArgument_85 : decode cX8_onArgument 85 = .ok (.bipush 8, 2) := by decide +kernel
theorem dX8_onArgument_87 : decode cX8_onArgument 87 = .ok (.idiv, 1) := by decide +kernel
theorem dX8_onArgument_88 : decode cX8_onArgument 88 = .ok (.bipush 8, 2) := by decide +kernel
theorem dX8_onArgument_90 : decode cX8_onArgument 90 = .ok (.imul, 1) := by decide +kernel
theorem dX8_onArgument_91 : decode cX8_onArgument 91 = .ok (.iload 5, 2) := by decide +kernel
theorem dX8_onArgument_93 : decode cX8_onArgument 93 = .ok (.iadd, 1) := by decide +kernel
theorem dX8_onArgument_94 : decode cX8_onArgument 94 = .ok (.iconst 1, 1) := by decide +kernel
theorem dX8_onArgument_95 : decode cX8_onArgument 95 = .ok (.iadd, 1) := by decide +kernel
theorem dX8_onArgument_96 : decode cX8_onArgument 96 = .ok (.iload_n 3, 1) := by decide +kernel
theorem dX8_onArgument_97 : decode cX8_onArgument 97 = .ok (.invokevirtual 363, 3) := by decide +kernel
theorem dX8_onArgument_100 : decode cX8_onArgument 100 = .ok (.aload_n 0, 1) := by decide +kernel
theorem dX8_onArgument_101 : decode cX8_onArgument 101 = .ok (.iconst 2, 1) := by decide +kernel
theorem dX8_onArgument_102 : decode cX8_onArgument 102 = .ok (.iload_n 1, 1) := by decide +kernel
theorem dX8_onArgument_103 : decode cX8_onArgument 103 = .ok (.iconst 0, 1) := by decide +kernel
theorem dX8_onArgument_104 : decode cX8_onArgument 104 = .ok (.iload_n 3, 1) := by decide +kernel
theorem dX8_onArgument_105 : decode cX8_onArgument 105 = .ok (.invokevirtual 363, 3) := by decide +kernel
theorem dX8_onArgument_108 : decode cX8_onArgument 108 = .ok (.aload_n 0, 1) := by decide +kernel
theorem dX8_onArgument_109 : decode cX8_onArgument 109 = .ok (.iconst 1, 1) := by decide +kernel
theorem dX8_onArgument_110 : decode cX8_onArgument 110 = .ok (.aload_n 0, 1) := by decide +kernel
theorem dX8_onArgument_111 : decode cX8_onArgument 111 = .ok (.getfield 60, 3) := by decide +kernel
theorem dX8_onArgument_114 : decode cX8_onArgument 114 = .ok (.aload_n 0, 1) := by decide +kernel
theorem dX8_onArgument_115 : decode cX8_onArgument 115 = .ok (.getfield 42, 3) := by decide +kernel
theorem dX8_onArgument_118 : decode cX8_onArgument 118 = .ok (.iload_n 1, 1) := by decide +kernel
theorem dX8_onArgument_119 : decode cX8_onArgument 119 = .ok (.iaload, 1) := by decide +kernel
theorem dX8_onArgument_120 : decode cX8_onArgument 120 = .ok (.iload 5, 2) := by decide +kernel
theorem dX8_onArgument_122 : decode cX8_onArgument 122 = .ok (.iadd, 1) := by decide +kernel
theorem dX8_onArgument_123 : decode cX8_onArgument 123 = .ok (.iaload, 1) := by decide +kernel
theorem dX8_onArgument_124 : decode cX8_onArgument 124 = .ok (.aload_n 0, 1) := by decide +kernel
theorem dX8_onArgument_125 : decode cX8_onArgument 125 = .ok (.getfield 97, 3) := by decide +kernel
theorem dX8_onArgument_128 : decode cX8_onArgument 128 = .ok (.iconst 4, 1) := by decide +kernel
theorem dX8_onArgument_129 : decode cX8_onArgument 129 = .ok (.iload 4, 2) := by decide +kernel
theorem dX8_onArgument_131 : decode cX8_onArgument 131 = .ok (.imul, 1) := by decide +kernel
theorem dX8_onArgument_132 : decode cX8_onArgument 132 = .ok (.iload 5, 2) := by decide +kernel
theorem dX8_onArgument_134 : decode cX8_onArgument 134 = .ok (.iadd, 1) := by decide +kernel
theorem dX8_onArgument_135 : decode cX8_onArgument 135 = .ok (.iaload, 1) := by decide +kernel
theorem dX8_onArgument_136 : decode cX8_onArgument 136 = .ok (.iload_n 3, 1) := by decide +kernel
theorem dX8_onArgument_137 : decode cX8_onArgument 137 = .ok (.bipush 16, 2) := by decide +kernel
theorem dX8_onArgument_139 : decode cX8_onArgument 139 = .ok (.iadd, 1) := by decide +kernel
theorem dX8_onArgument_140 : decode cX8_onArgument 140 = .ok (.invokevirtual 363, 3) := by decide +kernel
theorem dX8_onArgument_143 : decode cX8_onArgument 143 = .ok (.return_, 1) := by decide +kernel
abbrev JX8_onArgument_57 (D : DE) (f : Nat) (Q : HI → HL → Prop) (F : Frm) (h : HI) (g : HL) (x1 : Int32) (x2 : Int32) (x3 : Int32) (x4 : Int32) (x5 : Int32) : Prop := vp_in x1 2002 ∧ (((h 126 (ix x1)) ≤ x5 → Q h g) ∧ (¬ (h 126 (ix x1)) ≤ x5 → vp_in (x3 / 16) 500 ∧ ((¬ (h 142 (ix (x3 / 16))) = 0 → Q h g) ∧ ((h 142 (ix (x3 / 16))) = 0 → Sv D f mX8_asking [.ref (ad D 115), .int 6, .int x1, .int ((((x2 / 8) * 8) + x5) + 1), .int x3] F h g (fun h5 g6 => Sv D f mX8_asking [.ref (ad D 115), .int 2, .int x1, .int 0, .int x3] F h5 g6 (fun h7 g8 => vp_in x1 2002 ∧ vp_in ((h7 125 (ix x1)) + x5) 2002 ∧ vp_in ((4 * x4) + x5) 1248 ∧ Sv D f mX8_asking [.ref (ad D 115), .int 1, .int (h7 131 (ix ((h7 125 (ix x1)) + x5))), .int (h7 143 (ix ((4 * x4) + x5))), .int (x3 + 16)] F h7 g8 (fun h12 g13 => Q h12 g13)))))))
theorem bX8_onArgument_57 {D : DE} {f : Nat} {Q : HI → HL → Prop} {F : Frm} {h : HI} {g : HL} (hF : k_Fix F) (x1 : Int32) (x2 : Int32) (x3 : Int32) (x4 : Int32) (x5 : Int32) (H : JX8_onArgument_57 D f Q F h g x1 x2 x3 x4 x5) : V D mX8_onArgument (f + 1) (qv F Q) 57 [(0, .ref (ad D 115)), (1, .int x1), (2, .int x2), (3, .int x3), (4, .int x4), (5, .int x5)] [] (F, h, g) := by
  refine V_iload dX8_onArgument_57 5 rfl ?_
  refine V_aload_n dX8_onArgument_59 rfl 0 rfl ?_
  refine H_getr ck7 20 (by decide) (fs_115 hF) (by decide) rfl (fr_115_20 hF) q1478 dX8_onArgument_60 ?_
  refine V_iload_n dX8_onArgument_63 rfl 1 rfl ?_
  obtain ⟨i1, H⟩ := H
  refine H_iald (fs_126 hF) i1 dX8_onArgument_64 ?_
  refine V_icmp_ge (tgt := 143) dX8_onArgument_65 (by decide) (fun c2 => ?_) (fun c2 => ?_)
  · have H := H.1 c2
    exact H_vret rfl dX8_onArgument_143 H
  · have H := H.2 c2
    refine V_aload_n dX8_onArgument_68 rfl 0 rfl ?_
    refine H_getr ck7 50 (by decide) (fs_115 hF) (by decide) rfl (fr_115_50 hF) q1508 dX8_onArgument_69 ?_
    refine V_iload_n dX8_onArgument_72 rfl 3 rfl ?_
    refine V_bipush (v := 16) dX8_onArgument_73 (by decide) ?_
    refine V_idiv dX8_onArgument_75 (by decide) ?_
    obtain ⟨i3, H⟩ := H
    refine H_zald (fs_142 hF) i3 dX8_onArgument_76 ?_
    refine V_if_ne (tgt := 143) dX8_onArgument_77 (by decide) (fun c4 => ?_) (fun c4 => ?_)
    · have H := H.1 c4
      exact H_vret rfl dX8_onArgument_143 H
    · have H := H.2 c4
      refine V_aload_n dX8_onArgument_80 rfl 0 rfl ?_
      refine V_bipush (v := 6) dX8_onArgument_81 (by decide) ?_
      refine V_iload_n dX8_onArgument_83 rfl 1 rfl ?_
      refine V_iload_n dX8_onArgument_84 rfl 2 rfl ?_
      refine V_bipush (v := 8) dX8_onArgument_85 (by decide) ?_
      refine V_idiv dX8_onArgument_87 (by decide) ?_
      refine V_bipush (v := 8) dX8_onArgument_88 (by decide) ?_
      refine V_imul dX8_onArgument_90 ?_
      refine V_iload dX8_onArgument_91 5 rfl ?_
      refine V_iadd dX8_onArgument_93 ?_
      refine V_iconst (v := 1) dX8_onArgument_94 (by decide) ?_
      refine V_iadd dX8_onArgument_95 ?_
      refine V_iload_n dX8_onArgument_96 rfl 3 rfl ?_
      refine H_callv (av := [.ref (ad D 115), .int 6, .int x1, .int ((((x2 / 8) * 8) + x5) + 1), .int x3]) (rest := []) H mqX8_asking q88 (by decide) (Nat.le_of_ble_eq_true rfl) (k_resV (ci := 7) (av := [.int 6, .int x1, .int ((((x2 / 8) * 8) + x5) + 1), .int x3]) (rest := []) (fs_115 hF) (by decide) rfl rfl q1891 q1893 qs60 q1894 mhX8_asking mnX8_asking dX8_onArgument_97) (fun h5 g6 H => ?_)
      refine V_aload_n dX8_onArgument_100 rfl 0 rfl ?_
      refine V_iconst (v := 2) dX8_onArgument_101 (by decide) ?_
      refine V_iload_n dX8_onArgument_102 rfl 1 rfl ?_
      refine V_iconst (v := 0) dX8_onArgument_103 (by decide) ?_
      refine V_iload_n dX8_onArgument_104 rfl 3 rfl ?_
      refine H_callv (av := [.ref (ad D 115), .int 2, .int x1, .int 0, .int x3]) (rest := []) H mqX8_asking q88 (by decide) (Nat.le_of_ble_eq_true rfl) (k_resV (ci := 7) (av := [.int 2, .int x1, .int 0, .int x3]) (rest := []) (fs_115 hF) (by decide) rfl rfl q1891 q1893 qs60 q1894 mhX8_asking mnX8_asking dX8_onArgument_105) (fun h7 g8 H => ?_)
      refine V_aload_n dX8_onArgument_108 rfl 0 rfl ?_
      refine V_iconst (v := 1) dX8_onArgument_109 (by decide) ?_
      refine V_aload_n dX8_onArgument_110 rfl 0 rfl ?_
      refine H_getr ck7 25 (by decide) (fs_115 hF) (by decide) rfl (fr_115_25 hF) q1483 dX8_onArgument_111 ?_
      refine V_aload_n dX8_onArgument_114 rfl 0 rfl ?_
      refine H_getr ck7 19 (by decide) (fs_115 hF) (by decide) rfl (fr_115_19 hF) q1477 dX8_onArgument_115 ?_
      refine V_iload_n dX8_onArgument_118 rfl 1 rfl ?_
      obtain ⟨i9, H⟩ := H
      refine H_iald (fs_125 hF) i9 dX8_onArgument_119 ?_
      refine V_iload dX8_onArgument_120 5 rfl ?_
      refine V_iadd dX8_onArgument_122 ?_
      obtain ⟨i10, H⟩ := H
      refine H_iald (fs_131 hF) i10 dX8_onArgument_123 ?_
      refine V_aload_n dX8_onArgument_124 rfl 0 rfl ?_
      refine H_getr ck7 51 (by decide) (fs_115 hF) (by decide) rfl (fr_115_51 hF) q1509 dX8_onArgument_125 ?_
      refine V_iconst (v := 4) dX8_onArgument_128 (by decide) ?_
      refine V_iload dX8_onArgument_129 4 rfl ?_
      refine V_imul dX8_onArgument_131 ?_
      refine V_iload dX8_onArgument_132 5 rfl ?_
      refine V_iadd dX8_onArgument_134 ?_
      obtain ⟨i11, H⟩ := H
      refine H_iald (fs_143 hF) i11 dX8_onArgument_135 ?_
      refine V_iload_n dX8_onArgument_136 rfl 3 rfl ?_
      refine V_bipush (v := 16) dX8_onArgument_137 (by decide) ?_
      refine V_iadd dX8_onArgument_139 ?_
      refine H_callv (av := [.ref (ad D 115), .int 1, .int (h7 131 (ix ((h7 125 (ix x1)) + x5))), .int (h7 143 (ix ((4 * x4) + x5))), .int (x3 + 16)]) (rest := []) H mqX8_asking q88 (by decide) (Nat.le_of_ble_eq_true rfl) (k_resV (ci := 7) (av := [.int 1, .int (h7 131 (ix ((h7 125 (ix x1)) + x5))), .int (h7 143 (ix ((4 * x4) + x5))), .int (x3 + 16)]) (rest := []) (fs_115 hF) (by decide) rfl rfl q1891 q1893 qs60 q1894 mhX8_asking mnX8_asking dX8_onArgument_140) (fun h12 g13 H => ?_)
      exact H_vret rfl dX8_onArgument_143 H
abbrev JX8_onArgument_25 (D : DE) (f : Nat) (Q : HI → HL → Prop) (F : Frm) (h : HI) (g : HL) (x1 : Int32) (x2 : Int32) (x3 : Int32) (x4 : Int32) (x5 : Int32) : Prop := vp_in x1 2002 ∧ (((h 126 (ix x1)) ≤ x5 → JX8_onArgument_57 D f Q F h g x1 x2 x3 x4 x5) ∧ (¬ (h 126 (ix x1)) ≤ x5 → vp_in ((4 * x4) + x5) 1248 ∧ ((¬ (h 143 (ix ((4 * x4) + x5))) = 0 → JX8_onArgument_57 D f Q F h g x1 x2 x3 x4 x5) ∧ ((h 143 (ix ((4 * x4) + x5))) = 0 → ∀ y5 : Int32, y5 = x5 + 1 → V D mX8_onArgument (f + 1) (qv F Q) 25 [(0, .ref (ad D 115)), (1, .int x1), (2, .int x2), (3, .int x3), (4, .int x4), (5, .int y5)] [] (F, h, g)))))
theorem bX8_onArgument_25 {D : DE} {f : Nat} {Q : HI → HL → Prop} {F : Frm} {h : HI} {g : HL} (hF : k_Fix F) (x1 : Int32) (x2 : Int32) (x3 : Int32) (x4 : Int32) (x5 : Int32) (H : JX8_onArgument_25 D f Q F h g x1 x2 x3 x4 x5) : V D mX8_onArgument (f + 1) (qv F Q) 25 [(0, .ref (ad D 115)), (1, .int x1), (2, .int x2), (3, .int x3), (4, .int x4), (5, .int x5)] [] (F, h, g) := by
  refine V_iload dX8_onArgument_25 5 rfl ?_
  refine V_aload_n dX8_onArgument_27 rfl 0 rfl ?_
  refine H_getr ck7 20 (by decide) (fs_115 hF) (by decide) rfl (fr_115_20 hF) q1478 dX8_onArgument_28 ?_
  refine V_iload_n dX8_onArgument_31 rfl 1 rfl ?_
  obtain ⟨i1, H⟩ := H
  refine H_iald (fs_126 hF) i1 dX8_onArgument_32 ?_
  refine V_icmp_ge (tgt := 57) dX8_onArgument_33 (by decide) (fun c2 => ?_) (fun c2 => ?_)
  · have H := H.1 c2
    exact bX8_onArgument_57 hF x1 x2 x3 x4 x5 H
  · have H := H.2 c2
    refine V_aload_n dX8_onArgument_36 rfl 0 rfl ?_
    refine H_getr ck7 51 (by decide) (fs_115 hF) (by decide) rfl (fr_115_51 hF) q1509 dX8_onArgument_37 ?_
    refine V_iconst (v := 4) dX8_onArgument_40 (by decide) ?_
    refine V_iload dX8_onArgument_41 4 rfl ?_
    refine V_imul dX8_onArgument_43 ?_
    refine V_iload dX8_onArgument_44 5 rfl ?_
    refine V_iadd dX8_onArgument_46 ?_
    obtain ⟨i3, H⟩ := H
    refine H_iald (fs_143 hF) i3 dX8_onArgument_47 ?_
    refine V_if_ne (tgt := 57) dX8_onArgument_48 (by decide) (fun c4 => ?_) (fun c4 => ?_)
    · have H := H.1 c4
      exact bX8_onArgument_57 hF x1 x2 x3 x4 x5 H
    · have H := H.2 c4
      obtain ⟨y5, e6⟩ : ∃ y : Int32, y = x5 + 1 := ⟨_, rfl⟩
      have H := H y5 e6
      refine V_iinc (j := 5) (v := y5) (l1 := [(5, .int y5), (0, .ref (ad D 115)), (1, .int x1), (2, .int x2), (3, .int x3), (4, .int x4)]) dX8_onArgument_51 rfl (by rw [e6]; rfl) (by decide) rfl ?_
      refine V_goto (tgt := 25) dX8_onArgument_54 (by decide) ?_
      refine V.sub [1, 2, 3, 4, 5, 0] rfl ?_
      exact H
abbrev JX8_onArgument_0 (D : DE) (f : Nat) (Q : HI → HL → Prop) (F : Frm) (h : HI) (g : HL) (x1 : Int32) (x2 : Int32) (x3 : Int32) : Prop := vp_in x1 2002 ∧ ∀ y2 : Int32, y2 = 26 * ((h 127 (ix x1)) - (h 127 (ix x1)) / 12 * 12) → ∀ y4 : Int32, y4 = y2 + (x2 / 8) → ∀ y6 : Int32, y6 = x2 - x2 / 8 * 8 → V D mX8_onArgument (f + 1) (qv F Q) 25 [(0, .ref (ad D 115)), (1, .int x1), (2, .int x2), (3, .int x3), (4, .int y4), (5, .int y6)] [] (F, h, g)
theorem bX8_onArgument_0 {D : DE} {f : Nat} {Q : HI → HL → Prop} {F : Frm} {h : HI} {g : HL} (hF : k_Fix F) (x1 : Int32) (x2 : Int32) (x3 : Int32) (H : JX8_onArgument_0 D f Q F h g x1 x2 x3) : V D mX8_onArgument (f + 1) (qv F Q) 0 [(0, .ref (ad D 115)), (1, .int x1), (2, .int x2), (3, .int x3)] [] (F, h, g) := by
  refine V_bipush (v := 26) dX8_onArgument_0 (by decide) ?_
  refine V_aload_n dX8_onArgument_2 rfl 0 rfl ?_
  refine H_getr ck7 21 (by decide) (fs_115 hF) (by decide) rfl (fr_115_21 hF) q1479 dX8_onArgument_3 ?_
  refine V_iload_n dX8_onArgument_6 rfl 1 rfl ?_
  obtain ⟨i1, H⟩ := H
  refine H_iald (fs_127 hF) i1 dX8_onArgument_7 ?_
  refine V_bipush (v := 12) dX8_onArgument_8 (by decide) ?_
  refine V_irem dX8_onArgument_10 (by decide) ?_
  refine V_imul dX8_onArgument_11 ?_
  refine V_topi (fun y2 e3 => ?_)
  have H := H y2 e3
  refine V_iload_n dX8_onArgument_12 rfl 2 rfl ?_
  refine V_bipush (v := 8) dX8_onArgument_13 (by decide) ?_
  refine V_idiv dX8_onArgument_15 (by decide) ?_
  refine V_iadd dX8_onArgument_16 ?_
  refine V_topi (fun y4 e5 => ?_)
  have H := H y4 e5
  refine V_istore (l1 := [(4, .int y4), (0, .ref (ad D 115)), (1, .int x1), (2, .int x2), (3, .int x3)]) dX8_onArgument_17 (by decide) rfl ?_
  refine V_iload_n dX8_onArgument_19 rfl 3 rfl ?_
  refine V_bipush (v := 8) dX8_onArgument_20 (by decide) ?_
  refine V_irem dX8_onArgument_22 (by decide) ?_
  refine V_topi (fun y6 e7 => ?_)
  have H := H y6 e7
  refine V_istore (l1 := [(5, .int y6), (4, .int y4), (0, .ref (ad D 115)), (1, .int x1), (2, .int x2), (3, .int x3)]) dX8_onArgument_23 (by decide) rfl ?_
  refine V.sub [2, 3, 4, 5, 1, 0] rfl ?_
  exact H
theorem wX8_onArgument {D : DE} {f : Nat} {Q : HI → HL → Prop} {F : Frm} {h : HI} {g : HL} (hF : k_Fix F) (x1 : Int32) (x2 : Int32) (x3 : Int32) (H : JX8_onArgument_0 D f Q F h g x1 x2 x3) : Sv D (f + 1) mX8_onArgument [.ref (ad D 115), .int x1, .int x2, .int x3] F h g Q := Cl.ofV (by decide) (Nat.le_of_ble_eq_true rfl) rfl (bX8_onArgument_0 hF x1 x2 x3 H)
theorem dX8_asks_0 : decode cX8_asks 0 = .ok (.aload_n 0, 1) := by decide +kernel
theorem dX8_asks_1 : decode cX8_asks 1 = .ok (.iconst 0, 1) := by decide +kernel
theorem dX8_asks_2 : decode cX8_asks 2 = .ok (.putfield 242, 3) := by decide +kernel
theorem dX8_asks_5 : decode cX8_asks 5 = .ok (.aload_n 0, 1) := by decide +kernel
theorem dX8_asks_6 : decode cX8_asks 6 = .ok (.iconst 1, 1) := by decide +kernel
theorem dX8_asks_7 : decode cX8_asks 7 = .ok (.iload_n 1, 1) := by decide +kernel
theorem dX8_asks_8 : decode cX8_asks 8 = .ok (.iload_n 2, 1) := by decide +kernel
theorem dX8_asks_9 : decode cX8_asks 9 = .ok (.iconst 0, 1) := by decide +kernel
theorem dX8_asks_10 : decode cX8_asks 10 = .ok (.invokevirtual 363, 3) := by decide +kernel
theorem dX8_asks_13 : decode cX8_asks 13 = .ok (.aload_n 0, 1) := by decide +kernel
theorem dX8_asks_14 : decode cX8_asks 14 = .ok (.getfield 242, 3) := by decide +kernel
theorem dX8_asks_17 : decode cX8_asks 17 = .ok (.ifCond .le 242, 3) := by decide +kernel
theorem dX8_asks_20 : decode cX8_asks 20 = .ok (.aload_n 0, 1) := by decide +kernel
theorem dX8_asks_21 : decode cX8_asks 21 = .ok (.dup, 1) := by decide +kernel
theorem dX8_asks_22 : decode cX8_asks 22 = .ok (.getfield 242, 3) := by decide +kernel
theorem dX8_asks_25 : decode cX8_asks 25 = .ok (.iconst 1, 1) := by decide +kernel
theorem dX8_asks_26 : decode cX8_asks 26 = .ok (.isub, 1) := by decide +kernel
theorem dX8_asks_27 : decode cX8_asks 27 = .ok (.putfield 242, 3) := by decide +kernel
theorem dX8_asks_30 : decode cX8_asks 30 = .ok (.aload_n 0, 1) := by decide +kernel
theorem dX8_asks_31 : decode cX8_asks 31 = .ok (.getfield 69, 3) := by decide +kernel
theorem dX8_asks_34 : decode cX8_asks 34 = .ok (.aload_n 0, 1) := by decide +kernel
theorem dX8_asks_35 : decode cX8_asks 35 = .ok (.getfield 242, 3) := by decide +kernel
theorem dX8_asks_38 : decode cX8_asks 38 = .ok (.iaload, 1) := by decide +kernel
theorem dX8_asks_39 : decode cX8_asks 39 = .ok (.istore_n 3, 1) := by decide +kernel
theorem dX8_asks_40 : decode cX8_asks 40 = .ok (.aload_n 0, 1) := by decide +kernel
theorem dX8_asks_41 : decode cX8_asks 41 = .ok (.getfield 72, 3) := by decide +kernel
theorem dX8_asks_44 : decode cX8_asks 44 = .ok (.aload_n 0, 1) := by decide +kernel
theorem dX8_asks_45 : decode cX8_asks 45 = .ok (.getfield 242, 3) := by decide +kernel
theorem dX8_asks_48 : decode cX8_asks 48 = .ok (.iaload, 1) := by decide +kernel
theorem dX8_asks_49 : decode cX8_asks 49 = .ok (.istore 4, 2) := by decide +kernel
theorem dX8_asks_51 : decode cX8_asks 51 = .ok (.aload_n 0, 1) := by decide +kernel
theorem dX8_asks_52 : decode cX8_asks 52 = .ok (.getfield 87, 3) := by decide +kernel
theorem dX8_asks_55 : decode cX8_asks 55 = .ok (.aload_n 0, 1) := by decide +kernel
theorem dX8_asks_56 : decode cX8_asks 56 = .ok (.getfield 242, 3) := by decide +kernel
theorem dX8_asks_59 : decode cX8_asks 59 = .ok (.iaload, 1) := by decide +kernel
theorem dX8_asks_60 : decode cX8_asks 60 = .ok (.istore 5, 2) := by decide +kernel
theorem dX8_asks_62 : decode cX8_asks 62 = .ok (.aload_n 0, 1) := by decide +kernel
theorem dX8_asks_63 : decode cX8_asks 63 = .ok (.getfield 81, 3) := by decide +kernel
theorem dX8_asks_66 : decode cX8_asks 66 = .ok (.aload_n 0, 1) := by decide +kernel
theorem dX8_asks_67 : decode cX8_asks 67 = .ok (.getfield 242, 3) := by decide +kernel
theorem dX8_asks_70 : decode cX8_asks 70 = .ok (.iaload, 1) := by decide +kernel
theorem dX8_asks_71 : decode cX8_asks 71 = .ok (.istore 6, 2) := by decide +kernel
theorem dX8_asks_73 : decode cX8_asks 73 = .ok (.iload_n 3, 1) := by decide +kernel
theorem dX8_asks_74 : decode cX8_asks 74 = .ok (.iconst 1, 1) := by decide +kernel
theorem dX8_asks_75 : decode cX8_asks 75 = .ok (.if_icmp .ne 16, 3) := by decide +kernel
theorem dX8_asks_78 : decode cX8_asks 78 = .ok (.aload_n 0, 1) := by decide +kernel
theorem dX8_asks_79 : decode cX8_asks 79 = .ok (.iload 4, 2) := by decide +kernel
theorem dX8_asks_81 : decode cX8_asks 81 = .ok (.iload 5, 2) := by decide +kernel
theorem dX8_asks_83 : decode cX8_asks 83 = .ok (.iload 6, 2) := by decide +kernel
theorem dX8_asks_85 : decode cX8_asks 85 = .ok (.invokevirtual 367, 3) := by decide +kernel
theorem dX8_asks_88 : decode cX8_asks 88 = .ok (.goto 168, 3) := by decide +kernel
theorem dX8_asks_91 : decode cX8_asks 91 = .ok (.iload_n 3, 1) := by decide +kernel
theorem dX8_asks_92 : decode cX8_asks 92 = .ok (.iconst 2, 1) := by decide +kernel
theorem dX8_asks_93 : decode cX8_asks 93 = .ok (.if_icmp .eq 8, 3) := by decide +kernel
theorem dX8_asks_96 : decode cX8_asks 96 = .ok (.iload_n 3, 1) := by decide +kernel
theorem dX8_asks_97 : decode cX8_asks 97 = .ok (.iconst 3, 1) := by decide +kernel
theorem dX8_asks_98 : decode cX8_asks 98 = .ok (.if_icmp .ne 22, 3) := by decide +kernel
theorem dX8_asks_101 : decode cX8_asks 101 = .ok (.aload_n 0, 1) := by decide +kernel
theorem dX8_asks_102 : decode cX8_asks 102 = .ok (.iload 6, 2) := by decide +kernel
theorem dX8_asks_104 : decode cX8_asks 104 = .ok (.iload_n 3, 1) := by decide +kernel
theorem dX8_asks_105 : decode cX8_asks 105 = .ok (.iconst 2, 1) := by decide +kernel
theorem dX8_asks_106 : decode cX8_asks 106 = .ok (.if_icmp .ne 7, 3) := by decide +kernel
theorem dX8_asks_109 : decode cX8_asks 109 = .ok (.iconst 1, 1) := by decide +kernel
theorem dX8_asks_110 : decode cX8_asks 110 = .ok (.goto 4, 3) := by decide +kernel
theorem dX8_asks_113 : decode cX8_asks 113 = .ok (.iconst 0, 1) := by decide +kernel
theorem dX8_asks_114 : decode cX8_asks 114 = .ok (.invokevirtual 370, 3) := by decide +kernel
theorem dX8_asks_117 : decode cX8_asks 117 = .ok (.goto 139, 3) := by decide +kernel
theorem dX8_asks_120 : decode cX8_asks 120 = .ok (.iload_n 3, 1) := by decide +kernel
theorem dX8_asks_121 : decode cX8_asks 121 = .ok (.bipush 6, 2) := by decide +kernel
theorem dX8_asks_123 : decode cX8_asks 123 = .ok (.if_icmp .ne 16, 3) := by decide +kernel
theorem dX8_asks_126 : decode cX8_asks 126 = .ok (.aload_n 0, 1) := by decide +kernel
theorem dX8_asks_127 : decode cX8_asks 127 = .ok (.iload 4, 2) := by decide +kernel
theorem dX8_asks_129 : decode cX8_asks 129 = .ok (.iload 5, 2) := by decide +kernel
theorem dX8_asks_131 : decode cX8_asks 131 = .ok (.iload 6, 2) := by decide +kernel
theorem dX8_asks_133 : decode cX8_asks 133 = .ok (.invokevirtual 374, 3) := by decide +kernel
theorem dX8_asks_136 : decode cX8_asks 136 = .ok (.goto 120, 3) := by decide +kernel
theorem dX8_asks_139 : decode cX8_asks 139 = .ok (.aload_n 0, 1) := by decide +kernel
theorem dX8_asks_140 : decode cX8_asks 140 = .ok (.getfield 93, 3) := by decide +kernel
theorem dX8_asks_143 : decode cX8_asks 143 = .ok (.iload 6, 2) := by decide +kernel
theorem dX8_asks_145 : decode cX8_asks 145 = .ok (.bipush 16, 2) := by decide +kernel
theorem dX8_asks_147 : decode cX8_asks 147 = .ok (.idiv, 1) := by decide +kernel
theorem dX8_asks_148 : decode cX8_asks 148 = .ok (.baload, 1) := by decide +kernel
theorem dX8_asks_149 : decode cX8_asks 149 = .ok (.ifCond .ne 107, 3) := by decide +kernel
theorem dX8_asks_152 : decode cX8_asks 152 = .ok (.aload_n 0, 1) := by decide +kernel
theorem dX8_asks_153 : decode cX8_asks 153 = .ok (.getfield 90, 3) := by decide +kernel
theorem dX8_asks_156 : decode cX8_asks 156 = .ok (.iload 6, 2) := by decide +kernel
theorem dX8_asks_158 : decode cX8_asks 158 = .ok (.aload_n 0, 1) := by decide +kernel
theorem dX8_asks_159 : decode cX8_asks 159 = .ok (.getfield 48, 3) := by decide +kernel
theorem dX8_asks_162 : decode cX8_asks 162 = .ok (.iload 4, 2) := by decide +kernel
theorem dX8_asks_164 : decode cX8_asks 164 = .ok (.iaload, 1) := by decide +kernel
theorem dX8_asks_165 : decode cX8_asks 165 = .ok (.iadd, 1) := by decide +kernel
theorem dX8_asks_166 : decode cX8_asks 166 = .ok (.iaload, 1) := by decide +kernel
theorem dX8_asks_167 : decode cX8_asks 167 = .ok (.istore 7, 2) := by decide +kernel
theorem dX8_asks_169 : decode cX8_asks 169 = .ok (.iload_n 3, 1) := by decide +kernel
theorem dX8_asks_170 : decode cX8_asks 170 = .ok (.iconst 4, 1) := by decide +kernel
theorem dX8_asks_171 : decode cX8_asks 171 = .ok (.if_icmp .ne 8, 3) := by decide +kernel
theorem dX8_asks_174 : decode cX8_asks 174 = .ok (.iload 7, 2) := by decide +kernel
theorem dX8_asks_176 : decode cX8_asks 176 = .ok (.goto 44, 3) := by decide +kernel
theorem dX8_asks_179 : decode cX8_asks 179 = .ok (.iconst 1, 1) := by decide +kernel
theorem dX8_asks_180 : decode cX8_asks 180 = .ok (.iload 7, 2) := by decide +kernel
theorem dX8_asks_182 : decode cX8_asks 182 = .ok (.aload_n 0, 1) := by decide +kernel
theorem dX8_asks_183 : decode cX8_asks 183 = .ok (.getfield 54, 3) := by decide +kernel
theorem dX8_asks_186 : decode cX8_asks 186 = .ok (.aload_n 0, 1) := by decide +kernel
theorem dX8_asks_187 : decode cX8_asks 187 = .ok (.getfield 42, 3) := by decide +kernel
theorem dX8_asks_190 : decode cX8_asks 190 = .ok (.iload 4, 2) := by decide +kernel
theorem dX8_asks_192 : decode cX8_asks 192 = .ok (.iaload, 1) := by decide +kernel
theorem dX8_asks_193 : decode cX8_asks 193 = .ok (.iaload, 1) := by decide +kernel
theorem dX8_asks_194 : decode cX8_asks 194 = .ok (.invokestatic 162, 3) := by decide +kernel
theorem dX8_asks_197 : decode cX8_asks 197 = .ok (.invokestatic 166, 3) := by decide +kernel
theorem dX8_asks_200 : decode cX8_asks 200 = .ok (.imul, 1) := by decide +kernel
theorem dX8_asks_201 : decode cX8_asks 201 = .ok (.iadd, 1) := by decide +kernel
theorem dX8_asks_202 : decode cX8_asks 202 = .ok (.aload_n 0, 1) := by decide +kernel
theorem dX8_asks_203 : decode cX8_asks 203 = .ok (.getfield 90, 3) := by decide +kernel
theorem dX8_asks_206 : decode cX8_asks 206 = .ok (.iload 6, 2) := by decide +kernel
theorem dX8_asks_208 : decode cX8_asks 208 = .ok (.aload_n 0, 1) := by decide +kernel
theorem dX8_asks_209 : decode cX8_asks 209 = .ok (.getfield 48, 3) := by decide +kernel
theorem dX8_asks_212 : decode cX8_asks 212 = .ok (.iload 4, 2) := by decide +kernel
theorem dX8_asks_214 : decode cX8_asks 214 = .ok (.iaload, 1) := by decide +kernel
theorem dX8_asks_215 : decode cX8_asks 215 = .ok (.iadd, 1) := by decide +kernel
theorem dX8_asks_216 : decode cX8_asks 216 = .ok (.iconst 1, 1) := by decide +kernel
theorem dX8_asks_217 : decode cX8_asks 217 = .ok (.iadd, 1) := by decide +kernel
theorem dX8_asks_218 : decode cX8_asks 218 = .ok (.iaload, 1) := by decide +kernel
theorem dX8_asks_219 : decode cX8_asks 219 = .ok (.iadd, 1) := by decide +kernel
theorem dX8_asks_220 : decode cX8_asks 220 = .ok (.istore 8, 2) := by decide +kernel
theorem dX8_asks_222 : decode cX8_asks 222 = .ok (.iload 8, 2) := by decide +kernel
theorem dX8_asks_224 : decode cX8_asks 224 = .ok (.ifCond .le 32, 3) := by decide +kernel
theorem dX8_asks_227 : decode cX8_asks 227 = .ok (.aload_n 0, 1) := by decide +kernel
theorem dX8_asks_228 : decode cX8_asks 228 = .ok (.iconst 2, 1) := by decide +kernel
theorem dX8_asks_229 : decode cX8_asks 229 = .ok (.iload 4, 2) := by decide +kernel
theorem dX8_asks_231 : decode cX8_asks 231 = .ok (.iconst 0, 1) := by decide +kernel
theorem dX8_asks_232 : decode cX8_asks 232 = .ok (.iload 6, 2) := by decide +kernel
theorem dX8_asks_234 : decode cX8_asks 234 = .ok (.invokevirtual 363, 3) := by decide +kernel
theorem dX8_asks_237 : decode cX8_asks 237 = .ok (.aload_n 0, 1) := by decide +kernel
theorem dX8_asks_238 : decode cX8_asks 238 = .ok (.iconst 1, 1) := by decide +kernel
theorem dX8_asks_239 : decode cX8_asks 239 = .ok (.aload_n 0, 1) := by decide +kernel
theorem dX8_asks_240 : decode cX8_asks 240 = .ok (.getfield 42, 3) := by decide +kernel
theorem dX8_asks_243 : decode cX8_asks 243 = .ok (.iload 4, 2) := by decide +kernel
theorem dX8_asks_245 : decode cX8_asks 245 = .ok (.iaload, 1) := by decide +kernel
theorem dX8_asks_246 : decode cX8_asks 246 = .ok (.iload 8, 2) := by decide +kernel
theorem dX8_asks_248 : decode cX8_asks 248 = .ok (.iload 6, 2) := by decide +kernel
theorem dX8_asks_250 : decode cX8_asks 250 = .ok (.bipush 16, 2) := by decide +kernel
theorem dX8_asks_252 : decode cX8_asks 252 = .ok (.iadd, 1) := by decide +kernel
theorem dX8_asks_253 : decode cX8_asks 253 = .ok (.invokevirtual 363, 3) := by decide +kernel
theorem dX8_asks_256 : decode cX8_asks 256 = .ok (.goto (-243), 3) := by decide +kernel
theorem dX8_asks_259 : decode cX8_asks 259 = .ok (.aload_n 0, 1) := by decide +kernel
theorem dX8_asks_260 : decode cX8_asks 260 = .ok (.getfield 93, 3) := by decide +kernel
theorem dX8_asks_263 : decode cX8_asks 263 = .ok (.iconst 0, 1) := by decide +kernel
theorem dX8_asks_264 : decode cX8_asks 264 = .ok (.baload, 1) := by decide +kernel
theorem dX8_asks_265 : decode cX8_asks 265 = .ok (.ireturn, 1) := by decide +kernel
abbrev JX8_asks_256 (D : DE) (f : Nat) (Q : Int32 → HI → HL → Prop) (F : Frm) (h : HI) (g : HL) : Prop := V D mX8_asks (f + 1) (qi F Q) 13 [(0, .ref (ad D 115))] [] (F, h, g)
theorem bX8_asks_256 {D : DE} {f : Nat} {Q : Int32 → HI → HL → Prop} {F : Frm} {h : HI} {g : HL} (hF : k_Fix F)  (H : JX8_asks_256 D f Q F h g ) : V D mX8_asks (f + 1) (qi F Q) 256 [(0, .ref (ad D 115))] [] (F, h, g) := by
  refine V_goto (tgt := 13) dX8_asks_256 (by decide) ?_
  exact H
abbrev JX8_asks_220 (D : DE) (f : Nat) (Q : Int32 → HI → HL → Prop) (F : Frm) (h : HI) (g : HL) (x4 : Int32) (x6 : Int32) (s0 : Int32) : Prop := ((s0 ≤ 0 → JX8_asks_256 D f Q F h g) ∧ (¬ s0 ≤ 0 → Sv D f mX8_asking [.ref (ad D 115), .int 2, .int x4, .int 0, .int x6] F h g (fun h2 g3 => vp_in x4 2002 ∧ Sv D f mX8_asking [.ref (ad D 115), .int 1, .int (h2 125 (ix x4)), .int s0, .int (x6 + 16)] F h2 g3 (fun h5 g6 => JX8_asks_256 D f Q F h5 g6))))
theorem bX8_asks_220 {D : DE} {f : Nat} {Q : Int32 → HI → HL → Prop} {F : Frm} {h : HI} {g : HL} (hF : k_Fix F) (x4 : Int32) (x6 : Int32) (s0 : Int32) (H : JX8_asks_220 D f Q F h g x4 x6 s0) : V D mX8_asks (f + 1) (qi F Q) 220 [(0, .ref (ad D 115)), (4, .int x4), (6, .int x6)] [.int s0] (F, h, g) := by
  refine V_istore (l1 := [(8, .int s0), (0, .ref (ad D 115)), (4, .int x4), (6, .int x6)]) dX8_asks_220 (by decide) rfl ?_
  refine V_iload dX8_asks_222 0 rfl ?_
  refine V_if_le (tgt := 256) dX8_asks_224 (by decide) (fun c1 => ?_) (fun c1 => ?_)
  · have H := H.1 c1
    refine V.sub [1] rfl ?_
    exact bX8_asks_256 hF  H
  · have H := H.2 c1
    refine V_aload_n dX8_asks_227 rfl 1 rfl ?_
    refine V_iconst (v := 2) dX8_asks_228 (by decide) ?_
    refine V_iload dX8_asks_229 2 rfl ?_
    refine V_iconst (v := 0) dX8_asks_231 (by decide) ?_
    refine V_iload dX8_asks_232 3 rfl ?_
    refine H_callv (av := [.ref (ad D 115), .int 2, .int x4, .int 0, .int x6]) (rest := []) H mqX8_asking q88 (by decide) (Nat.le_of_ble_eq_true rfl) (k_resV (ci := 7) (av := [.int 2, .int x4, .int 0, .int x6]) (rest := []) (fs_115 hF) (by decide) rfl rfl q1891 q1893 qs60 q1894 mhX8_asking mnX8_asking dX8_asks_234) (fun h2 g3 H => ?_)
    refine V_aload_n dX8_asks_237 rfl 1 rfl ?_
    refine V_iconst (v := 1) dX8_asks_238 (by decide) ?_
    refine V_aload_n dX8_asks_239 rfl 1 rfl ?_
    refine H_getr ck7 19 (by decide) (fs_115 hF) (by decide) rfl (fr_115_19 hF) q1477 dX8_asks_240 ?_
    refine V_iload dX8_asks_243 2 rfl ?_
    obtain ⟨i4, H⟩ := H
    refine H_iald (fs_125 hF) i4 dX8_asks_245 ?_
    refine V_iload dX8_asks_246 0 rfl ?_
    refine V_iload dX8_asks_248 3 rfl ?_
    refine V_bipush (v := 16) dX8_asks_250 (by decide) ?_
    refine V_iadd dX8_asks_252 ?_
    refine H_callv (av := [.ref (ad D 115), .int 1, .int (h2 125 (ix x4)), .int s0, .int (x6 + 16)]) (rest := []) H mqX8_asking q88 (by decide) (Nat.le_of_ble_eq_true rfl) (k_resV (ci := 7) (av := [.int 1, .int (h2 125 (ix x4)), .int s0, .int (x6 + 16)]) (rest := []) (fs_115 hF) (by decide) rfl rfl q1891 q1893 qs60 q1894 mhX8_asking mnX8_asking dX8_asks_253) (fun h5 g6 H => ?_)
    refine V.sub [1] rfl ?_
    exact bX8_asks_256 hF  H
abbrev JX8_asks_114 (D : DE) (f : Nat) (Q : Int32 → HI → HL → Prop) (F : Frm) (h : HI) (g : HL) (s1 : Int32) (s2 : Int32) : Prop := Sv D f mX8_join [.ref (ad D 115), .int s1, .int s2] F h g (fun h1 g2 => JX8_asks_256 D f Q F h1 g2)
theorem bX8_asks_114 {D : DE} {f : Nat} {Q : Int32 → HI → HL → Prop} {F : Frm} {h : HI} {g : HL} (hF : k_Fix F) (s1 : Int32) (s2 : Int32) (H : JX8_asks_114 D f Q F h g s1 s2) : V D mX8_asks (f + 1) (qi F Q) 114 [(0, .ref (ad D 115))] [.int s2, .int s1, .ref (ad D 115)] (F, h, g) := by
  refine H_callv (av := [.ref (ad D 115), .int s1, .int s2]) (rest := []) H mqX8_join q88 (by decide) (Nat.le_of_ble_eq_true rfl) (k_resV (ci := 7) (av := [.int s1, .int s2]) (rest := []) (fs_115 hF) (by decide) rfl rfl q1899 q1901 qs62 q1902 mhX8_join mnX8_join dX8_asks_114) (fun h1 g2 H => ?_)
  refine V_goto (tgt := 256) dX8_asks_117 (by decide) ?_
  exact bX8_asks_256 hF  H
abbrev JX8_asks_101 (D : DE) (f : Nat) (Q : Int32 → HI → HL → Prop) (F : Frm) (h : HI) (g : HL) (x3 : Int32) (x6 : Int32) : Prop := ((¬ x3 = 2 → JX8_asks_114 D f Q F h g x6 0) ∧ (x3 = 2 → JX8_asks_114 D f Q F h g x6 1))
theorem bX8_asks_101 {D : DE} {f : Nat} {Q : Int32 → HI → HL → Prop} {F : Frm} {h : HI} {g : HL} (hF : k_Fix F) (x3 : Int32) (x6 : Int32) (H : JX8_asks_101 D f Q F h g x3 x6) : V D mX8_asks (f + 1) (qi F Q) 101 [(0, .ref (ad D 115)), (3, .int x3), (6, .int x6)] [] (F, h, g) := by
  refine V_aload_n dX8_asks_101 rfl 0 rfl ?_
  refine V_iload dX8_asks_102 2 rfl ?_
  refine V_iload_n dX8_asks_104 rfl 1 rfl ?_
  refine V_iconst (v := 2) dX8_asks_105 (by decide) ?_
  refine V_icmp_ne (tgt := 113) dX8_asks_106 (by decide) (fun c1 => ?_) (fun c1 => ?_)
  · have H := H.1 c1
    refine V_iconst (v := 0) dX8_asks_113 (by decide) ?_
    refine V.sub [0] rfl ?_
    exact bX8_asks_114 hF x6 0 H
  · have H := H.2 c1
    refine V_iconst (v := 1) dX8_asks_109 (by decide) ?_
    refine V_goto (tgt := 114) dX8_asks_110 (by decide) ?_
    refine V.sub [0] rfl ?_
    exact bX8_asks_114 hF x6 1 H
abbrev JX8_asks_13 (D : DE) (f : Nat) (Q : Int32 → HI → HL → Prop) (F : Frm) (h : HI) (g : HL) : Prop := (((h 115 36) ≤ 0 → (isB (h 142 (ix 0)) ∧ Q (h 142 (ix 0)) h g)) ∧ (¬ (h 115 36) ≤ 0 → ∀ h2, h2 = up2 h 115 36 ((h 115 36) - 1) → vp_in (h2 115 36) 3000 ∧ ∀ y5 : Int32, y5 = h2 134 (ix (h2 115 36)) → vp_in (h2 115 36) 3000 ∧ ∀ y8 : Int32, y8 = h2 135 (ix (h2 115 36)) → vp_in (h2 115 36) 3000 ∧ ∀ y11 : Int32, y11 = h2 140 (ix (h2 115 36)) → vp_in (h2 115 36) 3000 ∧ ∀ y14 : Int32, y14 = h2 138 (ix (h2 115 36)) → ((¬ y5 = 1 → ((y5 = 2 → JX8_asks_101 D f Q F h2 g y5 y14) ∧ (¬ y5 = 2 → ((¬ y5 = 3 → ((¬ y5 = 6 → vp_in (y14 / 16) 500 ∧ ((¬ (h2 142 (ix (y14 / 16))) = 0 → JX8_asks_256 D f Q F h2 g) ∧ ((h2 142 (ix (y14 / 16))) = 0 → vp_in y8 2002 ∧ vp_in (y14 + (h2 127 (ix y8))) 8000 ∧ ∀ y24 : Int32, y24 = h2 141 (ix (y14 + (h2 127 (ix y8)))) → ((¬ y5 = 4 → vp_in y8 2002 ∧ vp_in (h2 125 (ix y8)) 2002 ∧ Si D f mX8_secondOf [.int (h2 129 (ix (h2 125 (ix y8))))] F h2 g (fun y31 h29 g30 => Si D f mX8_demands [.int y31] F h29 g30 (fun y34 h32 g33 => vp_in y8 2002 ∧ vp_in ((y14 + (h32 127 (ix y8))) + 1) 8000 ∧ ∀ y37 : Int32, y37 = (1 + (y24 * y34)) + (h32 141 (ix ((y14 + (h32 127 (ix y8))) + 1))) → JX8_asks_220 D f Q F h32 g33 y8 y14 y37))) ∧ (y5 = 4 → JX8_asks_220 D f Q F h2 g y8 y14 y24))))) ∧ (y5 = 6 → Sv D f mX8_onArgument [.ref (ad D 115), .int y8, .int y11, .int y14] F h2 g (fun h39 g40 => JX8_asks_256 D f Q F h39 g40)))) ∧ (y5 = 3 → JX8_asks_101 D f Q F h2 g y5 y14))))) ∧ (y5 = 1 → Sv D f mX8_onAsk [.ref (ad D 115), .int y8, .int y11, .int y14] F h2 g (fun h41 g42 => JX8_asks_256 D f Q F h41 g42)))))
theorem bX8_asks_13 {D : DE} {f : Nat} {Q : Int32 → HI → HL → Prop} {F : Frm} {h : HI} {g : HL} (hF : k_Fix F)  (H : JX8_asks_13 D f Q F h g ) : V D mX8_asks (f + 1) (qi F Q) 13 [(0, .ref (ad D 115))] [] (F, h, g) := by
  refine V_aload_n dX8_asks_13 rfl 0 rfl ?_
  refine H_geti ck7 36 (by decide) (fs_115 hF) (by decide) rfl q1494 dX8_asks_14 ?_
  refine V_if_le (tgt := 259) dX8_asks_17 (by decide) (fun c1 => ?_) (fun c1 => ?_)
  · have H := H.1 c1
    refine V_aload_n dX8_asks_259 rfl 0 rfl ?_
    refine H_getr ck7 50 (by decide) (fs_115 hF) (by decide) rfl (fr_115_50 hF) q1508 dX8_asks_260 ?_
    refine V_iconst (v := 0) dX8_asks_263 (by decide) ?_
    refine H_zald (fs_142 hF) (by unfold vp_in; decide) dX8_asks_264 ?_
    exact H_zret rfl H.1 dX8_asks_265 H.2
  · have H := H.2 c1
    refine V_aload_n dX8_asks_20 rfl 0 rfl ?_
    refine V_dup dX8_asks_21 rfl ?_
    refine H_geti ck7 36 (by decide) (fs_115 hF) (by decide) rfl q1494 dX8_asks_22 ?_
    refine V_iconst (v := 1) dX8_asks_25 (by decide) ?_
    refine V_isub dX8_asks_26 ?_
    refine H_puti ck7 36 (by decide) (fs_115 hF) (by decide) rfl rfl q1494 dX8_asks_27 (fun h2 e3 => ?_)
    have H := H h2 e3
    refine V_aload_n dX8_asks_30 rfl 0 rfl ?_
    refine H_getr ck7 34 (by decide) (fs_115 hF) (by decide) rfl (fr_115_34 hF) q1492 dX8_asks_31 ?_
    refine V_aload_n dX8_asks_34 rfl 0 rfl ?_
    refine H_geti ck7 36 (by decide) (fs_115 hF) (by decide) rfl q1494 dX8_asks_35 ?_
    obtain ⟨i4, H⟩ := H
    refine H_iald (fs_134 hF) i4 dX8_asks_38 ?_
    refine V_topi (fun y5 e6 => ?_)
    have H := H y5 e6
    refine V_istore_n (l1 := [(3, .int y5), (0, .ref (ad D 115))]) dX8_asks_39 rfl (by decide) rfl ?_
    refine V_aload_n dX8_asks_40 rfl 1 rfl ?_
    refine H_getr ck7 35 (by decide) (fs_115 hF) (by decide) rfl (fr_115_35 hF) q1493 dX8_asks_41 ?_
    refine V_aload_n dX8_asks_44 rfl 1 rfl ?_
    refine H_geti ck7 36 (by decide) (fs_115 hF) (by decide) rfl q1494 dX8_asks_45 ?_
    obtain ⟨i7, H⟩ := H
    refine H_iald (fs_135 hF) i7 dX8_asks_48 ?_
    refine V_topi (fun y8 e9 => ?_)
    have H := H y8 e9
    refine V_istore (l1 := [(4, .int y8), (3, .int y5), (0, .ref (ad D 115))]) dX8_asks_49 (by decide) rfl ?_
    refine V_aload_n dX8_asks_51 rfl 2 rfl ?_
    refine H_getr ck7 48 (by decide) (fs_115 hF) (by decide) rfl (fr_115_48 hF) q1506 dX8_asks_52 ?_
    refine V_aload_n dX8_asks_55 rfl 2 rfl ?_
    refine H_geti ck7 36 (by decide) (fs_115 hF) (by decide) rfl q1494 dX8_asks_56 ?_
    obtain ⟨i10, H⟩ := H
    refine H_iald (fs_140 hF) i10 dX8_asks_59 ?_
    refine V_topi (fun y11 e12 => ?_)
    have H := H y11 e12
    refine V_istore (l1 := [(5, .int y11), (4, .int y8), (3, .int y5), (0, .ref (ad D 115))]) dX8_asks_60 (by decide) rfl ?_
    refine V_aload_n dX8_asks_62 rfl 3 rfl ?_
    refine H_getr ck7 42 (by decide) (fs_115 hF) (by decide) rfl (fr_115_42 hF) q1500 dX8_asks_63 ?_
    refine V_aload_n dX8_asks_66 rfl 3 rfl ?_
    refine H_geti ck7 36 (by decide) (fs_115 hF) (by decide) rfl q1494 dX8_asks_67 ?_
    obtain ⟨i13, H⟩ := H
    refine H_iald (fs_138 hF) i13 dX8_asks_70 ?_
    refine V_topi (fun y14 e15 => ?_)
    have H := H y14 e15
    refine V_istore (l1 := [(6, .int y14), (5, .int y11), (4, .int y8), (3, .int y5), (0, .ref (ad D 115))]) dX8_asks_71 (by decide) rfl ?_
    refine V_iload_n dX8_asks_73 rfl 3 rfl ?_
    refine V_iconst (v := 1) dX8_asks_74 (by decide) ?_
    refine V_icmp_ne (tgt := 91) dX8_asks_75 (by decide) (fun c16 => ?_) (fun c16 => ?_)
    · have H := H.1 c16
      refine V_iload_n dX8_asks_91 rfl 3 rfl ?_
      refine V_iconst (v := 2) dX8_asks_92 (by decide) ?_
      refine V_icmp_eq (tgt := 101) dX8_asks_93 (by decide) (fun c17 => ?_) (fun c17 => ?_)
      · have H := H.1 c17
        refine V.sub [4, 3, 0] rfl ?_
        exact bX8_asks_101 hF y5 y14 H
      · have H := H.2 c17
        refine V_iload_n dX8_asks_96 rfl 3 rfl ?_
        refine V_iconst (v := 3) dX8_asks_97 (by decide) ?_
        refine V_icmp_ne (tgt := 120) dX8_asks_98 (by decide) (fun c18 => ?_) (fun c18 => ?_)
        · have H := H.1 c18
          refine V_iload_n dX8_asks_120 rfl 3 rfl ?_
          refine V_bipush (v := 6) dX8_asks_121 (by decide) ?_
          refine V_icmp_ne (tgt := 139) dX8_asks_123 (by decide) (fun c19 => ?_) (fun c19 => ?_)
          · have H := H.1 c19
            refine V_aload_n dX8_asks_139 rfl 4 rfl ?_
            refine H_getr ck7 50 (by decide) (fs_115 hF) (by decide) rfl (fr_115_50 hF) q1508 dX8_asks_140 ?_
            refine V_iload dX8_asks_143 0 rfl ?_
            refine V_bipush (v := 16) dX8_asks_145 (by decide) ?_
            refine V_idiv dX8_asks_147 (by decide) ?_
            obtain ⟨i20, H⟩ := H
            refine H_zald (fs_142 hF) i20 dX8_asks_148 ?_
            refine V_if_ne (tgt := 256) dX8_asks_149 (by decide) (fun c21 => ?_) (fun c21 => ?_)
            · have H := H.1 c21
              refine V.sub [4] rfl ?_
              exact bX8_asks_256 hF  H
            · have H := H.2 c21
              refine V_aload_n dX8_asks_152 rfl 4 rfl ?_
              refine H_getr ck7 49 (by decide) (fs_115 hF) (by decide) rfl (fr_115_49 hF) q1507 dX8_asks_153 ?_
              refine V_iload dX8_asks_156 0 rfl ?_
              refine V_aload_n dX8_asks_158 rfl 4 rfl ?_
              refine H_getr ck7 21 (by decide) (fs_115 hF) (by decide) rfl (fr_115_21 hF) q1479 dX8_asks_159 ?_
              refine V_iload dX8_asks_162 2 rfl ?_
              obtain ⟨i22, H⟩ := H
              refine H_iald (fs_127 hF) i22 dX8_asks_164 ?_
              refine V_iadd dX8_asks_165 ?_
              obtain ⟨i23, H⟩ := H
              refine H_iald (fs_141 hF) i23 dX8_asks_166 ?_
              refine V_topi (fun y24 e25 => ?_)
              have H := H y24 e25
              refine V_istore (l1 := [(7, .int y24), (6, .int y14), (5, .int y11), (4, .int y8), (3, .int y5), (0, .ref (ad D 115))]) dX8_asks_167 (by decide) rfl ?_
              refine V_iload_n dX8_asks_169 rfl 4 rfl ?_
              refine V_iconst (v := 4) dX8_asks_170 (by decide) ?_
              refine V_icmp_ne (tgt := 179) dX8_asks_171 (by decide) (fun c26 => ?_) (fun c26 => ?_)
              · have H := H.1 c26
                refine V_iconst (v := 1) dX8_asks_179 (by decide) ?_
                refine V_iload dX8_asks_180 0 rfl ?_
                refine V_aload_n dX8_asks_182 rfl 5 rfl ?_
                refine H_getr ck7 23 (by decide) (fs_115 hF) (by decide) rfl (fr_115_23 hF) q1481 dX8_asks_183 ?_
                refine V_aload_n dX8_asks_186 rfl 5 rfl ?_
                refine H_getr ck7 19 (by decide) (fs_115 hF) (by decide) rfl (fr_115_19 hF) q1477 dX8_asks_187 ?_
                refine V_iload dX8_asks_190 3 rfl ?_
                obtain ⟨i27, H⟩ := H
                refine H_iald (fs_125 hF) i27 dX8_asks_192 ?_
                obtain ⟨i28, H⟩ := H
                refine H_iald (fs_129 hF) i28 dX8_asks_193 ?_
                refine H_calli (av := [.int (h2 129 (ix (h2 125 (ix y8))))]) (rest := [.int y24, .int 1]) H mqX8_secondOf q88 (by decide) (Nat.le_of_ble_eq_true rfl) (k_resS (av := [.int (h2 129 (ix (h2 125 (ix y8))))]) (rest := [.int y24, .int 1]) (M1 := mX8_secondOf) rfl q1850 q1851 q88 mqX8_secondOf (fun _ _ h => mW_named h) mhX8_secondOf mnX8_secondOf dX8_asks_194) (fun y31 h29 g30 H => ?_)
                refine H_calli (av := [.int y31]) (rest := [.int y24, .int 1]) H mqX8_demands q88 (by decide) (Nat.le_of_ble_eq_true rfl) (k_resS (av := [.int y31]) (rest := [.int y24, .int 1]) (M1 := mX8_demands) rfl q1876 q1877 q88 mqX8_demands (fun _ _ h => mW_named h) mhX8_demands mnX8_demands dX8_asks_197) (fun y34 h32 g33 H => ?_)
                refine V_imul dX8_asks_200 ?_
                refine V_iadd dX8_asks_201 ?_
                refine V_aload_n dX8_asks_202 rfl 5 rfl ?_
                refine H_getr ck7 49 (by decide) (fs_115 hF) (by decide) rfl (fr_115_49 hF) q1507 dX8_asks_203 ?_
                refine V_iload dX8_asks_206 1 rfl ?_
                refine V_aload_n dX8_asks_208 rfl 5 rfl ?_
                refine H_getr ck7 21 (by decide) (fs_115 hF) (by decide) rfl (fr_115_21 hF) q1479 dX8_asks_209 ?_
                refine V_iload dX8_asks_212 3 rfl ?_
                obtain ⟨i35, H⟩ := H
                refine H_iald (fs_127 hF) i35 dX8_asks_214 ?_
                refine V_iadd dX8_asks_215 ?_
                refine V_iconst (v := 1) dX8_asks_216 (by decide) ?_
                refine V_iadd dX8_asks_217 ?_
                obtain ⟨i36, H⟩ := H
                refine H_iald (fs_141 hF) i36 dX8_asks_218 ?_
                refine V_iadd dX8_asks_219 ?_
                refine V_topi (fun y37 e38 => ?_)
                have H := H y37 e38
                refine V.sub [5, 3, 1] rfl ?_
                exact bX8_asks_220 hF y8 y14 y37 H
              · have H := H.2 c26
                refine V_iload dX8_asks_174 0 rfl ?_
                refine V_goto (tgt := 220) dX8_asks_176 (by decide) ?_
                refine V.sub [5, 3, 1] rfl ?_
                exact bX8_asks_220 hF y8 y14 y24 H
          · have H := H.2 c19
            refine V_aload_n dX8_asks_126 rfl 4 rfl ?_
            refine V_iload dX8_asks_127 2 rfl ?_
            refine V_iload dX8_asks_129 1 rfl ?_
            refine V_iload dX8_asks_131 0 rfl ?_
            refine H_callv (av := [.ref (ad D 115), .int y8, .int y11, .int y14]) (rest := []) H mqX8_onArgument q88 (by decide) (Nat.le_of_ble_eq_true rfl) (k_resV (ci := 7) (av := [.int y8, .int y11, .int y14]) (rest := []) (fs_115 hF) (by decide) rfl rfl q1912 q1914 qs63 q1915 mhX8_onArgument mnX8_onArgument dX8_asks_133) (fun h39 g40 H => ?_)
            refine V_goto (tgt := 256) dX8_asks_136 (by decide) ?_
            refine V.sub [4] rfl ?_
            exact bX8_asks_256 hF  H
        · have H := H.2 c18
          refine V.sub [4, 3, 0] rfl ?_
          exact bX8_asks_101 hF y5 y14 H
    · have H := H.2 c16
      refine V_aload_n dX8_asks_78 rfl 4 rfl ?_
      refine V_iload dX8_asks_79 2 rfl ?_
      refine V_iload dX8_asks_81 1 rfl ?_
      refine V_iload dX8_asks_83 0 rfl ?_
      refine H_callv (av := [.ref (ad D 115), .int y8, .int y11, .int y14]) (rest := []) H mqX8_onAsk q88 (by decide) (Nat.le_of_ble_eq_true rfl) (k_resV (ci := 7) (av := [.int y8, .int y11, .int y14]) (rest := []) (fs_115 hF) (by decide) rfl rfl q1895 q1897 qs61 q1898 mhX8_onAsk mnX8_onAsk dX8_asks_85) (fun h41 g42 H => ?_)
      refine V_goto (tgt := 256) dX8_asks_88 (by decide) ?_
      refine V.sub [4] rfl ?_
      exact bX8_asks_256 hF  H
abbrev JX8_asks_0 (D : DE) (f : Nat) (Q : Int32 → HI → HL → Prop) (F : Frm) (h : HI) (g : HL) (x1 : Int32) (x2 : Int32) : Prop := ∀ h1, h1 = up2 h 115 36 0 → Sv D f mX8_asking [.ref (ad D 115), .int 1, .int x1, .int x2, .int 0] F h1 g (fun h3 g4 => V D mX8_asks (f + 1) (qi F Q) 13 [(0, .ref (ad D 115))] [] (F, h3, g4))
theorem bX8_asks_0 {D : DE} {f : Nat} {Q : Int32 → HI → HL → Prop} {F : Frm} {h : HI} {g : HL} (hF : k_Fix F) (x1 : Int32) (x2 : Int32) (H : JX8_asks_0 D f Q F h g x1 x2) : V D mX8_asks (f + 1) (qi F Q) 0 [(0, .ref (ad D 115)), (1, .int x1), (2, .int x2)] [] (F, h, g) := by
  refine V_aload_n dX8_asks_0 rfl 0 rfl ?_
  refine V_iconst (v := 0) dX8_asks_1 (by decide) ?_
  refine H_puti ck7 36 (by decide) (fs_115 hF) (by decide) rfl rfl q1494 dX8_asks_2 (fun h1 e2 => ?_)
  have H := H h1 e2
  refine V_aload_n dX8_asks_5 rfl 0 rfl ?_
  refine V_iconst (v := 1) dX8_asks_6 (by decide) ?_
  refine V_iload_n dX8_asks_7 rfl 1 rfl ?_
  refine V_iload_n dX8_asks_8 rfl 2 rfl ?_
  refine V_iconst (v := 0) dX8_asks_9 (by decide) ?_
  refine H_callv (av := [.ref (ad D 115), .int 1, .int x1, .int x2, .int 0]) (rest := []) H mqX8_asking q88 (by decide) (Nat.le_of_ble_eq_true rfl) (k_resV (ci := 7) (av := [.int 1, .int x1, .int x2, .int 0]) (rest := []) (fs_115 hF) (by decide) rfl rfl q1891 q1893 qs60 q1894 mhX8_asking mnX8_asking dX8_asks_10) (fun h3 g4 H => ?_)
  refine V.sub [0] rfl ?_
  exact H
theorem wX8_asks {D : DE} {f : Nat} {Q : Int32 → HI → HL → Prop} {F : Frm} {h : HI} {g : HL} (hF : k_Fix F) (x1 : Int32) (x2 : Int32) (H : JX8_asks_0 D f Q F h g x1 x2) : Si D (f + 1) mX8_asks [.ref (ad D 115), .int x1, .int x2] F h g Q := Cl.ofV (by decide) (Nat.le_of_ble_eq_true rfl) rfl (bX8_asks_0 hF x1 x2 H)
theorem dX8_all_0 : decode cX8_all 0 = .ok (.aload_n 0, 1) := by decide +kernel
theorem dX8_all_1 : decode cX8_all 1 = .ok (.getfield 36, 3) := by decide +kernel
theorem dX8_all_4 : decode cX8_all 4 = .ok (.bipush 16, 2) := by decide +kernel
theorem dX8_all_6 : decode cX8_all 6 = .ok (.bipush 12, 2) := by decide +kernel
theorem dX8_all_8 : decode cX8_all 8 = .ok (.aload_n 0, 1) := by decide +kernel
theorem dX8_all_9 : decode cX8_all 9 = .ok (.getfield 345, 3) := by decide +kernel
theorem dX8_all_12 : decode cX8_all 12 = .ok (.imul, 1) := by decide +kernel
theorem dX8_all_13 : decode cX8_all 13 = .ok (.iload_n 1, 1) := by decide +kernel
theorem dX8_all_14 : decode cX8_all 14 = .ok (.iadd, 1) := by decide +kernel
theorem dX8_all_15 : decode cX8_all 15 = .ok (.imul, 1) := by decide +kernel
theorem dX8_all_16 : decode cX8_all 16 = .ok (.iload_n 2, 1) := by decide +kernel
theorem dX8_all_17 : decode cX8_all 17 = .ok (.iadd, 1) := by decide +kernel
theorem dX8_all_18 : decode cX8_all 18 = .ok (.iaload, 1) := by decide +kernel
theorem dX8_all_19 : decode cX8_all 19 = .ok (.invokestatic 166, 3) := by decide +kernel
theorem dX8_all_22 : decode cX8_all 22 = .ok (.iconst 1, 1) := by decide +kernel
theorem dX8_all_23 : decode cX8_all 23 = .ok (.isub, 1) := by decide +kernel
theorem dX8_all_24 : decode cX8_all 24 = .ok (.ireturn, 1) := by decide +kernel
abbrev JX8_all_0 (D : DE) (f : Nat) (Q : Int32 → HI → HL → Prop) (F : Frm) (h : HI) (g : HL) (x1 : Int32) (x2 : Int32) : Prop := vp_in ((16 * ((12 * (h 115 47)) + x1)) + x2) 384 ∧ ∀ y2 : Int32, y2 = h 123 (ix ((16 * ((12 * (h 115 47)) + x1)) + x2)) → Si D f mX8_demands [.int y2] F h g (fun y6 h4 g5 => Q (y6 - 1) h4 g5)
theorem bX8_all_0 {D : DE} {f : Nat} {Q : Int32 → HI → HL → Prop} {F : Frm} {h : HI} {g : HL} (hF : k_Fix F) (x1 : Int32) (x2 : Int32) (H : JX8_all_0 D f Q F h g x1 x2) : V D mX8_all (f + 1) (qi F Q) 0 [(0, .ref (ad D 115)), (1, .int x1), (2, .int x2)] [] (F, h, g) := by
  refine V_aload_n dX8_all_0 rfl 0 rfl ?_
  refine H_getr ck7 17 (by decide) (fs_115 hF) (by decide) rfl (fr_115_17 hF) q1475 dX8_all_1 ?_
  refine V_bipush (v := 16) dX8_all_4 (by decide) ?_
  refine V_bipush (v := 12) dX8_all_6 (by decide) ?_
  refine V_aload_n dX8_all_8 rfl 0 rfl ?_
  refine H_geti ck7 47 (by decide) (fs_115 hF) (by decide) rfl q1505 dX8_all_9 ?_
  refine V_imul dX8_all_12 ?_
  refine V_iload_n dX8_all_13 rfl 1 rfl ?_
  refine V_iadd dX8_all_14 ?_
  refine V_imul dX8_all_15 ?_
  refine V_iload_n dX8_all_16 rfl 2 rfl ?_
  refine V_iadd dX8_all_17 ?_
  obtain ⟨i1, H⟩ := H
  refine H_iald (fs_123 hF) i1 dX8_all_18 ?_
  refine V_topi (fun y2 e3 => ?_)
  have H := H y2 e3
  refine H_calli (av := [.int y2]) (rest := []) H mqX8_demands q88 (by decide) (Nat.le_of_ble_eq_true rfl) (k_resS (av := [.int y2]) (rest := []) (M1 := mX8_demands) rfl q1876 q1877 q88 mqX8_demands (fun _ _ h => mW_named h) mhX8_demands mnX8_demands dX8_all_19) (fun y6 h4 g5 H => ?_)
  refine V_iconst (v := 1) dX8_all_22 (by decide) ?_
  refine V_isub dX8_all_23 ?_
  exact H_iret rfl dX8_all_24 H
theorem wX8_all {D : DE} {f : Nat} {Q : Int32 → HI → HL → Prop} {F : Frm} {h : HI} {g : HL} (hF : k_Fix F) (x1 : Int32) (x2 : Int32) (H : JX8_all_0 D f Q F h g x1 x2) : Si D (f + 1) mX8_all [.ref (ad D 115), .int x1, .int x2] F h g Q := Cl.ofV (by decide) (Nat.le_of_ble_eq_true rfl) rfl (bX8_all_0 hF x1 x2 H)
theorem dX8_renewed_0 : decode cX8_renewed 0 = .ok (.aload_n 0, 1) := by decide +kernel
theorem dX8_renewed_1 : decode cX8_renewed 1 = .ok (.bipush 12, 2) := by decide +kernel
theorem dX8_renewed_3 : decode cX8_renewed 3 = .ok (.aload_n 0, 1) := by decide +kernel
theorem dX8_renewed_4 : decode cX8_renewed 4 = .ok (.getfield 345, 3) := by decide +kernel
theorem dX8_renewed_7 : decode cX8_renewed 7 = .ok (.imul, 1) := by decide +kernel
theorem dX8_renewed_8 : decode cX8_renewed 8 = .ok (.iload_n 1, 1) := by decide +kernel
theorem dX8_renewed_9 : decode cX8_renewed 9 = .ok (.iadd, 1) := by decide +kernel
theorem dX8_renewed_10 : decode cX8_renewed 10 = .ok (.putfield 239, 3) := by decide +kernel
theorem dX8_renewed_13 : decode cX8_renewed 13 = .ok (.bipush 26, 2) := by decide +kernel
theorem dX8_renewed_15 : decode cX8_renewed 15 = .ok (.iload_n 1, 1) := by decide +kernel
theorem dX8_renewed_16 : decode cX8_renewed 16 = .ok (.imul, 1) := by decide +kernel
theorem dX8_renewed_17 : decode cX8_renewed 17 = .ok (.iload_n 2, 1) := by decide +kernel
theorem dX8_renewed_18 : decode cX8_renewed 18 = .ok (.iadd, 1) := by decide +kernel
theorem dX8_renewed_19 : decode cX8_renewed 19 = .ok (.istore_n 3, 1) := by decide +kernel
theorem dX8_renewed_20 : decode cX8_renewed 20 = .ok (.aload_n 0, 1) := by decide +kernel
theorem dX8_renewed_21 : decode cX8_renewed 21 = .ok (.aload_n 0, 1) := by decide +kernel
theorem dX8_renewed_22 : decode cX8_renewed 22 = .ok (.getfield 30, 3) := by decide +kernel
theorem dX8_renewed_25 : decode cX8_renewed 25 = .ok (.aload_n 0, 1) := by decide +kernel
theorem dX8_renewed_26 : decode cX8_renewed 26 = .ok (.getfield 239, 3) := by decide +kernel
theorem dX8_renewed_29 : decode cX8_renewed 29 = .ok (.iaload, 1) := by decide +kernel
theorem dX8_renewed_30 : decode cX8_renewed 30 = .ok (.iload_n 2, 1) := by decide +kernel
theorem dX8_renewed_31 : decode cX8_renewed 31 = .ok (.invokevirtual 377, 3) := by decide +kernel
theorem dX8_renewed_34 : decode cX8_renewed 34 = .ok (.istore 4, 2) := by decide +kernel
theorem dX8_renewed_36 : decode cX8_renewed 36 = .ok (.iload 4, 2) := by decide +kernel
theorem dX8_renewed_38 : decode cX8_renewed 38 = .ok (.aload_n 0, 1) := by decide +kernel
theorem dX8_renewed_39 : decode cX8_renewed 39 = .ok (.getfield 100, 3) := by decide +kernel
theorem dX8_renewed_42 : decode cX8_renewed 42 = .ok (.iload_n 3, 1) := by decide +kernel
theorem dX8_renewed_43 : decode cX8_renewed 43 = .ok (.baload, 1) := by decide +kernel
theorem dX8_renewed_44 : decode cX8_renewed 44 = .ok (.if_icmp .eq 7, 3) := by decide +kernel
theorem dX8_renewed_47 : decode cX8_renewed 47 = .ok (.iconst 1, 1) := by decide +kernel
theorem dX8_renewed_48 : decode cX8_renewed 48 = .ok (.goto 4, 3) := by decide +kernel
theorem dX8_renewed_51 : decode cX8_renewed 51 = .ok (.iconst 0, 1) := by decide +kernel
theorem dX8_renewed_52 : decode cX8_renewed 52 = .ok (.istore 5, 2) := by decide +kernel
theorem dX8_renewed_54 : decode cX8_renewed 54 = .ok (.aload_n 0, 1) := by decide +kernel
theorem dX8_renewed_55 : decode cX8_renewed 55 = .ok (.getfield 100, 3) := by decide +kernel
theorem dX8_renewed_58 : decode cX8_renewed 58 = .ok (.iload_n 3, 1) := by decide +kernel
theorem dX8_renewed_59 : decode cX8_renewed 59 = .ok (.iload 4, 2) := by decide +kernel
theorem dX8_renewed_61 : decode cX8_renewed 61 = .ok (.bastore, 1) := by decide +kernel
theorem dX8_renewed_62 : decode cX8_renewed 62 = .ok (.iconst 0, 1) := by decide +kernel
theorem dX8_renewed_63 : decode cX8_renewed 63 = .ok (.istore 6, 2) := by decide +kernel
theorem dX8_renewed_65 : decode cX8_renewed 65 = .ok (.iload 6, 2) := by decide +kernel
theorem dX8_renewed_67 : decode cX8_renewed 67 = .ok (.aload_n 0, 1) := by decide +kernel
theorem dX8_renewed_68 : decode cX8_renewed 68 = .ok (.getfield 24, 3) := by decide +kernel
theorem dX8_renewed_71 : decode cX8_renewed 71 = .ok (.aload_n 0, 1) := by decide +kernel
theorem dX8_renewed_72 : decode cX8_renewed 72 = .ok (.getfield 239, 3) := by decide +kernel
theorem dX8_renewed_75 : decode cX8_renewed 75 = .ok (.iaload, 1) := by decide +kernel
theorem dX8_renewed_76 : decode cX8_renewed 76 = .ok (.if_icmp .ge 73, 3) := by decide +kernel
theorem dX8_renewed_79 : decode cX8_renewed 79 = .ok (.iload 4, 2) := by decide +kernel
theorem dX8_renewed_81 : decode cX8_renewed 81 = .ok (.ifCond .eq 7, 3) := by decide +kernel
theorem dX8_renewed_84 : decode cX8_renewed 84 = .ok (.iconst 0, 1) := by decide +kernel
theorem dX8_renewed_85 : decode cX8_renewed 85 = .ok (.goto 10, 3) := by decide +kernel
theorem dX8_renewed_88 : decode cX8_renewed 88 = .ok (.aload_n 0, 1) := by decide +kernel
theorem dX8_renewed_89 : decode cX8_renewed 89 = .ok (.getfield 90, 3) := by decide +kernel
theorem dX8_renewed_92 : decode cX8_renewed 92 = .ok (.iload 6, 2) := by decide +kernel
theorem dX8_renewed_94 : decode cX8_renewed 94 = .ok (.iaload, 1) := by decide +kernel
theorem dX8_renewed_95 : decode cX8_renewed 95 = .ok (.istore 7, 2) := by decide +kernel
theorem dX8_renewed_97 : decode cX8_renewed 97 = .ok (.iload 5, 2) := by decide +kernel
theorem dX8_renewed_99 : decode cX8_renewed 99 = .ok (.ifCond .ne 24, 3) := by decide +kernel
theorem dX8_renewed_102 : decode cX8_renewed 102 = .ok (.iload 4, 2) := by decide +kernel
theorem dX8_renewed_104 : decode cX8_renewed 104 = .ok (.ifCond .ne 23, 3) := by decide +kernel
theorem dX8_renewed_107 : decode cX8_renewed 107 = .ok (.aload_n 0, 1) := by decide +kernel
theorem dX8_renewed_108 : decode cX8_renewed 108 = .ok (.getfield 97, 3) := by decide +kernel
theorem dX8_renewed_111 : decode cX8_renewed 111 = .ok (.iconst 4, 1) := by decide +kernel
theorem dX8_renewed_112 : decode cX8_renewed 112 = .ok (.iload_n 3, 1) := by decide +kernel
theorem dX8_renewed_113 : decode cX8_renewed 113 = .ok (.imul, 1) := by decide +kernel
theorem dX8_renewed_114 : decode cX8_renewed 114 = .ok (.iload 6, 2) := by decide +kernel
theorem dX8_renewed_116 : decode cX8_renewed 116 = .ok (.iadd, 1) := by decide +kernel
theorem dX8_renewed_117 : decode cX8_renewed 117 = .ok (.iaload, 1) := by decide +kernel
theorem dX8_renewed_118 : decode cX8_renewed 118 = .ok (.iload 7, 2) := by decide +kernel
theorem dX8_renewed_120 : decode cX8_renewed 120 = .ok (.if_icmp .eq 7, 3) := by decide +kernel
theorem dX8_renewed_123 : decode cX8_renewed 123 = .ok (.iconst 1, 1) := by decide +kernel
theorem dX8_renewed_124 : decode cX8_renewed 124 = .ok (.goto 4, 3) := by decide +kernel
theorem dX8_renewed_127 : decode cX8_renewed 127 = .ok (.iconst 0, 1) := by decide +kernel
theorem dX8_renewed_128 : decode cX8_renewed 128 = .ok (.istore 5, 2) := by decide +kernel
theorem dX8_renewed_130 : decode cX8_renewed 130 = .ok (.aload_n 0, 1) := by decide +kernel
theorem dX8_renewed_131 : decode cX8_renewed 131 = .ok (.getfield 97, 3) := by decide +kernel
theorem dX8_renewed_134 : decode cX8_renewed 134 = .ok (.iconst 4, 1) := by decide +kernel
theorem dX8_renewed_135 : decode cX8_renewed 135 = .ok (.iload_n 3, 1) := by decide +kernel
theorem dX8_renewed_136 : decode cX8_renewed 136 = .ok (.imul, 1) := by decide +kernel
theorem dX8_renewed_137 : decode cX8_renewed 137 = .ok (.iload 6, 2) := by decide +kernel
theorem dX8_renewed_139 : decode cX8_renewed 139 = .ok (.iadd, 1) := by decide +kernel
theorem dX8_renewed_140 : decode cX8_renewed 140 = .ok (.iload 7, 2) := by decide +kernel
theorem dX8_renewed_142 : decode cX8_renewed 142 = .ok (.iastore, 1) := by decide +kernel
theorem dX8_renewed_143 : decode cX8_renewed 143 = .ok (.iinc 6 1, 3) := by decide +kernel
theorem dX8_renewed_146 : decode cX8_renewed 146 = .ok (.goto (-81), 3) := by decide +kernel
theorem dX8_renewed_149 : decode cX8_renewed 149 = .ok (.iload 5, 2) := by decide +kernel
theorem dX8_renewed_151 : decode cX8_renewed 151 = .ok (.ireturn, 1) := by decide +kernel
abbrev JX8_renewed_128 (D : DE) (f : Nat) (Q : Int32 → HI → HL → Prop) (F : Frm) (h : HI) (g : HL) (x3 : Int32) (x4 : Int32) (x6 : Int32) (x7 : Int32) (s0 : Int32) : Prop := vp_in ((4 * x3) + x6) 1248 ∧ ∀ h2, h2 = up2 h 143 (ix ((4 * x3) + x6)) x7 → ∀ y4 : Int32, y4 = x6 + 1 → V D mX8_renewed (f + 1) (qi F Q) 65 [(0, .ref (ad D 115)), (3, .int x3), (4, .int x4), (5, .int s0), (6, .int y4)] [] (F, h2, g)
theorem bX8_renewed_128 {D : DE} {f : Nat} {Q : Int32 → HI → HL → Prop} {F : Frm} {h : HI} {g : HL} (hF : k_Fix F) (x3 : Int32) (x4 : Int32) (x6 : Int32) (x7 : Int32) (s0 : Int32) (H : JX8_renewed_128 D f Q F h g x3 x4 x6 x7 s0) : V D mX8_renewed (f + 1) (qi F Q) 128 [(0, .ref (ad D 115)), (3, .int x3), (4, .int x4), (6, .int x6), (7, .int x7)] [.int s0] (F, h, g) := by
  refine V_istore (l1 := [(5, .int s0), (0, .ref (ad D 115)), (3, .int x3), (4, .int x4), (6, .int x6), (7, .int x7)]) dX8_renewed_128 (by decide) rfl ?_
  refine V_aload_n dX8_renewed_130 rfl 1 rfl ?_
  refine H_getr ck7 51 (by decide) (fs_115 hF) (by decide) rfl (fr_115_51 hF) q1509 dX8_renewed_131 ?_
  refine V_iconst (v := 4) dX8_renewed_134 (by decide) ?_
  refine V_iload_n dX8_renewed_135 rfl 2 rfl ?_
  refine V_imul dX8_renewed_136 ?_
  refine V_iload dX8_renewed_137 4 rfl ?_
  refine V_iadd dX8_renewed_139 ?_
  refine V_iload dX8_renewed_140 5 rfl ?_
  obtain ⟨i1, H⟩ := H
  refine H_iast (fs_143 hF) i1 dX8_renewed_142 (fun h2 e3 => ?_)
  have H := H h2 e3
  obtain ⟨y4, e5⟩ : ∃ y : Int32, y = x6 + 1 := ⟨_, rfl⟩
  have H := H y4 e5
  refine V_iinc (j := 4) (v := y4) (l1 := [(6, .int y4), (5, .int s0), (0, .ref (ad D 115)), (3, .int x3), (4, .int x4), (7, .int x7)]) dX8_renewed_143 rfl (by rw [e5]; rfl) (by decide) rfl ?_
  refine V_goto (tgt := 65) dX8_renewed_146 (by decide) ?_
  refine V.sub [2, 3, 4, 1, 0] rfl ?_
  exact H
abbrev JX8_renewed_127 (D : DE) (f : Nat) (Q : Int32 → HI → HL → Prop) (F : Frm) (h : HI) (g : HL) (x3 : Int32) (x4 : Int32) (x6 : Int32) (x7 : Int32) : Prop := JX8_renewed_128 D f Q F h g x3 x4 x6 x7 0
theorem bX8_renewed_127 {D : DE} {f : Nat} {Q : Int32 → HI → HL → Prop} {F : Frm} {h : HI} {g : HL} (hF : k_Fix F) (x3 : Int32) (x4 : Int32) (x6 : Int32) (x7 : Int32) (H : JX8_renewed_127 D f Q F h g x3 x4 x6 x7) : V D mX8_renewed (f + 1) (qi F Q) 127 [(0, .ref (ad D 115)), (3, .int x3), (4, .int x4), (6, .int x6), (7, .int x7)] [] (F, h, g) := by
  refine V_iconst (v := 0) dX8_renewed_127 (by decide) ?_
  exact bX8_renewed_128 hF x3 x4 x6 x7 0 H
abbrev JX8_renewed_123 (D : DE) (f : Nat) (Q : Int32 → HI → HL → Prop) (F : Frm) (h : HI) (g : HL) (x3 : Int32) (x4 : Int32) (x6 : Int32) (x7 : Int32) : Prop := JX8_renewed_128 D f Q F h g x3 x4 x6 x7 1
theorem bX8_renewed_123 {D : DE} {f : Nat} {Q : Int32 → HI → HL → Prop} {F : Frm} {h : HI} {g : HL} (hF : k_Fix F) (x3 : Int32) (x4 : Int32) (x6 : Int32) (x7 : Int32) (H : JX8_renewed_123 D f Q F h g x3 x4 x6 x7) : V D mX8_renewed (f + 1) (qi F Q) 123 [(0, .ref (ad D 115)), (3, .int x3), (4, .int x4), (6, .int x6), (7, .int x7)] [] (F, h, g) := by
  refine V_iconst (v := 1) dX8_renewed_123 (by decide) ?_
  refine V_goto (tgt := 128) dX8_renewed_124 (by decide) ?_
  exact bX8_renewed_128 hF x3 x4 x6 x7 1 H
abbrev JX8_renewed_95 (D : DE) (f : Nat) (Q : Int32 → HI → HL → Prop) (F : Frm) (h : HI) (g : HL) (x3 : Int32) (x4 : Int32) (x5 : Int32) (x6 : Int32) (s0 : Int32) : Prop := ((¬ x5 = 0 → JX8_renewed_123 D f Q F h g x3 x4 x6 s0) ∧ (x5 = 0 → ((¬ x4 = 0 → JX8_renewed_127 D f Q F h g x3 x4 x6 s0) ∧ (x4 = 0 → vp_in ((4 * x3) + x6) 1248 ∧ (((h 143 (ix ((4 * x3) + x6))) = s0 → JX8_renewed_127 D f Q F h g x3 x4 x6 s0) ∧ (¬ (h 143 (ix ((4 * x3) + x6))) = s0 → JX8_renewed_123 D f Q F h g x3 x4 x6 s0))))))
theorem bX8_renewed_95 {D : DE} {f : Nat} {Q : Int32 → HI → HL → Prop} {F : Frm} {h : HI} {g : HL} (hF : k_Fix F) (x3 : Int32) (x4 : Int32) (x5 : Int32) (x6 : Int32) (s0 : Int32) (H : JX8_renewed_95 D f Q F h g x3 x4 x5 x6 s0) : V D mX8_renewed (f + 1) (qi F Q) 95 [(0, .ref (ad D 115)), (3, .int x3), (4, .int x4), (5, .int x5), (6, .int x6)] [.int s0] (F, h, g) := by
  refine V_istore (l1 := [(7, .int s0), (0, .ref (ad D 115)), (3, .int x3), (4, .int x4), (5, .int x5), (6, .int x6)]) dX8_renewed_95 (by decide) rfl ?_
  refine V_iload dX8_renewed_97 4 rfl ?_
  refine V_if_ne (tgt := 123) dX8_renewed_99 (by decide) (fun c1 => ?_) (fun c1 => ?_)
  · have H := H.1 c1
    refine V.sub [1, 2, 3, 5, 0] rfl ?_
    exact bX8_renewed_123 hF x3 x4 x6 s0 H
  · have H := H.2 c1
    refine V_iload dX8_renewed_102 3 rfl ?_
    refine V_if_ne (tgt := 127) dX8_renewed_104 (by decide) (fun c2 => ?_) (fun c2 => ?_)
    · have H := H.1 c2
      refine V.sub [1, 2, 3, 5, 0] rfl ?_
      exact bX8_renewed_127 hF x3 x4 x6 s0 H
    · have H := H.2 c2
      refine V_aload_n dX8_renewed_107 rfl 1 rfl ?_
      refine H_getr ck7 51 (by decide) (fs_115 hF) (by decide) rfl (fr_115_51 hF) q1509 dX8_renewed_108 ?_
      refine V_iconst (v := 4) dX8_renewed_111 (by decide) ?_
      refine V_iload_n dX8_renewed_112 rfl 2 rfl ?_
      refine V_imul dX8_renewed_113 ?_
      refine V_iload dX8_renewed_114 5 rfl ?_
      refine V_iadd dX8_renewed_116 ?_
      obtain ⟨i3, H⟩ := H
      refine H_iald (fs_143 hF) i3 dX8_renewed_117 ?_
      refine V_iload dX8_renewed_118 0 rfl ?_
      refine V_icmp_eq (tgt := 127) dX8_renewed_120 (by decide) (fun c4 => ?_) (fun c4 => ?_)
      · have H := H.1 c4
        refine V.sub [1, 2, 3, 5, 0] rfl ?_
        exact bX8_renewed_127 hF x3 x4 x6 s0 H
      · have H := H.2 c4
        refine V.sub [1, 2, 3, 5, 0] rfl ?_
        exact bX8_renewed_123 hF x3 x4 x6 s0 H
abbrev JX8_renewed_65 (D : DE) (f : Nat) (Q : Int32 → HI → HL → Prop) (F : Frm) (h : HI) (g : HL) (x3 : Int32) (x4 : Int32) (x5 : Int32) (x6 : Int32) : Prop := vp_in (h 115 33) 24 ∧ (((h 119 (ix (h 115 33))) ≤ x6 → (isB x5 ∧ Q x5 h g)) ∧ (¬ (h 119 (ix (h 115 33))) ≤ x6 → ((x4 = 0 → vp_in x6 8000 ∧ JX8_renewed_95 D f Q F h g x3 x4 x5 x6 (h 141 (ix x6))) ∧ (¬ x4 = 0 → JX8_renewed_95 D f Q F h g x3 x4 x5 x6 0))))
theorem bX8_renewed_65 {D : DE} {f : Nat} {Q : Int32 → HI → HL → Prop} {F : Frm} {h : HI} {g : HL} (hF : k_Fix F) (x3 : Int32) (x4 : Int32) (x5 : Int32) (x6 : Int32) (H : JX8_renewed_65 D f Q F h g x3 x4 x5 x6) : V D mX8_renewed (f + 1) (qi F Q) 65 [(0, .ref (ad D 115)), (3, .int x3), (4, .int x4), (5, .int x5), (6, .int x6)] [] (F, h, g) := by
  refine V_iload dX8_renewed_65 4 rfl ?_
  refine V_aload_n dX8_renewed_67 rfl 0 rfl ?_
  refine H_getr ck7 13 (by decide) (fs_115 hF) (by decide) rfl (fr_115_13 hF) q1471 dX8_renewed_68 ?_
  refine V_aload_n dX8_renewed_71 rfl 0 rfl ?_
  refine H_geti ck7 33 (by decide) (fs_115 hF) (by decide) rfl q1491 dX8_renewed_72 ?_
  obtain ⟨i1, H⟩ := H
  refine H_iald (fs_119 hF) i1 dX8_renewed_75 ?_
  refine V_icmp_ge (tgt := 149) dX8_renewed_76 (by decide) (fun c2 => ?_) (fun c2 => ?_)
  · have H := H.1 c2
    refine V_iload dX8_renewed_149 3 rfl ?_
    exact H_zret rfl H.1 dX8_renewed_151 H.2
  · have H := H.2 c2
    refine V_iload dX8_renewed_79 2 rfl ?_
    refine V_if_eq (tgt := 88) dX8_renewed_81 (by decide) (fun c3 => ?_) (fun c3 => ?_)
    · have H := H.1 c3
      refine V_aload_n dX8_renewed_88 rfl 0 rfl ?_
      refine H_getr ck7 49 (by decide) (fs_115 hF) (by decide) rfl (fr_115_49 hF) q1507 dX8_renewed_89 ?_
      refine V_iload dX8_renewed_92 4 rfl ?_
      obtain ⟨i4, H⟩ := H
      refine H_iald (fs_141 hF) i4 dX8_renewed_94 ?_
      exact bX8_renewed_95 hF x3 x4 x5 x6 (h 141 (ix x6)) H
    · have H := H.2 c3
      refine V_iconst (v := 0) dX8_renewed_84 (by decide) ?_
      refine V_goto (tgt := 95) dX8_renewed_85 (by decide) ?_
      exact bX8_renewed_95 hF x3 x4 x5 x6 0 H
abbrev JX8_renewed_52 (D : DE) (f : Nat) (Q : Int32 → HI → HL → Prop) (F : Frm) (h : HI) (g : HL) (x3 : Int32) (x4 : Int32) (s0 : Int32) : Prop := vp_in x3 312 ∧ isB x4 ∧ ∀ h2, h2 = up2 h 144 (ix x3) x4 → V D mX8_renewed (f + 1) (qi F Q) 65 [(0, .ref (ad D 115)), (3, .int x3), (4, .int x4), (5, .int s0), (6, .int 0)] [] (F, h2, g)
theorem bX8_renewed_52 {D : DE} {f : Nat} {Q : Int32 → HI → HL → Prop} {F : Frm} {h : HI} {g : HL} (hF : k_Fix F) (x3 : Int32) (x4 : Int32) (s0 : Int32) (H : JX8_renewed_52 D f Q F h g x3 x4 s0) : V D mX8_renewed (f + 1) (qi F Q) 52 [(0, .ref (ad D 115)), (3, .int x3), (4, .int x4)] [.int s0] (F, h, g) := by
  refine V_istore (l1 := [(5, .int s0), (0, .ref (ad D 115)), (3, .int x3), (4, .int x4)]) dX8_renewed_52 (by decide) rfl ?_
  refine V_aload_n dX8_renewed_54 rfl 1 rfl ?_
  refine H_getr ck7 52 (by decide) (fs_115 hF) (by decide) rfl (fr_115_52 hF) q1510 dX8_renewed_55 ?_
  refine V_iload_n dX8_renewed_58 rfl 2 rfl ?_
  refine V_iload dX8_renewed_59 3 rfl ?_
  obtain ⟨i1, H⟩ := H
  obtain ⟨z4, H⟩ := H
  refine H_zast (fs_144 hF) i1 z4 dX8_renewed_61 (fun h2 e3 => ?_)
  have H := H h2 e3
  refine V_iconst (v := 0) dX8_renewed_62 (by decide) ?_
  refine V_istore (l1 := [(6, .int 0), (5, .int s0), (0, .ref (ad D 115)), (3, .int x3), (4, .int x4)]) dX8_renewed_63 (by decide) rfl ?_
  refine V.sub [2, 3, 4, 1, 0] rfl ?_
  exact H
abbrev JX8_renewed_0 (D : DE) (f : Nat) (Q : Int32 → HI → HL → Prop) (F : Frm) (h : HI) (g : HL) (x1 : Int32) (x2 : Int32) : Prop := ∀ h1, h1 = up2 h 115 33 ((12 * (h 115 47)) + x1) → ∀ y3 : Int32, y3 = (26 * x1) + x2 → vp_in (h1 115 33) 24 ∧ Si D f mX8_asks [.ref (ad D 115), .int (h1 121 (ix (h1 115 33))), .int x2] F h1 g (fun y8 h6 g7 => vp_in y3 312 ∧ ((y8 = (h6 144 (ix y3)) → JX8_renewed_52 D f Q F h6 g7 y3 y8 0) ∧ (¬ y8 = (h6 144 (ix y3)) → JX8_renewed_52 D f Q F h6 g7 y3 y8 1)))
theorem bX8_renewed_0 {D : DE} {f : Nat} {Q : Int32 → HI → HL → Prop} {F : Frm} {h : HI} {g : HL} (hF : k_Fix F) (x1 : Int32) (x2 : Int32) (H : JX8_renewed_0 D f Q F h g x1 x2) : V D mX8_renewed (f + 1) (qi F Q) 0 [(0, .ref (ad D 115)), (1, .int x1), (2, .int x2)] [] (F, h, g) := by
  refine V_aload_n dX8_renewed_0 rfl 0 rfl ?_
  refine V_bipush (v := 12) dX8_renewed_1 (by decide) ?_
  refine V_aload_n dX8_renewed_3 rfl 0 rfl ?_
  refine H_geti ck7 47 (by decide) (fs_115 hF) (by decide) rfl q1505 dX8_renewed_4 ?_
  refine V_imul dX8_renewed_7 ?_
  refine V_iload_n dX8_renewed_8 rfl 1 rfl ?_
  refine V_iadd dX8_renewed_9 ?_
  refine H_puti ck7 33 (by decide) (fs_115 hF) (by decide) rfl rfl q1491 dX8_renewed_10 (fun h1 e2 => ?_)
  have H := H h1 e2
  refine V_bipush (v := 26) dX8_renewed_13 (by decide) ?_
  refine V_iload_n dX8_renewed_15 rfl 1 rfl ?_
  refine V_imul dX8_renewed_16 ?_
  refine V_iload_n dX8_renewed_17 rfl 2 rfl ?_
  refine V_iadd dX8_renewed_18 ?_
  refine V_topi (fun y3 e4 => ?_)
  have H := H y3 e4
  refine V_istore_n (l1 := [(3, .int y3), (0, .ref (ad D 115)), (1, .int x1), (2, .int x2)]) dX8_renewed_19 rfl (by decide) rfl ?_
  refine V_aload_n dX8_renewed_20 rfl 1 rfl ?_
  refine V_aload_n dX8_renewed_21 rfl 1 rfl ?_
  refine H_getr ck7 15 (by decide) (fs_115 hF) (by decide) rfl (fr_115_15 hF) q1473 dX8_renewed_22 ?_
  refine V_aload_n dX8_renewed_25 rfl 1 rfl ?_
  refine H_geti ck7 33 (by decide) (fs_115 hF) (by decide) rfl q1491 dX8_renewed_26 ?_
  obtain ⟨i5, H⟩ := H
  refine H_iald (fs_121 hF) i5 dX8_renewed_29 ?_
  refine V_iload_n dX8_renewed_30 rfl 3 rfl ?_
  refine H_calli (av := [.ref (ad D 115), .int (h1 121 (ix (h1 115 33))), .int x2]) (rest := []) H mqX8_asks q88 (by decide) (Nat.le_of_ble_eq_true rfl) (k_resV (ci := 7) (av := [.int (h1 121 (ix (h1 115 33))), .int x2]) (rest := []) (fs_115 hF) (by decide) rfl rfl q1887 q1889 qs59 q1890 mhX8_asks mnX8_asks dX8_renewed_31) (fun y8 h6 g7 H => ?_)
  refine V_istore (l1 := [(4, .int y8), (3, .int y3), (0, .ref (ad D 115)), (1, .int x1), (2, .int x2)]) dX8_renewed_34 (by decide) rfl ?_
  refine V_iload dX8_renewed_36 0 rfl ?_
  refine V_aload_n dX8_renewed_38 rfl 2 rfl ?_
  refine H_getr ck7 52 (by decide) (fs_115 hF) (by decide) rfl (fr_115_52 hF) q1510 dX8_renewed_39 ?_
  refine V_iload_n dX8_renewed_42 rfl 1 rfl ?_
  obtain ⟨i9, H⟩ := H
  refine H_zald (fs_144 hF) i9 dX8_renewed_43 ?_
  refine V_icmp_eq (tgt := 51) dX8_renewed_44 (by decide) (fun c10 => ?_) (fun c10 => ?_)
  · have H := H.1 c10
    refine V_iconst (v := 0) dX8_renewed_51 (by decide) ?_
    refine V.sub [2, 1, 0] rfl ?_
    exact bX8_renewed_52 hF y3 y8 0 H
  · have H := H.2 c10
    refine V_iconst (v := 1) dX8_renewed_47 (by decide) ?_
    refine V_goto (tgt := 52) dX8_renewed_48 (by decide) ?_
    refine V.sub [2, 1, 0] rfl ?_
    exact bX8_renewed_52 hF y3 y8 1 H
theorem wX8_renewed {D : DE} {f : Nat} {Q : Int32 → HI → HL → Prop} {F : Frm} {h : HI} {g : HL} (hF : k_Fix F) (x1 : Int32) (x2 : Int32) (H : JX8_renewed_0 D f Q F h g x1 x2) : Si D (f + 1) mX8_renewed [.ref (ad D 115), .int x1, .int x2] F h g Q := Cl.ofV (by decide) (Nat.le_of_ble_eq_true rfl) rfl (bX8_renewed_0 hF x1 x2 H)
theorem dX8_rounds_0 : decode cX8_rounds 0 = .ok (.aload_n 0, 1) := by decide +kernel
theorem dX8_rounds_1 : decode cX8_rounds 1 = .ok (.aload_n 0, 1) := by decide +kernel
theorem dX8_rounds_2 : decode cX8_rounds 2 = .ok (.getfield 341, 3) := by decide +kernel
theorem dX8_rounds_5 : decode cX8_rounds 5 = .ok (.ifCond .eq 7, 3) := by decide +kernel
theorem dX8_rounds_8 : decode cX8_rounds 8 = .ok (.iconst 0, 1) := by decide +kernel
theorem dX8_rounds_9 : decode cX8_rounds 9 = .ok (.goto 4, 3) := by decide +kernel
theorem dX8_rounds_12 : decode cX8_rounds 12 = .ok (.iconst 1, 1) := by decide +kernel
theorem dX8_rounds_13 : decode cX8_rounds 13 = .ok (.putfield 148, 3) := by decide +kernel
theorem dX8_rounds_16 : decode cX8_rounds 16 = .ok (.aload_n 0, 1) := by decide +kernel
theorem dX8_rounds_17 : decode cX8_rounds 17 = .ok (.getfield 148, 3) := by decide +kernel
theorem dX8_rounds_20 : decode cX8_rounds 20 = .ok (.ifCond .le 5, 3) := by decide +kernel
theorem dX8_rounds_23 : decode cX8_rounds 23 = .ok (.iconst 0, 1) := by decide +kernel
theorem dX8_rounds_24 : decode cX8_rounds 24 = .ok (.ireturn, 1) := by decide +kernel
theorem dX8_rounds_25 : decode cX8_rounds 25 = .ok (.aload_n 0, 1) := by decide +kernel
theorem dX8_rounds_26 : decode cX8_rounds 26 = .ok (.iconst 1, 1) := by decide +kernel
theorem dX8_rounds_27 : decode cX8_rounds 27 = .ok (.putfield 354, 3) := by decide +kernel
theorem dX8_rounds_30 : decode cX8_rounds 30 = .ok (.iconst 0, 1) := by decide +kernel
theorem dX8_rounds_31 : decode cX8_rounds 31 = .ok (.istore_n 1, 1) := by decide +kernel
theorem dX8_rounds_32 : decode cX8_rounds 32 = .ok (.iload_n 1, 1) := by decide +kernel
theorem dX8_rounds_33 : decode cX8_rounds 33 = .ok (.sipush 312, 3) := by decide +kernel
theorem dX8_rounds_36 : decode cX8_rounds 36 = .ok (.if_icmp .ge 16, 3) := by decide +kernel
theorem dX8_rounds_39 : decode cX8_rounds 39 = .ok (.aload_n 0, 1) := by decide +kernel
theorem dX8_rounds_40 : decode cX8_rounds 40 = .ok (.getfield 100, 3) := by decide +kernel
theorem dX8_rounds_43 : decode cX8_rounds 43 = .ok (.iload_n 1, 1) := by decide +kernel
theorem dX8_rounds_44 : decode cX8_rounds 44 = .ok (.iconst 1, 1) := by decide +kernel
theorem dX8_rounds_45 : decode cX8_rounds 45 = .ok (.bastore, 1) := by decide +kernel
theorem dX8_rounds_46 : decode cX8_rounds 46 = .ok (.iinc 1 1, 3) := by decide +kernel
theorem dX8_rounds_49 : decode cX8_rounds 49 = .ok (.goto (-17), 3) := by decide +kernel
theorem dX8_rounds_52 : decode cX8_rounds 52 = .ok (.iconst 0, 1) := by decide +kernel
theorem dX8_rounds_53 : decode cX8_rounds 53 = .ok (.istore_n 1, 1) := by decide +kernel
theorem dX8_rounds_54 : decode cX8_rounds 54 = .ok (.iconst 1, 1) := by decide +kernel
theorem dX8_rounds_55 : decode cX8_rounds 55 = .ok (.istore_n 2, 1) := by decide +kernel
theorem dX8_rounds_56 : decode cX8_rounds 56 = .ok (.iload_n 2, 1) := by decide +kernel
theorem dX8_rounds_57 : decode cX8_rounds 57 = .ok (.ifCond .eq 87, 3) := by decide +kernel
theorem dX8_rounds_60 : decode cX8_rounds 60 = .ok (.iconst 0, 1) := by decide +kernel
theorem dX8_rounds_61 : decode cX8_rounds 61 = .ok (.istore_n 2, 1) := by decide +kernel
theorem dX8_rounds_62 : decode cX8_rounds 62 = .ok (.iconst 0, 1) := by decide +kernel
theorem dX8_rounds_63 : decode cX8_rounds 63 = .ok (.istore_n 3, 1) := by decide +kernel
theorem dX8_rounds_64 : decode cX8_rounds 64 = .ok (.iload_n 3, 1) := by decide +kernel
theorem dX8_rounds_65 : decode cX8_rounds 65 = .ok (.aload_n 0, 1) := by decide +kernel
theorem dX8_rounds_66 : decode cX8_rounds 66 = .ok (.getfield 63, 3) := by decide +kernel
theorem dX8_rounds_69 : decode cX8_rounds 69 = .ok (.aload_n 0, 1) := by decide +kernel
theorem dX8_rounds_70 : decode cX8_rounds 70 = .ok (.getfield 345, 3) := by decide +kernel
theorem dX8_rounds_73 : decode cX8_rounds 73 = .ok (.iaload, 1) := by decide +kernel
theorem dX8_rounds_74 : decode cX8_rounds 74 = .ok (.if_icmp .ge 64, 3) := by decide +kernel
theorem dX8_rounds_77 : decode cX8_rounds 77 = .ok (.iconst 1, 1) := by decide +kernel
theorem dX8_rounds_78 : decode cX8_rounds 78 = .ok (.istore 4, 2) := by decide +kernel
theorem dX8_rounds_80 : decode cX8_rounds 80 = .ok (.iload 4, 2) := by decide +kernel
theorem dX8_rounds_82 : decode cX8_rounds 82 = .ok (.aload_n 0, 1) := by decide +kernel
theorem dX8_rounds_83 : decode cX8_rounds 83 = .ok (.getfield 21, 3) := by decide +kernel
theorem dX8_rounds_86 : decode cX8_rounds 86 = .ok (.bipush 12, 2) := by decide +kernel
theorem dX8_rounds_88 : decode cX8_rounds 88 = .ok (.aload_n 0, 1) := by decide +kernel
theorem dX8_rounds_89 : decode cX8_rounds 89 = .ok (.getfield 345, 3) := by decide +kernel
theorem dX8_rounds_92 : decode cX8_rounds 92 = .ok (.imul, 1) := by decide +kernel
theorem dX8_rounds_93 : decode cX8_rounds 93 = .ok (.iload_n 3, 1) := by decide +kernel
theorem dX8_rounds_94 : decode cX8_rounds 94 = .ok (.iadd, 1) := by decide +kernel
theorem dX8_rounds_95 : decode cX8_rounds 95 = .ok (.iaload, 1) := by decide +kernel
theorem dX8_rounds_96 : decode cX8_rounds 96 = .ok (.invokestatic 166, 3) := by decide +kernel
theorem dX8_rounds_99 : decode cX8_rounds 99 = .ok (.if_icmp .ge 33, 3) := by decide +kernel
theorem dX8_rounds_102 : decode cX8_rounds 102 = .ok (.aload_n 0, 1) := by decide +kernel
theorem dX8_rounds_103 : decode cX8_rounds 103 = .ok (.iload_n 3, 1) := by decide +kernel
theorem dX8_rounds_104 : decode cX8_rounds 104 = .ok (.iload 4, 2) := by decide +kernel
theorem dX8_rounds_106 : decode cX8_rounds 106 = .ok (.invokevirtual 381, 3) := by decide +kernel
theorem dX8_rounds_109 : decode cX8_rounds 109 = .ok (.istore 5, 2) := by decide +kernel
theorem dX8_rounds_111 : decode cX8_rounds 111 = .ok (.iload_n 2, 1) := by decide +kernel
theorem dX8_rounds_112 : decode cX8_rounds 112 = .ok (.ifCond .ne 8, 3) := by decide +kernel
theorem dX8_rounds_115 : decode cX8_rounds 115 = .ok (.iload 5, 2) := by decide +kernel
theorem dX8_rounds_117 : decode cX8_rounds 117 = .ok (.ifCond .eq 7, 3) := by decide +kernel
theorem dX8_rounds_120 : decode cX8_rounds 120 = .ok (.iconst 1, 1) := by decide +kernel
theorem dX8_rounds_121 : decode cX8_rounds 121 = .ok (.goto 4, 3) := by decide +kernel
theorem dX8_rounds_124 : decode cX8_rounds 124 = .ok (.iconst 0, 1) := by decide +kernel
theorem dX8_rounds_125 : decode cX8_rounds 125 = .ok (.istore_n 2, 1) := by decide +kernel
theorem dX8_rounds_126 : decode cX8_rounds 126 = .ok (.iinc 4 1, 3) := by decide +kernel
theorem dX8_rounds_129 : decode cX8_rounds 129 = .ok (.goto (-49), 3) := by decide +kernel
theorem dX8_rounds_132 : decode cX8_rounds 132 = .ok (.iinc 3 1, 3) := by decide +kernel
theorem dX8_rounds_135 : decode cX8_rounds 135 = .ok (.goto (-71), 3) := by decide +kernel
theorem dX8_rounds_138 : decode cX8_rounds 138 = .ok (.iinc 1 1, 3) := by decide +kernel
theorem dX8_rounds_141 : decode cX8_rounds 141 = .ok (.goto (-85), 3) := by decide +kernel
theorem dX8_rounds_144 : decode cX8_rounds 144 = .ok (.iload_n 1, 1) := by decide +kernel
theorem dX8_rounds_145 : decode cX8_rounds 145 = .ok (.ireturn, 1) := by decide +kernel
abbrev JX8_rounds_125 (D : DE) (f : Nat) (Q : Int32 → HI → HL → Prop) (F : Frm) (h : HI) (g : HL) (x1 : Int32) (x3 : Int32) (x4 : Int32) (s0 : Int32) : Prop := ∀ y1 : Int32, y1 = x4 + 1 → V D mX8_rounds (f + 1) (qi F Q) 80 [(0, .ref (ad D 115)), (1, .int x1), (2, .int s0), (3, .int x3), (4, .int y1)] [] (F, h, g)
theorem bX8_rounds_125 {D : DE} {f : Nat} {Q : Int32 → HI → HL → Prop} {F : Frm} {h : HI} {g : HL} (hF : k_Fix F) (x1 : Int32) (x3 : Int32) (x4 : Int32) (s0 : Int32) (H : JX8_rounds_125 D f Q F h g x1 x3 x4 s0) : V D mX8_rounds (f + 1) (qi F Q) 125 [(0, .ref (ad D 115)), (1, .int x1), (3, .int x3), (4, .int x4)] [.int s0] (F, h, g) := by
  refine V_istore_n (l1 := [(2, .int s0), (0, .ref (ad D 115)), (1, .int x1), (3, .int x3), (4, .int x4)]) dX8_rounds_125 rfl (by decide) rfl ?_
  obtain ⟨y1, e2⟩ : ∃ y : Int32, y = x4 + 1 := ⟨_, rfl⟩
  have H := H y1 e2
  refine V_iinc (j := 4) (v := y1) (l1 := [(4, .int y1), (2, .int s0), (0, .ref (ad D 115)), (1, .int x1), (3, .int x3)]) dX8_rounds_126 rfl (by rw [e2]; rfl) (by decide) rfl ?_
  refine V_goto (tgt := 80) dX8_rounds_129 (by decide) ?_
  refine V.sub [2, 3, 1, 4, 0] rfl ?_
  exact H
abbrev JX8_rounds_120 (D : DE) (f : Nat) (Q : Int32 → HI → HL → Prop) (F : Frm) (h : HI) (g : HL) (x1 : Int32) (x3 : Int32) (x4 : Int32) : Prop := JX8_rounds_125 D f Q F h g x1 x3 x4 1
theorem bX8_rounds_120 {D : DE} {f : Nat} {Q : Int32 → HI → HL → Prop} {F : Frm} {h : HI} {g : HL} (hF : k_Fix F) (x1 : Int32) (x3 : Int32) (x4 : Int32) (H : JX8_rounds_120 D f Q F h g x1 x3 x4) : V D mX8_rounds (f + 1) (qi F Q) 120 [(0, .ref (ad D 115)), (1, .int x1), (3, .int x3), (4, .int x4)] [] (F, h, g) := by
  refine V_iconst (v := 1) dX8_rounds_120 (by decide) ?_
  refine V_goto (tgt := 125) dX8_rounds_121 (by decide) ?_
  exact bX8_rounds_125 hF x1 x3 x4 1 H
abbrev JX8_rounds_80 (D : DE) (f : Nat) (Q : Int32 → HI → HL → Prop) (F : Frm) (h : HI) (g : HL) (x1 : Int32) (x2 : Int32) (x3 : Int32) (x4 : Int32) : Prop := vp_in ((12 * (h 115 47)) + x3) 24 ∧ Si D f mX8_demands [.int (h 118 (ix ((12 * (h 115 47)) + x3)))] F h g (fun y4 h2 g3 => ((y4 ≤ x4 → ∀ y6 : Int32, y6 = x3 + 1 → V D mX8_rounds (f + 1) (qi F Q) 64 [(0, .ref (ad D 115)), (1, .int x1), (2, .int x2), (3, .int y6)] [] (F, h2, g3)) ∧ (¬ y4 ≤ x4 → Si D f mX8_renewed [.ref (ad D 115), .int x3, .int x4] F h2 g3 (fun y10 h8 g9 => ((¬ x2 = 0 → JX8_rounds_120 D f Q F h8 g9 x1 x3 x4) ∧ (x2 = 0 → ((y10 = 0 → JX8_rounds_125 D f Q F h8 g9 x1 x3 x4 0) ∧ (¬ y10 = 0 → JX8_rounds_120 D f Q F h8 g9 x1 x3 x4))))))))
theorem bX8_rounds_80 {D : DE} {f : Nat} {Q : Int32 → HI → HL → Prop} {F : Frm} {h : HI} {g : HL} (hF : k_Fix F) (x1 : Int32) (x2 : Int32) (x3 : Int32) (x4 : Int32) (H : JX8_rounds_80 D f Q F h g x1 x2 x3 x4) : V D mX8_rounds (f + 1) (qi F Q) 80 [(0, .ref (ad D 115)), (1, .int x1), (2, .int x2), (3, .int x3), (4, .int x4)] [] (F, h, g) := by
  refine V_iload dX8_rounds_80 4 rfl ?_
  refine V_aload_n dX8_rounds_82 rfl 0 rfl ?_
  refine H_getr ck7 12 (by decide) (fs_115 hF) (by decide) rfl (fr_115_12 hF) q1470 dX8_rounds_83 ?_
  refine V_bipush (v := 12) dX8_rounds_86 (by decide) ?_
  refine V_aload_n dX8_rounds_88 rfl 0 rfl ?_
  refine H_geti ck7 47 (by decide) (fs_115 hF) (by decide) rfl q1505 dX8_rounds_89 ?_
  refine V_imul dX8_rounds_92 ?_
  refine V_iload_n dX8_rounds_93 rfl 3 rfl ?_
  refine V_iadd dX8_rounds_94 ?_
  obtain ⟨i1, H⟩ := H
  refine H_iald (fs_118 hF) i1 dX8_rounds_95 ?_
  refine H_calli (av := [.int (h 118 (ix ((12 * (h 115 47)) + x3)))]) (rest := [.int x4]) H mqX8_demands q88 (by decide) (Nat.le_of_ble_eq_true rfl) (k_resS (av := [.int (h 118 (ix ((12 * (h 115 47)) + x3)))]) (rest := [.int x4]) (M1 := mX8_demands) rfl q1876 q1877 q88 mqX8_demands (fun _ _ h => mW_named h) mhX8_demands mnX8_demands dX8_rounds_96) (fun y4 h2 g3 H => ?_)
  refine V_icmp_ge (tgt := 132) dX8_rounds_99 (by decide) (fun c5 => ?_) (fun c5 => ?_)
  · have H := H.1 c5
    obtain ⟨y6, e7⟩ : ∃ y : Int32, y = x3 + 1 := ⟨_, rfl⟩
    have H := H y6 e7
    refine V_iinc (j := 3) (v := y6) (l1 := [(3, .int y6), (0, .ref (ad D 115)), (1, .int x1), (2, .int x2), (4, .int x4)]) dX8_rounds_132 rfl (by rw [e7]; rfl) (by decide) rfl ?_
    refine V_goto (tgt := 64) dX8_rounds_135 (by decide) ?_
    refine V.sub [1, 2, 3, 0] rfl ?_
    exact H
  · have H := H.2 c5
    refine V_aload_n dX8_rounds_102 rfl 0 rfl ?_
    refine V_iload_n dX8_rounds_103 rfl 3 rfl ?_
    refine V_iload dX8_rounds_104 4 rfl ?_
    refine H_calli (av := [.ref (ad D 115), .int x3, .int x4]) (rest := []) H mqX8_renewed q88 (by decide) (Nat.le_of_ble_eq_true rfl) (k_resV (ci := 7) (av := [.int x3, .int x4]) (rest := []) (fs_115 hF) (by decide) rfl rfl q1883 q1885 qs58 q1886 mhX8_renewed mnX8_renewed dX8_rounds_106) (fun y10 h8 g9 H => ?_)
    refine V_istore (l1 := [(5, .int y10), (0, .ref (ad D 115)), (1, .int x1), (2, .int x2), (3, .int x3), (4, .int x4)]) dX8_rounds_109 (by decide) rfl ?_
    refine V_iload_n dX8_rounds_111 rfl 3 rfl ?_
    refine V_if_ne (tgt := 120) dX8_rounds_112 (by decide) (fun c11 => ?_) (fun c11 => ?_)
    · have H := H.1 c11
      refine V.sub [1, 2, 4, 5] rfl ?_
      exact bX8_rounds_120 hF x1 x3 x4 H
    · have H := H.2 c11
      refine V_iload dX8_rounds_115 0 rfl ?_
      refine V_if_eq (tgt := 124) dX8_rounds_117 (by decide) (fun c12 => ?_) (fun c12 => ?_)
      · have H := H.1 c12
        refine V_iconst (v := 0) dX8_rounds_124 (by decide) ?_
        refine V.sub [1, 2, 4, 5] rfl ?_
        exact bX8_rounds_125 hF x1 x3 x4 0 H
      · have H := H.2 c12
        refine V.sub [1, 2, 4, 5] rfl ?_
        exact bX8_rounds_120 hF x1 x3 x4 H
abbrev JX8_rounds_64 (D : DE) (f : Nat) (Q : Int32 → HI → HL → Prop) (F : Frm) (h : HI) (g : HL) (x1 : Int32) (x2 : Int32) (x3 : Int32) : Prop := vp_in (h 115 47) 2 ∧ (((h 132 (ix (h 115 47))) ≤ x3 → ∀ y3 : Int32, y3 = x1 + 1 → V D mX8_rounds (f + 1) (qi F Q) 56 [(0, .ref (ad D 115)), (1, .int y3), (2, .int x2)] [] (F, h, g)) ∧ (¬ (h 132 (ix (h 115 47))) ≤ x3 → V D mX8_rounds (f + 1) (qi F Q) 80 [(0, .ref (ad D 115)), (1, .int x1), (2, .int x2), (3, .int x3), (4, .int 1)] [] (F, h, g)))
theorem bX8_rounds_64 {D : DE} {f : Nat} {Q : Int32 → HI → HL → Prop} {F : Frm} {h : HI} {g : HL} (hF : k_Fix F) (x1 : Int32) (x2 : Int32) (x3 : Int32) (H : JX8_rounds_64 D f Q F h g x1 x2 x3) : V D mX8_rounds (f + 1) (qi F Q) 64 [(0, .ref (ad D 115)), (1, .int x1), (2, .int x2), (3, .int x3)] [] (F, h, g) := by
  refine V_iload_n dX8_rounds_64 rfl 3 rfl ?_
  refine V_aload_n dX8_rounds_65 rfl 0 rfl ?_
  refine H_getr ck7 26 (by decide) (fs_115 hF) (by decide) rfl (fr_115_26 hF) q1484 dX8_rounds_66 ?_
  refine V_aload_n dX8_rounds_69 rfl 0 rfl ?_
  refine H_geti ck7 47 (by decide) (fs_115 hF) (by decide) rfl q1505 dX8_rounds_70 ?_
  obtain ⟨i1, H⟩ := H
  refine H_iald (fs_132 hF) i1 dX8_rounds_73 ?_
  refine V_icmp_ge (tgt := 138) dX8_rounds_74 (by decide) (fun c2 => ?_) (fun c2 => ?_)
  · have H := H.1 c2
    obtain ⟨y3, e4⟩ : ∃ y : Int32, y = x1 + 1 := ⟨_, rfl⟩
    have H := H y3 e4
    refine V_iinc (j := 1) (v := y3) (l1 := [(1, .int y3), (0, .ref (ad D 115)), (2, .int x2), (3, .int x3)]) dX8_rounds_138 rfl (by rw [e4]; rfl) (by decide) rfl ?_
    refine V_goto (tgt := 56) dX8_rounds_141 (by decide) ?_
    refine V.sub [1, 0, 2] rfl ?_
    exact H
  · have H := H.2 c2
    refine V_iconst (v := 1) dX8_rounds_77 (by decide) ?_
    refine V_istore (l1 := [(4, .int 1), (0, .ref (ad D 115)), (1, .int x1), (2, .int x2), (3, .int x3)]) dX8_rounds_78 (by decide) rfl ?_
    refine V.sub [1, 2, 3, 4, 0] rfl ?_
    exact H
abbrev JX8_rounds_56 (D : DE) (f : Nat) (Q : Int32 → HI → HL → Prop) (F : Frm) (h : HI) (g : HL) (x1 : Int32) (x2 : Int32) : Prop := ((x2 = 0 → Q x1 h g) ∧ (¬ x2 = 0 → V D mX8_rounds (f + 1) (qi F Q) 64 [(0, .ref (ad D 115)), (1, .int x1), (2, .int 0), (3, .int 0)] [] (F, h, g)))
theorem bX8_rounds_56 {D : DE} {f : Nat} {Q : Int32 → HI → HL → Prop} {F : Frm} {h : HI} {g : HL} (hF : k_Fix F) (x1 : Int32) (x2 : Int32) (H : JX8_rounds_56 D f Q F h g x1 x2) : V D mX8_rounds (f + 1) (qi F Q) 56 [(0, .ref (ad D 115)), (1, .int x1), (2, .int x2)] [] (F, h, g) := by
  refine V_iload_n dX8_rounds_56 rfl 2 rfl ?_
  refine V_if_eq (tgt := 144) dX8_rounds_57 (by decide) (fun c1 => ?_) (fun c1 => ?_)
  · have H := H.1 c1
    refine V_iload_n dX8_rounds_144 rfl 1 rfl ?_
    exact H_iret rfl dX8_rounds_145 H
  · have H := H.2 c1
    refine V_iconst (v := 0) dX8_rounds_60 (by decide) ?_
    refine V_istore_n (l1 := [(2, .int 0), (0, .ref (ad D 115)), (1, .int x1)]) dX8_rounds_61 rfl (by decide) rfl ?_
    refine V_iconst (v := 0) dX8_rounds_62 (by decide) ?_
    refine V_istore_n (l1 := [(3, .int 0), (2, .int 0), (0, .ref (ad D 115)), (1, .int x1)]) dX8_rounds_63 rfl (by decide) rfl ?_
    refine V.sub [2, 3, 1, 0] rfl ?_
    exact H
abbrev JX8_rounds_32 (D : DE) (f : Nat) (Q : Int32 → HI → HL → Prop) (F : Frm) (h : HI) (g : HL) (x1 : Int32) : Prop := ((312 ≤ x1 → V D mX8_rounds (f + 1) (qi F Q) 56 [(0, .ref (ad D 115)), (1, .int 0), (2, .int 1)] [] (F, h, g)) ∧ (¬ 312 ≤ x1 → vp_in x1 312 ∧ ∀ h3, h3 = up2 h 144 (ix x1) 1 → ∀ y5 : Int32, y5 = x1 + 1 → V D mX8_rounds (f + 1) (qi F Q) 32 [(0, .ref (ad D 115)), (1, .int y5)] [] (F, h3, g)))
theorem bX8_rounds_32 {D : DE} {f : Nat} {Q : Int32 → HI → HL → Prop} {F : Frm} {h : HI} {g : HL} (hF : k_Fix F) (x1 : Int32) (H : JX8_rounds_32 D f Q F h g x1) : V D mX8_rounds (f + 1) (qi F Q) 32 [(0, .ref (ad D 115)), (1, .int x1)] [] (F, h, g) := by
  refine V_iload_n dX8_rounds_32 rfl 1 rfl ?_
  refine V_sipush (v := 312) dX8_rounds_33 (by decide) ?_
  refine V_icmp_ge (tgt := 52) dX8_rounds_36 (by decide) (fun c1 => ?_) (fun c1 => ?_)
  · have H := H.1 c1
    refine V_iconst (v := 0) dX8_rounds_52 (by decide) ?_
    refine V_istore_n (l1 := [(1, .int 0), (0, .ref (ad D 115))]) dX8_rounds_53 rfl (by decide) rfl ?_
    refine V_iconst (v := 1) dX8_rounds_54 (by decide) ?_
    refine V_istore_n (l1 := [(2, .int 1), (1, .int 0), (0, .ref (ad D 115))]) dX8_rounds_55 rfl (by decide) rfl ?_
    refine V.sub [2, 1, 0] rfl ?_
    exact H
  · have H := H.2 c1
    refine V_aload_n dX8_rounds_39 rfl 0 rfl ?_
    refine H_getr ck7 52 (by decide) (fs_115 hF) (by decide) rfl (fr_115_52 hF) q1510 dX8_rounds_40 ?_
    refine V_iload_n dX8_rounds_43 rfl 1 rfl ?_
    refine V_iconst (v := 1) dX8_rounds_44 (by decide) ?_
    obtain ⟨i2, H⟩ := H
    refine H_zast (fs_144 hF) i2 isB1 dX8_rounds_45 (fun h3 e4 => ?_)
    have H := H h3 e4
    obtain ⟨y5, e6⟩ : ∃ y : Int32, y = x1 + 1 := ⟨_, rfl⟩
    have H := H y5 e6
    refine V_iinc (j := 1) (v := y5) (l1 := [(1, .int y5), (0, .ref (ad D 115))]) dX8_rounds_46 rfl (by rw [e6]; rfl) (by decide) rfl ?_
    refine V_goto (tgt := 32) dX8_rounds_49 (by decide) ?_
    refine V.sub [1, 0] rfl ?_
    exact H
abbrev JX8_rounds_13 (D : DE) (f : Nat) (Q : Int32 → HI → HL → Prop) (F : Frm) (h : HI) (g : HL) (s1 : Int32) : Prop := ∀ h1, h1 = up2 h 115 0 s1 → (((h1 115 0) ≤ 0 → ∀ h4, h4 = up2 h1 115 46 1 → V D mX8_rounds (f + 1) (qi F Q) 32 [(0, .ref (ad D 115)), (1, .int 0)] [] (F, h4, g)) ∧ (¬ (h1 115 0) ≤ 0 → Q 0 h1 g))
theorem bX8_rounds_13 {D : DE} {f : Nat} {Q : Int32 → HI → HL → Prop} {F : Frm} {h : HI} {g : HL} (hF : k_Fix F) (s1 : Int32) (H : JX8_rounds_13 D f Q F h g s1) : V D mX8_rounds (f + 1) (qi F Q) 13 [(0, .ref (ad D 115))] [.int s1, .ref (ad D 115)] (F, h, g) := by
  refine H_puti ck7 0 (by decide) (fs_115 hF) (by decide) rfl rfl q1458 dX8_rounds_13 (fun h1 e2 => ?_)
  have H := H h1 e2
  refine V_aload_n dX8_rounds_16 rfl 0 rfl ?_
  refine H_geti ck7 0 (by decide) (fs_115 hF) (by decide) rfl q1458 dX8_rounds_17 ?_
  refine V_if_le (tgt := 25) dX8_rounds_20 (by decide) (fun c3 => ?_) (fun c3 => ?_)
  · have H := H.1 c3
    refine V_aload_n dX8_rounds_25 rfl 0 rfl ?_
    refine V_iconst (v := 1) dX8_rounds_26 (by decide) ?_
    refine H_putz ck7 46 (by decide) (fs_115 hF) (by decide) rfl isB1 rfl q1504 dX8_rounds_27 (fun h4 e5 => ?_)
    have H := H h4 e5
    refine V_iconst (v := 0) dX8_rounds_30 (by decide) ?_
    refine V_istore_n (l1 := [(1, .int 0), (0, .ref (ad D 115))]) dX8_rounds_31 rfl (by decide) rfl ?_
    refine V.sub [1, 0] rfl ?_
    exact H
  · have H := H.2 c3
    refine V_iconst (v := 0) dX8_rounds_23 (by decide) ?_
    exact H_iret rfl dX8_rounds_24 H
abbrev JX8_rounds_0 (D : DE) (f : Nat) (Q : Int32 → HI → HL → Prop) (F : Frm) (h : HI) (g : HL) : Prop := (((h 115 45) = 0 → JX8_rounds_13 D f Q F h g 1) ∧ (¬ (h 115 45) = 0 → JX8_rounds_13 D f Q F h g 0))
theorem bX8_rounds_0 {D : DE} {f : Nat} {Q : Int32 → HI → HL → Prop} {F : Frm} {h : HI} {g : HL} (hF : k_Fix F)  (H : JX8_rounds_0 D f Q F h g ) : V D mX8_rounds (f + 1) (qi F Q) 0 [(0, .ref (ad D 115))] [] (F, h, g) := by
  refine V_aload_n dX8_rounds_0 rfl 0 rfl ?_
  refine V_aload_n dX8_rounds_1 rfl 0 rfl ?_
  refine H_geti ck7 45 (by decide) (fs_115 hF) (by decide) rfl q1503 dX8_rounds_2 ?_
  refine V_if_eq (tgt := 12) dX8_rounds_5 (by decide) (fun c1 => ?_) (fun c1 => ?_)
  · have H := H.1 c1
    refine V_iconst (v := 1) dX8_rounds_12 (by decide) ?_
    exact bX8_rounds_13 hF 1 H
  · have H := H.2 c1
    refine V_iconst (v := 0) dX8_rounds_8 (by decide) ?_
    refine V_goto (tgt := 13) dX8_rounds_9 (by decide) ?_
    exact bX8_rounds_13 hF 0 H
theorem wX8_rounds {D : DE} {f : Nat} {Q : Int32 → HI → HL → Prop} {F : Frm} {h : HI} {g : HL} (hF : k_Fix F)  (H : JX8_rounds_0 D f Q F h g ) : Si D (f + 1) mX8_rounds [.ref (ad D 115)] F h g Q := Cl.ofV (by decide) (Nat.le_of_ble_eq_true rfl) rfl (bX8_rounds_0 hF  H)
theorem dX8_isRowThere_0 : decode cX8_isRowThere 0 = .ok (.aload_n 0, 1) := by decide +kernel
theorem dX8_isRowThere_1 : decode cX8_isRowThere 1 = .ok (.iload_n 1, 1) := by decide +kernel
theorem dX8_isRowThere_2 : decode cX8_isRowThere 2 = .ok (.invokevirtual 357, 3) := by decide +kernel
theorem dX8_isRowThere_5 : decode cX8_isRowThere 5 = .ok (.ifCond .eq 48, 3) := by decide +kernel
theorem dX8_isRowThere_8 : decode cX8_isRowThere 8 = .ok (.iload_n 2, 1) := by decide +kernel
theorem dX8_isRowThere_9 : decode cX8_isRowThere 9 = .ok (.i2l, 1) := by decide +kernel
theorem dX8_isRowThere_10 : decode cX8_isRowThere 10 = .ok (.lconst 1, 1) := by decide +kernel
theorem dX8_isRowThere_11 : decode cX8_isRowThere 11 = .ok (.aload_n 0, 1) := by decide +kernel
theorem dX8_isRowThere_12 : decode cX8_isRowThere 12 = .ok (.getfield 21, 3) := by decide +kernel
theorem dX8_isRowThere_15 : decode cX8_isRowThere 15 = .ok (.bipush 12, 2) := by decide +kernel
theorem dX8_isRowThere_17 : decode cX8_isRowThere 17 = .ok (.aload_n 0, 1) := by decide +kernel
theorem dX8_isRowThere_18 : decode cX8_isRowThere 18 = .ok (.getfield 345, 3) := by decide +kernel
theorem dX8_isRowThere_21 : decode cX8_isRowThere 21 = .ok (.imul, 1) := by decide +kernel
theorem dX8_isRowThere_22 : decode cX8_isRowThere 22 = .ok (.aload_n 0, 1) := by decide +kernel
theorem dX8_isRowThere_23 : decode cX8_isRowThere 23 = .ok (.iload_n 1, 1) := by decide +kernel
theorem dX8_isRowThere_24 : decode cX8_isRowThere 24 = .ok (.invokevirtual 357, 3) := by decide +kernel
theorem dX8_isRowThere_27 : decode cX8_isRowThere 27 = .ok (.ifCond .eq 7, 3) := by decide +kernel
theorem dX8_isRowThere_30 : decode cX8_isRowThere 30 = .ok (.iload_n 1, 1) := by decide +kernel
theorem dX8_isRowThere_31 : decode cX8_isRowThere 31 = .ok (.goto 4, 3) := by decide +kernel
theorem dX8_isRowThere_34 : decode cX8_isRowThere 34 = .ok (.iconst 0, 1) := by decide +kernel
theorem dX8_isRowThere_35 : decode cX8_isRowThere 35 = .ok (.iadd, 1) := by decide +kernel
theorem dX8_isRowThere_36 : decode cX8_isRowThere 36 = .ok (.iaload, 1) := by decide +kernel
theorem dX8_isRowThere_37 : decode cX8_isRowThere 37 = .ok (.invokestatic 166, 3) := by decide +kernel
theorem dX8_isRowThere_40 : decode cX8_isRowThere 40 = .ok (.iconst 1, 1) := by decide +kernel
theorem dX8_isRowThere_41 : decode cX8_isRowThere 41 = .ok (.isub, 1) := by decide +kernel
theorem dX8_isRowThere_42 : decode cX8_isRowThere 42 = .ok (.i2l, 1) := by decide +kernel
theorem dX8_isRowThere_43 : decode cX8_isRowThere 43 = .ok (.invokestatic 154, 3) := by decide +kernel
theorem dX8_isRowThere_46 : decode cX8_isRowThere 46 = .ok (.ifCond .eq 7, 3) := by decide +kernel
theorem dX8_isRowThere_49 : decode cX8_isRowThere 49 = .ok (.iconst 1, 1) := by decide +kernel
theorem dX8_isRowThere_50 : decode cX8_isRowThere 50 = .ok (.goto 4, 3) := by decide +kernel
theorem dX8_isRowThere_53 : decode cX8_isRowThere 53 = .ok (.iconst 0, 1) := by decide +kernel
theorem dX8_isRowThere_54 : decode cX8_isRowThere 54 = .ok (.ireturn, 1) := by decide +kernel
abbrev JX8_isRowThere_35 (D : DE) (f : Nat) (Q : Int32 → HI → HL → Prop) (F : Frm) (h : HI) (g : HL) (s0 : Int64) (s1 : Int64) (s3 : Int32) (s4 : Int32) : Prop := vp_in (s3 + s4) 24 ∧ Si D f mX8_demands [.int (h 118 (ix (s3 + s4)))] F h g (fun y4 h2 g3 => Si D f mX8_within [.long s0, .long s1, .long ((y4 - 1).toInt64)] F h2 g3 (fun y7 h5 g6 => ((y7 = 0 → Q 0 h5 g6) ∧ (¬ y7 = 0 → Q 1 h5 g6))))
theorem bX8_isRowThere_35 {D : DE} {f : Nat} {Q : Int32 → HI → HL → Prop} {F : Frm} {h : HI} {g : HL} (hF : k_Fix F) (s0 : Int64) (s1 : Int64) (s3 : Int32) (s4 : Int32) (H : JX8_isRowThere_35 D f Q F h g s0 s1 s3 s4) : V D mX8_isRowThere (f + 1) (qi F Q) 35 [] [.int s4, .int s3, .ref (ad D 118), .long s1, .long s0] (F, h, g) := by
  refine V_iadd dX8_isRowThere_35 ?_
  obtain ⟨i1, H⟩ := H
  refine H_iald (fs_118 hF) i1 dX8_isRowThere_36 ?_
  refine H_calli (av := [.int (h 118 (ix (s3 + s4)))]) (rest := [.long s1, .long s0]) H mqX8_demands q88 (by decide) (Nat.le_of_ble_eq_true rfl) (k_resS (av := [.int (h 118 (ix (s3 + s4)))]) (rest := [.long s1, .long s0]) (M1 := mX8_demands) rfl q1876 q1877 q88 mqX8_demands (fun _ _ h => mW_named h) mhX8_demands mnX8_demands dX8_isRowThere_37) (fun y4 h2 g3 H => ?_)
  refine V_iconst (v := 1) dX8_isRowThere_40 (by decide) ?_
  refine V_isub dX8_isRowThere_41 ?_
  refine V_i2l dX8_isRowThere_42 ?_
  refine H_calli (av := [.long s0, .long s1, .long ((y4 - 1).toInt64)]) (rest := []) H mqX8_within q88 (by decide) (Nat.le_of_ble_eq_true rfl) (k_resS (av := [.long s0, .long s1, .long ((y4 - 1).toInt64)]) (rest := []) (M1 := mX8_within) rfl q1721 q1722 q88 mqX8_within (fun _ _ h => mW_named h) mhX8_within mnX8_within dX8_isRowThere_43) (fun y7 h5 g6 H => ?_)
  refine V_if_eq (tgt := 53) dX8_isRowThere_46 (by decide) (fun c8 => ?_) (fun c8 => ?_)
  · have H := H.1 c8
    refine V_iconst (v := 0) dX8_isRowThere_53 (by decide) ?_
    exact H_zret rfl isB0 dX8_isRowThere_54 H
  · have H := H.2 c8
    refine V_iconst (v := 1) dX8_isRowThere_49 (by decide) ?_
    refine V_goto (tgt := 54) dX8_isRowThere_50 (by decide) ?_
    exact H_zret rfl isB1 dX8_isRowThere_54 H
abbrev JX8_isRowThere_0 (D : DE) (f : Nat) (Q : Int32 → HI → HL → Prop) (F : Frm) (h : HI) (g : HL) (x1 : Int32) (x2 : Int32) : Prop := Si D f mX8_isFn [.ref (ad D 115), .int x1] F h g (fun y3 h1 g2 => ((y3 = 0 → Q 0 h1 g2) ∧ (¬ y3 = 0 → Si D f mX8_isFn [.ref (ad D 115), .int x1] F h1 g2 (fun y7 h5 g6 => ((y7 = 0 → JX8_isRowThere_35 D f Q F h5 g6 x2.toInt64 1 (12 * (h1 115 47)) 0) ∧ (¬ y7 = 0 → JX8_isRowThere_35 D f Q F h5 g6 x2.toInt64 1 (12 * (h1 115 47)) x1))))))
theorem bX8_isRowThere_0 {D : DE} {f : Nat} {Q : Int32 → HI → HL → Prop} {F : Frm} {h : HI} {g : HL} (hF : k_Fix F) (x1 : Int32) (x2 : Int32) (H : JX8_isRowThere_0 D f Q F h g x1 x2) : V D mX8_isRowThere (f + 1) (qi F Q) 0 [(0, .ref (ad D 115)), (1, .int x1), (2, .int x2)] [] (F, h, g) := by
  refine V_aload_n dX8_isRowThere_0 rfl 0 rfl ?_
  refine V_iload_n dX8_isRowThere_1 rfl 1 rfl ?_
  refine H_calli (av := [.ref (ad D 115), .int x1]) (rest := []) H mqX8_isFn q88 (by decide) (Nat.le_of_ble_eq_true rfl) (k_resV (ci := 7) (av := [.int x1]) (rest := []) (fs_115 hF) (by decide) rfl rfl q1872 q1874 qs57 q1875 mhX8_isFn mnX8_isFn dX8_isRowThere_2) (fun y3 h1 g2 H => ?_)
  refine V_if_eq (tgt := 53) dX8_isRowThere_5 (by decide) (fun c4 => ?_) (fun c4 => ?_)
  · have H := H.1 c4
    refine V_iconst (v := 0) dX8_isRowThere_53 (by decide) ?_
    exact H_zret rfl isB0 dX8_isRowThere_54 H
  · have H := H.2 c4
    refine V_iload_n dX8_isRowThere_8 rfl 2 rfl ?_
    refine V_i2l dX8_isRowThere_9 ?_
    refine V_lconst (v := 1) dX8_isRowThere_10 (by decide) ?_
    refine V_aload_n dX8_isRowThere_11 rfl 0 rfl ?_
    refine H_getr ck7 12 (by decide) (fs_115 hF) (by decide) rfl (fr_115_12 hF) q1470 dX8_isRowThere_12 ?_
    refine V_bipush (v := 12) dX8_isRowThere_15 (by decide) ?_
    refine V_aload_n dX8_isRowThere_17 rfl 0 rfl ?_
    refine H_geti ck7 47 (by decide) (fs_115 hF) (by decide) rfl q1505 dX8_isRowThere_18 ?_
    refine V_imul dX8_isRowThere_21 ?_
    refine V_aload_n dX8_isRowThere_22 rfl 0 rfl ?_
    refine V_iload_n dX8_isRowThere_23 rfl 1 rfl ?_
    refine H_calli (av := [.ref (ad D 115), .int x1]) (rest := [.int (12 * (h1 115 47)), .ref (ad D 118), .long 1, .long x2.toInt64]) H mqX8_isFn q88 (by decide) (Nat.le_of_ble_eq_true rfl) (k_resV (ci := 7) (av := [.int x1]) (rest := [.int (12 * (h1 115 47)), .ref (ad D 118), .long 1, .long x2.toInt64]) (fs_115 hF) (by decide) rfl rfl q1872 q1874 qs57 q1875 mhX8_isFn mnX8_isFn dX8_isRowThere_24) (fun y7 h5 g6 H => ?_)
    refine V_if_eq (tgt := 34) dX8_isRowThere_27 (by decide) (fun c8 => ?_) (fun c8 => ?_)
    · have H := H.1 c8
      refine V_iconst (v := 0) dX8_isRowThere_34 (by decide) ?_
      refine V.sub [] rfl ?_
      exact bX8_isRowThere_35 hF x2.toInt64 1 (12 * (h1 115 47)) 0 H
    · have H := H.2 c8
      refine V_iload_n dX8_isRowThere_30 rfl 1 rfl ?_
      refine V_goto (tgt := 35) dX8_isRowThere_31 (by decide) ?_
      refine V.sub [] rfl ?_
      exact bX8_isRowThere_35 hF x2.toInt64 1 (12 * (h1 115 47)) x1 H
theorem wX8_isRowThere {D : DE} {f : Nat} {Q : Int32 → HI → HL → Prop} {F : Frm} {h : HI} {g : HL} (hF : k_Fix F) (x1 : Int32) (x2 : Int32) (H : JX8_isRowThere_0 D f Q F h g x1 x2) : Si D (f + 1) mX8_isRowThere [.ref (ad D 115), .int x1, .int x2] F h g Q := Cl.ofV (by decide) (Nat.le_of_ble_eq_true rfl) rfl (bX8_isRowThere_0 hF x1 x2 H)
theorem dX8_has_0 : decode cX8_has 0 = .ok (.aload_n 0, 1) := by decide +kernel
theorem dX8_has_1 : decode cX8_has 1 = .ok (.getfield 100, 3) := by decide +kernel
theorem dX8_has_4 : decode cX8_has 4 = .ok (.bipush 26, 2) := by decide +kernel
theorem dX8_has_6 : decode cX8_has 6 = .ok (.iload_n 1, 1) := by decide +kernel
theorem dX8_has_7 : decode cX8_has 7 = .ok (.imul, 1) := by decide +kernel
theorem dX8_has_8 : decode cX8_has 8 = .ok (.iload_n 2, 1) := by decide +kernel
theorem dX8_has_9 : decode cX8_has 9 = .ok (.iadd, 1) := by decide +kernel
theorem dX8_has_10 : decode cX8_has 10 = .ok (.baload, 1) := by decide +kernel
theorem dX8_has_11 : decode cX8_has 11 = .ok (.ifCond .eq 12, 3) := by decide +kernel
theorem dX8_has_14 : decode cX8_has 14 = .ok (.aload_n 0, 1) := by decide +kernel
theorem dX8_has_15 : decode cX8_has 15 = .ok (.iload_n 1, 1) := by decide +kernel
theorem dX8_has_16 : decode cX8_has 16 = .ok (.iload_n 3, 1) := by decide +kernel
theorem dX8_has_17 : decode cX8_has 17 = .ok (.invokevirtual 384, 3) := by decide +kernel
theorem dX8_has_20 : decode cX8_has 20 = .ok (.goto 18, 3) := by decide +kernel
theorem dX8_has_23 : decode cX8_has 23 = .ok (.aload_n 0, 1) := by decide +kernel
theorem dX8_has_24 : decode cX8_has 24 = .ok (.getfield 97, 3) := by decide +kernel
theorem dX8_has_27 : decode cX8_has 27 = .ok (.iconst 4, 1) := by decide +kernel
theorem dX8_has_28 : decode cX8_has 28 = .ok (.bipush 26, 2) := by decide +kernel
theorem dX8_has_30 : decode cX8_has 30 = .ok (.iload_n 1, 1) := by decide +kernel
theorem dX8_has_31 : decode cX8_has 31 = .ok (.imul, 1) := by decide +kernel
theorem dX8_has_32 : decode cX8_has 32 = .ok (.iload_n 2, 1) := by decide +kernel
theorem dX8_has_33 : decode cX8_has 33 = .ok (.iadd, 1) := by decide +kernel
theorem dX8_has_34 : decode cX8_has 34 = .ok (.imul, 1) := by decide +kernel
theorem dX8_has_35 : decode cX8_has 35 = .ok (.iload_n 3, 1) := by decide +kernel
theorem dX8_has_36 : decode cX8_has 36 = .ok (.iadd, 1) := by decide +kernel
theorem dX8_has_37 : decode cX8_has 37 = .ok (.iaload, 1) := by decide +kernel
theorem dX8_has_38 : decode cX8_has 38 = .ok (.ireturn, 1) := by decide +kernel
abbrev JX8_has_0 (D : DE) (f : Nat) (Q : Int32 → HI → HL → Prop) (F : Frm) (h : HI) (g : HL) (x1 : Int32) (x2 : Int32) (x3 : Int32) : Prop := vp_in ((26 * x1) + x2) 312 ∧ (((h 144 (ix ((26 * x1) + x2))) = 0 → vp_in ((4 * ((26 * x1) + x2)) + x3) 1248 ∧ Q (h 143 (ix ((4 * ((26 * x1) + x2)) + x3))) h g) ∧ (¬ (h 144 (ix ((26 * x1) + x2))) = 0 → Si D f mX8_all [.ref (ad D 115), .int x1, .int x3] F h g (fun y6 h4 g5 => Q y6 h4 g5)))
theorem bX8_has_0 {D : DE} {f : Nat} {Q : Int32 → HI → HL → Prop} {F : Frm} {h : HI} {g : HL} (hF : k_Fix F) (x1 : Int32) (x2 : Int32) (x3 : Int32) (H : JX8_has_0 D f Q F h g x1 x2 x3) : V D mX8_has (f + 1) (qi F Q) 0 [(0, .ref (ad D 115)), (1, .int x1), (2, .int x2), (3, .int x3)] [] (F, h, g) := by
  refine V_aload_n dX8_has_0 rfl 0 rfl ?_
  refine H_getr ck7 52 (by decide) (fs_115 hF) (by decide) rfl (fr_115_52 hF) q1510 dX8_has_1 ?_
  refine V_bipush (v := 26) dX8_has_4 (by decide) ?_
  refine V_iload_n dX8_has_6 rfl 1 rfl ?_
  refine V_imul dX8_has_7 ?_
  refine V_iload_n dX8_has_8 rfl 2 rfl ?_
  refine V_iadd dX8_has_9 ?_
  obtain ⟨i1, H⟩ := H
  refine H_zald (fs_144 hF) i1 dX8_has_10 ?_
  refine V_if_eq (tgt := 23) dX8_has_11 (by decide) (fun c2 => ?_) (fun c2 => ?_)
  · have H := H.1 c2
    refine V_aload_n dX8_has_23 rfl 0 rfl ?_
    refine H_getr ck7 51 (by decide) (fs_115 hF) (by decide) rfl (fr_115_51 hF) q1509 dX8_has_24 ?_
    refine V_iconst (v := 4) dX8_has_27 (by decide) ?_
    refine V_bipush (v := 26) dX8_has_28 (by decide) ?_
    refine V_iload_n dX8_has_30 rfl 1 rfl ?_
    refine V_imul dX8_has_31 ?_
    refine V_iload_n dX8_has_32 rfl 2 rfl ?_
    refine V_iadd dX8_has_33 ?_
    refine V_imul dX8_has_34 ?_
    refine V_iload_n dX8_has_35 rfl 3 rfl ?_
    refine V_iadd dX8_has_36 ?_
    obtain ⟨i3, H⟩ := H
    refine H_iald (fs_143 hF) i3 dX8_has_37 ?_
    exact H_iret rfl dX8_has_38 H
  · have H := H.2 c2
    refine V_aload_n dX8_has_14 rfl 0 rfl ?_
    refine V_iload_n dX8_has_15 rfl 1 rfl ?_
    refine V_iload_n dX8_has_16 rfl 3 rfl ?_
    refine H_calli (av := [.ref (ad D 115), .int x1, .int x3]) (rest := []) H mqX8_all q88 (by decide) (Nat.le_of_ble_eq_true rfl) (k_resV (ci := 7) (av := [.int x1, .int x3]) (rest := []) (fs_115 hF) (by decide) rfl rfl q1936 q1938 qs67 q1939 mhX8_all mnX8_all dX8_has_17) (fun y6 h4 g5 H => ?_)
    refine V_goto (tgt := 38) dX8_has_20 (by decide) ?_
    exact H_iret rfl dX8_has_38 H
theorem wX8_has {D : DE} {f : Nat} {Q : Int32 → HI → HL → Prop} {F : Frm} {h : HI} {g : HL} (hF : k_Fix F) (x1 : Int32) (x2 : Int32) (x3 : Int32) (H : JX8_has_0 D f Q F h g x1 x2 x3) : Si D (f + 1) mX8_has [.ref (ad D 115), .int x1, .int x2, .int x3] F h g Q := Cl.ofV (by decide) (Nat.le_of_ble_eq_true rfl) rfl (bX8_has_0 hF x1 x2 x3 H)
theorem dX8_dead_0 : decode cX8_dead 0 = .ok (.aload_n 0, 1) := by decide +kernel
theorem dX8_dead_1 : decode cX8_dead 1 = .ok (.aload_n 0, 1) := by decide +kernel
theorem dX8_dead_2 : decode cX8_dead 2 = .ok (.getfield 354, 3) := by decide +kernel
theorem dX8_dead_5 : decode cX8_dead 5 = .ok (.ifCond .ne 7, 3) := by decide +kernel
theorem dX8_dead_8 : decode cX8_dead 8 = .ok (.iconst 1, 1) := by decide +kernel
theorem dX8_dead_9 : decode cX8_dead 9 = .ok (.goto 17, 3) := by decide +kernel
theorem dX8_dead_12 : decode cX8_dead 12 = .ok (.aload_n 0, 1) := by decide +kernel
theorem dX8_dead_13 : decode cX8_dead 13 = .ok (.iload_n 1, 1) := by decide +kernel
theorem dX8_dead_14 : decode cX8_dead 14 = .ok (.iload_n 2, 1) := by decide +kernel
theorem dX8_dead_15 : decode cX8_dead 15 = .ok (.invokevirtual 387, 3) := by decide +kernel
theorem dX8_dead_18 : decode cX8_dead 18 = .ok (.ifCond .ne 7, 3) := by decide +kernel
theorem dX8_dead_21 : decode cX8_dead 21 = .ok (.iconst 2, 1) := by decide +kernel
theorem dX8_dead_22 : decode cX8_dead 22 = .ok (.goto 4, 3) := by decide +kernel
theorem dX8_dead_25 : decode cX8_dead 25 = .ok (.iconst 0, 1) := by decide +kernel
theorem dX8_dead_26 : decode cX8_dead 26 = .ok (.putfield 148, 3) := by decide +kernel
theorem dX8_dead_29 : decode cX8_dead 29 = .ok (.aload_n 0, 1) := by decide +kernel
theorem dX8_dead_30 : decode cX8_dead 30 = .ok (.getfield 148, 3) := by decide +kernel
theorem dX8_dead_33 : decode cX8_dead 33 = .ok (.ifCond .ne 21, 3) := by decide +kernel
theorem dX8_dead_36 : decode cX8_dead 36 = .ok (.aload_n 0, 1) := by decide +kernel
theorem dX8_dead_37 : decode cX8_dead 37 = .ok (.getfield 100, 3) := by decide +kernel
theorem dX8_dead_40 : decode cX8_dead 40 = .ok (.bipush 26, 2) := by decide +kernel
theorem dX8_dead_42 : decode cX8_dead 42 = .ok (.iload_n 1, 1) := by decide +kernel
theorem dX8_dead_43 : decode cX8_dead 43 = .ok (.imul, 1) := by decide +kernel
theorem dX8_dead_44 : decode cX8_dead 44 = .ok (.iload_n 2, 1) := by decide +kernel
theorem dX8_dead_45 : decode cX8_dead 45 = .ok (.iadd, 1) := by decide +kernel
theorem dX8_dead_46 : decode cX8_dead 46 = .ok (.baload, 1) := by decide +kernel
theorem dX8_dead_47 : decode cX8_dead 47 = .ok (.ifCond .eq 7, 3) := by decide +kernel
theorem dX8_dead_50 : decode cX8_dead 50 = .ok (.iconst 1, 1) := by decide +kernel
theorem dX8_dead_51 : decode cX8_dead 51 = .ok (.goto 4, 3) := by decide +kernel
theorem dX8_dead_54 : decode cX8_dead 54 = .ok (.iconst 0, 1) := by decide +kernel
theorem dX8_dead_55 : decode cX8_dead 55 = .ok (.ireturn, 1) := by decide +kernel
abbrev JX8_dead_26 (D : DE) (f : Nat) (Q : Int32 → HI → HL → Prop) (F : Frm) (h : HI) (g : HL) (x1 : Int32) (x2 : Int32) (s1 : Int32) : Prop := ∀ h1, h1 = up2 h 115 0 s1 → ((¬ (h1 115 0) = 0 → Q 0 h1 g) ∧ ((h1 115 0) = 0 → vp_in ((26 * x1) + x2) 312 ∧ (((h1 144 (ix ((26 * x1) + x2))) = 0 → Q 0 h1 g) ∧ (¬ (h1 144 (ix ((26 * x1) + x2))) = 0 → Q 1 h1 g))))
theorem bX8_dead_26 {D : DE} {f : Nat} {Q : Int32 → HI → HL → Prop} {F : Frm} {h : HI} {g : HL} (hF : k_Fix F) (x1 : Int32) (x2 : Int32) (s1 : Int32) (H : JX8_dead_26 D f Q F h g x1 x2 s1) : V D mX8_dead (f + 1) (qi F Q) 26 [(0, .ref (ad D 115)), (1, .int x1), (2, .int x2)] [.int s1, .ref (ad D 115)] (F, h, g) := by
  refine H_puti ck7 0 (by decide) (fs_115 hF) (by decide) rfl rfl q1458 dX8_dead_26 (fun h1 e2 => ?_)
  have H := H h1 e2
  refine V_aload_n dX8_dead_29 rfl 0 rfl ?_
  refine H_geti ck7 0 (by decide) (fs_115 hF) (by decide) rfl q1458 dX8_dead_30 ?_
  refine V_if_ne (tgt := 54) dX8_dead_33 (by decide) (fun c3 => ?_) (fun c3 => ?_)
  · have H := H.1 c3
    refine V_iconst (v := 0) dX8_dead_54 (by decide) ?_
    exact H_zret rfl isB0 dX8_dead_55 H
  · have H := H.2 c3
    refine V_aload_n dX8_dead_36 rfl 0 rfl ?_
    refine H_getr ck7 52 (by decide) (fs_115 hF) (by decide) rfl (fr_115_52 hF) q1510 dX8_dead_37 ?_
    refine V_bipush (v := 26) dX8_dead_40 (by decide) ?_
    refine V_iload_n dX8_dead_42 rfl 1 rfl ?_
    refine V_imul dX8_dead_43 ?_
    refine V_iload_n dX8_dead_44 rfl 2 rfl ?_
    refine V_iadd dX8_dead_45 ?_
    obtain ⟨i4, H⟩ := H
    refine H_zald (fs_144 hF) i4 dX8_dead_46 ?_
    refine V_if_eq (tgt := 54) dX8_dead_47 (by decide) (fun c5 => ?_) (fun c5 => ?_)
    · have H := H.1 c5
      refine V_iconst (v := 0) dX8_dead_54 (by decide) ?_
      exact H_zret rfl isB0 dX8_dead_55 H
    · have H := H.2 c5
      refine V_iconst (v := 1) dX8_dead_50 (by decide) ?_
      refine V_goto (tgt := 55) dX8_dead_51 (by decide) ?_
      exact H_zret rfl isB1 dX8_dead_55 H
abbrev JX8_dead_0 (D : DE) (f : Nat) (Q : Int32 → HI → HL → Prop) (F : Frm) (h : HI) (g : HL) (x1 : Int32) (x2 : Int32) : Prop := ((¬ (h 115 46) = 0 → Si D f mX8_isRowThere [.ref (ad D 115), .int x1, .int x2] F h g (fun y4 h2 g3 => ((¬ y4 = 0 → JX8_dead_26 D f Q F h2 g3 x1 x2 0) ∧ (y4 = 0 → JX8_dead_26 D f Q F h2 g3 x1 x2 2)))) ∧ ((h 115 46) = 0 → JX8_dead_26 D f Q F h g x1 x2 1))
theorem bX8_dead_0 {D : DE} {f : Nat} {Q : Int32 → HI → HL → Prop} {F : Frm} {h : HI} {g : HL} (hF : k_Fix F) (x1 : Int32) (x2 : Int32) (H : JX8_dead_0 D f Q F h g x1 x2) : V D mX8_dead (f + 1) (qi F Q) 0 [(0, .ref (ad D 115)), (1, .int x1), (2, .int x2)] [] (F, h, g) := by
  refine V_aload_n dX8_dead_0 rfl 0 rfl ?_
  refine V_aload_n dX8_dead_1 rfl 0 rfl ?_
  refine H_geti ck7 46 (by decide) (fs_115 hF) (by decide) rfl q1504 dX8_dead_2 ?_
  refine V_if_ne (tgt := 12) dX8_dead_5 (by decide) (fun c1 => ?_) (fun c1 => ?_)
  · have H := H.1 c1
    refine V_aload_n dX8_dead_12 rfl 0 rfl ?_
    refine V_iload_n dX8_dead_13 rfl 1 rfl ?_
    refine V_iload_n dX8_dead_14 rfl 2 rfl ?_
    refine H_calli (av := [.ref (ad D 115), .int x1, .int x2]) (rest := [.ref (ad D 115)]) H mqX8_isRowThere q88 (by decide) (Nat.le_of_ble_eq_true rfl) (k_resV (ci := 7) (av := [.int x1, .int x2]) (rest := [.ref (ad D 115)]) (fs_115 hF) (by decide) rfl rfl q1920 q1922 qs64 q1923 mhX8_isRowThere mnX8_isRowThere dX8_dead_15) (fun y4 h2 g3 H => ?_)
    refine V_if_ne (tgt := 25) dX8_dead_18 (by decide) (fun c5 => ?_) (fun c5 => ?_)
    · have H := H.1 c5
      refine V_iconst (v := 0) dX8_dead_25 (by decide) ?_
      exact bX8_dead_26 hF x1 x2 0 H
    · have H := H.2 c5
      refine V_iconst (v := 2) dX8_dead_21 (by decide) ?_
      refine V_goto (tgt := 26) dX8_dead_22 (by decide) ?_
      exact bX8_dead_26 hF x1 x2 2 H
  · have H := H.2 c1
    refine V_iconst (v := 1) dX8_dead_8 (by decide) ?_
    refine V_goto (tgt := 26) dX8_dead_9 (by decide) ?_
    exact bX8_dead_26 hF x1 x2 1 H
theorem wX8_dead {D : DE} {f : Nat} {Q : Int32 → HI → HL → Prop} {F : Frm} {h : HI} {g : HL} (hF : k_Fix F) (x1 : Int32) (x2 : Int32) (H : JX8_dead_0 D f Q F h g x1 x2) : Si D (f + 1) mX8_dead [.ref (ad D 115), .int x1, .int x2] F h g Q := Cl.ofV (by decide) (Nat.le_of_ble_eq_true rfl) rfl (bX8_dead_0 hF x1 x2 H)
theorem dX8_isParamOf_0 : decode cX8_isParamOf 0 = .ok (.aload_n 0, 1) := by decide +kernel
theorem dX8_isParamOf_1 : decode cX8_isParamOf 1 = .ok (.iload_n 1, 1) := by decide +kernel
theorem dX8_isParamOf_2 : decode cX8_isParamOf 2 = .ok (.invokevirtual 357, 3) := by decide +kernel
theorem dX8_isParamOf_5 : decode cX8_isParamOf 5 = .ok (.ifCond .eq 33, 3) := by decide +kernel
theorem dX8_isParamOf_8 : decode cX8_isParamOf 8 = .ok (.iload_n 2, 1) := by decide +kernel
theorem dX8_isParamOf_9 : decode cX8_isParamOf 9 = .ok (.i2l, 1) := by decide +kernel
theorem dX8_isParamOf_10 : decode cX8_isParamOf 10 = .ok (.lconst 0, 1) := by decide +kernel
theorem dX8_isParamOf_11 : decode cX8_isParamOf 11 = .ok (.aload_n 0, 1) := by decide +kernel
theorem dX8_isParamOf_12 : decode cX8_isParamOf 12 = .ok (.getfield 24, 3) := by decide +kernel
theorem dX8_isParamOf_15 : decode cX8_isParamOf 15 = .ok (.bipush 12, 2) := by decide +kernel
theorem dX8_isParamOf_17 : decode cX8_isParamOf 17 = .ok (.aload_n 0, 1) := by decide +kernel
theorem dX8_isParamOf_18 : decode cX8_isParamOf 18 = .ok (.getfield 345, 3) := by decide +kernel
theorem dX8_isParamOf_21 : decode cX8_isParamOf 21 = .ok (.imul, 1) := by decide +kernel
theorem dX8_isParamOf_22 : decode cX8_isParamOf 22 = .ok (.iload_n 1, 1) := by decide +kernel
theorem dX8_isParamOf_23 : decode cX8_isParamOf 23 = .ok (.iadd, 1) := by decide +kernel
theorem dX8_isParamOf_24 : decode cX8_isParamOf 24 = .ok (.iaload, 1) := by decide +kernel
theorem dX8_isParamOf_25 : decode cX8_isParamOf 25 = .ok (.iconst 1, 1) := by decide +kernel
theorem dX8_isParamOf_26 : decode cX8_isParamOf 26 = .ok (.isub, 1) := by decide +kernel
theorem dX8_isParamOf_27 : decode cX8_isParamOf 27 = .ok (.i2l, 1) := by decide +kernel
theorem dX8_isParamOf_28 : decode cX8_isParamOf 28 = .ok (.invokestatic 154, 3) := by decide +kernel
theorem dX8_isParamOf_31 : decode cX8_isParamOf 31 = .ok (.ifCond .eq 7, 3) := by decide +kernel
theorem dX8_isParamOf_34 : decode cX8_isParamOf 34 = .ok (.iconst 1, 1) := by decide +kernel
theorem dX8_isParamOf_35 : decode cX8_isParamOf 35 = .ok (.goto 4, 3) := by decide +kernel
theorem dX8_isParamOf_38 : decode cX8_isParamOf 38 = .ok (.iconst 0, 1) := by decide +kernel
theorem dX8_isParamOf_39 : decode cX8_isParamOf 39 = .ok (.ireturn, 1) := by decide +kernel
abbrev JX8_isParamOf_0 (D : DE) (f : Nat) (Q : Int32 → HI → HL → Prop) (F : Frm) (h : HI) (g : HL) (x1 : Int32) (x2 : Int32) : Prop := Si D f mX8_isFn [.ref (ad D 115), .int x1] F h g (fun y3 h1 g2 => ((y3 = 0 → Q 0 h1 g2) ∧ (¬ y3 = 0 → vp_in ((12 * (h1 115 47)) + x1) 24 ∧ ∀ y6 : Int64, y6 = ((h1 119 (ix ((12 * (h1 115 47)) + x1))) - 1).toInt64 → Si D f mX8_within [.long x2.toInt64, .long 0, .long y6] F h1 g2 (fun y10 h8 g9 => ((y10 = 0 → Q 0 h8 g9) ∧ (¬ y10 = 0 → Q 1 h8 g9))))))
theorem bX8_isParamOf_0 {D : DE} {f : Nat} {Q : Int32 → HI → HL → Prop} {F : Frm} {h : HI} {g : HL} (hF : k_Fix F) (x1 : Int32) (x2 : Int32) (H : JX8_isParamOf_0 D f Q F h g x1 x2) : V D mX8_isParamOf (f + 1) (qi F Q) 0 [(0, .ref (ad D 115)), (1, .int x1), (2, .int x2)] [] (F, h, g) := by
  refine V_aload_n dX8_isParamOf_0 rfl 0 rfl ?_
  refine V_iload_n dX8_isParamOf_1 rfl 1 rfl ?_
  refine H_calli (av := [.ref (ad D 115), .int x1]) (rest := []) H mqX8_isFn q88 (by decide) (Nat.le_of_ble_eq_true rfl) (k_resV (ci := 7) (av := [.int x1]) (rest := []) (fs_115 hF) (by decide) rfl rfl q1872 q1874 qs57 q1875 mhX8_isFn mnX8_isFn dX8_isParamOf_2) (fun y3 h1 g2 H => ?_)
  refine V_if_eq (tgt := 38) dX8_isParamOf_5 (by decide) (fun c4 => ?_) (fun c4 => ?_)
  · have H := H.1 c4
    refine V_iconst (v := 0) dX8_isParamOf_38 (by decide) ?_
    exact H_zret rfl isB0 dX8_isParamOf_39 H
  · have H := H.2 c4
    refine V_iload_n dX8_isParamOf_8 rfl 2 rfl ?_
    refine V_i2l dX8_isParamOf_9 ?_
    refine V_lconst (v := 0) dX8_isParamOf_10 (by decide) ?_
    refine V_aload_n dX8_isParamOf_11 rfl 0 rfl ?_
    refine H_getr ck7 13 (by decide) (fs_115 hF) (by decide) rfl (fr_115_13 hF) q1471 dX8_isParamOf_12 ?_
    refine V_bipush (v := 12) dX8_isParamOf_15 (by decide) ?_
    refine V_aload_n dX8_isParamOf_17 rfl 0 rfl ?_
    refine H_geti ck7 47 (by decide) (fs_115 hF) (by decide) rfl q1505 dX8_isParamOf_18 ?_
    refine V_imul dX8_isParamOf_21 ?_
    refine V_iload_n dX8_isParamOf_22 rfl 1 rfl ?_
    refine V_iadd dX8_isParamOf_23 ?_
    obtain ⟨i5, H⟩ := H
    refine H_iald (fs_119 hF) i5 dX8_isParamOf_24 ?_
    refine V_iconst (v := 1) dX8_isParamOf_25 (by decide) ?_
    refine V_isub dX8_isParamOf_26 ?_
    refine V_i2l dX8_isParamOf_27 ?_
    refine V_topl (fun y6 e7 => ?_)
    have H := H y6 e7
    refine H_calli (av := [.long x2.toInt64, .long 0, .long y6]) (rest := []) H mqX8_within q88 (by decide) (Nat.le_of_ble_eq_true rfl) (k_resS (av := [.long x2.toInt64, .long 0, .long y6]) (rest := []) (M1 := mX8_within) rfl q1721 q1722 q88 mqX8_within (fun _ _ h => mW_named h) mhX8_within mnX8_within dX8_isParamOf_28) (fun y10 h8 g9 H => ?_)
    refine V_if_eq (tgt := 38) dX8_isParamOf_31 (by decide) (fun c11 => ?_) (fun c11 => ?_)
    · have H := H.1 c11
      refine V_iconst (v := 0) dX8_isParamOf_38 (by decide) ?_
      exact H_zret rfl isB0 dX8_isParamOf_39 H
    · have H := H.2 c11
      refine V_iconst (v := 1) dX8_isParamOf_34 (by decide) ?_
      refine V_goto (tgt := 39) dX8_isParamOf_35 (by decide) ?_
      exact H_zret rfl isB1 dX8_isParamOf_39 H
theorem wX8_isParamOf {D : DE} {f : Nat} {Q : Int32 → HI → HL → Prop} {F : Frm} {h : HI} {g : HL} (hF : k_Fix F) (x1 : Int32) (x2 : Int32) (H : JX8_isParamOf_0 D f Q F h g x1 x2) : Si D (f + 1) mX8_isParamOf [.ref (ad D 115), .int x1, .int x2] F h g Q := Cl.ofV (by decide) (Nat.le_of_ble_eq_true rfl) rfl (bX8_isParamOf_0 hF x1 x2 H)
theorem dX8_asks_2_0 : decode cX8_asks_2 0 = .ok (.aload_n 0, 1) := by decide +kernel
theorem dX8_asks_2_1 : decode cX8_asks_2 1 = .ok (.aload_n 0, 1) := by decide +kernel
theorem dX8_asks_2_2 : decode cX8_asks_2 2 = .ok (.getfield 354, 3) := by decide +kernel
theorem dX8_asks_2_5 : decode cX8_asks_2 5 = .ok (.ifCond .ne 7, 3) := by decide +kernel
theorem dX8_asks_2_8 : decode cX8_asks_2 8 = .ok (.iconst 1, 1) := by decide +kernel
theorem dX8_asks_2_9 : decode cX8_asks_2 9 = .ok (.goto 26, 3) := by decide +kernel
theorem dX8_asks_2_12 : decode cX8_asks_2 12 = .ok (.aload_n 0, 1) := by decide +kernel
theorem dX8_asks_2_13 : decode cX8_asks_2 13 = .ok (.iload_n 1, 1) := by decide +kernel
theorem dX8_asks_2_14 : decode cX8_asks_2 14 = .ok (.iload_n 2, 1) := by decide +kernel
theorem dX8_asks_2_15 : decode cX8_asks_2 15 = .ok (.invokevirtual 387, 3) := by decide +kernel
theorem dX8_asks_2_18 : decode cX8_asks_2 18 = .ok (.ifCond .eq 12, 3) := by decide +kernel
theorem dX8_asks_2_21 : decode cX8_asks_2 21 = .ok (.aload_n 0, 1) := by decide +kernel
theorem dX8_asks_2_22 : decode cX8_asks_2 22 = .ok (.iload_n 1, 1) := by decide +kernel
theorem dX8_asks_2_23 : decode cX8_asks_2 23 = .ok (.iload_n 3, 1) := by decide +kernel
theorem dX8_asks_2_24 : decode cX8_asks_2 24 = .ok (.invokevirtual 390, 3) := by decide +kernel
theorem dX8_asks_2_27 : decode cX8_asks_2 27 = .ok (.ifCond .ne 7, 3) := by decide +kernel
theorem dX8_asks_2_30 : decode cX8_asks_2 30 = .ok (.iconst 2, 1) := by decide +kernel
theorem dX8_asks_2_31 : decode cX8_asks_2 31 = .ok (.goto 4, 3) := by decide +kernel
theorem dX8_asks_2_34 : decode cX8_asks_2 34 = .ok (.iconst 0, 1) := by decide +kernel
theorem dX8_asks_2_35 : decode cX8_asks_2 35 = .ok (.putfield 148, 3) := by decide +kernel
theorem dX8_asks_2_38 : decode cX8_asks_2 38 = .ok (.aload_n 0, 1) := by decide +kernel
theorem dX8_asks_2_39 : decode cX8_asks_2 39 = .ok (.getfield 148, 3) := by decide +kernel
theorem dX8_asks_2_42 : decode cX8_asks_2 42 = .ok (.ifCond .le 7, 3) := by decide +kernel
theorem dX8_asks_2_45 : decode cX8_asks_2 45 = .ok (.iconst 0, 1) := by decide +kernel
theorem dX8_asks_2_46 : decode cX8_asks_2 46 = .ok (.goto 10, 3) := by decide +kernel
theorem dX8_asks_2_49 : decode cX8_asks_2 49 = .ok (.aload_n 0, 1) := by decide +kernel
theorem dX8_asks_2_50 : decode cX8_asks_2 50 = .ok (.iload_n 1, 1) := by decide +kernel
theorem dX8_asks_2_51 : decode cX8_asks_2 51 = .ok (.iload_n 2, 1) := by decide +kernel
theorem dX8_asks_2_52 : decode cX8_asks_2 52 = .ok (.iload_n 3, 1) := by decide +kernel
theorem dX8_asks_2_53 : decode cX8_asks_2 53 = .ok (.invokevirtual 393, 3) := by decide +kernel
theorem dX8_asks_2_56 : decode cX8_asks_2 56 = .ok (.ireturn, 1) := by decide +kernel
abbrev JX8_asks_2_35 (D : DE) (f : Nat) (Q : Int32 → HI → HL → Prop) (F : Frm) (h : HI) (g : HL) (x1 : Int32) (x2 : Int32) (x3 : Int32) (s1 : Int32) : Prop := ∀ h1, h1 = up2 h 115 0 s1 → (((h1 115 0) ≤ 0 → Si D f mX8_has [.ref (ad D 115), .int x1, .int x2, .int x3] F h1 g (fun y6 h4 g5 => Q y6 h4 g5)) ∧ (¬ (h1 115 0) ≤ 0 → Q 0 h1 g))
theorem bX8_asks_2_35 {D : DE} {f : Nat} {Q : Int32 → HI → HL → Prop} {F : Frm} {h : HI} {g : HL} (hF : k_Fix F) (x1 : Int32) (x2 : Int32) (x3 : Int32) (s1 : Int32) (H : JX8_asks_2_35 D f Q F h g x1 x2 x3 s1) : V D mX8_asks_2 (f + 1) (qi F Q) 35 [(0, .ref (ad D 115)), (1, .int x1), (2, .int x2), (3, .int x3)] [.int s1, .ref (ad D 115)] (F, h, g) := by
  refine H_puti ck7 0 (by decide) (fs_115 hF) (by decide) rfl rfl q1458 dX8_asks_2_35 (fun h1 e2 => ?_)
  have H := H h1 e2
  refine V_aload_n dX8_asks_2_38 rfl 0 rfl ?_
  refine H_geti ck7 0 (by decide) (fs_115 hF) (by decide) rfl q1458 dX8_asks_2_39 ?_
  refine V_if_le (tgt := 49) dX8_asks_2_42 (by decide) (fun c3 => ?_) (fun c3 => ?_)
  · have H := H.1 c3
    refine V_aload_n dX8_asks_2_49 rfl 0 rfl ?_
    refine V_iload_n dX8_asks_2_50 rfl 1 rfl ?_
    refine V_iload_n dX8_asks_2_51 rfl 2 rfl ?_
    refine V_iload_n dX8_asks_2_52 rfl 3 rfl ?_
    refine H_calli (av := [.ref (ad D 115), .int x1, .int x2, .int x3]) (rest := []) H mqX8_has q88 (by decide) (Nat.le_of_ble_eq_true rfl) (k_resV (ci := 7) (av := [.int x1, .int x2, .int x3]) (rest := []) (fs_115 hF) (by decide) rfl rfl q1932 q1934 qs66 q1935 mhX8_has mnX8_has dX8_asks_2_53) (fun y6 h4 g5 H => ?_)
    exact H_iret rfl dX8_asks_2_56 H
  · have H := H.2 c3
    refine V_iconst (v := 0) dX8_asks_2_45 (by decide) ?_
    refine V_goto (tgt := 56) dX8_asks_2_46 (by decide) ?_
    exact H_iret rfl dX8_asks_2_56 H
abbrev JX8_asks_2_30 (D : DE) (f : Nat) (Q : Int32 → HI → HL → Prop) (F : Frm) (h : HI) (g : HL) (x1 : Int32) (x2 : Int32) (x3 : Int32) : Prop := JX8_asks_2_35 D f Q F h g x1 x2 x3 2
theorem bX8_asks_2_30 {D : DE} {f : Nat} {Q : Int32 → HI → HL → Prop} {F : Frm} {h : HI} {g : HL} (hF : k_Fix F) (x1 : Int32) (x2 : Int32) (x3 : Int32) (H : JX8_asks_2_30 D f Q F h g x1 x2 x3) : V D mX8_asks_2 (f + 1) (qi F Q) 30 [(0, .ref (ad D 115)), (1, .int x1), (2, .int x2), (3, .int x3)] [.ref (ad D 115)] (F, h, g) := by
  refine V_iconst (v := 2) dX8_asks_2_30 (by decide) ?_
  refine V_goto (tgt := 35) dX8_asks_2_31 (by decide) ?_
  exact bX8_asks_2_35 hF x1 x2 x3 2 H
abbrev JX8_asks_2_0 (D : DE) (f : Nat) (Q : Int32 → HI → HL → Prop) (F : Frm) (h : HI) (g : HL) (x1 : Int32) (x2 : Int32) (x3 : Int32) : Prop := ((¬ (h 115 46) = 0 → Si D f mX8_isRowThere [.ref (ad D 115), .int x1, .int x2] F h g (fun y4 h2 g3 => ((y4 = 0 → JX8_asks_2_30 D f Q F h2 g3 x1 x2 x3) ∧ (¬ y4 = 0 → Si D f mX8_isParamOf [.ref (ad D 115), .int x1, .int x3] F h2 g3 (fun y8 h6 g7 => ((¬ y8 = 0 → JX8_asks_2_35 D f Q F h6 g7 x1 x2 x3 0) ∧ (y8 = 0 → JX8_asks_2_30 D f Q F h6 g7 x1 x2 x3))))))) ∧ ((h 115 46) = 0 → JX8_asks_2_35 D f Q F h g x1 x2 x3 1))
theorem bX8_asks_2_0 {D : DE} {f : Nat} {Q : Int32 → HI → HL → Prop} {F : Frm} {h : HI} {g : HL} (hF : k_Fix F) (x1 : Int32) (x2 : Int32) (x3 : Int32) (H : JX8_asks_2_0 D f Q F h g x1 x2 x3) : V D mX8_asks_2 (f + 1) (qi F Q) 0 [(0, .ref (ad D 115)), (1, .int x1), (2, .int x2), (3, .int x3)] [] (F, h, g) := by
  refine V_aload_n dX8_asks_2_0 rfl 0 rfl ?_
  refine V_aload_n dX8_asks_2_1 rfl 0 rfl ?_
  refine H_geti ck7 46 (by decide) (fs_115 hF) (by decide) rfl q1504 dX8_asks_2_2 ?_
  refine V_if_ne (tgt := 12) dX8_asks_2_5 (by decide) (fun c1 => ?_) (fun c1 => ?_)
  · have H := H.1 c1
    refine V_aload_n dX8_asks_2_12 rfl 0 rfl ?_
    refine V_iload_n dX8_asks_2_13 rfl 1 rfl ?_
    refine V_iload_n dX8_asks_2_14 rfl 2 rfl ?_
    refine H_calli (av := [.ref (ad D 115), .int x1, .int x2]) (rest := [.ref (ad D 115)]) H mqX8_isRowThere q88 (by decide) (Nat.le_of_ble_eq_true rfl) (k_resV (ci := 7) (av := [.int x1, .int x2]) (rest := [.ref (ad D 115)]) (fs_115 hF) (by decide) rfl rfl q1920 q1922 qs64 q1923 mhX8_isRowThere mnX8_isRowThere dX8_asks_2_15) (fun y4 h2 g3 H => ?_)
    refine V_if_eq (tgt := 30) dX8_asks_2_18 (by decide) (fun c5 => ?_) (fun c5 => ?_)
    · have H := H.1 c5
      exact bX8_asks_2_30 hF x1 x2 x3 H
    · have H := H.2 c5
      refine V_aload_n dX8_asks_2_21 rfl 0 rfl ?_
      refine V_iload_n dX8_asks_2_22 rfl 1 rfl ?_
      refine V_iload_n dX8_asks_2_23 rfl 3 rfl ?_
      refine H_calli (av := [.ref (ad D 115), .int x1, .int x3]) (rest := [.ref (ad D 115)]) H mqX8_isParamOf q88 (by decide) (Nat.le_of_ble_eq_true rfl) (k_resV (ci := 7) (av := [.int x1, .int x3]) (rest := [.ref (ad D 115)]) (fs_115 hF) (by decide) rfl rfl q1928 q1930 qs65 q1931 mhX8_isParamOf mnX8_isParamOf dX8_asks_2_24) (fun y8 h6 g7 H => ?_)
      refine V_if_ne (tgt := 34) dX8_asks_2_27 (by decide) (fun c9 => ?_) (fun c9 => ?_)
      · have H := H.1 c9
        refine V_iconst (v := 0) dX8_asks_2_34 (by decide) ?_
        exact bX8_asks_2_35 hF x1 x2 x3 0 H
      · have H := H.2 c9
        exact bX8_asks_2_30 hF x1 x2 x3 H
  · have H := H.2 c1
    refine V_iconst (v := 1) dX8_asks_2_8 (by decide) ?_
    refine V_goto (tgt := 35) dX8_asks_2_9 (by decide) ?_
    exact bX8_asks_2_35 hF x1 x2 x3 1 H
theorem wX8_asks_2 {D : DE} {f : Nat} {Q : Int32 → HI → HL → Prop} {F : Frm} {h : HI} {g : HL} (hF : k_Fix F) (x1 : Int32) (x2 : Int32) (x3 : Int32) (H : JX8_asks_2_0 D f Q F h g x1 x2 x3) : Si D (f + 1) mX8_asks_2 [.ref (ad D 115), .int x1, .int x2, .int x3] F h g Q := Cl.ofV (by decide) (Nat.le_of_ble_eq_true rfl) rfl (bX8_asks_2_0 hF x1 x2 x3 H)
theorem dX8_strict_0 : decode cX8_strict 0 = .ok (.aload_n 0, 1) := by decide +kernel
theorem dX8_strict_1 : decode cX8_strict 1 = .ok (.aload_n 0, 1) := by decide +kernel
theorem dX8_strict_2 : decode cX8_strict 2 = .ok (.getfield 354, 3) := by decide +kernel
theorem dX8_strict_5 : decode cX8_strict 5 = .ok (.ifCond .ne 7, 3) := by decide +kernel
theorem dX8_strict_8 : decode cX8_strict 8 = .ok (.iconst 1, 1) := by decide +kernel
theorem dX8_strict_9 : decode cX8_strict 9 = .ok (.goto 17, 3) := by decide +kernel
theorem dX8_strict_12 : decode cX8_strict 12 = .ok (.aload_n 0, 1) := by decide +kernel
theorem dX8_strict_13 : decode cX8_strict 13 = .ok (.iload_n 1, 1) := by decide +kernel
theorem dX8_strict_14 : decode cX8_strict 14 = .ok (.iload_n 2, 1) := by decide +kernel
theorem dX8_strict_15 : decode cX8_strict 15 = .ok (.invokevirtual 390, 3) := by decide +kernel
theorem dX8_strict_18 : decode cX8_strict 18 = .ok (.ifCond .ne 7, 3) := by decide +kernel
theorem dX8_strict_21 : decode cX8_strict 21 = .ok (.iconst 2, 1) := by decide +kernel
theorem dX8_strict_22 : decode cX8_strict 22 = .ok (.goto 4, 3) := by decide +kernel
theorem dX8_strict_25 : decode cX8_strict 25 = .ok (.iconst 0, 1) := by decide +kernel
theorem dX8_strict_26 : decode cX8_strict 26 = .ok (.putfield 148, 3) := by decide +kernel
theorem dX8_strict_29 : decode cX8_strict 29 = .ok (.aload_n 0, 1) := by decide +kernel
theorem dX8_strict_30 : decode cX8_strict 30 = .ok (.getfield 148, 3) := by decide +kernel
theorem dX8_strict_33 : decode cX8_strict 33 = .ok (.ifCond .ne 17, 3) := by decide +kernel
theorem dX8_strict_36 : decode cX8_strict 36 = .ok (.aload_n 0, 1) := by decide +kernel
theorem dX8_strict_37 : decode cX8_strict 37 = .ok (.iload_n 1, 1) := by decide +kernel
theorem dX8_strict_38 : decode cX8_strict 38 = .ok (.iconst 1, 1) := by decide +kernel
theorem dX8_strict_39 : decode cX8_strict 39 = .ok (.iload_n 2, 1) := by decide +kernel
theorem dX8_strict_40 : decode cX8_strict 40 = .ok (.invokevirtual 393, 3) := by decide +kernel
theorem dX8_strict_43 : decode cX8_strict 43 = .ok (.ifCond .le 7, 3) := by decide +kernel
theorem dX8_strict_46 : decode cX8_strict 46 = .ok (.iconst 1, 1) := by decide +kernel
theorem dX8_strict_47 : decode cX8_strict 47 = .ok (.goto 4, 3) := by decide +kernel
theorem dX8_strict_50 : decode cX8_strict 50 = .ok (.iconst 0, 1) := by decide +kernel
theorem dX8_strict_51 : decode cX8_strict 51 = .ok (.ireturn, 1) := by decide +kernel
abbrev JX8_strict_26 (D : DE) (f : Nat) (Q : Int32 → HI → HL → Prop) (F : Frm) (h : HI) (g : HL) (x1 : Int32) (x2 : Int32) (s1 : Int32) : Prop := ∀ h1, h1 = up2 h 115 0 s1 → ((¬ (h1 115 0) = 0 → Q 0 h1 g) ∧ ((h1 115 0) = 0 → Si D f mX8_has [.ref (ad D 115), .int x1, .int 1, .int x2] F h1 g (fun y6 h4 g5 => ((y6 ≤ 0 → Q 0 h4 g5) ∧ (¬ y6 ≤ 0 → Q 1 h4 g5)))))
theorem bX8_strict_26 {D : DE} {f : Nat} {Q : Int32 → HI → HL → Prop} {F : Frm} {h : HI} {g : HL} (hF : k_Fix F) (x1 : Int32) (x2 : Int32) (s1 : Int32) (H : JX8_strict_26 D f Q F h g x1 x2 s1) : V D mX8_strict (f + 1) (qi F Q) 26 [(0, .ref (ad D 115)), (1, .int x1), (2, .int x2)] [.int s1, .ref (ad D 115)] (F, h, g) := by
  refine H_puti ck7 0 (by decide) (fs_115 hF) (by decide) rfl rfl q1458 dX8_strict_26 (fun h1 e2 => ?_)
  have H := H h1 e2
  refine V_aload_n dX8_strict_29 rfl 0 rfl ?_
  refine H_geti ck7 0 (by decide) (fs_115 hF) (by decide) rfl q1458 dX8_strict_30 ?_
  refine V_if_ne (tgt := 50) dX8_strict_33 (by decide) (fun c3 => ?_) (fun c3 => ?_)
  · have H := H.1 c3
    refine V_iconst (v := 0) dX8_strict_50 (by decide) ?_
    exact H_zret rfl isB0 dX8_strict_51 H
  · have H := H.2 c3
    refine V_aload_n dX8_strict_36 rfl 0 rfl ?_
    refine V_iload_n dX8_strict_37 rfl 1 rfl ?_
    refine V_iconst (v := 1) dX8_strict_38 (by decide) ?_
    refine V_iload_n dX8_strict_39 rfl 2 rfl ?_
    refine H_calli (av := [.ref (ad D 115), .int x1, .int 1, .int x2]) (rest := []) H mqX8_has q88 (by decide) (Nat.le_of_ble_eq_true rfl) (k_resV (ci := 7) (av := [.int x1, .int 1, .int x2]) (rest := []) (fs_115 hF) (by decide) rfl rfl q1932 q1934 qs66 q1935 mhX8_has mnX8_has dX8_strict_40) (fun y6 h4 g5 H => ?_)
    refine V_if_le (tgt := 50) dX8_strict_43 (by decide) (fun c7 => ?_) (fun c7 => ?_)
    · have H := H.1 c7
      refine V_iconst (v := 0) dX8_strict_50 (by decide) ?_
      exact H_zret rfl isB0 dX8_strict_51 H
    · have H := H.2 c7
      refine V_iconst (v := 1) dX8_strict_46 (by decide) ?_
      refine V_goto (tgt := 51) dX8_strict_47 (by decide) ?_
      exact H_zret rfl isB1 dX8_strict_51 H
abbrev JX8_strict_0 (D : DE) (f : Nat) (Q : Int32 → HI → HL → Prop) (F : Frm) (h : HI) (g : HL) (x1 : Int32) (x2 : Int32) : Prop := ((¬ (h 115 46) = 0 → Si D f mX8_isParamOf [.ref (ad D 115), .int x1, .int x2] F h g (fun y4 h2 g3 => ((¬ y4 = 0 → JX8_strict_26 D f Q F h2 g3 x1 x2 0) ∧ (y4 = 0 → JX8_strict_26 D f Q F h2 g3 x1 x2 2)))) ∧ ((h 115 46) = 0 → JX8_strict_26 D f Q F h g x1 x2 1))
theorem bX8_strict_0 {D : DE} {f : Nat} {Q : Int32 → HI → HL → Prop} {F : Frm} {h : HI} {g : HL} (hF : k_Fix F) (x1 : Int32) (x2 : Int32) (H : JX8_strict_0 D f Q F h g x1 x2) : V D mX8_strict (f + 1) (qi F Q) 0 [(0, .ref (ad D 115)), (1, .int x1), (2, .int x2)] [] (F, h, g) := by
  refine V_aload_n dX8_strict_0 rfl 0 rfl ?_
  refine V_aload_n dX8_strict_1 rfl 0 rfl ?_
  refine H_geti ck7 46 (by decide) (fs_115 hF) (by decide) rfl q1504 dX8_strict_2 ?_
  refine V_if_ne (tgt := 12) dX8_strict_5 (by decide) (fun c1 => ?_) (fun c1 => ?_)
  · have H := H.1 c1
    refine V_aload_n dX8_strict_12 rfl 0 rfl ?_
    refine V_iload_n dX8_strict_13 rfl 1 rfl ?_
    refine V_iload_n dX8_strict_14 rfl 2 rfl ?_
    refine H_calli (av := [.ref (ad D 115), .int x1, .int x2]) (rest := [.ref (ad D 115)]) H mqX8_isParamOf q88 (by decide) (Nat.le_of_ble_eq_true rfl) (k_resV (ci := 7) (av := [.int x1, .int x2]) (rest := [.ref (ad D 115)]) (fs_115 hF) (by decide) rfl rfl q1928 q1930 qs65 q1931 mhX8_isParamOf mnX8_isParamOf dX8_strict_15) (fun y4 h2 g3 H => ?_)
    refine V_if_ne (tgt := 25) dX8_strict_18 (by decide) (fun c5 => ?_) (fun c5 => ?_)
    · have H := H.1 c5
      refine V_iconst (v := 0) dX8_strict_25 (by decide) ?_
      exact bX8_strict_26 hF x1 x2 0 H
    · have H := H.2 c5
      refine V_iconst (v := 2) dX8_strict_21 (by decide) ?_
      refine V_goto (tgt := 26) dX8_strict_22 (by decide) ?_
      exact bX8_strict_26 hF x1 x2 2 H
  · have H := H.2 c1
    refine V_iconst (v := 1) dX8_strict_8 (by decide) ?_
    refine V_goto (tgt := 26) dX8_strict_9 (by decide) ?_
    exact bX8_strict_26 hF x1 x2 1 H
theorem wX8_strict {D : DE} {f : Nat} {Q : Int32 → HI → HL → Prop} {F : Frm} {h : HI} {g : HL} (hF : k_Fix F) (x1 : Int32) (x2 : Int32) (H : JX8_strict_0 D f Q F h g x1 x2) : Si D (f + 1) mX8_strict [.ref (ad D 115), .int x1, .int x2] F h g Q := Cl.ofV (by decide) (Nat.le_of_ble_eq_true rfl) rfl (bX8_strict_0 hF x1 x2 H)
