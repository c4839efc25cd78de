/-! THE LIGHT WALK, 11: expressions by what they are (classes 9 Let, 10 Case, 11 If, 12 Num, 13 Fail, 14 Pair, 15 Call, 16 Name, 17 Sign) -/
def isE (F : Frm) (a ci : Nat) : Prop := F.2.1 a = (10 + ci, 0) ∧ 9 ≤ ci ∧ ci ≤ 17
theorem isE.cases {ci : Nat} (h1 : 9 ≤ ci) (h2 : ci ≤ 17) : ci = 9 ∨ ci = 10 ∨ ci = 11 ∨ ci = 12 ∨ ci = 13 ∨ ci = 14 ∨ ci = 15 ∨ ci = 16 ∨ ci = 17 := by omega
abbrev v_judge (ci : Nat) : MI := match ci with
  | 9 => mX11_judge
  | 10 => mX12_judge
  | 11 => mX13_judge
  | 12 => mX14_judge
  | 13 => mX15_judge
  | 14 => mX16_judge
  | 15 => mX17_judge
  | 16 => mX18_judge
  | _ => mX19_judge
theorem vq_judge {ci : Nat} (h1 : 9 ≤ ci) (h2 : ci ≤ 17) : mW (v_judge ci) ∈ lw_all := by
  rcases isE.cases h1 h2 with rfl | rfl | rfl | rfl | rfl | rfl | rfl | rfl | rfl
  · exact mqX11_judge
  · exact mqX12_judge
  · exact mqX13_judge
  · exact mqX14_judge
  · exact mqX15_judge
  · exact mqX16_judge
  · exact mqX17_judge
  · exact mqX18_judge
  · exact mqX19_judge
theorem vi_judge {ci : Nat} (h1 : 9 ≤ ci) (h2 : ci ≤ 17) : Cond.initialized (mN (v_judge ci)).cls ∈ lw_all := by
  rcases isE.cases h1 h2 with rfl | rfl | rfl | rfl | rfl | rfl | rfl | rfl | rfl
  · exact q103
  · exact q104
  · exact q105
  · exact q106
  · exact q107
  · exact q108
  · exact q109
  · exact q110
  · exact q111
theorem vl_judge {ci : Nat} (h1 : 9 ≤ ci) (h2 : ci ≤ 17) : mL (v_judge ci) ≤ 27 := by
  rcases isE.cases h1 h2 with rfl | rfl | rfl | rfl | rfl | rfl | rfl | rfl | rfl <;> decide
theorem mn_judge : (parseMethodDescriptor "(LStrictProofs$Judge;I)I").map (fun d => d.parameters.length) = some 2 := by decide +kernel
theorem vr_judge {D : DE} {M : MI} {f pc idx a ci : Nat} {l : List (Nat × Value)} {av rest : List Value} {F : Frm} {h : HI} {g : HL} (hE : isE F a ci) (hav : av.length = 2) (q1 : Cond.methodLink (mN M).cls idx ⟨"StrictProofs$Expression", "judge", "(LStrictProofs$Judge;I)I"⟩ ∈ lw_all) (d : decode (mC M) pc = .ok (.invokevirtual idx, 3)) : k_RES D M f pc l (av.reverse ++ .ref (ad D a) :: rest) (F, h, g) (mN (v_judge ci)) (.ref (ad D a) :: av) rest := by
  obtain ⟨hs, h1, h2⟩ := hE
  rcases isE.cases h1 h2 with rfl | rfl | rfl | rfl | rfl | rfl | rfl | rfl | rfl
  · exact k_resU (x := ⟨"StrictProofs$Expression", "judge", "(LStrictProofs$Judge;I)I"⟩) (owner := "StrictProofs$Expression") (ci := 9) hs (by decide) rfl rfl q1 q984 (fun s args hE hts => va_Decl.abs (hE.2.1 _ q983 rfl)) (by decide) q1022 q1023 (by rw [hav]; exact mn_judge) d
  · exact k_resU (x := ⟨"StrictProofs$Expression", "judge", "(LStrictProofs$Judge;I)I"⟩) (owner := "StrictProofs$Expression") (ci := 10) hs (by decide) rfl rfl q1 q984 (fun s args hE hts => va_Decl.abs (hE.2.1 _ q983 rfl)) (by decide) q1000 q1001 (by rw [hav]; exact mn_judge) d
  · exact k_resU (x := ⟨"StrictProofs$Expression", "judge", "(LStrictProofs$Judge;I)I"⟩) (owner := "StrictProofs$Expression") (ci := 11) hs (by decide) rfl rfl q1 q984 (fun s args hE hts => va_Decl.abs (hE.2.1 _ q983 rfl)) (by decide) q1018 q1019 (by rw [hav]; exact mn_judge) d
  · exact k_resU (x := ⟨"StrictProofs$Expression", "judge", "(LStrictProofs$Judge;I)I"⟩) (owner := "StrictProofs$Expression") (ci := 12) hs (by decide) rfl rfl q1 q984 (fun s args hE hts => va_Decl.abs (hE.2.1 _ q983 rfl)) (by decide) q1035 q1036 (by rw [hav]; exact mn_judge) d
  · exact k_resU (x := ⟨"StrictProofs$Expression", "judge", "(LStrictProofs$Judge;I)I"⟩) (owner := "StrictProofs$Expression") (ci := 13) hs (by decide) rfl rfl q1 q984 (fun s args hE hts => va_Decl.abs (hE.2.1 _ q983 rfl)) (by decide) q1015 q1016 (by rw [hav]; exact mn_judge) d
  · exact k_resU (x := ⟨"StrictProofs$Expression", "judge", "(LStrictProofs$Judge;I)I"⟩) (owner := "StrictProofs$Expression") (ci := 14) hs (by decide) rfl rfl q1 q984 (fun s args hE hts => va_Decl.abs (hE.2.1 _ q983 rfl)) (by decide) q1038 q1039 (by rw [hav]; exact mn_judge) d
  · exact k_resU (x := ⟨"StrictProofs$Expression", "judge", "(LStrictProofs$Judge;I)I"⟩) (owner := "StrictProofs$Expression") (ci := 15) hs (by decide) rfl rfl q1 q984 (fun s args hE hts => va_Decl.abs (hE.2.1 _ q983 rfl)) (by decide) q985 q986 (by rw [hav]; exact mn_judge) d
  · exact k_resU (x := ⟨"StrictProofs$Expression", "judge", "(LStrictProofs$Judge;I)I"⟩) (owner := "StrictProofs$Expression") (ci := 16) hs (by decide) rfl rfl q1 q984 (fun s args hE hts => va_Decl.abs (hE.2.1 _ q983 rfl)) (by decide) q1028 q1029 (by rw [hav]; exact mn_judge) d
  · exact k_resU (x := ⟨"StrictProofs$Expression", "judge", "(LStrictProofs$Judge;I)I"⟩) (owner := "StrictProofs$Expression") (ci := 17) hs (by decide) rfl rfl q1 q984 (fun s args hE hts => va_Decl.abs (hE.2.1 _ q983 rfl)) (by decide) q1045 q1046 (by rw [hav]; exact mn_judge) d
abbrev v_ask (ci : Nat) : MI := match ci with
  | 9 => mX11_ask
  | 10 => mX12_ask
  | 11 => mX13_ask
  | 12 => mX14_ask
  | 13 => mX15_ask
  | 14 => mX16_ask
  | 15 => mX17_ask
  | 16 => mX18_ask
  | _ => mX19_ask
theorem vq_ask {ci : Nat} (h1 : 9 ≤ ci) (h2 : ci ≤ 17) : mW (v_ask ci) ∈ lw_all := by
  rcases isE.cases h1 h2 with rfl | rfl | rfl | rfl | rfl | rfl | rfl | rfl | rfl
  · exact mqX11_ask
  · exact mqX12_ask
  · exact mqX13_ask
  · exact mqX14_ask
  · exact mqX15_ask
  · exact mqX16_ask
  · exact mqX17_ask
  · exact mqX18_ask
  · exact mqX19_ask
theorem vi_ask {ci : Nat} (h1 : 9 ≤ ci) (h2 : ci ≤ 17) : Cond.initialized (mN (v_ask ci)).cls ∈ lw_all := by
  rcases isE.cases h1 h2 with rfl | rfl | rfl | rfl | rfl | rfl | rfl | rfl | rfl
  · exact q103
  · exact q104
  · exact q105
  · exact q106
  · exact q107
  · exact q108
  · exact q109
  · exact q110
  · exact q111
theorem vl_ask {ci : Nat} (h1 : 9 ≤ ci) (h2 : ci ≤ 17) : mL (v_ask ci) ≤ 27 := by
  rcases isE.cases h1 h2 with rfl | rfl | rfl | rfl | rfl | rfl | rfl | rfl | rfl <;> decide
theorem mn_ask : (parseMethodDescriptor "(LStrictProofs$Asker;ILStrictProofs$Row;I)V").map (fun d => d.parameters.length) = some 4 := by decide +kernel
theorem vr_ask {D : DE} {M : MI} {f pc idx a ci : Nat} {l : List (Nat × Value)} {av rest : List Value} {F : Frm} {h : HI} {g : HL} (hE : isE F a ci) (hav : av.length = 4) (q1 : Cond.methodLink (mN M).cls idx ⟨"StrictProofs$Expression", "ask", "(LStrictProofs$Asker;ILStrictProofs$Row;I)V"⟩ ∈ lw_all) (d : decode (mC M) pc = .ok (.invokevirtual idx, 3)) : k_RES D M f pc l (av.reverse ++ .ref (ad D a) :: rest) (F, h, g) (mN (v_ask ci)) (.ref (ad D a) :: av) rest := by
  obtain ⟨hs, h1, h2⟩ := hE
  rcases isE.cases h1 h2 with rfl | rfl | rfl | rfl | rfl | rfl | rfl | rfl | rfl
  · exact k_resU (x := ⟨"StrictProofs$Expression", "ask", "(LStrictProofs$Asker;ILStrictProofs$Row;I)V"⟩) (owner := "StrictProofs$Expression") (ci := 9) hs (by decide) rfl rfl q1 q1187 (fun s args hE hts => va_Decl.abs (hE.2.1 _ q1186 rfl)) (by decide) q1253 q1200 (by rw [hav]; exact mn_ask) d
  · exact k_resU (x := ⟨"StrictProofs$Expression", "ask", "(LStrictProofs$Asker;ILStrictProofs$Row;I)V"⟩) (owner := "StrictProofs$Expression") (ci := 10) hs (by decide) rfl rfl q1 q1187 (fun s args hE hts => va_Decl.abs (hE.2.1 _ q1186 rfl)) (by decide) q1250 q1192 (by rw [hav]; exact mn_ask) d
  · exact k_resU (x := ⟨"StrictProofs$Expression", "ask", "(LStrictProofs$Asker;ILStrictProofs$Row;I)V"⟩) (owner := "StrictProofs$Expression") (ci := 11) hs (by decide) rfl rfl q1 q1187 (fun s args hE hts => va_Decl.abs (hE.2.1 _ q1186 rfl)) (by decide) q1252 q1197 (by rw [hav]; exact mn_ask) d
  · exact k_resU (x := ⟨"StrictProofs$Expression", "ask", "(LStrictProofs$Asker;ILStrictProofs$Row;I)V"⟩) (owner := "StrictProofs$Expression") (ci := 12) hs (by decide) rfl rfl q1 q1187 (fun s args hE hts => va_Decl.abs (hE.2.1 _ q1186 rfl)) (by decide) q1255 q1225 (by rw [hav]; exact mn_ask) d
  · exact k_resU (x := ⟨"StrictProofs$Expression", "ask", "(LStrictProofs$Asker;ILStrictProofs$Row;I)V"⟩) (owner := "StrictProofs$Expression") (ci := 13) hs (by decide) rfl rfl q1 q1187 (fun s args hE hts => va_Decl.abs (hE.2.1 _ q1186 rfl)) (by decide) q1251 q1195 (by rw [hav]; exact mn_ask) d
  · exact k_resU (x := ⟨"StrictProofs$Expression", "ask", "(LStrictProofs$Asker;ILStrictProofs$Row;I)V"⟩) (owner := "StrictProofs$Expression") (ci := 14) hs (by decide) rfl rfl q1 q1187 (fun s args hE hts => va_Decl.abs (hE.2.1 _ q1186 rfl)) (by decide) q1256 q1227 (by rw [hav]; exact mn_ask) d
  · exact k_resU (x := ⟨"StrictProofs$Expression", "ask", "(LStrictProofs$Asker;ILStrictProofs$Row;I)V"⟩) (owner := "StrictProofs$Expression") (ci := 15) hs (by decide) rfl rfl q1 q1187 (fun s args hE hts => va_Decl.abs (hE.2.1 _ q1186 rfl)) (by decide) q1188 q1189 (by rw [hav]; exact mn_ask) d
  · exact k_resU (x := ⟨"StrictProofs$Expression", "ask", "(LStrictProofs$Asker;ILStrictProofs$Row;I)V"⟩) (owner := "StrictProofs$Expression") (ci := 16) hs (by decide) rfl rfl q1 q1187 (fun s args hE hts => va_Decl.abs (hE.2.1 _ q1186 rfl)) (by decide) q1254 q1203 (by rw [hav]; exact mn_ask) d
  · exact k_resU (x := ⟨"StrictProofs$Expression", "ask", "(LStrictProofs$Asker;ILStrictProofs$Row;I)V"⟩) (owner := "StrictProofs$Expression") (ci := 17) hs (by decide) rfl rfl q1 q1187 (fun s args hE hts => va_Decl.abs (hE.2.1 _ q1186 rfl)) (by decide) q1257 q1231 (by rw [hav]; exact mn_ask) d
abbrev v_work (ci : Nat) : MI := match ci with
  | 9 => mX11_work
  | 10 => mX12_work
  | 11 => mX13_work
  | 12 => mX14_work
  | 13 => mX15_work
  | 14 => mX16_work
  | 15 => mX17_work
  | 16 => mX18_work
  | _ => mX19_work
theorem vq_work {ci : Nat} (h1 : 9 ≤ ci) (h2 : ci ≤ 17) : mW (v_work ci) ∈ lw_all := by
  rcases isE.cases h1 h2 with rfl | rfl | rfl | rfl | rfl | rfl | rfl | rfl | rfl
  · exact mqX11_work
  · exact mqX12_work
  · exact mqX13_work
  · exact mqX14_work
  · exact mqX15_work
  · exact mqX16_work
  · exact mqX17_work
  · exact mqX18_work
  · exact mqX19_work
theorem vi_work {ci : Nat} (h1 : 9 ≤ ci) (h2 : ci ≤ 17) : Cond.initialized (mN (v_work ci)).cls ∈ lw_all := by
  rcases isE.cases h1 h2 with rfl | rfl | rfl | rfl | rfl | rfl | rfl | rfl | rfl
  · exact q103
  · exact q104
  · exact q105
  · exact q106
  · exact q107
  · exact q108
  · exact q109
  · exact q110
  · exact q111
theorem vl_work {ci : Nat} (h1 : 9 ≤ ci) (h2 : ci ≤ 17) : mL (v_work ci) ≤ 27 := by
  rcases isE.cases h1 h2 with rfl | rfl | rfl | rfl | rfl | rfl | rfl | rfl | rfl <;> decide
theorem mn_work : (parseMethodDescriptor "(LStrictProofs$Machine;I)I").map (fun d => d.parameters.length) = some 2 := by decide +kernel
theorem vr_work {D : DE} {M : MI} {f pc idx a ci : Nat} {l : List (Nat × Value)} {av rest : List Value} {F : Frm} {h : HI} {g : HL} (hE : isE F a ci) (hav : av.length = 2) (q1 : Cond.methodLink (mN M).cls idx ⟨"StrictProofs$Expression", "work", "(LStrictProofs$Machine;I)I"⟩ ∈ lw_all) (d : decode (mC M) pc = .ok (.invokevirtual idx, 3)) : k_RES D M f pc l (av.reverse ++ .ref (ad D a) :: rest) (F, h, g) (mN (v_work ci)) (.ref (ad D a) :: av) rest := by
  obtain ⟨hs, h1, h2⟩ := hE
  rcases isE.cases h1 h2 with rfl | rfl | rfl | rfl | rfl | rfl | rfl | rfl | rfl
  · exact k_resU (x := ⟨"StrictProofs$Expression", "work", "(LStrictProofs$Machine;I)I"⟩) (owner := "StrictProofs$Expression") (ci := 9) hs (by decide) rfl rfl q1 q1349 (fun s args hE hts => va_Decl.abs (hE.2.1 _ q1348 rfl)) (by decide) q1389 q1390 (by rw [hav]; exact mn_work) d
  · exact k_resU (x := ⟨"StrictProofs$Expression", "work", "(LStrictProofs$Machine;I)I"⟩) (owner := "StrictProofs$Expression") (ci := 10) hs (by decide) rfl rfl q1 q1349 (fun s args hE hts => va_Decl.abs (hE.2.1 _ q1348 rfl)) (by decide) q1377 q1378 (by rw [hav]; exact mn_work) d
  · exact k_resU (x := ⟨"StrictProofs$Expression", "work", "(LStrictProofs$Machine;I)I"⟩) (owner := "StrictProofs$Expression") (ci := 11) hs (by decide) rfl rfl q1 q1349 (fun s args hE hts => va_Decl.abs (hE.2.1 _ q1348 rfl)) (by decide) q1385 q1386 (by rw [hav]; exact mn_work) d
  · exact k_resU (x := ⟨"StrictProofs$Expression", "work", "(LStrictProofs$Machine;I)I"⟩) (owner := "StrictProofs$Expression") (ci := 12) hs (by decide) rfl rfl q1 q1349 (fun s args hE hts => va_Decl.abs (hE.2.1 _ q1348 rfl)) (by decide) q1401 q1402 (by rw [hav]; exact mn_work) d
  · exact k_resU (x := ⟨"StrictProofs$Expression", "work", "(LStrictProofs$Machine;I)I"⟩) (owner := "StrictProofs$Expression") (ci := 13) hs (by decide) rfl rfl q1 q1349 (fun s args hE hts => va_Decl.abs (hE.2.1 _ q1348 rfl)) (by decide) q1381 q1382 (by rw [hav]; exact mn_work) d
  · exact k_resU (x := ⟨"StrictProofs$Expression", "work", "(LStrictProofs$Machine;I)I"⟩) (owner := "StrictProofs$Expression") (ci := 14) hs (by decide) rfl rfl q1 q1349 (fun s args hE hts => va_Decl.abs (hE.2.1 _ q1348 rfl)) (by decide) q1404 q1405 (by rw [hav]; exact mn_work) d
  · exact k_resU (x := ⟨"StrictProofs$Expression", "work", "(LStrictProofs$Machine;I)I"⟩) (owner := "StrictProofs$Expression") (ci := 15) hs (by decide) rfl rfl q1 q1349 (fun s args hE hts => va_Decl.abs (hE.2.1 _ q1348 rfl)) (by decide) q1350 q1351 (by rw [hav]; exact mn_work) d
  · exact k_resU (x := ⟨"StrictProofs$Expression", "work", "(LStrictProofs$Machine;I)I"⟩) (owner := "StrictProofs$Expression") (ci := 16) hs (by decide) rfl rfl q1 q1349 (fun s args hE hts => va_Decl.abs (hE.2.1 _ q1348 rfl)) (by decide) q1394 q1395 (by rw [hav]; exact mn_work) d
  · exact k_resU (x := ⟨"StrictProofs$Expression", "work", "(LStrictProofs$Machine;I)I"⟩) (owner := "StrictProofs$Expression") (ci := 17) hs (by decide) rfl rfl q1 q1349 (fun s args hE hts => va_Decl.abs (hE.2.1 _ q1348 rfl)) (by decide) q1412 q1413 (by rw [hav]; exact mn_work) d
abbrev v_alone (ci : Nat) : MI := match ci with
  | 9 => mX10_alone
  | 10 => mX10_alone
  | 11 => mX10_alone
  | 12 => mX10_alone
  | 13 => mX10_alone
  | 14 => mX10_alone
  | 15 => mX10_alone
  | 16 => mX18_alone
  | _ => mX10_alone
theorem vq_alone {ci : Nat} (h1 : 9 ≤ ci) (h2 : ci ≤ 17) : mW (v_alone ci) ∈ lw_all := by
  rcases isE.cases h1 h2 with rfl | rfl | rfl | rfl | rfl | rfl | rfl | rfl | rfl
  · exact mqX10_alone
  · exact mqX10_alone
  · exact mqX10_alone
  · exact mqX10_alone
  · exact mqX10_alone
  · exact mqX10_alone
  · exact mqX10_alone
  · exact mqX18_alone
  · exact mqX10_alone
theorem vi_alone {ci : Nat} (h1 : 9 ≤ ci) (h2 : ci ≤ 17) : Cond.initialized (mN (v_alone ci)).cls ∈ lw_all := by
  rcases isE.cases h1 h2 with rfl | rfl | rfl | rfl | rfl | rfl | rfl | rfl | rfl
  · exact q102
  · exact q102
  · exact q102
  · exact q102
  · exact q102
  · exact q102
  · exact q102
  · exact q110
  · exact q102
theorem vl_alone {ci : Nat} (h1 : 9 ≤ ci) (h2 : ci ≤ 17) : mL (v_alone ci) ≤ 27 := by
  rcases isE.cases h1 h2 with rfl | rfl | rfl | rfl | rfl | rfl | rfl | rfl | rfl <;> decide
theorem mn_alone : (parseMethodDescriptor "()I").map (fun d => d.parameters.length) = some 0 := by decide +kernel
theorem vr_alone {D : DE} {M : MI} {f pc idx a ci : Nat} {l : List (Nat × Value)} {av rest : List Value} {F : Frm} {h : HI} {g : HL} (hE : isE F a ci) (hav : av.length = 0) (q1 : Cond.methodLink (mN M).cls idx ⟨"StrictProofs$Expression", "alone", "()I"⟩ ∈ lw_all) (d : decode (mC M) pc = .ok (.invokevirtual idx, 3)) : k_RES D M f pc l (av.reverse ++ .ref (ad D a) :: rest) (F, h, g) (mN (v_alone ci)) (.ref (ad D a) :: av) rest := by
  obtain ⟨hs, h1, h2⟩ := hE
  rcases isE.cases h1 h2 with rfl | rfl | rfl | rfl | rfl | rfl | rfl | rfl | rfl
  · exact k_resU (x := ⟨"StrictProofs$Expression", "alone", "()I"⟩) (owner := "StrictProofs$Expression") (ci := 9) hs (by decide) rfl rfl q1 q1363 (fun s args hE hts => va_Decl.of (hts _ q1362) (hts _ q1375)) (by decide) q1368 q1362 (by rw [hav]; exact mn_alone) d
  · exact k_resU (x := ⟨"StrictProofs$Expression", "alone", "()I"⟩) (owner := "StrictProofs$Expression") (ci := 10) hs (by decide) rfl rfl q1 q1363 (fun s args hE hts => va_Decl.of (hts _ q1362) (hts _ q1375)) (by decide) q1365 q1362 (by rw [hav]; exact mn_alone) d
  · exact k_resU (x := ⟨"StrictProofs$Expression", "alone", "()I"⟩) (owner := "StrictProofs$Expression") (ci := 11) hs (by decide) rfl rfl q1 q1363 (fun s args hE hts => va_Decl.of (hts _ q1362) (hts _ q1375)) (by decide) q1367 q1362 (by rw [hav]; exact mn_alone) d
  · exact k_resU (x := ⟨"StrictProofs$Expression", "alone", "()I"⟩) (owner := "StrictProofs$Expression") (ci := 12) hs (by decide) rfl rfl q1 q1363 (fun s args hE hts => va_Decl.of (hts _ q1362) (hts _ q1375)) (by decide) q1372 q1362 (by rw [hav]; exact mn_alone) d
  · exact k_resU (x := ⟨"StrictProofs$Expression", "alone", "()I"⟩) (owner := "StrictProofs$Expression") (ci := 13) hs (by decide) rfl rfl q1 q1363 (fun s args hE hts => va_Decl.of (hts _ q1362) (hts _ q1375)) (by decide) q1366 q1362 (by rw [hav]; exact mn_alone) d
  · exact k_resU (x := ⟨"StrictProofs$Expression", "alone", "()I"⟩) (owner := "StrictProofs$Expression") (ci := 14) hs (by decide) rfl rfl q1 q1363 (fun s args hE hts => va_Decl.of (hts _ q1362) (hts _ q1375)) (by decide) q1373 q1362 (by rw [hav]; exact mn_alone) d
  · exact k_resU (x := ⟨"StrictProofs$Expression", "alone", "()I"⟩) (owner := "StrictProofs$Expression") (ci := 15) hs (by decide) rfl rfl q1 q1363 (fun s args hE hts => va_Decl.of (hts _ q1362) (hts _ q1375)) (by decide) q1364 q1362 (by rw [hav]; exact mn_alone) d
  · exact k_resU (x := ⟨"StrictProofs$Expression", "alone", "()I"⟩) (owner := "StrictProofs$Expression") (ci := 16) hs (by decide) rfl rfl q1 q1363 (fun s args hE hts => va_Decl.of (hts _ q1362) (hts _ q1375)) (by decide) q1369 q1370 (by rw [hav]; exact mn_alone) d
  · exact k_resU (x := ⟨"StrictProofs$Expression", "alone", "()I"⟩) (owner := "StrictProofs$Expression") (ci := 17) hs (by decide) rfl rfl q1 q1363 (fun s args hE hts => va_Decl.of (hts _ q1362) (hts _ q1375)) (by decide) q1374 q1362 (by rw [hav]; exact mn_alone) d
section XE
variable {D : DE} {M : MI} {f : Nat} {Q : Out → Mem → Prop} {pc : Nat} {l : List (Nat × Value)} {st : List Value} {F : Frm} {h : HI} {g : HL} {a ci idx : Nat}
theorem X_get_token (hE : isE F a ci) (q : Cond.fieldLink (mN M).cls idx "StrictProofs$Expression" "token" "I" ∈ lw_all) (d : decode (mC M) pc = .ok (.getfield idx, 3)) (kk : V D M f Q (pc + 3) l (.int (h a 0) :: st) (F, h, g)) : V D M f Q pc l (.ref (ad D a) :: st) (F, h, g) := by
  obtain ⟨hs, h1, h2⟩ := hE
  rcases isE.cases h1 h2 with rfl | rfl | rfl | rfl | rfl | rfl | rfl | rfl | rfl
  · exact H_geti ck9 0 (by decide) hs (by decide) rfl q d kk
  · exact H_geti ck10 0 (by decide) hs (by decide) rfl q d kk
  · exact H_geti ck11 0 (by decide) hs (by decide) rfl q d kk
  · exact H_geti ck12 0 (by decide) hs (by decide) rfl q d kk
  · exact H_geti ck13 0 (by decide) hs (by decide) rfl q d kk
  · exact H_geti ck14 0 (by decide) hs (by decide) rfl q d kk
  · exact H_geti ck15 0 (by decide) hs (by decide) rfl q d kk
  · exact H_geti ck16 0 (by decide) hs (by decide) rfl q d kk
  · exact H_geti ck17 0 (by decide) hs (by decide) rfl q d kk
theorem X_get_type (hE : isE F a ci) (q : Cond.fieldLink (mN M).cls idx "StrictProofs$Expression" "type" "I" ∈ lw_all) (d : decode (mC M) pc = .ok (.getfield idx, 3)) (kk : V D M f Q (pc + 3) l (.int (h a 1) :: st) (F, h, g)) : V D M f Q pc l (.ref (ad D a) :: st) (F, h, g) := by
  obtain ⟨hs, h1, h2⟩ := hE
  rcases isE.cases h1 h2 with rfl | rfl | rfl | rfl | rfl | rfl | rfl | rfl | rfl
  · exact H_geti ck9 1 (by decide) hs (by decide) rfl q d kk
  · exact H_geti ck10 1 (by decide) hs (by decide) rfl q d kk
  · exact H_geti ck11 1 (by decide) hs (by decide) rfl q d kk
  · exact H_geti ck12 1 (by decide) hs (by decide) rfl q d kk
  · exact H_geti ck13 1 (by decide) hs (by decide) rfl q d kk
  · exact H_geti ck14 1 (by decide) hs (by decide) rfl q d kk
  · exact H_geti ck15 1 (by decide) hs (by decide) rfl q d kk
  · exact H_geti ck16 1 (by decide) hs (by decide) rfl q d kk
  · exact H_geti ck17 1 (by decide) hs (by decide) rfl q d kk
theorem X_put_type {x : Int32} (hE : isE F a ci) (q : Cond.fieldLink (mN M).cls idx "StrictProofs$Expression" "type" "I" ∈ lw_all) (d : decode (mC M) pc = .ok (.putfield idx, 3)) (kk : ∀ h1, h1 = up2 h a 1 x → V D M f Q (pc + 3) l st (F, h1, g)) : V D M f Q pc l (.int x :: .ref (ad D a) :: st) (F, h, g) := by
  obtain ⟨hs, h1, h2⟩ := hE
  rcases isE.cases h1 h2 with rfl | rfl | rfl | rfl | rfl | rfl | rfl | rfl | rfl
  · exact H_puti ck9 1 (by decide) hs (by decide) rfl rfl q d kk
  · exact H_puti ck10 1 (by decide) hs (by decide) rfl rfl q d kk
  · exact H_puti ck11 1 (by decide) hs (by decide) rfl rfl q d kk
  · exact H_puti ck12 1 (by decide) hs (by decide) rfl rfl q d kk
  · exact H_puti ck13 1 (by decide) hs (by decide) rfl rfl q d kk
  · exact H_puti ck14 1 (by decide) hs (by decide) rfl rfl q d kk
  · exact H_puti ck15 1 (by decide) hs (by decide) rfl rfl q d kk
  · exact H_puti ck16 1 (by decide) hs (by decide) rfl rfl q d kk
  · exact H_puti ck17 1 (by decide) hs (by decide) rfl rfl q d kk
theorem X_put_tokenF {x : Int32} (hE : isE F a ci) (hini : (mN M).name = "<init>") (hdecl : (mN M).cls = "StrictProofs$Expression") (q : Cond.fieldLink (mN M).cls idx "StrictProofs$Expression" "token" "I" ∈ lw_all) (d : decode (mC M) pc = .ok (.putfield idx, 3)) (kk : ∀ h1, h1 = up2 h a 0 x → V D M f Q (pc + 3) l st (F, h1, g)) : V D M f Q pc l (.int x :: .ref (ad D a) :: st) (F, h, g) := by
  obtain ⟨hs, h1, h2⟩ := hE
  rcases isE.cases h1 h2 with rfl | rfl | rfl | rfl | rfl | rfl | rfl | rfl | rfl
  · exact G_putiF ck9 0 (by decide) hs (by decide) rfl rfl hini hdecl.symm q d kk
  · exact G_putiF ck10 0 (by decide) hs (by decide) rfl rfl hini hdecl.symm q d kk
  · exact G_putiF ck11 0 (by decide) hs (by decide) rfl rfl hini hdecl.symm q d kk
  · exact G_putiF ck12 0 (by decide) hs (by decide) rfl rfl hini hdecl.symm q d kk
  · exact G_putiF ck13 0 (by decide) hs (by decide) rfl rfl hini hdecl.symm q d kk
  · exact G_putiF ck14 0 (by decide) hs (by decide) rfl rfl hini hdecl.symm q d kk
  · exact G_putiF ck15 0 (by decide) hs (by decide) rfl rfl hini hdecl.symm q d kk
  · exact G_putiF ck16 0 (by decide) hs (by decide) rfl rfl hini hdecl.symm q d kk
  · exact G_putiF ck17 0 (by decide) hs (by decide) rfl rfl hini hdecl.symm q d kk
end XE
