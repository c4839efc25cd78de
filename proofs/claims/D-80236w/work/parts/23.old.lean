/-! OLD CELLS: the static SIZES, the three String constants; String's own methods (printed by gen/mkold.py) -/
set_option maxRecDepth 100000
theorem dJ5_length_0 : decode cJ5_length 0 = .ok (.aload_n 0, 1) := by decide +kernel
theorem dJ5_length_1 : decode cJ5_length 1 = .ok (.getfield 9, 3) := by decide +kernel
theorem dJ5_length_4 : decode cJ5_length 4 = .ok (.arraylength, 1) := by decide +kernel
theorem dJ5_length_5 : decode cJ5_length 5 = .ok (.aload_n 0, 1) := by decide +kernel
theorem dJ5_length_6 : decode cJ5_length 6 = .ok (.invokevirtual 335, 3) := by decide +kernel
theorem dJ5_length_9 : decode cJ5_length 9 = .ok (.ishr, 1) := by decide +kernel
theorem dJ5_length_10 : decode cJ5_length 10 = .ok (.ireturn, 1) := by decide +kernel
theorem dJ5_coder_0 : decode cJ5_coder 0 = .ok (.getstatic 38, 3) := by decide +kernel
theorem dJ5_coder_3 : decode cJ5_coder 3 = .ok (.ifCond .eq 10, 3) := by decide +kernel
theorem dJ5_coder_6 : decode cJ5_coder 6 = .ok (.aload_n 0, 1) := by decide +kernel
theorem dJ5_coder_7 : decode cJ5_coder 7 = .ok (.getfield 15, 3) := by decide +kernel
theorem dJ5_coder_10 : decode cJ5_coder 10 = .ok (.goto 4, 3) := by decide +kernel
theorem dJ5_coder_13 : decode cJ5_coder 13 = .ok (.iconst 1, 1) := by decide +kernel
theorem dJ5_coder_14 : decode cJ5_coder 14 = .ok (.ireturn, 1) := by decide +kernel
theorem dJ5_charAt_0 : decode cJ5_charAt 0 = .ok (.aload_n 0, 1) := by decide +kernel
theorem dJ5_charAt_1 : decode cJ5_charAt 1 = .ok (.invokevirtual 492, 3) := by decide +kernel
theorem dJ5_charAt_4 : decode cJ5_charAt 4 = .ok (.ifCond .eq 12, 3) := by decide +kernel
theorem dJ5_charAt_7 : decode cJ5_charAt 7 = .ok (.aload_n 0, 1) := by decide +kernel
theorem dJ5_charAt_8 : decode cJ5_charAt 8 = .ok (.getfield 9, 3) := by decide +kernel
theorem dJ5_charAt_11 : decode cJ5_charAt 11 = .ok (.iload_n 1, 1) := by decide +kernel
theorem dJ5_charAt_12 : decode cJ5_charAt 12 = .ok (.invokestatic 495, 3) := by decide +kernel
theorem dJ5_charAt_15 : decode cJ5_charAt 15 = .ok (.ireturn, 1) := by decide +kernel
theorem dJ5_charAt_16 : decode cJ5_charAt 16 = .ok (.aload_n 0, 1) := by decide +kernel
theorem dJ5_charAt_17 : decode cJ5_charAt 17 = .ok (.getfield 9, 3) := by decide +kernel
theorem dJ5_charAt_20 : decode cJ5_charAt 20 = .ok (.iload_n 1, 1) := by decide +kernel
theorem dJ5_charAt_21 : decode cJ5_charAt 21 = .ok (.invokestatic 498, 3) := by decide +kernel
theorem dJ5_charAt_24 : decode cJ5_charAt 24 = .ok (.ireturn, 1) := by decide +kernel
theorem dJ5_isLatin1_0 : decode cJ5_isLatin1 0 = .ok (.getstatic 38, 3) := by decide +kernel
theorem dJ5_isLatin1_3 : decode cJ5_isLatin1 3 = .ok (.ifCond .eq 14, 3) := by decide +kernel
theorem dJ5_isLatin1_6 : decode cJ5_isLatin1 6 = .ok (.aload_n 0, 1) := by decide +kernel
theorem dJ5_isLatin1_7 : decode cJ5_isLatin1 7 = .ok (.getfield 15, 3) := by decide +kernel
theorem dJ5_isLatin1_10 : decode cJ5_isLatin1 10 = .ok (.ifCond .ne 7, 3) := by decide +kernel
theorem dJ5_isLatin1_13 : decode cJ5_isLatin1 13 = .ok (.iconst 1, 1) := by decide +kernel
theorem dJ5_isLatin1_14 : decode cJ5_isLatin1 14 = .ok (.goto 4, 3) := by decide +kernel
theorem dJ5_isLatin1_17 : decode cJ5_isLatin1 17 = .ok (.iconst 0, 1) := by decide +kernel
theorem dJ5_isLatin1_18 : decode cJ5_isLatin1 18 = .ok (.ireturn, 1) := by decide +kernel
theorem dJ5_checkIndex_0 : decode cJ5_checkIndex 0 = .ok (.iload_n 0, 1) := by decide +kernel
theorem dJ5_checkIndex_1 : decode cJ5_checkIndex 1 = .ok (.iload_n 1, 1) := by decide +kernel
theorem dJ5_checkIndex_2 : decode cJ5_checkIndex 2 = .ok (.getstatic 1053, 3) := by decide +kernel
theorem dJ5_checkIndex_5 : decode cJ5_checkIndex 5 = .ok (.invokestatic 1059, 3) := by decide +kernel
theorem dJ5_checkIndex_8 : decode cJ5_checkIndex 8 = .ok (.pop, 1) := by decide +kernel
theorem dJ5_checkIndex_9 : decode cJ5_checkIndex 9 = .ok (.return_, 1) := by decide +kernel
theorem dJ5_indexOf_0 : decode cJ5_indexOf 0 = .ok (.aload_n 0, 1) := by decide +kernel
theorem dJ5_indexOf_1 : decode cJ5_indexOf 1 = .ok (.iload_n 1, 1) := by decide +kernel
theorem dJ5_indexOf_2 : decode cJ5_indexOf 2 = .ok (.iconst 0, 1) := by decide +kernel
theorem dJ5_indexOf_3 : decode cJ5_indexOf 3 = .ok (.invokevirtual 633, 3) := by decide +kernel
theorem dJ5_indexOf_6 : decode cJ5_indexOf 6 = .ok (.ireturn, 1) := by decide +kernel
theorem dJ5_indexOf_2_0 : decode cJ5_indexOf_2 0 = .ok (.aload_n 0, 1) := by decide +kernel
theorem dJ5_indexOf_2_1 : decode cJ5_indexOf_2 1 = .ok (.invokevirtual 492, 3) := by decide +kernel
theorem dJ5_indexOf_2_4 : decode cJ5_indexOf_2 4 = .ok (.ifCond .eq 19, 3) := by decide +kernel
theorem dJ5_indexOf_2_7 : decode cJ5_indexOf_2 7 = .ok (.aload_n 0, 1) := by decide +kernel
theorem dJ5_indexOf_2_8 : decode cJ5_indexOf_2 8 = .ok (.getfield 9, 3) := by decide +kernel
theorem dJ5_indexOf_2_11 : decode cJ5_indexOf_2 11 = .ok (.iload_n 1, 1) := by decide +kernel
theorem dJ5_indexOf_2_12 : decode cJ5_indexOf_2 12 = .ok (.iload_n 2, 1) := by decide +kernel
theorem dJ5_indexOf_2_13 : decode cJ5_indexOf_2 13 = .ok (.aload_n 0, 1) := by decide +kernel
theorem dJ5_indexOf_2_14 : decode cJ5_indexOf_2 14 = .ok (.invokevirtual 505, 3) := by decide +kernel
theorem dJ5_indexOf_2_17 : decode cJ5_indexOf_2 17 = .ok (.invokestatic 637, 3) := by decide +kernel
theorem dJ5_indexOf_2_20 : decode cJ5_indexOf_2 20 = .ok (.goto 16, 3) := by decide +kernel
theorem dJ5_indexOf_2_23 : decode cJ5_indexOf_2 23 = .ok (.aload_n 0, 1) := by decide +kernel
theorem dJ5_indexOf_2_24 : decode cJ5_indexOf_2 24 = .ok (.getfield 9, 3) := by decide +kernel
theorem dJ5_indexOf_2_27 : decode cJ5_indexOf_2 27 = .ok (.iload_n 1, 1) := by decide +kernel
theorem dJ5_indexOf_2_28 : decode cJ5_indexOf_2 28 = .ok (.iload_n 2, 1) := by decide +kernel
theorem dJ5_indexOf_2_29 : decode cJ5_indexOf_2 29 = .ok (.aload_n 0, 1) := by decide +kernel
theorem dJ5_indexOf_2_30 : decode cJ5_indexOf_2 30 = .ok (.invokevirtual 505, 3) := by decide +kernel
theorem dJ5_indexOf_2_33 : decode cJ5_indexOf_2 33 = .ok (.invokestatic 640, 3) := by decide +kernel
theorem dJ5_indexOf_2_36 : decode cJ5_indexOf_2 36 = .ok (.ireturn, 1) := by decide +kernel
theorem dJ6_charAt_0 : decode cJ6_charAt 0 = .ok (.iload_n 1, 1) := by decide +kernel
theorem dJ6_charAt_1 : decode cJ6_charAt 1 = .ok (.aload_n 0, 1) := by decide +kernel
theorem dJ6_charAt_2 : decode cJ6_charAt 2 = .ok (.arraylength, 1) := by decide +kernel
theorem dJ6_charAt_3 : decode cJ6_charAt 3 = .ok (.invokestatic 9, 3) := by decide +kernel
theorem dJ6_charAt_6 : decode cJ6_charAt 6 = .ok (.aload_n 0, 1) := by decide +kernel
theorem dJ6_charAt_7 : decode cJ6_charAt 7 = .ok (.iload_n 1, 1) := by decide +kernel
theorem dJ6_charAt_8 : decode cJ6_charAt 8 = .ok (.baload, 1) := by decide +kernel
theorem dJ6_charAt_9 : decode cJ6_charAt 9 = .ok (.sipush 255, 3) := by decide +kernel
theorem dJ6_charAt_12 : decode cJ6_charAt 12 = .ok (.iand, 1) := by decide +kernel
theorem dJ6_charAt_13 : decode cJ6_charAt 13 = .ok (.i2c, 1) := by decide +kernel
theorem dJ6_charAt_14 : decode cJ6_charAt 14 = .ok (.ireturn, 1) := by decide +kernel
theorem dJ6_indexOf_0 : decode cJ6_indexOf 0 = .ok (.iload_n 1, 1) := by decide +kernel
theorem dJ6_indexOf_1 : decode cJ6_indexOf 1 = .ok (.invokestatic 88, 3) := by decide +kernel
theorem dJ6_indexOf_4 : decode cJ6_indexOf 4 = .ok (.ifCond .ne 5, 3) := by decide +kernel
theorem dJ6_indexOf_7 : decode cJ6_indexOf 7 = .ok (.iconst (-1), 1) := by decide +kernel
theorem dJ6_indexOf_8 : decode cJ6_indexOf 8 = .ok (.ireturn, 1) := by decide +kernel
theorem dJ6_indexOf_9 : decode cJ6_indexOf 9 = .ok (.iload_n 2, 1) := by decide +kernel
theorem dJ6_indexOf_10 : decode cJ6_indexOf 10 = .ok (.iconst 0, 1) := by decide +kernel
theorem dJ6_indexOf_11 : decode cJ6_indexOf 11 = .ok (.invokestatic 92, 3) := by decide +kernel
theorem dJ6_indexOf_14 : decode cJ6_indexOf 14 = .ok (.istore_n 2, 1) := by decide +kernel
theorem dJ6_indexOf_15 : decode cJ6_indexOf 15 = .ok (.iload_n 3, 1) := by decide +kernel
theorem dJ6_indexOf_16 : decode cJ6_indexOf 16 = .ok (.aload_n 0, 1) := by decide +kernel
theorem dJ6_indexOf_17 : decode cJ6_indexOf 17 = .ok (.arraylength, 1) := by decide +kernel
theorem dJ6_indexOf_18 : decode cJ6_indexOf 18 = .ok (.invokestatic 38, 3) := by decide +kernel
theorem dJ6_indexOf_21 : decode cJ6_indexOf 21 = .ok (.istore_n 3, 1) := by decide +kernel
theorem dJ6_indexOf_22 : decode cJ6_indexOf 22 = .ok (.iload_n 2, 1) := by decide +kernel
theorem dJ6_indexOf_23 : decode cJ6_indexOf 23 = .ok (.iload_n 3, 1) := by decide +kernel
theorem dJ6_indexOf_24 : decode cJ6_indexOf 24 = .ok (.if_icmp .lt 5, 3) := by decide +kernel
theorem dJ6_indexOf_27 : decode cJ6_indexOf 27 = .ok (.iconst (-1), 1) := by decide +kernel
theorem dJ6_indexOf_28 : decode cJ6_indexOf 28 = .ok (.ireturn, 1) := by decide +kernel
theorem dJ6_indexOf_29 : decode cJ6_indexOf 29 = .ok (.aload_n 0, 1) := by decide +kernel
theorem dJ6_indexOf_30 : decode cJ6_indexOf 30 = .ok (.iload_n 1, 1) := by decide +kernel
theorem dJ6_indexOf_31 : decode cJ6_indexOf 31 = .ok (.iload_n 2, 1) := by decide +kernel
theorem dJ6_indexOf_32 : decode cJ6_indexOf 32 = .ok (.iload_n 3, 1) := by decide +kernel
theorem dJ6_indexOf_33 : decode cJ6_indexOf 33 = .ok (.invokestatic 95, 3) := by decide +kernel
theorem dJ6_indexOf_36 : decode cJ6_indexOf 36 = .ok (.ireturn, 1) := by decide +kernel
theorem dJ6_canEncode_0 : decode cJ6_canEncode 0 = .ok (.iload_n 0, 1) := by decide +kernel
theorem dJ6_canEncode_1 : decode cJ6_canEncode 1 = .ok (.ifCond .lt 14, 3) := by decide +kernel
theorem dJ6_canEncode_4 : decode cJ6_canEncode 4 = .ok (.iload_n 0, 1) := by decide +kernel
theorem dJ6_canEncode_5 : decode cJ6_canEncode 5 = .ok (.sipush 255, 3) := by decide +kernel
theorem dJ6_canEncode_8 : decode cJ6_canEncode 8 = .ok (.if_icmp .gt 7, 3) := by decide +kernel
theorem dJ6_canEncode_11 : decode cJ6_canEncode 11 = .ok (.iconst 1, 1) := by decide +kernel
theorem dJ6_canEncode_12 : decode cJ6_canEncode 12 = .ok (.goto 4, 3) := by decide +kernel
theorem dJ6_canEncode_15 : decode cJ6_canEncode 15 = .ok (.iconst 0, 1) := by decide +kernel
theorem dJ6_canEncode_16 : decode cJ6_canEncode 16 = .ok (.ireturn, 1) := by decide +kernel
theorem dJ6_indexOfChar_0 : decode cJ6_indexOfChar 0 = .ok (.iload_n 1, 1) := by decide +kernel
theorem dJ6_indexOfChar_1 : decode cJ6_indexOfChar 1 = .ok (.i2b, 1) := by decide +kernel
theorem dJ6_indexOfChar_2 : decode cJ6_indexOfChar 2 = .ok (.istore 4, 2) := by decide +kernel
theorem dJ6_indexOfChar_4 : decode cJ6_indexOfChar 4 = .ok (.iload_n 2, 1) := by decide +kernel
theorem dJ6_indexOfChar_5 : decode cJ6_indexOfChar 5 = .ok (.istore 5, 2) := by decide +kernel
theorem dJ6_indexOfChar_7 : decode cJ6_indexOfChar 7 = .ok (.iload 5, 2) := by decide +kernel
theorem dJ6_indexOfChar_9 : decode cJ6_indexOfChar 9 = .ok (.iload_n 3, 1) := by decide +kernel
theorem dJ6_indexOfChar_10 : decode cJ6_indexOfChar 10 = .ok (.if_icmp .ge 21, 3) := by decide +kernel
theorem dJ6_indexOfChar_13 : decode cJ6_indexOfChar 13 = .ok (.aload_n 0, 1) := by decide +kernel
theorem dJ6_indexOfChar_14 : decode cJ6_indexOfChar 14 = .ok (.iload 5, 2) := by decide +kernel
theorem dJ6_indexOfChar_16 : decode cJ6_indexOfChar 16 = .ok (.baload, 1) := by decide +kernel
theorem dJ6_indexOfChar_17 : decode cJ6_indexOfChar 17 = .ok (.iload 4, 2) := by decide +kernel
theorem dJ6_indexOfChar_19 : decode cJ6_indexOfChar 19 = .ok (.if_icmp .ne 6, 3) := by decide +kernel
theorem dJ6_indexOfChar_22 : decode cJ6_indexOfChar 22 = .ok (.iload 5, 2) := by decide +kernel
theorem dJ6_indexOfChar_24 : decode cJ6_indexOfChar 24 = .ok (.ireturn, 1) := by decide +kernel
theorem dJ6_indexOfChar_25 : decode cJ6_indexOfChar 25 = .ok (.iinc 5 1, 3) := by decide +kernel
theorem dJ6_indexOfChar_28 : decode cJ6_indexOfChar 28 = .ok (.goto (-21), 3) := by decide +kernel
theorem dJ6_indexOfChar_31 : decode cJ6_indexOfChar 31 = .ok (.iconst (-1), 1) := by decide +kernel
theorem dJ6_indexOfChar_32 : decode cJ6_indexOfChar 32 = .ok (.ireturn, 1) := by decide +kernel
theorem dJ7_checkIndex_0 : decode cJ7_checkIndex 0 = .ok (.iload_n 0, 1) := by decide +kernel
theorem dJ7_checkIndex_1 : decode cJ7_checkIndex 1 = .ok (.ifCond .lt 8, 3) := by decide +kernel
theorem dJ7_checkIndex_4 : decode cJ7_checkIndex 4 = .ok (.iload_n 0, 1) := by decide +kernel
theorem dJ7_checkIndex_5 : decode cJ7_checkIndex 5 = .ok (.iload_n 1, 1) := by decide +kernel
theorem dJ7_checkIndex_6 : decode cJ7_checkIndex 6 = .ok (.if_icmp .lt 10, 3) := by decide +kernel
theorem dJ7_checkIndex_9 : decode cJ7_checkIndex 9 = .ok (.aload_n 2, 1) := by decide +kernel
theorem dJ7_checkIndex_10 : decode cJ7_checkIndex 10 = .ok (.iload_n 0, 1) := by decide +kernel
theorem dJ7_checkIndex_11 : decode cJ7_checkIndex 11 = .ok (.iload_n 1, 1) := by decide +kernel
theorem dJ7_checkIndex_12 : decode cJ7_checkIndex 12 = .ok (.invokestatic 95, 3) := by decide +kernel
theorem dJ7_checkIndex_15 : decode cJ7_checkIndex 15 = .ok (.athrow, 1) := by decide +kernel
theorem dJ7_checkIndex_16 : decode cJ7_checkIndex 16 = .ok (.iload_n 0, 1) := by decide +kernel
theorem dJ7_checkIndex_17 : decode cJ7_checkIndex 17 = .ok (.ireturn, 1) := by decide +kernel
theorem dX1_sizeOf_0 : decode cX1_sizeOf 0 = .ok (.getstatic 1, 3) := by decide +kernel
theorem dX1_sizeOf_3 : decode cX1_sizeOf 3 = .ok (.iload_n 0, 1) := by decide +kernel
theorem dX1_sizeOf_4 : decode cX1_sizeOf 4 = .ok (.iaload, 1) := by decide +kernel
theorem dX1_sizeOf_5 : decode cX1_sizeOf 5 = .ok (.ireturn, 1) := by decide +kernel
theorem k_oldq {D : DE} {M : MI} {f : Nat} {p : Program} {l : Launch} {R : Room} {s : State} {m : MethodId} {args : Array Value} {meth : Method} {c : Code} (Cx : k_Cx D M f p l R s m args meth c) : ∀ a : Nat, a < (dH D).size → ¬ k_A D a → s.heap[a]? = (dH D)[a]? :=
  fun a _ h => Cx.2.2.2.2.2.2.2.2.2.2.2.2.2.2.1 a (Nat.not_le.mp h)
section OC
variable {D : DE} {M : MI} {f : Nat} {Q : Out → Mem → Prop} {pc : Nat} {l : List (Nat × Value)} {st rest av : List Value} {μ : Mem} {idx i : Nat} {n d : String} {v : Value}
theorem V_gets {C : String} (hZ : ∀ s, k_Env D s → va_Z C n d v (k_A D) s (dH D)) (q : Cond.fieldLink (mN M).cls idx C n d ∈ lw_all) (dd : decode (mC M) pc = .ok (.getstatic idx, 3)) (kk : V D M f Q (pc + 3) l (v :: st) μ) : V D M f Q pc l st μ :=
  V.step (Nat.le_refl _) (Nat.le_refl _) kk fun μ' p la e R s m args below meth c H locs cells slots ls Qf _ _ Cx P hl kk =>
    va_gets Cx.1 Cx.2.1 ((hZ s Cx.2.2.2.2.2.2.1).kept (k_oldq Cx)) P.2.1 Cx.2.2.2.2.1 (Cx.2.2.2.2.2.1 _ q) (fun _ h => h) dd (kk H locs cells slots ls P hl)
theorem V_getO {o : String} {t : Nat} (hO : ∀ s, k_Env D s → va_OF o n d v t (k_A D) s (dH D)) (q : Cond.fieldLink (mN M).cls idx o n d ∈ lw_all) (dd : decode (mC M) pc = .ok (.getfield idx, 3)) (kk : V D M f Q (pc + 3) l (v :: st) μ) : V D M f Q pc l (.ref t :: st) μ :=
  V.step (Nat.le_refl _) (Nat.le_refl _) kk fun μ' p la e R s m args below meth c H locs cells slots ls Qf _ _ Cx P hl kk =>
    vk_getf Cx.1 Cx.2.1 ((hO s Cx.2.2.2.2.2.2.1).kept (k_oldq Cx)) P.2.1 Cx.2.2.2.2.1 (Cx.2.2.2.2.2.1 _ q) (fun _ h => h) dd (kk H locs cells slots ls P hl)
theorem V_ldO {tx : String} {t : Nat} (hR : ∀ s, k_Env D s → vk_R (mN M).cls idx tx t s) (dd : decode (mC M) pc = .ok (.ldc idx, 2)) (kk : V D M f Q (pc + 2) l (.ref t :: st) μ) : V D M f Q pc l st μ :=
  V.step (Nat.le_refl _) (Nat.le_refl _) kk fun μ' p la e R s m args below meth c H locs cells slots ls Qf _ _ Cx P hl kk =>
    va_ldcS Cx.1 Cx.2.1 Cx.2.2.2.2.1 (hR s Cx.2.2.2.2.2.2.1) dd (kk H locs cells slots ls P hl)
theorem V_ti {t N : Nat} {fv : Nat → Value} {j : Int32} (hT : ∀ s, k_Env D s → va_T .int t N fv (k_A D) s (dH D)) (hin : vp_in j N) (hv : fv (ix j) = v) (dd : decode (mC M) pc = .ok (.iaload, 1)) (kk : V D M f Q (pc + 1) l (v :: st) μ) : V D M f Q pc l (.int j :: .ref t :: st) μ :=
  V.step (Nat.le_refl _) (Nat.le_refl _) kk fun μ' p la e R s m args below meth c H locs cells slots ls Qf _ _ Cx P hl kk =>
    va_ti Cx.1 Cx.2.1 ((hT s Cx.2.2.2.2.2.2.1).kept (k_oldq Cx)) P.2.1 hin hv dd (kk H locs cells slots ls P hl)
theorem V_tb {t N : Nat} {fv : Nat → Value} {j : Int32} (hT : ∀ s, k_Env D s → va_T .byte t N fv (k_A D) s (dH D)) (hin : vp_in j N) (hv : fv (ix j) = v) (dd : decode (mC M) pc = .ok (.baload, 1)) (kk : V D M f Q (pc + 1) l (v :: st) μ) : V D M f Q pc l (.int j :: .ref t :: st) μ :=
  V.step (Nat.le_refl _) (Nat.le_refl _) kk fun μ' p la e R s m args below meth c H locs cells slots ls Qf _ _ Cx P hl kk =>
    va_tb Cx.1 Cx.2.1 ((hT s Cx.2.2.2.2.2.2.1).kept (k_oldq Cx)) P.2.1 hin hv dd (kk H locs cells slots ls P hl)
theorem V_tlen {t N : Nat} {fv : Nat → Value} {ty : FieldType} {x : Int32} (hT : ∀ s, k_Env D s → va_T ty t N fv (k_A D) s (dH D)) (hv : Int32.ofNat N = x) (dd : decode (mC M) pc = .ok (.arraylength, 1)) (kk : V D M f Q (pc + 1) l (.int x :: st) μ) : V D M f Q pc l (.ref t :: st) μ :=
  V.step (Nat.le_refl _) (Nat.le_refl _) kk fun μ' p la e R s m args below meth c H locs cells slots ls Qf _ _ Cx P hl kk =>
    va_tlen Cx.1 Cx.2.1 ((hT s Cx.2.2.2.2.2.2.1).kept (k_oldq Cx)) P.2.1 hv dd (kk H locs cells slots ls P hl)
theorem V_nret {x : Int32} {ty : FieldType} (hr : mR M = some ty) (hx : narrow ty (.int x) = .int x) (d : decode (mC M) pc = .ok (.ireturn, 1)) (hq : Q (.inl (some (.int x))) μ) : V D M f Q pc l [.int x] μ :=
  ⟨.inl (some (.int x)), μ, hq, Nat.le_refl _, Nat.le_refl _, fun p la e R s m args below meth c H locs cells slots ls Cx P hl =>
    (W.zret (Qc := fun _ _ oc u => oc = k_oc D (.inl (some (.int x))) ∧ k_Rep D μ u.heap) (free := k_A D) Cx.1 Cx.2.1 (Cx.2.2.1.trans hr) hx (fun t ht _ => ⟨rfl, by rw [ht]; exact P.1⟩) P.2.1.2.2 d (hlocks := Cx.2.2.2.2.2.2.2.1)).mono (fun t => k_fin P)⟩
theorem k_resO {y : MethodName} {bytes : ByteArray} {maxL : Nat} {ret : Option FieldType} (i : Nat) (hi : i < 3) (q1 : Cond.methodLink (mN M).cls idx y ∈ lw_all) (q2 : Cond.instanceMethod y ∈ lw_all) (q3 : Cond.selects "java/lang/String" y y ∈ lw_all) (q5 : Cond.code y bytes maxL ret ∈ lw_all) (hy : y.cls ≠ "java/lang/invoke/MethodHandle" ∧ y.cls ≠ "java/lang/invoke/VarHandle")
    (hn : (parseMethodDescriptor y.desc).map (fun d => d.parameters.length) = some av.length) (d : decode (mC M) pc = .ok (.invokevirtual idx, 3)) : k_RES D M f pc l (av.reverse ++ .ref (dO D (1 + i)) :: rest) μ y (.ref (dO D (1 + i)) :: av) rest := by
  intro μ' p la e R s m args below meth c H locs cells slots ls Cx P hl T hT X
  have hts := Cx.2.2.2.2.2.1
  obtain ⟨cellB, hcell, hobj, hcls⟩ := vk_recv (vk_S.kept Cx.2.2.2.2.2.2.1.2.2.2.2.2.2.2.2.1 (k_oldq Cx)) hi P.2.1
  obtain ⟨mk, methM, hnamed, hmethM, hstM, habM⟩ := Cond.instanceMethod_spec (hts _ q2)
  obtain ⟨methM', cM, hmethM', -, -, -, -, -, -, hsigM⟩ := Cond.code_spec hnamed (hts _ q5)
  cases hmethM.symm.trans hmethM'
  obtain ⟨c2, r2, m2, w1, w2, w3, w4, kP, hkP, hkPi⟩ := Cond.selects_spec (hts _ q3)
  cases hcls.symm.trans w1
  cases (State.methodFound?_of_named hnamed hy).symm.trans w2
  cases hnamed.symm.trans w3
  have hselP : selectMethod e.platform s.vm cellB.cls mk = .method mk := by rw [Launch.admits_selectMethod X.admits]; exact w4
  have hlen : av.length = methM.sig.parameters.length := by
    rw [hsigM] at hn
    exact (Option.some.inj hn).symm
  have hdg : decode c.code (F0 m pc ls (av.reverse ++ .ref (dO D (1 + i)) :: rest)).pc = .ok (.invokevirtual idx, 3) := by rw [Cx.2.1]; exact d
  obtain ⟨vm₁, X₁, hstep₁⟩ := X.invokevirtual Cx.1 Cx.2.2.2.2.1 (hts _ q1) hnamed hmethM hstM hkP hkPi hy (a := dO D (1 + i)) (cell := cellB) (by rw [hT]; exact hcell)
    (fun z h => by rw [h] at hobj; cases hobj) hselP hmethM habM hkP hkPi (g := F0 m pc ls (av.reverse ++ .ref (dO D (1 + i)) :: rest)) rfl (argsL := av) (rest := rest) hlen rfl hdg
  exact ⟨vm₁, mk, _, X₁, X₁.named hnamed, hdg, fun target h => hstep₁ _ fun acts => by rw [doInvoke_state]; exact h⟩
end OC
section OW
variable {D : DE} {f : Nat} {F : Frm} {h : HI} {g : HL} {i : Nat}
theorem H_nret {M : MI} {pc : Nat} {l : List (Nat × Value)} {Q : Int32 → HI → HL → Prop} {x : Int32} {ty : FieldType} (hr : mR M = some ty) (hx : narrow ty (.int x) = .int x) (d : decode (mC M) pc = .ok (.ireturn, 1)) (hq : Q x h g) : V D M f (qi F Q) pc l [.int x] (F, h, g) := V_nret hr hx d ⟨x, h, g, rfl, rfl, hq⟩
theorem wX1_sizeOf {Q : Int32 → HI → HL → Prop} (x0 : Int32) (hin : vp_in x0 5) (H : Q (k_sizes (ix x0)) h g) : Si D f mX1_sizeOf [.int x0] F h g Q := Cl.ofV (by decide) (Nat.le_of_ble_eq_true rfl) rfl (by
  refine V_gets (fun s hE => hE.2.2.2.2.2.2.1) q1164 dX1_sizeOf_0 ?_
  refine V_iload_n dX1_sizeOf_3 rfl 0 rfl ?_
  refine V_ti (fun s hE => hE.2.2.2.2.2.2.2.1) hin rfl dX1_sizeOf_4 ?_
  exact H_iret rfl dX1_sizeOf_5 H)
theorem wJ5_coder {Q : Int32 → HI → HL → Prop} (hi : i < 3) (H : Q 0 h g) : Si D f mJ5_coder [.ref (dO D (1 + i))] F h g Q := Cl.ofV (by decide) (Nat.le_of_ble_eq_true rfl) rfl (by
  refine V_gets (v := .int 1) (fun s hE => hE.2.2.2.2.2.2.2.2.2.2.2.2.1) q466 dJ5_coder_0 ?_
  refine V_if_eq (tgt := 13) dJ5_coder_3 (by decide) (fun c => absurd c (by decide)) (fun _ => ?_)
  refine V_aload_n dJ5_coder_6 rfl 0 rfl ?_
  refine V_getO (v := .int 0) (fun s hE => (hE.2.2.2.2.2.2.2.2.1.1 i hi).2.1) q2035 dJ5_coder_7 ?_
  refine V_goto (tgt := 14) dJ5_coder_10 (by decide) ?_
  exact H_nret (ty := .byte) rfl (by decide) dJ5_coder_14 H)
theorem wJ5_isLatin1 {Q : Int32 → HI → HL → Prop} (hi : i < 3) (H : Q 1 h g) : Si D f mJ5_isLatin1 [.ref (dO D (1 + i))] F h g Q := Cl.ofV (by decide) (Nat.le_of_ble_eq_true rfl) rfl (by
  refine V_gets (v := .int 1) (fun s hE => hE.2.2.2.2.2.2.2.2.2.2.2.2.1) q466 dJ5_isLatin1_0 ?_
  refine V_if_eq (tgt := 17) dJ5_isLatin1_3 (by decide) (fun c => absurd c (by decide)) (fun _ => ?_)
  refine V_aload_n dJ5_isLatin1_6 rfl 0 rfl ?_
  refine V_getO (v := .int 0) (fun s hE => (hE.2.2.2.2.2.2.2.2.1.1 i hi).2.1) q2035 dJ5_isLatin1_7 ?_
  refine V_if_ne (tgt := 17) dJ5_isLatin1_10 (by decide) (fun c => absurd rfl c) (fun _ => ?_)
  refine V_iconst (v := 1) dJ5_isLatin1_13 (by decide) ?_
  refine V_goto (tgt := 18) dJ5_isLatin1_14 (by decide) ?_
  exact H_nret (ty := .boolean) rfl (by decide) dJ5_isLatin1_18 H)
theorem wJ5_length {Q : Int32 → HI → HL → Prop} (hi : i < 3) (H : Q (nI (k_slen.getD i 0)) h g) : Si D (f + 1) mJ5_length [.ref (dO D (1 + i))] F h g Q := Cl.ofV (by decide) (Nat.le_of_ble_eq_true rfl) rfl (by
  refine V_aload_n dJ5_length_0 rfl 0 rfl ?_
  refine V_getO (v := .ref (dO D (4 + i))) (fun s hE => (hE.2.2.2.2.2.2.2.2.1.1 i hi).2.2.1) q2034 dJ5_length_1 ?_
  refine V_tlen (x := nI (k_slen.getD i 0)) (fun s hE => (hE.2.2.2.2.2.2.2.2.1.1 i hi).2.2.2) rfl dJ5_length_4 ?_
  refine V_aload_n dJ5_length_5 rfl 0 rfl ?_
  refine H_calli (Q1 := fun x h1 g1 => x = 0 ∧ h1 = h ∧ g1 = g) (av := [.ref (dO D (1 + i))]) (rest := [.int (nI (k_slen.getD i 0))]) (wJ5_coder hi ⟨rfl, rfl, rfl⟩) mqJ5_coder q95 (by decide) (Nat.le_of_ble_eq_true rfl) (k_resO (av := []) (rest := [.int (nI (k_slen.getD i 0))]) i hi q462 q463 q464 q465 mhJ5_coder mnJ5_coder dJ5_length_6) (fun x h1 g1 hx => ?_)
  obtain ⟨rfl, rfl, rfl⟩ := hx
  refine V_ishr dJ5_length_9 ?_
  have e : nI (k_slen.getD i 0) >>> ((0 : Int32) &&& 31) = nI (k_slen.getD i 0) := by
    rcases (show i = 0 ∨ i = 1 ∨ i = 2 by omega) with rfl | rfl | rfl <;> decide
  rw [e]
  exact H_iret rfl dJ5_length_10 H)
theorem wJ7_checkIndex {Q : Int32 → HI → HL → Prop} (x n : Int32) (v : Value) (hv : k_isRef v) (h1 : ¬ x < 0) (h2 : x < n) (H : Q x h g) : Si D f mJ7_checkIndex [.int x, .int n, v] F h g Q := by
  have key : ∀ l : List (Nat × Value), l[0]? = some (0, .int x) → l[1]? = some (1, .int n) → V D mJ7_checkIndex f (qi F Q) 0 l [] (F, h, g) := fun l e1 e2 => by
    refine V_iload_n dJ7_checkIndex_0 rfl 0 e1 ?_
    refine V_if_lt (tgt := 9) dJ7_checkIndex_1 (by decide) (fun c => absurd c h1) (fun _ => ?_)
    refine V_iload_n dJ7_checkIndex_4 rfl 0 e1 ?_
    refine V_iload_n dJ7_checkIndex_5 rfl 1 e2 ?_
    refine V_icmp_lt (tgt := 16) dJ7_checkIndex_6 (by decide) (fun _ => ?_) (fun c => absurd h2 c)
    refine V_iload_n dJ7_checkIndex_16 rfl 0 e1 ?_
    exact H_iret rfl dJ7_checkIndex_17 H
  rcases hv with rfl | ⟨a, rfl⟩
  · exact Cl.ofV (l := [(0, .int x), (1, .int n), (2, .null)]) (by decide) (Nat.le_of_ble_eq_true rfl) rfl (key _ rfl rfl)
  · exact Cl.ofV (l := [(0, .int x), (1, .int n), (2, .ref a)]) (by decide) (Nat.le_of_ble_eq_true rfl) rfl (key _ rfl rfl)
theorem k_sioR (D : DE) : k_isRef (k_sio D) := by
  unfold k_sio
  cases dO D 8 with
  | zero => exact Or.inl rfl
  | succ k => exact Or.inr ⟨k, rfl⟩
theorem wJ5_checkIndex {Q : HI → HL → Prop} (x n : Int32) (h1 : ¬ x < 0) (h2 : x < n) (H : Q h g) : Sv D (f + 1) mJ5_checkIndex [.int x, .int n] F h g Q := Cl.ofV (by decide) (Nat.le_of_ble_eq_true rfl) rfl (by
  refine V_iload_n dJ5_checkIndex_0 rfl 0 rfl ?_
  refine V_iload_n dJ5_checkIndex_1 rfl 1 rfl ?_
  refine V_gets (fun s hE => hE.2.2.2.2.2.2.2.2.2.2.2.2.2.2.2.2.2.2.2.2.2.2.2) q482 dJ5_checkIndex_2 ?_
  refine H_calli (Q1 := fun x h1 g1 => h1 = h ∧ g1 = g) (av := [.int x, .int n, k_sio D]) (rest := []) (wJ7_checkIndex x n (k_sio D) (k_sioR D) h1 h2 ⟨rfl, rfl⟩) mqJ7_checkIndex q97 (by decide) (Nat.le_of_ble_eq_true rfl) (k_resS (av := [.int x, .int n, k_sio D]) (rest := []) (M1 := mJ7_checkIndex) rfl q484 q485 q97 mqJ7_checkIndex (fun _ _ h => mW_named h) mhJ7_checkIndex mnJ7_checkIndex dJ5_checkIndex_5) (fun x h1 g1 hx => ?_)
  obtain ⟨rfl, rfl⟩ := hx
  refine V_pop dJ5_checkIndex_8 rfl ?_
  exact H_vret rfl dJ5_checkIndex_9 H)
/-- WORDS, by place -/
def k_ch (j : Nat) : Int32 := (k_sbyt.getD 0 []).getD j 0
theorem k_ch_ok : ∀ j, j < 37 → ((k_ch j &&& 255).toUInt32 % 65536).toInt32 = k_ch j ∧ narrow .char (.int (k_ch j)) = .int (k_ch j) := by decide +kernel
theorem vp_in_lt {x : Int32} {n : Nat} (hn : n < 2 ^ 31) (h : vp_in x n) : ¬ x < 0 ∧ x < nI n ∧ ix x < n := by
  have h1 : ¬ x < 0 := fun q => h (Or.inl q)
  have h2 : ix x < n := Nat.not_le.mp fun q => h (Or.inr q)
  refine ⟨h1, ?_, h2⟩
  have e : (nI n).toInt = (n : Int) := nI_toInt hn
  rw [Int32.lt_iff_toInt_lt, e]
  have h3 : x.toInt.toNat < n := h2
  omega
theorem wJ6_charAt {Q : Int32 → HI → HL → Prop} (x : Int32) (hin : vp_in x 37) (H : Q (k_ch (ix x)) h g) : Si D (f + 2) mJ6_charAt [.ref (dO D 4), .int x] F h g Q := Cl.ofV (by decide) (Nat.le_of_ble_eq_true rfl) rfl (by
  obtain ⟨h1, h2, h3⟩ := vp_in_lt (by decide) hin
  refine V_iload_n dJ6_charAt_0 rfl 1 rfl ?_
  refine V_aload_n dJ6_charAt_1 rfl 0 rfl ?_
  refine V_tlen (x := nI 37) (fun s hE => (hE.2.2.2.2.2.2.2.2.1.1 0 (by decide)).2.2.2) rfl dJ6_charAt_2 ?_
  refine H_callv (Q1 := fun h1 g1 => h1 = h ∧ g1 = g) (av := [.int x, .int (nI 37)]) (rest := []) (wJ5_checkIndex x (nI 37) h1 h2 ⟨rfl, rfl⟩) mqJ5_checkIndex q95 (by decide) (Nat.le_of_ble_eq_true rfl) (k_resS (av := [.int x, .int (nI 37)]) (rest := []) (M1 := mJ5_checkIndex) rfl q479 q480 q95 mqJ5_checkIndex (fun _ _ h => mW_named h) mhJ5_checkIndex mnJ5_checkIndex dJ6_charAt_3) (fun h1 g1 hx => ?_)
  obtain ⟨rfl, rfl⟩ := hx
  refine V_aload_n dJ6_charAt_6 rfl 0 rfl ?_
  refine V_iload_n dJ6_charAt_7 rfl 1 rfl ?_
  refine V_tb (v := .int (k_ch (ix x))) (fun s hE => (hE.2.2.2.2.2.2.2.2.1.1 0 (by decide)).2.2.2) hin rfl dJ6_charAt_8 ?_
  refine V_sipush (v := 255) dJ6_charAt_9 (by decide) ?_
  refine V_iand dJ6_charAt_12 ?_
  refine V_i2c dJ6_charAt_13 ?_
  rw [(k_ch_ok _ h3).1]
  exact H_nret (ty := .char) rfl (k_ch_ok _ h3).2 dJ6_charAt_14 H)
theorem wJ5_charAt {Q : Int32 → HI → HL → Prop} (x : Int32) (hin : vp_in x 37) (H : Q (k_ch (ix x)) h g) : Si D (f + 3) mJ5_charAt [.ref (dO D 1), .int x] F h g Q := Cl.ofV (by decide) (Nat.le_of_ble_eq_true rfl) rfl (by
  obtain ⟨-, -, h3⟩ := vp_in_lt (by decide) hin
  refine V_aload_n dJ5_charAt_0 rfl 0 rfl ?_
  refine H_calli (Q1 := fun x h1 g1 => x = 1 ∧ h1 = h ∧ g1 = g) (av := [.ref (dO D (1 + 0))]) (rest := []) (wJ5_isLatin1 (by decide) ⟨rfl, rfl, rfl⟩) mqJ5_isLatin1 q95 (by decide) (Nat.le_of_ble_eq_true rfl) (k_resO (av := []) (rest := []) 0 (by decide) q472 q473 q474 q475 mhJ5_isLatin1 mnJ5_isLatin1 dJ5_charAt_1) (fun z h1 g1 hx => ?_)
  obtain ⟨rfl, rfl, rfl⟩ := hx
  refine V_if_eq (tgt := 16) dJ5_charAt_4 (by decide) (fun c => absurd c (by decide)) (fun _ => ?_)
  refine V_aload_n dJ5_charAt_7 rfl 0 rfl ?_
  refine V_getO (v := .ref (dO D 4)) (fun s hE => (hE.2.2.2.2.2.2.2.2.1.1 0 (by decide)).2.2.1) q2034 dJ5_charAt_8 ?_
  refine V_iload_n dJ5_charAt_11 rfl 1 rfl ?_
  refine H_calli (Q1 := fun z h2 g2 => z = k_ch (ix x) ∧ h2 = h1 ∧ g2 = g1) (av := [.ref (dO D 4), .int x]) (rest := []) (wJ6_charAt x hin ⟨rfl, rfl, rfl⟩) mqJ6_charAt q96 (by decide) (Nat.le_of_ble_eq_true rfl) (k_resS (av := [.ref (dO D 4), .int x]) (rest := []) (M1 := mJ6_charAt) rfl q476 q477 q96 mqJ6_charAt (fun _ _ h => mW_named h) mhJ6_charAt mnJ6_charAt dJ5_charAt_12) (fun z h1 g1 hx => ?_)
  obtain ⟨rfl, rfl, rfl⟩ := hx
  exact H_nret (ty := .char) rfl (k_ch_ok _ h3).2 dJ5_charAt_15 H)
/-- where a byte stands first in what is left of a text -/
def k_ixF (v : Int32) : List Int32 → Nat → Int32
  | [], _ => -1
  | b :: l, k => if b = v then nI k else k_ixF v l (k + 1)
abbrev k_sg : List Int32 := [40, 41, 44, 59, 58, 61, 43, 45, 42, 60]
/-- the place of a char in SIGNS, or -1 -/
def k_ix (c : Int32) : Int32 := if 0 ≤ c ∧ c ≤ 255 then k_ixF c.toInt8.toInt32 k_sg 0 else -1
theorem wJ6_indexOfCharL {Q : Int32 → HI → HL → Prop} (c v : Int32) : ∀ (l : List Int32) (k : Nat), k ≤ 10 → k_sg.drop k = l → Q (k_ixF v l k) h g → V D mJ6_indexOfChar f (qi F Q) 7 [(5, .int (nI k)), (4, .int v), (0, .ref (dO D 5)), (1, .int c), (2, .int 0), (3, .int 10)] [] (F, h, g) := by
  intro l
  induction l with
  | nil =>
    intro k hk hl H
    have e : k = 10 := by
      have := congrArg List.length hl
      simp at this
      omega
    subst e
    refine V_iload dJ6_indexOfChar_7 0 rfl ?_
    refine V_iload_n dJ6_indexOfChar_9 rfl 5 rfl ?_
    refine V_icmp_ge (tgt := 31) dJ6_indexOfChar_10 (by decide) (fun _ => ?_) (fun c => absurd (by decide) c)
    refine V_iconst (v := -1) dJ6_indexOfChar_31 (by decide) ?_
    exact H_iret rfl dJ6_indexOfChar_32 H
  | cons b l ih =>
    intro k hk hl H
    have hk2 : k < 10 := by
      have := congrArg List.length hl
      simp at this
      omega
    have hb : k_sg.getD k 0 = b := by
      have : k_sg[k]? = some b := by
        have h2 : (k_sg.drop k)[0]? = some b := by rw [hl]; rfl
        rw [List.getElem?_drop] at h2
        exact h2
      rw [List.getD_eq_getElem?_getD, this]
      rfl
    have hl2 : k_sg.drop (k + 1) = l := by
      have h2 : (k_sg.drop k).drop 1 = l := by rw [hl]; rfl
      rw [List.drop_drop] at h2
      exact h2
    refine V_iload dJ6_indexOfChar_7 0 rfl ?_
    refine V_iload_n dJ6_indexOfChar_9 rfl 5 rfl ?_
    refine V_icmp_ge (tgt := 31) dJ6_indexOfChar_10 (by decide) (fun c => absurd c (nI_ge (b := 10) hk2 (by decide))) (fun _ => ?_)
    refine V_aload_n dJ6_indexOfChar_13 rfl 2 rfl ?_
    refine V_iload dJ6_indexOfChar_14 0 rfl ?_
    refine V_tb (v := .int b) (fun s hE => (hE.2.2.2.2.2.2.2.2.1.1 1 (by decide)).2.2.2) (nI_in hk2 (by decide)) (by show Value.int (k_sg.getD (ix (nI k)) 0) = _; rw [show ix (nI k) = k from nI_clamp (by omega), hb]) dJ6_indexOfChar_16 ?_
    refine V_iload dJ6_indexOfChar_17 1 rfl ?_
    refine V_icmp_ne (tgt := 25) dJ6_indexOfChar_19 (by decide) (fun q => ?_) (fun q => ?_)
    · refine V_iinc (j := 0) (v := nI (k + 1)) (l1 := [(5, .int (nI (k + 1))), (4, .int v), (0, .ref (dO D 5)), (1, .int c), (2, .int 0), (3, .int 10)]) dJ6_indexOfChar_25 rfl (by rw [nI_succ]; rfl) (by decide) rfl ?_
      refine V_goto (tgt := 7) dJ6_indexOfChar_28 (by decide) ?_
      refine ih (k + 1) (by omega) hl2 ?_
      rw [k_ixF, if_neg q] at H
      exact H
    · refine V_iload dJ6_indexOfChar_22 0 rfl ?_
      refine H_iret rfl dJ6_indexOfChar_24 ?_
      rw [k_ixF, if_pos q] at H
      exact H
theorem wJ6_indexOfChar {Q : Int32 → HI → HL → Prop} (c : Int32) (H : Q (k_ixF c.toInt8.toInt32 k_sg 0) h g) : Si D f mJ6_indexOfChar [.ref (dO D 5), .int c, .int 0, .int 10] F h g Q := Cl.ofV (by decide) (Nat.le_of_ble_eq_true rfl) rfl (by
  refine V_iload_n dJ6_indexOfChar_0 rfl 1 rfl ?_
  refine V_i2b dJ6_indexOfChar_1 ?_
  refine V_istore (l1 := [(4, .int c.toInt8.toInt32), (0, .ref (dO D 5)), (1, .int c), (2, .int 0), (3, .int 10)]) dJ6_indexOfChar_2 (by decide) rfl ?_
  refine V_iload_n dJ6_indexOfChar_4 rfl 3 rfl ?_
  refine V_istore (l1 := [(5, .int 0), (4, .int c.toInt8.toInt32), (0, .ref (dO D 5)), (1, .int c), (2, .int 0), (3, .int 10)]) dJ6_indexOfChar_5 (by decide) rfl ?_
  exact wJ6_indexOfCharL c _ k_sg 0 (by decide) rfl H)
theorem wJ6_canEncode {Q : Int32 → HI → HL → Prop} (c : Int32) (H : Q (if 0 ≤ c ∧ c ≤ 255 then 1 else 0) h g) : Si D f mJ6_canEncode [.int c] F h g Q := Cl.ofV (by decide) (Nat.le_of_ble_eq_true rfl) rfl (by
  refine V_iload_n dJ6_canEncode_0 rfl 0 rfl ?_
  refine V_if_lt (tgt := 15) dJ6_canEncode_1 (by decide) (fun q => ?_) (fun q => ?_)
  · rw [if_neg (fun z => absurd q (Int32.not_lt.mpr z.1))] at H
    refine V_iconst (v := 0) dJ6_canEncode_15 (by decide) ?_
    exact H_nret (ty := .boolean) rfl (by decide) dJ6_canEncode_16 H
  · refine V_iload_n dJ6_canEncode_4 rfl 0 rfl ?_
    refine V_sipush (v := 255) dJ6_canEncode_5 (by decide) ?_
    refine V_icmp_gt (tgt := 15) dJ6_canEncode_8 (by decide) (fun q2 => ?_) (fun q2 => ?_)
    · rw [if_neg (fun z => absurd q2 (Int32.not_lt.mpr z.2))] at H
      refine V_iconst (v := 0) dJ6_canEncode_15 (by decide) ?_
      exact H_nret (ty := .boolean) rfl (by decide) dJ6_canEncode_16 H
    · rw [if_pos ⟨Int32.not_lt.mp q, Int32.not_lt.mp q2⟩] at H
      refine V_iconst (v := 1) dJ6_canEncode_11 (by decide) ?_
      refine V_goto (tgt := 16) dJ6_canEncode_12 (by decide) ?_
      exact H_nret (ty := .boolean) rfl (by decide) dJ6_canEncode_16 H)
theorem wJ6_indexOf {Q : Int32 → HI → HL → Prop} (c : Int32) (H : Q (k_ix c) h g) : Si D (f + 1 + 1) mJ6_indexOf [.ref (dO D 5), .int c, .int 0, .int 10] F h g Q := Cl.ofV (by decide) (Nat.le_of_ble_eq_true rfl) rfl (by
  refine V_iload_n dJ6_indexOf_0 rfl 1 rfl ?_
  refine H_calli (Q1 := fun z h1 g1 => z = (if 0 ≤ c ∧ c ≤ 255 then 1 else 0) ∧ h1 = h ∧ g1 = g) (av := [.int c]) (rest := []) (wJ6_canEncode c ⟨rfl, rfl, rfl⟩) mqJ6_canEncode q96 (by decide) (Nat.le_of_ble_eq_true rfl) (k_resS (av := [.int c]) (rest := []) (M1 := mJ6_canEncode) rfl q519 q520 q96 mqJ6_canEncode (fun _ _ h => mW_named h) mhJ6_canEncode mnJ6_canEncode dJ6_indexOf_1) (fun z h1 g1 hx => ?_)
  obtain ⟨rfl, rfl, rfl⟩ := hx
  unfold k_ix at H
  by_cases hc : 0 ≤ c ∧ c ≤ 255
  · rw [if_pos hc] at H ⊢
    refine V_if_ne (tgt := 9) dJ6_indexOf_4 (by decide) (fun _ => ?_) (fun c => absurd c (by decide))
    refine V_iload_n dJ6_indexOf_9 rfl 2 rfl ?_
    refine V_iconst (v := 0) dJ6_indexOf_10 (by decide) ?_
    refine H_max (by omega) (Nat.le_of_ble_eq_true rfl) q522 q523 q99 q524 dJ6_indexOf_11 ?_
    rw [show (if (0 : Int32) < 0 then (0 : Int32) else 0) = 0 from by decide]
    refine V_istore_n (l1 := [(2, .int 0), (0, .ref (dO D 5)), (1, .int c), (3, .int 10)]) dJ6_indexOf_14 rfl (by decide) rfl ?_
    refine V_iload_n dJ6_indexOf_15 rfl 3 rfl ?_
    refine V_aload_n dJ6_indexOf_16 rfl 1 rfl ?_
    refine V_tlen (x := 10) (fun s hE => (hE.2.2.2.2.2.2.2.2.1.1 1 (by decide)).2.2.2) (by decide) dJ6_indexOf_17 ?_
    refine H_min (by omega) (Nat.le_of_ble_eq_true rfl) q525 q526 q99 q527 dJ6_indexOf_18 ?_
    rw [show (if (10 : Int32) < 10 then (10 : Int32) else 10) = 10 from by decide]
    refine V_istore_n (l1 := [(3, .int 10), (2, .int 0), (0, .ref (dO D 5)), (1, .int c)]) dJ6_indexOf_21 rfl (by decide) rfl ?_
    refine V_iload_n dJ6_indexOf_22 rfl 1 rfl ?_
    refine V_iload_n dJ6_indexOf_23 rfl 0 rfl ?_
    refine V_icmp_lt (tgt := 29) dJ6_indexOf_24 (by decide) (fun _ => ?_) (fun c => absurd (by decide) c)
    refine V_aload_n dJ6_indexOf_29 rfl 2 rfl ?_
    refine V_iload_n dJ6_indexOf_30 rfl 3 rfl ?_
    refine V_iload_n dJ6_indexOf_31 rfl 1 rfl ?_
    refine V_iload_n dJ6_indexOf_32 rfl 0 rfl ?_
    refine H_calli (Q1 := Q) (av := [.ref (dO D 5), .int c, .int 0, .int 10]) (rest := []) (wJ6_indexOfChar c H) mqJ6_indexOfChar q96 (by decide) (Nat.le_of_ble_eq_true rfl) (k_resS (av := [.ref (dO D 5), .int c, .int 0, .int 10]) (rest := []) (M1 := mJ6_indexOfChar) rfl q528 q529 q96 mqJ6_indexOfChar (fun _ _ h => mW_named h) mhJ6_indexOfChar mnJ6_indexOfChar dJ6_indexOf_33) (fun z h1 g1 hx => ?_)
    exact H_iret rfl dJ6_indexOf_36 hx
  · rw [if_neg hc] at H ⊢
    refine V_if_ne (tgt := 9) dJ6_indexOf_4 (by decide) (fun c => absurd rfl c) (fun _ => ?_)
    refine V_iconst (v := -1) dJ6_indexOf_7 (by decide) ?_
    exact H_iret rfl dJ6_indexOf_8 H)
theorem wJ5_indexOf_2 {Q : Int32 → HI → HL → Prop} (c : Int32) (H : Q (k_ix c) h g) : Si D (f + 3) mJ5_indexOf_2 [.ref (dO D 2), .int c, .int 0] F h g Q := Cl.ofV (by decide) (Nat.le_of_ble_eq_true rfl) rfl (by
  refine V_aload_n dJ5_indexOf_2_0 rfl 0 rfl ?_
  refine H_calli (Q1 := fun x h1 g1 => x = 1 ∧ h1 = h ∧ g1 = g) (av := [.ref (dO D (1 + 1))]) (rest := []) (wJ5_isLatin1 (by decide) ⟨rfl, rfl, rfl⟩) mqJ5_isLatin1 q95 (by decide) (Nat.le_of_ble_eq_true rfl) (k_resO (av := []) (rest := []) 1 (by decide) q472 q473 q474 q475 mhJ5_isLatin1 mnJ5_isLatin1 dJ5_indexOf_2_1) (fun z h1 g1 hx => ?_)
  obtain ⟨rfl, rfl, rfl⟩ := hx
  refine V_if_eq (tgt := 23) dJ5_indexOf_2_4 (by decide) (fun c => absurd c (by decide)) (fun _ => ?_)
  refine V_aload_n dJ5_indexOf_2_7 rfl 0 rfl ?_
  refine V_getO (v := .ref (dO D 5)) (fun s hE => (hE.2.2.2.2.2.2.2.2.1.1 1 (by decide)).2.2.1) q2034 dJ5_indexOf_2_8 ?_
  refine V_iload_n dJ5_indexOf_2_11 rfl 1 rfl ?_
  refine V_iload_n dJ5_indexOf_2_12 rfl 2 rfl ?_
  refine V_aload_n dJ5_indexOf_2_13 rfl 0 rfl ?_
  refine H_calli (Q1 := fun z h2 g2 => z = 10 ∧ h2 = h1 ∧ g2 = g1) (av := [.ref (dO D (1 + 1))]) (rest := [.int 0, .int c, .ref (dO D 5)]) (wJ5_length (i := 1) (by decide) ⟨rfl, rfl, rfl⟩) mqJ5_length q95 (by decide) (Nat.le_of_ble_eq_true rfl) (k_resO (av := []) (rest := [.int 0, .int c, .ref (dO D 5)]) 1 (by decide) q515 q459 q460 q461 mhJ5_length mnJ5_length dJ5_indexOf_2_14) (fun z h1 g1 hx => ?_)
  obtain ⟨rfl, rfl, rfl⟩ := hx
  refine H_calli (Q1 := Q) (av := [.ref (dO D 5), .int c, .int 0, .int 10]) (rest := []) (wJ6_indexOf c H) mqJ6_indexOf q96 (by decide) (Nat.le_of_ble_eq_true rfl) (k_resS (av := [.ref (dO D 5), .int c, .int 0, .int 10]) (rest := []) (M1 := mJ6_indexOf) rfl q516 q517 q96 mqJ6_indexOf (fun _ _ h => mW_named h) mhJ6_indexOf mnJ6_indexOf dJ5_indexOf_2_17) (fun z h1 g1 hx => ?_)
  refine V_goto (tgt := 36) dJ5_indexOf_2_20 (by decide) ?_
  exact H_iret rfl dJ5_indexOf_2_36 hx)
theorem wJ5_indexOf {Q : Int32 → HI → HL → Prop} (c : Int32) (H : Q (k_ix c) h g) : Si D (f + 4) mJ5_indexOf [.ref (dO D 2), .int c] F h g Q := Cl.ofV (by decide) (Nat.le_of_ble_eq_true rfl) rfl (by
  refine V_aload_n dJ5_indexOf_0 rfl 0 rfl ?_
  refine V_iload_n dJ5_indexOf_1 rfl 1 rfl ?_
  refine V_iconst (v := 0) dJ5_indexOf_2 (by decide) ?_
  refine H_calli (Q1 := Q) (av := [.ref (dO D 2), .int c, .int 0]) (rest := []) (wJ5_indexOf_2 c H) mqJ5_indexOf_2 q95 (by decide) (Nat.le_of_ble_eq_true rfl) (k_resO (av := [.int c, .int 0]) (rest := []) 1 (by decide) q511 q512 q513 q514 mhJ5_indexOf_2 mnJ5_indexOf_2 dJ5_indexOf_3) (fun z h1 g1 hx => ?_)
  exact H_iret rfl dJ5_indexOf_6 hx)
end OW
