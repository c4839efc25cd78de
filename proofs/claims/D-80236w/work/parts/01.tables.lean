-- ===== PART A: goes FIRST, ahead of the names: the tables' words, and 'selects' of the private methods out of them =====
/-- a private method of a class that the tables say can be made, by its rows of tables_1 -/
def lw_okq (q : MethodName × Nat) : Prop := (q.1.cls ≠ "java/lang/invoke/MethodHandle" ∧ q.1.cls ≠ "java/lang/invoke/VarHandle") ∧ Cond.instantiable q.1.cls q.2 ∈ tables_1 ∧ Cond.privateMethod q.1 ∈ tables_1 ∧ Cond.instanceMethod q.1 ∈ tables_1
set_option maxRecDepth 100000
theorem lw_t1 {w : Cond} (h : w ∈ tables_1_1) : w ∈ tables_1 := List.mem_append_left _ h
theorem lw_t2 {w : Cond} (h : w ∈ tables_1_2) : w ∈ tables_1 := List.mem_append_right _ (List.mem_append_left _ h)
theorem lw_t3 {w : Cond} (h : w ∈ tables_1_3) : w ∈ tables_1 := List.mem_append_right _ (List.mem_append_right _ (List.mem_append_left _ h))
theorem lw_t4 {w : Cond} (h : w ∈ tables_1_4) : w ∈ tables_1 := List.mem_append_right _ (List.mem_append_right _ (List.mem_append_right _ (List.mem_append_left _ h)))
theorem lw_t5 {w : Cond} (h : w ∈ tables_1_5) : w ∈ tables_1 := List.mem_append_right _ (List.mem_append_right _ (List.mem_append_right _ (List.mem_append_right _ (List.mem_append_left _ h))))
theorem lw_t6 {w : Cond} (h : w ∈ tables_1_6) : w ∈ tables_1 := List.mem_append_right _ (List.mem_append_right _ (List.mem_append_right _ (List.mem_append_right _ (List.mem_append_right _ (List.mem_append_left _ h)))))
theorem lw_t7 {w : Cond} (h : w ∈ tables_1_7) : w ∈ tables_1 := List.mem_append_right _ (List.mem_append_right _ (List.mem_append_right _ (List.mem_append_right _ (List.mem_append_right _ (List.mem_append_right _ (List.mem_append_left _ h))))))
theorem lw_t8 {w : Cond} (h : w ∈ tables_1_8) : w ∈ tables_1 := List.mem_append_right _ (List.mem_append_right _ (List.mem_append_right _ (List.mem_append_right _ (List.mem_append_right _ (List.mem_append_right _ (List.mem_append_right _ (List.mem_append_left _ h)))))))
theorem lw_t9 {w : Cond} (h : w ∈ tables_1_9) : w ∈ tables_1 := List.mem_append_right _ (List.mem_append_right _ (List.mem_append_right _ (List.mem_append_right _ (List.mem_append_right _ (List.mem_append_right _ (List.mem_append_right _ (List.mem_append_right _ h)))))))
theorem lw_p0 : lw_okq (⟨"StrictProofs", "reads", "()Z"⟩, 14) := ⟨⟨by decide +kernel, by decide +kernel⟩, lw_t1 (List.mem_of_getElem? (i := 35) rfl), lw_t2 (List.mem_of_getElem? (i := 103) rfl), lw_t2 (List.mem_of_getElem? (i := 104) rfl)⟩
theorem lw_p1 : lw_okq (⟨"StrictProofs$Text", "byteAt", "(I)I"⟩, 11) := ⟨⟨by decide +kernel, by decide +kernel⟩, lw_t1 (List.mem_of_getElem? (i := 43) rfl), lw_t2 (List.mem_of_getElem? (i := 120) rfl), lw_t2 (List.mem_of_getElem? (i := 121) rfl)⟩
theorem lw_p2 : lw_okq (⟨"StrictProofs$Text", "word", "()V"⟩, 11) := ⟨⟨by decide +kernel, by decide +kernel⟩, lw_t1 (List.mem_of_getElem? (i := 43) rfl), lw_t2 (List.mem_of_getElem? (i := 130) rfl), lw_t2 (List.mem_of_getElem? (i := 131) rfl)⟩
theorem lw_p3 : lw_okq (⟨"StrictProofs$Text", "wordOf", "(I)I"⟩, 11) := ⟨⟨by decide +kernel, by decide +kernel⟩, lw_t1 (List.mem_of_getElem? (i := 43) rfl), lw_t2 (List.mem_of_getElem? (i := 134) rfl), lw_t2 (List.mem_of_getElem? (i := 135) rfl)⟩
theorem lw_p4 : lw_okq (⟨"StrictProofs$Parser", "function", "()V"⟩, 5) := ⟨⟨by decide +kernel, by decide +kernel⟩, lw_t1 (List.mem_of_getElem? (i := 93) rfl), lw_t3 (List.mem_of_getElem? (i := 7) rfl), lw_t3 (List.mem_of_getElem? (i := 8) rfl)⟩
theorem lw_p5 : lw_okq (⟨"java/lang/Throwable", "fillInStackTrace", "(I)Ljava/lang/Throwable;"⟩, 6) := ⟨⟨by decide +kernel, by decide +kernel⟩, lw_t3 (List.mem_of_getElem? (i := 58) rfl), lw_t3 (List.mem_of_getElem? (i := 56) rfl), lw_t3 (List.mem_of_getElem? (i := 57) rfl)⟩
theorem lw_p6 : lw_okq (⟨"StrictProofs$Parser", "name", "()I"⟩, 5) := ⟨⟨by decide +kernel, by decide +kernel⟩, lw_t1 (List.mem_of_getElem? (i := 93) rfl), lw_t3 (List.mem_of_getElem? (i := 160) rfl), lw_t3 (List.mem_of_getElem? (i := 161) rfl)⟩
theorem lw_p7 : lw_okq (⟨"StrictProofs$Parser", "param", "()V"⟩, 5) := ⟨⟨by decide +kernel, by decide +kernel⟩, lw_t1 (List.mem_of_getElem? (i := 93) rfl), lw_t3 (List.mem_of_getElem? (i := 180) rfl), lw_t3 (List.mem_of_getElem? (i := 181) rfl)⟩
theorem lw_p8 : lw_okq (⟨"StrictProofs$Parser", "slot", "()I"⟩, 5) := ⟨⟨by decide +kernel, by decide +kernel⟩, lw_t1 (List.mem_of_getElem? (i := 93) rfl), lw_t3 (List.mem_of_getElem? (i := 184) rfl), lw_t3 (List.mem_of_getElem? (i := 185) rfl)⟩
theorem lw_p9 : lw_okq (⟨"StrictProofs$Parser", "type", "(I)I"⟩, 5) := ⟨⟨by decide +kernel, by decide +kernel⟩, lw_t1 (List.mem_of_getElem? (i := 93) rfl), lw_t3 (List.mem_of_getElem? (i := 188) rfl), lw_t3 (List.mem_of_getElem? (i := 189) rfl)⟩
theorem lw_p10 : lw_okq (⟨"StrictProofs$Parser", "expression", "()LStrictProofs$Expression;"⟩, 5) := ⟨⟨by decide +kernel, by decide +kernel⟩, lw_t1 (List.mem_of_getElem? (i := 93) rfl), lw_t3 (List.mem_of_getElem? (i := 204) rfl), lw_t3 (List.mem_of_getElem? (i := 205) rfl)⟩
theorem lw_p11 : lw_okq (⟨"StrictProofs$Parser", "begins", "()Z"⟩, 5) := ⟨⟨by decide +kernel, by decide +kernel⟩, lw_t1 (List.mem_of_getElem? (i := 93) rfl), lw_t3 (List.mem_of_getElem? (i := 208) rfl), lw_t3 (List.mem_of_getElem? (i := 209) rfl)⟩
theorem lw_p12 : lw_okq (⟨"StrictProofs$Parser", "let", "()LStrictProofs$Expression;"⟩, 5) := ⟨⟨by decide +kernel, by decide +kernel⟩, lw_t1 (List.mem_of_getElem? (i := 93) rfl), lw_t3 (List.mem_of_getElem? (i := 212) rfl), lw_t3 (List.mem_of_getElem? (i := 213) rfl)⟩
theorem lw_p13 : lw_okq (⟨"StrictProofs$Parser", "ofCase", "()LStrictProofs$Expression;"⟩, 5) := ⟨⟨by decide +kernel, by decide +kernel⟩, lw_t1 (List.mem_of_getElem? (i := 93) rfl), lw_t4 (List.mem_of_getElem? (i := 12) rfl), lw_t4 (List.mem_of_getElem? (i := 13) rfl)⟩
theorem lw_p14 : lw_okq (⟨"StrictProofs$Parser", "ofIf", "()LStrictProofs$Expression;"⟩, 5) := ⟨⟨by decide +kernel, by decide +kernel⟩, lw_t1 (List.mem_of_getElem? (i := 93) rfl), lw_t4 (List.mem_of_getElem? (i := 34) rfl), lw_t4 (List.mem_of_getElem? (i := 35) rfl)⟩
theorem lw_p15 : lw_okq (⟨"StrictProofs$Parser", "compared", "()LStrictProofs$Expression;"⟩, 5) := ⟨⟨by decide +kernel, by decide +kernel⟩, lw_t1 (List.mem_of_getElem? (i := 93) rfl), lw_t4 (List.mem_of_getElem? (i := 56) rfl), lw_t4 (List.mem_of_getElem? (i := 57) rfl)⟩
def lw_privs_1 : List (MethodName × Nat) := [(⟨"StrictProofs", "reads", "()Z"⟩, 14), (⟨"StrictProofs$Text", "byteAt", "(I)I"⟩, 11), (⟨"StrictProofs$Text", "word", "()V"⟩, 11), (⟨"StrictProofs$Text", "wordOf", "(I)I"⟩, 11), (⟨"StrictProofs$Parser", "function", "()V"⟩, 5), (⟨"java/lang/Throwable", "fillInStackTrace", "(I)Ljava/lang/Throwable;"⟩, 6), (⟨"StrictProofs$Parser", "name", "()I"⟩, 5), (⟨"StrictProofs$Parser", "param", "()V"⟩, 5), (⟨"StrictProofs$Parser", "slot", "()I"⟩, 5), (⟨"StrictProofs$Parser", "type", "(I)I"⟩, 5), (⟨"StrictProofs$Parser", "expression", "()LStrictProofs$Expression;"⟩, 5), (⟨"StrictProofs$Parser", "begins", "()Z"⟩, 5), (⟨"StrictProofs$Parser", "let", "()LStrictProofs$Expression;"⟩, 5), (⟨"StrictProofs$Parser", "ofCase", "()LStrictProofs$Expression;"⟩, 5), (⟨"StrictProofs$Parser", "ofIf", "()LStrictProofs$Expression;"⟩, 5), (⟨"StrictProofs$Parser", "compared", "()LStrictProofs$Expression;"⟩, 5)]
theorem lw_r1 : ∀ q ∈ lw_privs_1, lw_okq q := List.forall_mem_cons.mpr ⟨lw_p0, List.forall_mem_cons.mpr ⟨lw_p1, List.forall_mem_cons.mpr ⟨lw_p2, List.forall_mem_cons.mpr ⟨lw_p3, List.forall_mem_cons.mpr ⟨lw_p4, List.forall_mem_cons.mpr ⟨lw_p5, List.forall_mem_cons.mpr ⟨lw_p6, List.forall_mem_cons.mpr ⟨lw_p7, List.forall_mem_cons.mpr ⟨lw_p8, List.forall_mem_cons.mpr ⟨lw_p9, List.forall_mem_cons.mpr ⟨lw_p10, List.forall_mem_cons.mpr ⟨lw_p11, List.forall_mem_cons.mpr ⟨lw_p12, List.forall_mem_cons.mpr ⟨lw_p13, List.forall_mem_cons.mpr ⟨lw_p14, List.forall_mem_cons.mpr ⟨lw_p15, fun _ h => absurd h List.not_mem_nil⟩⟩⟩⟩⟩⟩⟩⟩⟩⟩⟩⟩⟩⟩⟩⟩
theorem lw_p16 : lw_okq (⟨"StrictProofs$Parser", "sum", "()LStrictProofs$Expression;"⟩, 5) := ⟨⟨by decide +kernel, by decide +kernel⟩, lw_t1 (List.mem_of_getElem? (i := 93) rfl), lw_t4 (List.mem_of_getElem? (i := 60) rfl), lw_t4 (List.mem_of_getElem? (i := 61) rfl)⟩
theorem lw_p17 : lw_okq (⟨"StrictProofs$Parser", "product", "()LStrictProofs$Expression;"⟩, 5) := ⟨⟨by decide +kernel, by decide +kernel⟩, lw_t1 (List.mem_of_getElem? (i := 93) rfl), lw_t4 (List.mem_of_getElem? (i := 64) rfl), lw_t4 (List.mem_of_getElem? (i := 65) rfl)⟩
theorem lw_p18 : lw_okq (⟨"StrictProofs$Parser", "atom", "()LStrictProofs$Expression;"⟩, 5) := ⟨⟨by decide +kernel, by decide +kernel⟩, lw_t1 (List.mem_of_getElem? (i := 93) rfl), lw_t4 (List.mem_of_getElem? (i := 68) rfl), lw_t4 (List.mem_of_getElem? (i := 69) rfl)⟩
theorem lw_p19 : lw_okq (⟨"StrictProofs$Parser", "brackets", "(I)LStrictProofs$Expression;"⟩, 5) := ⟨⟨by decide +kernel, by decide +kernel⟩, lw_t1 (List.mem_of_getElem? (i := 93) rfl), lw_t4 (List.mem_of_getElem? (i := 93) rfl), lw_t4 (List.mem_of_getElem? (i := 94) rfl)⟩
theorem lw_p20 : lw_okq (⟨"StrictProofs$Parser", "call", "(I)LStrictProofs$Expression;"⟩, 5) := ⟨⟨by decide +kernel, by decide +kernel⟩, lw_t1 (List.mem_of_getElem? (i := 93) rfl), lw_t4 (List.mem_of_getElem? (i := 112) rfl), lw_t4 (List.mem_of_getElem? (i := 113) rfl)⟩
theorem lw_p21 : lw_okq (⟨"StrictProofs$Parser", "argument", "(LStrictProofs$Call;)V"⟩, 5) := ⟨⟨by decide +kernel, by decide +kernel⟩, lw_t1 (List.mem_of_getElem? (i := 93) rfl), lw_t4 (List.mem_of_getElem? (i := 137) rfl), lw_t4 (List.mem_of_getElem? (i := 138) rfl)⟩
theorem lw_p22 : lw_okq (⟨"StrictProofs", "lay", "(I)V"⟩, 14) := ⟨⟨by decide +kernel, by decide +kernel⟩, lw_t1 (List.mem_of_getElem? (i := 35) rfl), lw_t5 (List.mem_of_getElem? (i := 39) rfl), lw_t5 (List.mem_of_getElem? (i := 40) rfl)⟩
theorem lw_p23 : lw_okq (⟨"StrictProofs", "functionAt", "(I)LStrictProofs$Function;"⟩, 14) := ⟨⟨by decide +kernel, by decide +kernel⟩, lw_t1 (List.mem_of_getElem? (i := 35) rfl), lw_t5 (List.mem_of_getElem? (i := 100) rfl), lw_t5 (List.mem_of_getElem? (i := 101) rfl)⟩
theorem lw_p24 : lw_okq (⟨"StrictProofs", "round", "()Z"⟩, 14) := ⟨⟨by decide +kernel, by decide +kernel⟩, lw_t1 (List.mem_of_getElem? (i := 35) rfl), lw_t5 (List.mem_of_getElem? (i := 134) rfl), lw_t5 (List.mem_of_getElem? (i := 135) rfl)⟩
theorem lw_p25 : lw_okq (⟨"StrictProofs", "rowAt", "(II)LStrictProofs$Function;"⟩, 14) := ⟨⟨by decide +kernel, by decide +kernel⟩, lw_t1 (List.mem_of_getElem? (i := 35) rfl), lw_t5 (List.mem_of_getElem? (i := 233) rfl), lw_t5 (List.mem_of_getElem? (i := 234) rfl)⟩
theorem lw_p26 : lw_okq (⟨"StrictProofs$Machine", "input", "([I[II)I"⟩, 23) := ⟨⟨by decide +kernel, by decide +kernel⟩, lw_t1 (List.mem_of_getElem? (i := 187) rfl), lw_t6 (List.mem_of_getElem? (i := 51) rfl), lw_t6 (List.mem_of_getElem? (i := 52) rfl)⟩
theorem lw_p27 : lw_okq (⟨"StrictProofs$Machine", "put", "(LStrictProofs$Expression;II)I"⟩, 23) := ⟨⟨by decide +kernel, by decide +kernel⟩, lw_t1 (List.mem_of_getElem? (i := 187) rfl), lw_t6 (List.mem_of_getElem? (i := 55) rfl), lw_t6 (List.mem_of_getElem? (i := 56) rfl)⟩
theorem lw_p28 : lw_okq (⟨"StrictProofs$Machine", "part", "(III)V"⟩, 23) := ⟨⟨by decide +kernel, by decide +kernel⟩, lw_t1 (List.mem_of_getElem? (i := 187) rfl), lw_t6 (List.mem_of_getElem? (i := 142) rfl), lw_t6 (List.mem_of_getElem? (i := 143) rfl)⟩
theorem lw_p29 : lw_okq (⟨"StrictProofsModel", "next", "()V"⟩, 83) := ⟨⟨by decide +kernel, by decide +kernel⟩, lw_t6 (List.mem_of_getElem? (i := 173) rfl), lw_t7 (List.mem_of_getElem? (i := 209) rfl), lw_t7 (List.mem_of_getElem? (i := 210) rfl)⟩
theorem lw_p30 : lw_okq (⟨"StrictProofsModel", "row", "()V"⟩, 83) := ⟨⟨by decide +kernel, by decide +kernel⟩, lw_t6 (List.mem_of_getElem? (i := 173) rfl), lw_t7 (List.mem_of_getElem? (i := 219) rfl), lw_t7 (List.mem_of_getElem? (i := 220) rfl)⟩
theorem lw_p31 : lw_okq (⟨"StrictProofsModel", "stop", "(II)V"⟩, 83) := ⟨⟨by decide +kernel, by decide +kernel⟩, lw_t6 (List.mem_of_getElem? (i := 173) rfl), lw_t7 (List.mem_of_getElem? (i := 232) rfl), lw_t7 (List.mem_of_getElem? (i := 233) rfl)⟩
def lw_privs_2 : List (MethodName × Nat) := [(⟨"StrictProofs$Parser", "sum", "()LStrictProofs$Expression;"⟩, 5), (⟨"StrictProofs$Parser", "product", "()LStrictProofs$Expression;"⟩, 5), (⟨"StrictProofs$Parser", "atom", "()LStrictProofs$Expression;"⟩, 5), (⟨"StrictProofs$Parser", "brackets", "(I)LStrictProofs$Expression;"⟩, 5), (⟨"StrictProofs$Parser", "call", "(I)LStrictProofs$Expression;"⟩, 5), (⟨"StrictProofs$Parser", "argument", "(LStrictProofs$Call;)V"⟩, 5), (⟨"StrictProofs", "lay", "(I)V"⟩, 14), (⟨"StrictProofs", "functionAt", "(I)LStrictProofs$Function;"⟩, 14), (⟨"StrictProofs", "round", "()Z"⟩, 14), (⟨"StrictProofs", "rowAt", "(II)LStrictProofs$Function;"⟩, 14), (⟨"StrictProofs$Machine", "input", "([I[II)I"⟩, 23), (⟨"StrictProofs$Machine", "put", "(LStrictProofs$Expression;II)I"⟩, 23), (⟨"StrictProofs$Machine", "part", "(III)V"⟩, 23), (⟨"StrictProofsModel", "next", "()V"⟩, 83), (⟨"StrictProofsModel", "row", "()V"⟩, 83), (⟨"StrictProofsModel", "stop", "(II)V"⟩, 83)]
theorem lw_r2 : ∀ q ∈ lw_privs_2, lw_okq q := List.forall_mem_cons.mpr ⟨lw_p16, List.forall_mem_cons.mpr ⟨lw_p17, List.forall_mem_cons.mpr ⟨lw_p18, List.forall_mem_cons.mpr ⟨lw_p19, List.forall_mem_cons.mpr ⟨lw_p20, List.forall_mem_cons.mpr ⟨lw_p21, List.forall_mem_cons.mpr ⟨lw_p22, List.forall_mem_cons.mpr ⟨lw_p23, List.forall_mem_cons.mpr ⟨lw_p24, List.forall_mem_cons.mpr ⟨lw_p25, List.forall_mem_cons.mpr ⟨lw_p26, List.forall_mem_cons.mpr ⟨lw_p27, List.forall_mem_cons.mpr ⟨lw_p28, List.forall_mem_cons.mpr ⟨lw_p29, List.forall_mem_cons.mpr ⟨lw_p30, List.forall_mem_cons.mpr ⟨lw_p31, fun _ h => absurd h List.not_mem_nil⟩⟩⟩⟩⟩⟩⟩⟩⟩⟩⟩⟩⟩⟩⟩⟩
theorem lw_p32 : lw_okq (⟨"StrictProofsModel", "definition", "()V"⟩, 83) := ⟨⟨by decide +kernel, by decide +kernel⟩, lw_t6 (List.mem_of_getElem? (i := 173) rfl), lw_t7 (List.mem_of_getElem? (i := 236) rfl), lw_t7 (List.mem_of_getElem? (i := 237) rfl)⟩
theorem lw_p33 : lw_okq (⟨"StrictProofsModel", "pass", "()V"⟩, 83) := ⟨⟨by decide +kernel, by decide +kernel⟩, lw_t6 (List.mem_of_getElem? (i := 173) rfl), lw_t8 (List.mem_of_getElem? (i := 0) rfl), lw_t8 (List.mem_of_getElem? (i := 1) rfl)⟩
theorem lw_p34 : lw_okq (⟨"StrictProofsModel", "want", "(I)V"⟩, 83) := ⟨⟨by decide +kernel, by decide +kernel⟩, lw_t6 (List.mem_of_getElem? (i := 173) rfl), lw_t8 (List.mem_of_getElem? (i := 4) rfl), lw_t8 (List.mem_of_getElem? (i := 5) rfl)⟩
theorem lw_p35 : lw_okq (⟨"StrictProofsModel", "name", "(Z)I"⟩, 83) := ⟨⟨by decide +kernel, by decide +kernel⟩, lw_t6 (List.mem_of_getElem? (i := 173) rfl), lw_t8 (List.mem_of_getElem? (i := 8) rfl), lw_t8 (List.mem_of_getElem? (i := 9) rfl)⟩
theorem lw_p36 : lw_okq (⟨"StrictProofsModel", "isParam", "(J)Z"⟩, 83) := ⟨⟨by decide +kernel, by decide +kernel⟩, lw_t6 (List.mem_of_getElem? (i := 173) rfl), lw_t8 (List.mem_of_getElem? (i := 12) rfl), lw_t8 (List.mem_of_getElem? (i := 13) rfl)⟩
theorem lw_p37 : lw_okq (⟨"StrictProofsModel", "type", "()I"⟩, 83) := ⟨⟨by decide +kernel, by decide +kernel⟩, lw_t6 (List.mem_of_getElem? (i := 173) rfl), lw_t8 (List.mem_of_getElem? (i := 16) rfl), lw_t8 (List.mem_of_getElem? (i := 17) rfl)⟩
theorem lw_p38 : lw_okq (⟨"StrictProofsModel", "parse", "(I)V"⟩, 83) := ⟨⟨by decide +kernel, by decide +kernel⟩, lw_t6 (List.mem_of_getElem? (i := 173) rfl), lw_t8 (List.mem_of_getElem? (i := 20) rfl), lw_t8 (List.mem_of_getElem? (i := 21) rfl)⟩
theorem lw_p39 : lw_okq (⟨"StrictProofsModel", "push", "(II)V"⟩, 83) := ⟨⟨by decide +kernel, by decide +kernel⟩, lw_t6 (List.mem_of_getElem? (i := 173) rfl), lw_t8 (List.mem_of_getElem? (i := 24) rfl), lw_t8 (List.mem_of_getElem? (i := 25) rfl)⟩
theorem lw_p40 : lw_okq (⟨"StrictProofsModel", "onType", "(II)V"⟩, 83) := ⟨⟨by decide +kernel, by decide +kernel⟩, lw_t6 (List.mem_of_getElem? (i := 173) rfl), lw_t8 (List.mem_of_getElem? (i := 28) rfl), lw_t8 (List.mem_of_getElem? (i := 29) rfl)⟩
theorem lw_p41 : lw_okq (⟨"StrictProofsModel", "onE", "()V"⟩, 83) := ⟨⟨by decide +kernel, by decide +kernel⟩, lw_t6 (List.mem_of_getElem? (i := 173) rfl), lw_t8 (List.mem_of_getElem? (i := 35) rfl), lw_t8 (List.mem_of_getElem? (i := 36) rfl)⟩
theorem lw_p42 : lw_okq (⟨"StrictProofsModel", "begins", "()Z"⟩, 83) := ⟨⟨by decide +kernel, by decide +kernel⟩, lw_t6 (List.mem_of_getElem? (i := 173) rfl), lw_t8 (List.mem_of_getElem? (i := 39) rfl), lw_t8 (List.mem_of_getElem? (i := 40) rfl)⟩
theorem lw_p43 : lw_okq (⟨"StrictProofsModel", "node", "(II)I"⟩, 83) := ⟨⟨by decide +kernel, by decide +kernel⟩, lw_t6 (List.mem_of_getElem? (i := 173) rfl), lw_t8 (List.mem_of_getElem? (i := 43) rfl), lw_t8 (List.mem_of_getElem? (i := 44) rfl)⟩
theorem lw_p44 : lw_okq (⟨"StrictProofsModel", "onSum", "(II)V"⟩, 83) := ⟨⟨by decide +kernel, by decide +kernel⟩, lw_t6 (List.mem_of_getElem? (i := 173) rfl), lw_t8 (List.mem_of_getElem? (i := 47) rfl), lw_t8 (List.mem_of_getElem? (i := 48) rfl)⟩
theorem lw_p45 : lw_okq (⟨"StrictProofsModel", "onAtom", "()V"⟩, 83) := ⟨⟨by decide +kernel, by decide +kernel⟩, lw_t6 (List.mem_of_getElem? (i := 173) rfl), lw_t8 (List.mem_of_getElem? (i := 51) rfl), lw_t8 (List.mem_of_getElem? (i := 52) rfl)⟩
theorem lw_p46 : lw_okq (⟨"StrictProofsModel", "make", "(I)V"⟩, 83) := ⟨⟨by decide +kernel, by decide +kernel⟩, lw_t6 (List.mem_of_getElem? (i := 173) rfl), lw_t8 (List.mem_of_getElem? (i := 55) rfl), lw_t8 (List.mem_of_getElem? (i := 56) rfl)⟩
theorem lw_p47 : lw_okq (⟨"StrictProofsModel", "last", "()I"⟩, 83) := ⟨⟨by decide +kernel, by decide +kernel⟩, lw_t6 (List.mem_of_getElem? (i := 173) rfl), lw_t8 (List.mem_of_getElem? (i := 59) rfl), lw_t8 (List.mem_of_getElem? (i := 60) rfl)⟩
def lw_privs_3 : List (MethodName × Nat) := [(⟨"StrictProofsModel", "definition", "()V"⟩, 83), (⟨"StrictProofsModel", "pass", "()V"⟩, 83), (⟨"StrictProofsModel", "want", "(I)V"⟩, 83), (⟨"StrictProofsModel", "name", "(Z)I"⟩, 83), (⟨"StrictProofsModel", "isParam", "(J)Z"⟩, 83), (⟨"StrictProofsModel", "type", "()I"⟩, 83), (⟨"StrictProofsModel", "parse", "(I)V"⟩, 83), (⟨"StrictProofsModel", "push", "(II)V"⟩, 83), (⟨"StrictProofsModel", "onType", "(II)V"⟩, 83), (⟨"StrictProofsModel", "onE", "()V"⟩, 83), (⟨"StrictProofsModel", "begins", "()Z"⟩, 83), (⟨"StrictProofsModel", "node", "(II)I"⟩, 83), (⟨"StrictProofsModel", "onSum", "(II)V"⟩, 83), (⟨"StrictProofsModel", "onAtom", "()V"⟩, 83), (⟨"StrictProofsModel", "make", "(I)V"⟩, 83), (⟨"StrictProofsModel", "last", "()I"⟩, 83)]
theorem lw_r3 : ∀ q ∈ lw_privs_3, lw_okq q := List.forall_mem_cons.mpr ⟨lw_p32, List.forall_mem_cons.mpr ⟨lw_p33, List.forall_mem_cons.mpr ⟨lw_p34, List.forall_mem_cons.mpr ⟨lw_p35, List.forall_mem_cons.mpr ⟨lw_p36, List.forall_mem_cons.mpr ⟨lw_p37, List.forall_mem_cons.mpr ⟨lw_p38, List.forall_mem_cons.mpr ⟨lw_p39, List.forall_mem_cons.mpr ⟨lw_p40, List.forall_mem_cons.mpr ⟨lw_p41, List.forall_mem_cons.mpr ⟨lw_p42, List.forall_mem_cons.mpr ⟨lw_p43, List.forall_mem_cons.mpr ⟨lw_p44, List.forall_mem_cons.mpr ⟨lw_p45, List.forall_mem_cons.mpr ⟨lw_p46, List.forall_mem_cons.mpr ⟨lw_p47, fun _ h => absurd h List.not_mem_nil⟩⟩⟩⟩⟩⟩⟩⟩⟩⟩⟩⟩⟩⟩⟩⟩
theorem lw_p48 : lw_okq (⟨"StrictProofsModel", "onRest", "(II)V"⟩, 83) := ⟨⟨by decide +kernel, by decide +kernel⟩, lw_t6 (List.mem_of_getElem? (i := 173) rfl), lw_t8 (List.mem_of_getElem? (i := 63) rfl), lw_t8 (List.mem_of_getElem? (i := 64) rfl)⟩
theorem lw_p49 : lw_okq (⟨"StrictProofsModel", "onCouple", "(I)V"⟩, 83) := ⟨⟨by decide +kernel, by decide +kernel⟩, lw_t6 (List.mem_of_getElem? (i := 173) rfl), lw_t8 (List.mem_of_getElem? (i := 67) rfl), lw_t8 (List.mem_of_getElem? (i := 68) rfl)⟩
theorem lw_p50 : lw_okq (⟨"StrictProofsModel", "judge", "()V"⟩, 83) := ⟨⟨by decide +kernel, by decide +kernel⟩, lw_t6 (List.mem_of_getElem? (i := 173) rfl), lw_t8 (List.mem_of_getElem? (i := 71) rfl), lw_t8 (List.mem_of_getElem? (i := 72) rfl)⟩
theorem lw_p51 : lw_okq (⟨"StrictProofsModel", "task", "(III)V"⟩, 83) := ⟨⟨by decide +kernel, by decide +kernel⟩, lw_t6 (List.mem_of_getElem? (i := 173) rfl), lw_t8 (List.mem_of_getElem? (i := 75) rfl), lw_t8 (List.mem_of_getElem? (i := 76) rfl)⟩
theorem lw_p52 : lw_okq (⟨"StrictProofsModel", "onJudge", "(II)V"⟩, 83) := ⟨⟨by decide +kernel, by decide +kernel⟩, lw_t6 (List.mem_of_getElem? (i := 173) rfl), lw_t8 (List.mem_of_getElem? (i := 79) rfl), lw_t8 (List.mem_of_getElem? (i := 80) rfl)⟩
theorem lw_p53 : lw_okq (⟨"StrictProofsModel", "meant", "(J)I"⟩, 83) := ⟨⟨by decide +kernel, by decide +kernel⟩, lw_t6 (List.mem_of_getElem? (i := 173) rfl), lw_t8 (List.mem_of_getElem? (i := 83) rfl), lw_t8 (List.mem_of_getElem? (i := 84) rfl)⟩
theorem lw_p54 : lw_okq (⟨"StrictProofsModel", "judgeCall", "(I)V"⟩, 83) := ⟨⟨by decide +kernel, by decide +kernel⟩, lw_t6 (List.mem_of_getElem? (i := 173) rfl), lw_t8 (List.mem_of_getElem? (i := 87) rfl), lw_t8 (List.mem_of_getElem? (i := 88) rfl)⟩
theorem lw_p55 : lw_okq (⟨"StrictProofsModel", "tells", "(II)V"⟩, 83) := ⟨⟨by decide +kernel, by decide +kernel⟩, lw_t6 (List.mem_of_getElem? (i := 173) rfl), lw_t8 (List.mem_of_getElem? (i := 97) rfl), lw_t8 (List.mem_of_getElem? (i := 98) rfl)⟩
theorem lw_p56 : lw_okq (⟨"StrictProofsModel", "onShut", "(II)V"⟩, 83) := ⟨⟨by decide +kernel, by decide +kernel⟩, lw_t6 (List.mem_of_getElem? (i := 173) rfl), lw_t8 (List.mem_of_getElem? (i := 101) rfl), lw_t8 (List.mem_of_getElem? (i := 102) rfl)⟩
theorem lw_p57 : lw_okq (⟨"StrictProofsModel", "isFn", "(I)Z"⟩, 83) := ⟨⟨by decide +kernel, by decide +kernel⟩, lw_t6 (List.mem_of_getElem? (i := 173) rfl), lw_t8 (List.mem_of_getElem? (i := 113) rfl), lw_t8 (List.mem_of_getElem? (i := 114) rfl)⟩
theorem lw_p58 : lw_okq (⟨"StrictProofsModel", "renewed", "(II)Z"⟩, 83) := ⟨⟨by decide +kernel, by decide +kernel⟩, lw_t6 (List.mem_of_getElem? (i := 173) rfl), lw_t8 (List.mem_of_getElem? (i := 124) rfl), lw_t8 (List.mem_of_getElem? (i := 125) rfl)⟩
theorem lw_p59 : lw_okq (⟨"StrictProofsModel", "asks", "(II)Z"⟩, 83) := ⟨⟨by decide +kernel, by decide +kernel⟩, lw_t6 (List.mem_of_getElem? (i := 173) rfl), lw_t8 (List.mem_of_getElem? (i := 128) rfl), lw_t8 (List.mem_of_getElem? (i := 129) rfl)⟩
theorem lw_p60 : lw_okq (⟨"StrictProofsModel", "asking", "(IIII)V"⟩, 83) := ⟨⟨by decide +kernel, by decide +kernel⟩, lw_t6 (List.mem_of_getElem? (i := 173) rfl), lw_t8 (List.mem_of_getElem? (i := 132) rfl), lw_t8 (List.mem_of_getElem? (i := 133) rfl)⟩
theorem lw_p61 : lw_okq (⟨"StrictProofsModel", "onAsk", "(III)V"⟩, 83) := ⟨⟨by decide +kernel, by decide +kernel⟩, lw_t6 (List.mem_of_getElem? (i := 173) rfl), lw_t8 (List.mem_of_getElem? (i := 136) rfl), lw_t8 (List.mem_of_getElem? (i := 137) rfl)⟩
theorem lw_p62 : lw_okq (⟨"StrictProofsModel", "join", "(IZ)V"⟩, 83) := ⟨⟨by decide +kernel, by decide +kernel⟩, lw_t6 (List.mem_of_getElem? (i := 173) rfl), lw_t8 (List.mem_of_getElem? (i := 140) rfl), lw_t8 (List.mem_of_getElem? (i := 141) rfl)⟩
theorem lw_p63 : lw_okq (⟨"StrictProofsModel", "onArgument", "(III)V"⟩, 83) := ⟨⟨by decide +kernel, by decide +kernel⟩, lw_t6 (List.mem_of_getElem? (i := 173) rfl), lw_t8 (List.mem_of_getElem? (i := 153) rfl), lw_t8 (List.mem_of_getElem? (i := 154) rfl)⟩
def lw_privs_4 : List (MethodName × Nat) := [(⟨"StrictProofsModel", "onRest", "(II)V"⟩, 83), (⟨"StrictProofsModel", "onCouple", "(I)V"⟩, 83), (⟨"StrictProofsModel", "judge", "()V"⟩, 83), (⟨"StrictProofsModel", "task", "(III)V"⟩, 83), (⟨"StrictProofsModel", "onJudge", "(II)V"⟩, 83), (⟨"StrictProofsModel", "meant", "(J)I"⟩, 83), (⟨"StrictProofsModel", "judgeCall", "(I)V"⟩, 83), (⟨"StrictProofsModel", "tells", "(II)V"⟩, 83), (⟨"StrictProofsModel", "onShut", "(II)V"⟩, 83), (⟨"StrictProofsModel", "isFn", "(I)Z"⟩, 83), (⟨"StrictProofsModel", "renewed", "(II)Z"⟩, 83), (⟨"StrictProofsModel", "asks", "(II)Z"⟩, 83), (⟨"StrictProofsModel", "asking", "(IIII)V"⟩, 83), (⟨"StrictProofsModel", "onAsk", "(III)V"⟩, 83), (⟨"StrictProofsModel", "join", "(IZ)V"⟩, 83), (⟨"StrictProofsModel", "onArgument", "(III)V"⟩, 83)]
theorem lw_r4 : ∀ q ∈ lw_privs_4, lw_okq q := List.forall_mem_cons.mpr ⟨lw_p48, List.forall_mem_cons.mpr ⟨lw_p49, List.forall_mem_cons.mpr ⟨lw_p50, List.forall_mem_cons.mpr ⟨lw_p51, List.forall_mem_cons.mpr ⟨lw_p52, List.forall_mem_cons.mpr ⟨lw_p53, List.forall_mem_cons.mpr ⟨lw_p54, List.forall_mem_cons.mpr ⟨lw_p55, List.forall_mem_cons.mpr ⟨lw_p56, List.forall_mem_cons.mpr ⟨lw_p57, List.forall_mem_cons.mpr ⟨lw_p58, List.forall_mem_cons.mpr ⟨lw_p59, List.forall_mem_cons.mpr ⟨lw_p60, List.forall_mem_cons.mpr ⟨lw_p61, List.forall_mem_cons.mpr ⟨lw_p62, List.forall_mem_cons.mpr ⟨lw_p63, fun _ h => absurd h List.not_mem_nil⟩⟩⟩⟩⟩⟩⟩⟩⟩⟩⟩⟩⟩⟩⟩⟩
theorem lw_p64 : lw_okq (⟨"StrictProofsModel", "isRowThere", "(II)Z"⟩, 83) := ⟨⟨by decide +kernel, by decide +kernel⟩, lw_t6 (List.mem_of_getElem? (i := 173) rfl), lw_t8 (List.mem_of_getElem? (i := 161) rfl), lw_t8 (List.mem_of_getElem? (i := 162) rfl)⟩
theorem lw_p65 : lw_okq (⟨"StrictProofsModel", "isParamOf", "(II)Z"⟩, 83) := ⟨⟨by decide +kernel, by decide +kernel⟩, lw_t6 (List.mem_of_getElem? (i := 173) rfl), lw_t8 (List.mem_of_getElem? (i := 169) rfl), lw_t8 (List.mem_of_getElem? (i := 170) rfl)⟩
theorem lw_p66 : lw_okq (⟨"StrictProofsModel", "has", "(III)I"⟩, 83) := ⟨⟨by decide +kernel, by decide +kernel⟩, lw_t6 (List.mem_of_getElem? (i := 173) rfl), lw_t8 (List.mem_of_getElem? (i := 173) rfl), lw_t8 (List.mem_of_getElem? (i := 174) rfl)⟩
theorem lw_p67 : lw_okq (⟨"StrictProofsModel", "all", "(II)I"⟩, 83) := ⟨⟨by decide +kernel, by decide +kernel⟩, lw_t6 (List.mem_of_getElem? (i := 173) rfl), lw_t8 (List.mem_of_getElem? (i := 177) rfl), lw_t8 (List.mem_of_getElem? (i := 178) rfl)⟩
theorem lw_p68 : lw_okq (⟨"StrictProofsModel", "tellsTooMuch", "(II)Z"⟩, 83) := ⟨⟨by decide +kernel, by decide +kernel⟩, lw_t6 (List.mem_of_getElem? (i := 173) rfl), lw_t8 (List.mem_of_getElem? (i := 193) rfl), lw_t8 (List.mem_of_getElem? (i := 194) rfl)⟩
theorem lw_p69 : lw_okq (⟨"StrictProofsModel", "behind", "(II)I"⟩, 83) := ⟨⟨by decide +kernel, by decide +kernel⟩, lw_t6 (List.mem_of_getElem? (i := 173) rfl), lw_t8 (List.mem_of_getElem? (i := 206) rfl), lw_t8 (List.mem_of_getElem? (i := 207) rfl)⟩
theorem lw_p70 : lw_okq (⟨"StrictProofsModel", "lay", "(II)I"⟩, 83) := ⟨⟨by decide +kernel, by decide +kernel⟩, lw_t6 (List.mem_of_getElem? (i := 173) rfl), lw_t8 (List.mem_of_getElem? (i := 211) rfl), lw_t8 (List.mem_of_getElem? (i := 212) rfl)⟩
theorem lw_p71 : lw_okq (⟨"StrictProofsModel", "goes", "()V"⟩, 83) := ⟨⟨by decide +kernel, by decide +kernel⟩, lw_t6 (List.mem_of_getElem? (i := 173) rfl), lw_t8 (List.mem_of_getElem? (i := 215) rfl), lw_t8 (List.mem_of_getElem? (i := 216) rfl)⟩
theorem lw_p72 : lw_okq (⟨"StrictProofsModel", "work", "(II)V"⟩, 83) := ⟨⟨by decide +kernel, by decide +kernel⟩, lw_t6 (List.mem_of_getElem? (i := 173) rfl), lw_t8 (List.mem_of_getElem? (i := 219) rfl), lw_t8 (List.mem_of_getElem? (i := 220) rfl)⟩
theorem lw_p73 : lw_okq (⟨"StrictProofsModel", "gives", "(II)V"⟩, 83) := ⟨⟨by decide +kernel, by decide +kernel⟩, lw_t6 (List.mem_of_getElem? (i := 173) rfl), lw_t8 (List.mem_of_getElem? (i := 223) rfl), lw_t8 (List.mem_of_getElem? (i := 224) rfl)⟩
theorem lw_p74 : lw_okq (⟨"StrictProofsModel", "need", "(I)V"⟩, 83) := ⟨⟨by decide +kernel, by decide +kernel⟩, lw_t6 (List.mem_of_getElem? (i := 173) rfl), lw_t8 (List.mem_of_getElem? (i := 227) rfl), lw_t8 (List.mem_of_getElem? (i := 228) rfl)⟩
theorem lw_p75 : lw_okq (⟨"StrictProofsModel", "thing", "(II)I"⟩, 83) := ⟨⟨by decide +kernel, by decide +kernel⟩, lw_t6 (List.mem_of_getElem? (i := 173) rfl), lw_t8 (List.mem_of_getElem? (i := 231) rfl), lw_t8 (List.mem_of_getElem? (i := 232) rfl)⟩
theorem lw_p76 : lw_okq (⟨"StrictProofsModel", "called", "(II)V"⟩, 83) := ⟨⟨by decide +kernel, by decide +kernel⟩, lw_t6 (List.mem_of_getElem? (i := 173) rfl), lw_t8 (List.mem_of_getElem? (i := 235) rfl), lw_t8 (List.mem_of_getElem? (i := 236) rfl)⟩
theorem lw_p77 : lw_okq (⟨"StrictProofsModel", "paired", "(II)V"⟩, 83) := ⟨⟨by decide +kernel, by decide +kernel⟩, lw_t6 (List.mem_of_getElem? (i := 173) rfl), lw_t8 (List.mem_of_getElem? (i := 239) rfl), lw_t9 (List.mem_of_getElem? (i := 0) rfl)⟩
theorem lw_p78 : lw_okq (⟨"StrictProofsModel", "demand", "(II)V"⟩, 83) := ⟨⟨by decide +kernel, by decide +kernel⟩, lw_t6 (List.mem_of_getElem? (i := 173) rfl), lw_t9 (List.mem_of_getElem? (i := 3) rfl), lw_t9 (List.mem_of_getElem? (i := 4) rfl)⟩
theorem lw_p79 : lw_okq (⟨"StrictProofsModel", "parted", "(ZZ)Z"⟩, 83) := ⟨⟨by decide +kernel, by decide +kernel⟩, lw_t6 (List.mem_of_getElem? (i := 173) rfl), lw_t9 (List.mem_of_getElem? (i := 16) rfl), lw_t9 (List.mem_of_getElem? (i := 17) rfl)⟩
def lw_privs_5 : List (MethodName × Nat) := [(⟨"StrictProofsModel", "isRowThere", "(II)Z"⟩, 83), (⟨"StrictProofsModel", "isParamOf", "(II)Z"⟩, 83), (⟨"StrictProofsModel", "has", "(III)I"⟩, 83), (⟨"StrictProofsModel", "all", "(II)I"⟩, 83), (⟨"StrictProofsModel", "tellsTooMuch", "(II)Z"⟩, 83), (⟨"StrictProofsModel", "behind", "(II)I"⟩, 83), (⟨"StrictProofsModel", "lay", "(II)I"⟩, 83), (⟨"StrictProofsModel", "goes", "()V"⟩, 83), (⟨"StrictProofsModel", "work", "(II)V"⟩, 83), (⟨"StrictProofsModel", "gives", "(II)V"⟩, 83), (⟨"StrictProofsModel", "need", "(I)V"⟩, 83), (⟨"StrictProofsModel", "thing", "(II)I"⟩, 83), (⟨"StrictProofsModel", "called", "(II)V"⟩, 83), (⟨"StrictProofsModel", "paired", "(II)V"⟩, 83), (⟨"StrictProofsModel", "demand", "(II)V"⟩, 83), (⟨"StrictProofsModel", "parted", "(ZZ)Z"⟩, 83)]
theorem lw_r5 : ∀ q ∈ lw_privs_5, lw_okq q := List.forall_mem_cons.mpr ⟨lw_p64, List.forall_mem_cons.mpr ⟨lw_p65, List.forall_mem_cons.mpr ⟨lw_p66, List.forall_mem_cons.mpr ⟨lw_p67, List.forall_mem_cons.mpr ⟨lw_p68, List.forall_mem_cons.mpr ⟨lw_p69, List.forall_mem_cons.mpr ⟨lw_p70, List.forall_mem_cons.mpr ⟨lw_p71, List.forall_mem_cons.mpr ⟨lw_p72, List.forall_mem_cons.mpr ⟨lw_p73, List.forall_mem_cons.mpr ⟨lw_p74, List.forall_mem_cons.mpr ⟨lw_p75, List.forall_mem_cons.mpr ⟨lw_p76, List.forall_mem_cons.mpr ⟨lw_p77, List.forall_mem_cons.mpr ⟨lw_p78, List.forall_mem_cons.mpr ⟨lw_p79, fun _ h => absurd h List.not_mem_nil⟩⟩⟩⟩⟩⟩⟩⟩⟩⟩⟩⟩⟩⟩⟩⟩
def lw_privs : List (MethodName × Nat) := lw_privs_1 ++ (lw_privs_2 ++ (lw_privs_3 ++ (lw_privs_4 ++ (lw_privs_5))))
def lw_tbl : List Cond := k2_sels lw_privs ++ tables_1
theorem lw_privs_ok : ∀ q ∈ lw_privs, lw_okq q := by
  show ∀ q ∈ lw_privs_1 ++ (lw_privs_2 ++ (lw_privs_3 ++ (lw_privs_4 ++ (lw_privs_5)))), lw_okq q
  exact List.forall_mem_append.mpr ⟨lw_r1, List.forall_mem_append.mpr ⟨lw_r2, List.forall_mem_append.mpr ⟨lw_r3, List.forall_mem_append.mpr ⟨lw_r4, lw_r5⟩⟩⟩⟩
-- ===== ONE list of words for every method: the tables' words that hold all through a run =====
def lw_all : List Cond := lw_tbl.filter goodWord
/-- a word of the tables by its place: claim/WORDS.tsv -/
theorem lw_w {w : Cond} (i : Nat) (h : lw_tbl[i]? = some w) (g : goodWord w = true) : w ∈ lw_all := List.mem_filter.mpr ⟨List.mem_of_getElem? h, g⟩
theorem lw_all_tbl {w : Cond} (h : w ∈ lw_all) : w ∈ lw_tbl := (List.mem_filter.mp h).1
theorem lw_self : GoodIn lw_all lw_all := fun w h => ⟨h, good_of_word (List.mem_filter.mp h).2⟩
/-- a class's field words, by their places -/
theorem lw_in (ws : List Cond) (ps : List Nat) (hp : ws = ps.filterMap (fun i => lw_tbl[i]?)) (hg : ws.all goodWord = true) : ∀ w ∈ ws, w ∈ lw_all := by
  intro w h
  have h1 := List.all_eq_true.mp hg w h
  rw [hp] at h
  obtain ⟨i, -, hi⟩ := List.mem_filterMap.mp h
  exact lw_w i hi h1
/-- the words of a contract for the method y with code b, L locals, answer r -/
abbrev ws_ (y : MethodName) (b : ByteArray) (L : Nat) (r : Option FieldType) : List Cond := Cond.code y b L r :: lw_all
theorem lw_meth {y : MethodName} {b : ByteArray} {L : Nat} {r : Option FieldType} (h : Cond.code y b L r ∈ lw_all) : GoodIn lw_all (ws_ y b L r) := by
  intro w hw
  rcases List.mem_cons.mp hw with e | e
  · rw [e]
    exact lw_self _ h
  · exact lw_self _ e
theorem lw_app {a c : List Cond} (ha : ∀ w ∈ a, w ∈ lw_all) (hc : GoodIn lw_all c) : GoodIn lw_all (a ++ c) := by
  intro w hw
  rcases List.mem_append.mp hw with e | e
  · exact lw_self w (ha w e)
  · exact hc w e
/-- what a call through an object asks: cwV n hts (lw_V ..) -/
theorem lw_V {own : String} {idx : Nat} {C : String} {y : MethodName} {b : ByteArray} {L : Nat} {r : Option FieldType} (h1 : Cond.methodLink own idx y ∈ lw_all) (h2 : Cond.instanceMethod y ∈ lw_all) (h3 : Cond.selects C y y ∈ lw_all) (h4 : Cond.initialized C ∈ lw_all) (h5 : Cond.code y b L r ∈ lw_all) : GoodIn lw_all (wsV own idx C y (ws_ y b L r)) := by
  refine lw_app ?_ (lw_meth h5)
  intro w hw
  simp only [List.mem_cons, List.not_mem_nil, or_false] at hw
  rcases hw with e | e | e | e
  · rw [e]; exact h1
  · rw [e]; exact h2
  · rw [e]; exact h3
  · rw [e]; exact h4
/-- what a static call asks: va_cwS n hts (lw_S ..) -/
theorem lw_S {own : String} {idx : Nat} {y : MethodName} {b : ByteArray} {L : Nat} {r : Option FieldType} (h1 : Cond.methodLink own idx y ∈ lw_all) (h2 : Cond.static y ∈ lw_all) (h3 : Cond.initialized y.cls ∈ lw_all) (h4 : Cond.code y b L r ∈ lw_all) : GoodIn lw_all (va_wsS own idx y (ws_ y b L r)) := by
  refine lw_app ?_ (lw_meth h4)
  intro w hw
  simp only [List.mem_cons, List.not_mem_nil, or_false] at hw
  rcases hw with e | e | e
  · rw [e]; exact h1
  · rw [e]; exact h2
  · rw [e]; exact h3
/-- the words of a contract for a method WITH HANDLERS (hh: its table) -/
abbrev wsW_ (y : MethodName) (b : ByteArray) (L : Nat) (r : Option FieldType) (hh : List (Nat × Nat × Nat × Nat)) : List Cond := Cond.codeWith y b L r hh :: lw_all
theorem lw_methW {y : MethodName} {b : ByteArray} {L : Nat} {r : Option FieldType} {hh : List (Nat × Nat × Nat × Nat)} (h : Cond.codeWith y b L r hh ∈ lw_all) : GoodIn lw_all (wsW_ y b L r hh) := by
  intro w hw
  rcases List.mem_cons.mp hw with e | e
  · rw [e]
    exact lw_self _ h
  · exact lw_self _ e
/-- any list of words by their places (lw_in), good -/
theorem lw_good {ws : List Cond} (h : ∀ w ∈ ws, w ∈ lw_all) : GoodIn lw_all ws := fun w hw => lw_self w (h w hw)
/-- what a call of a method with handlers asks: vx_cwVW n hts (lw_VW ..), vx_cwSW n hts (lw_SW ..) -/
theorem lw_VW {own : String} {idx : Nat} {C : String} {y : MethodName} {b : ByteArray} {L : Nat} {r : Option FieldType} {hh : List (Nat × Nat × Nat × Nat)} (h1 : Cond.methodLink own idx y ∈ lw_all) (h2 : Cond.instanceMethod y ∈ lw_all) (h3 : Cond.selects C y y ∈ lw_all) (h4 : Cond.initialized C ∈ lw_all) (h5 : Cond.codeWith y b L r hh ∈ lw_all) : GoodIn lw_all (wsV own idx C y (wsW_ y b L r hh)) := by
  refine lw_app ?_ (lw_methW h5)
  intro w hw
  simp only [List.mem_cons, List.not_mem_nil, or_false] at hw
  rcases hw with e | e | e | e
  · rw [e]; exact h1
  · rw [e]; exact h2
  · rw [e]; exact h3
  · rw [e]; exact h4
theorem lw_SW {own : String} {idx : Nat} {y : MethodName} {b : ByteArray} {L : Nat} {r : Option FieldType} {hh : List (Nat × Nat × Nat × Nat)} (h1 : Cond.methodLink own idx y ∈ lw_all) (h2 : Cond.static y ∈ lw_all) (h3 : Cond.initialized y.cls ∈ lw_all) (h4 : Cond.codeWith y b L r hh ∈ lw_all) : GoodIn lw_all (va_wsS own idx y (wsW_ y b L r hh)) := by
  refine lw_app ?_ (lw_methW h4)
  intro w hw
  simp only [List.mem_cons, List.not_mem_nil, or_false] at hw
  rcases hw with e | e | e
  · rw [e]; exact h1
  · rw [e]; exact h2
  · rw [e]; exact h3
/-- a word by its place in its run of the tables -/
theorem lw_at {r : List Cond} (hr : ∀ w ∈ r, w ∈ lw_tbl) {w : Cond} (i : Nat) (h : r[i]? = some w) : w ∈ lw_tbl := hr w (List.mem_of_getElem? h)
theorem lw_g {w : Cond} (h : w ∈ lw_tbl) (g : goodWord w = true) : w ∈ lw_all := List.mem_filter.mpr ⟨h, g⟩
theorem lw_ms : ∀ w ∈ k2_sels lw_privs, w ∈ lw_tbl := fun w h => show w ∈ k2_sels lw_privs ++ tables_1 from List.mem_append_left _ h
theorem lw_m1 : ∀ w ∈ tables_1_1, w ∈ lw_tbl := fun w h => show w ∈ k2_sels lw_privs ++ tables_1 from List.mem_append_right (k2_sels lw_privs) (show w ∈ tables_1 from List.mem_append_left _ h)
theorem lw_m2 : ∀ w ∈ tables_1_2, w ∈ lw_tbl := fun w h => show w ∈ k2_sels lw_privs ++ tables_1 from List.mem_append_right (k2_sels lw_privs) (show w ∈ tables_1 from List.mem_append_right _ (List.mem_append_left _ h))
theorem lw_m3 : ∀ w ∈ tables_1_3, w ∈ lw_tbl := fun w h => show w ∈ k2_sels lw_privs ++ tables_1 from List.mem_append_right (k2_sels lw_privs) (show w ∈ tables_1 from List.mem_append_right _ (List.mem_append_right _ (List.mem_append_left _ h)))
theorem lw_m4 : ∀ w ∈ tables_1_4, w ∈ lw_tbl := fun w h => show w ∈ k2_sels lw_privs ++ tables_1 from List.mem_append_right (k2_sels lw_privs) (show w ∈ tables_1 from List.mem_append_right _ (List.mem_append_right _ (List.mem_append_right _ (List.mem_append_left _ h))))
theorem lw_m5 : ∀ w ∈ tables_1_5, w ∈ lw_tbl := fun w h => show w ∈ k2_sels lw_privs ++ tables_1 from List.mem_append_right (k2_sels lw_privs) (show w ∈ tables_1 from List.mem_append_right _ (List.mem_append_right _ (List.mem_append_right _ (List.mem_append_right _ (List.mem_append_left _ h)))))
theorem lw_m6 : ∀ w ∈ tables_1_6, w ∈ lw_tbl := fun w h => show w ∈ k2_sels lw_privs ++ tables_1 from List.mem_append_right (k2_sels lw_privs) (show w ∈ tables_1 from List.mem_append_right _ (List.mem_append_right _ (List.mem_append_right _ (List.mem_append_right _ (List.mem_append_right _ (List.mem_append_left _ h))))))
theorem lw_m7 : ∀ w ∈ tables_1_7, w ∈ lw_tbl := fun w h => show w ∈ k2_sels lw_privs ++ tables_1 from List.mem_append_right (k2_sels lw_privs) (show w ∈ tables_1 from List.mem_append_right _ (List.mem_append_right _ (List.mem_append_right _ (List.mem_append_right _ (List.mem_append_right _ (List.mem_append_right _ (List.mem_append_left _ h)))))))
theorem lw_m8 : ∀ w ∈ tables_1_8, w ∈ lw_tbl := fun w h => show w ∈ k2_sels lw_privs ++ tables_1 from List.mem_append_right (k2_sels lw_privs) (show w ∈ tables_1 from List.mem_append_right _ (List.mem_append_right _ (List.mem_append_right _ (List.mem_append_right _ (List.mem_append_right _ (List.mem_append_right _ (List.mem_append_right _ (List.mem_append_left _ h))))))))
theorem lw_m9 : ∀ w ∈ tables_1_9, w ∈ lw_tbl := fun w h => show w ∈ k2_sels lw_privs ++ tables_1 from List.mem_append_right (k2_sels lw_privs) (show w ∈ tables_1 from List.mem_append_right _ (List.mem_append_right _ (List.mem_append_right _ (List.mem_append_right _ (List.mem_append_right _ (List.mem_append_right _ (List.mem_append_right _ (List.mem_append_right _ h))))))))
theorem qs0 : (Cond.selects "StrictProofs" ⟨"StrictProofs", "reads", "()Z"⟩ ⟨"StrictProofs", "reads", "()Z"⟩) ∈ lw_all := lw_g (lw_at lw_ms 0 rfl) rfl
theorem qs1 : (Cond.selects "StrictProofs$Text" ⟨"StrictProofs$Text", "byteAt", "(I)I"⟩ ⟨"StrictProofs$Text", "byteAt", "(I)I"⟩) ∈ lw_all := lw_g (lw_at lw_ms 1 rfl) rfl
theorem qs2 : (Cond.selects "StrictProofs$Text" ⟨"StrictProofs$Text", "word", "()V"⟩ ⟨"StrictProofs$Text", "word", "()V"⟩) ∈ lw_all := lw_g (lw_at lw_ms 2 rfl) rfl
theorem qs3 : (Cond.selects "StrictProofs$Text" ⟨"StrictProofs$Text", "wordOf", "(I)I"⟩ ⟨"StrictProofs$Text", "wordOf", "(I)I"⟩) ∈ lw_all := lw_g (lw_at lw_ms 3 rfl) rfl
theorem qs4 : (Cond.selects "StrictProofs$Parser" ⟨"StrictProofs$Parser", "function", "()V"⟩ ⟨"StrictProofs$Parser", "function", "()V"⟩) ∈ lw_all := lw_g (lw_at lw_ms 4 rfl) rfl
theorem qs5 : (Cond.selects "java/lang/Throwable" ⟨"java/lang/Throwable", "fillInStackTrace", "(I)Ljava/lang/Throwable;"⟩ ⟨"java/lang/Throwable", "fillInStackTrace", "(I)Ljava/lang/Throwable;"⟩) ∈ lw_all := lw_g (lw_at lw_ms 5 rfl) rfl
theorem qs6 : (Cond.selects "StrictProofs$Parser" ⟨"StrictProofs$Parser", "name", "()I"⟩ ⟨"StrictProofs$Parser", "name", "()I"⟩) ∈ lw_all := lw_g (lw_at lw_ms 6 rfl) rfl
theorem qs7 : (Cond.selects "StrictProofs$Parser" ⟨"StrictProofs$Parser", "param", "()V"⟩ ⟨"StrictProofs$Parser", "param", "()V"⟩) ∈ lw_all := lw_g (lw_at lw_ms 7 rfl) rfl
theorem qs8 : (Cond.selects "StrictProofs$Parser" ⟨"StrictProofs$Parser", "slot", "()I"⟩ ⟨"StrictProofs$Parser", "slot", "()I"⟩) ∈ lw_all := lw_g (lw_at lw_ms 8 rfl) rfl
theorem qs9 : (Cond.selects "StrictProofs$Parser" ⟨"StrictProofs$Parser", "type", "(I)I"⟩ ⟨"StrictProofs$Parser", "type", "(I)I"⟩) ∈ lw_all := lw_g (lw_at lw_ms 9 rfl) rfl
theorem qs10 : (Cond.selects "StrictProofs$Parser" ⟨"StrictProofs$Parser", "expression", "()LStrictProofs$Expression;"⟩ ⟨"StrictProofs$Parser", "expression", "()LStrictProofs$Expression;"⟩) ∈ lw_all := lw_g (lw_at lw_ms 10 rfl) rfl
theorem qs11 : (Cond.selects "StrictProofs$Parser" ⟨"StrictProofs$Parser", "begins", "()Z"⟩ ⟨"StrictProofs$Parser", "begins", "()Z"⟩) ∈ lw_all := lw_g (lw_at lw_ms 11 rfl) rfl
theorem qs12 : (Cond.selects "StrictProofs$Parser" ⟨"StrictProofs$Parser", "let", "()LStrictProofs$Expression;"⟩ ⟨"StrictProofs$Parser", "let", "()LStrictProofs$Expression;"⟩) ∈ lw_all := lw_g (lw_at lw_ms 12 rfl) rfl
theorem qs13 : (Cond.selects "StrictProofs$Parser" ⟨"StrictProofs$Parser", "ofCase", "()LStrictProofs$Expression;"⟩ ⟨"StrictProofs$Parser", "ofCase", "()LStrictProofs$Expression;"⟩) ∈ lw_all := lw_g (lw_at lw_ms 13 rfl) rfl
theorem qs14 : (Cond.selects "StrictProofs$Parser" ⟨"StrictProofs$Parser", "ofIf", "()LStrictProofs$Expression;"⟩ ⟨"StrictProofs$Parser", "ofIf", "()LStrictProofs$Expression;"⟩) ∈ lw_all := lw_g (lw_at lw_ms 14 rfl) rfl
theorem qs15 : (Cond.selects "StrictProofs$Parser" ⟨"StrictProofs$Parser", "compared", "()LStrictProofs$Expression;"⟩ ⟨"StrictProofs$Parser", "compared", "()LStrictProofs$Expression;"⟩) ∈ lw_all := lw_g (lw_at lw_ms 15 rfl) rfl
theorem qs16 : (Cond.selects "StrictProofs$Parser" ⟨"StrictProofs$Parser", "sum", "()LStrictProofs$Expression;"⟩ ⟨"StrictProofs$Parser", "sum", "()LStrictProofs$Expression;"⟩) ∈ lw_all := lw_g (lw_at lw_ms 16 rfl) rfl
theorem qs17 : (Cond.selects "StrictProofs$Parser" ⟨"StrictProofs$Parser", "product", "()LStrictProofs$Expression;"⟩ ⟨"StrictProofs$Parser", "product", "()LStrictProofs$Expression;"⟩) ∈ lw_all := lw_g (lw_at lw_ms 17 rfl) rfl
theorem qs18 : (Cond.selects "StrictProofs$Parser" ⟨"StrictProofs$Parser", "atom", "()LStrictProofs$Expression;"⟩ ⟨"StrictProofs$Parser", "atom", "()LStrictProofs$Expression;"⟩) ∈ lw_all := lw_g (lw_at lw_ms 18 rfl) rfl
theorem qs19 : (Cond.selects "StrictProofs$Parser" ⟨"StrictProofs$Parser", "brackets", "(I)LStrictProofs$Expression;"⟩ ⟨"StrictProofs$Parser", "brackets", "(I)LStrictProofs$Expression;"⟩) ∈ lw_all := lw_g (lw_at lw_ms 19 rfl) rfl
theorem qs20 : (Cond.selects "StrictProofs$Parser" ⟨"StrictProofs$Parser", "call", "(I)LStrictProofs$Expression;"⟩ ⟨"StrictProofs$Parser", "call", "(I)LStrictProofs$Expression;"⟩) ∈ lw_all := lw_g (lw_at lw_ms 20 rfl) rfl
theorem qs21 : (Cond.selects "StrictProofs$Parser" ⟨"StrictProofs$Parser", "argument", "(LStrictProofs$Call;)V"⟩ ⟨"StrictProofs$Parser", "argument", "(LStrictProofs$Call;)V"⟩) ∈ lw_all := lw_g (lw_at lw_ms 21 rfl) rfl
theorem qs22 : (Cond.selects "StrictProofs" ⟨"StrictProofs", "lay", "(I)V"⟩ ⟨"StrictProofs", "lay", "(I)V"⟩) ∈ lw_all := lw_g (lw_at lw_ms 22 rfl) rfl
theorem qs23 : (Cond.selects "StrictProofs" ⟨"StrictProofs", "functionAt", "(I)LStrictProofs$Function;"⟩ ⟨"StrictProofs", "functionAt", "(I)LStrictProofs$Function;"⟩) ∈ lw_all := lw_g (lw_at lw_ms 23 rfl) rfl
theorem qs24 : (Cond.selects "StrictProofs" ⟨"StrictProofs", "round", "()Z"⟩ ⟨"StrictProofs", "round", "()Z"⟩) ∈ lw_all := lw_g (lw_at lw_ms 24 rfl) rfl
theorem qs25 : (Cond.selects "StrictProofs" ⟨"StrictProofs", "rowAt", "(II)LStrictProofs$Function;"⟩ ⟨"StrictProofs", "rowAt", "(II)LStrictProofs$Function;"⟩) ∈ lw_all := lw_g (lw_at lw_ms 25 rfl) rfl
theorem qs26 : (Cond.selects "StrictProofs$Machine" ⟨"StrictProofs$Machine", "input", "([I[II)I"⟩ ⟨"StrictProofs$Machine", "input", "([I[II)I"⟩) ∈ lw_all := lw_g (lw_at lw_ms 26 rfl) rfl
theorem qs27 : (Cond.selects "StrictProofs$Machine" ⟨"StrictProofs$Machine", "put", "(LStrictProofs$Expression;II)I"⟩ ⟨"StrictProofs$Machine", "put", "(LStrictProofs$Expression;II)I"⟩) ∈ lw_all := lw_g (lw_at lw_ms 27 rfl) rfl
theorem qs28 : (Cond.selects "StrictProofs$Machine" ⟨"StrictProofs$Machine", "part", "(III)V"⟩ ⟨"StrictProofs$Machine", "part", "(III)V"⟩) ∈ lw_all := lw_g (lw_at lw_ms 28 rfl) rfl
theorem qs29 : (Cond.selects "StrictProofsModel" ⟨"StrictProofsModel", "next", "()V"⟩ ⟨"StrictProofsModel", "next", "()V"⟩) ∈ lw_all := lw_g (lw_at lw_ms 29 rfl) rfl
theorem qs30 : (Cond.selects "StrictProofsModel" ⟨"StrictProofsModel", "row", "()V"⟩ ⟨"StrictProofsModel", "row", "()V"⟩) ∈ lw_all := lw_g (lw_at lw_ms 30 rfl) rfl
theorem qs31 : (Cond.selects "StrictProofsModel" ⟨"StrictProofsModel", "stop", "(II)V"⟩ ⟨"StrictProofsModel", "stop", "(II)V"⟩) ∈ lw_all := lw_g (lw_at lw_ms 31 rfl) rfl
theorem qs32 : (Cond.selects "StrictProofsModel" ⟨"StrictProofsModel", "definition", "()V"⟩ ⟨"StrictProofsModel", "definition", "()V"⟩) ∈ lw_all := lw_g (lw_at lw_ms 32 rfl) rfl
theorem qs33 : (Cond.selects "StrictProofsModel" ⟨"StrictProofsModel", "pass", "()V"⟩ ⟨"StrictProofsModel", "pass", "()V"⟩) ∈ lw_all := lw_g (lw_at lw_ms 33 rfl) rfl
theorem qs34 : (Cond.selects "StrictProofsModel" ⟨"StrictProofsModel", "want", "(I)V"⟩ ⟨"StrictProofsModel", "want", "(I)V"⟩) ∈ lw_all := lw_g (lw_at lw_ms 34 rfl) rfl
theorem qs35 : (Cond.selects "StrictProofsModel" ⟨"StrictProofsModel", "name", "(Z)I"⟩ ⟨"StrictProofsModel", "name", "(Z)I"⟩) ∈ lw_all := lw_g (lw_at lw_ms 35 rfl) rfl
theorem qs36 : (Cond.selects "StrictProofsModel" ⟨"StrictProofsModel", "isParam", "(J)Z"⟩ ⟨"StrictProofsModel", "isParam", "(J)Z"⟩) ∈ lw_all := lw_g (lw_at lw_ms 36 rfl) rfl
theorem qs37 : (Cond.selects "StrictProofsModel" ⟨"StrictProofsModel", "type", "()I"⟩ ⟨"StrictProofsModel", "type", "()I"⟩) ∈ lw_all := lw_g (lw_at lw_ms 37 rfl) rfl
theorem qs38 : (Cond.selects "StrictProofsModel" ⟨"StrictProofsModel", "parse", "(I)V"⟩ ⟨"StrictProofsModel", "parse", "(I)V"⟩) ∈ lw_all := lw_g (lw_at lw_ms 38 rfl) rfl
theorem qs39 : (Cond.selects "StrictProofsModel" ⟨"StrictProofsModel", "push", "(II)V"⟩ ⟨"StrictProofsModel", "push", "(II)V"⟩) ∈ lw_all := lw_g (lw_at lw_ms 39 rfl) rfl
theorem qs40 : (Cond.selects "StrictProofsModel" ⟨"StrictProofsModel", "onType", "(II)V"⟩ ⟨"StrictProofsModel", "onType", "(II)V"⟩) ∈ lw_all := lw_g (lw_at lw_ms 40 rfl) rfl
theorem qs41 : (Cond.selects "StrictProofsModel" ⟨"StrictProofsModel", "onE", "()V"⟩ ⟨"StrictProofsModel", "onE", "()V"⟩) ∈ lw_all := lw_g (lw_at lw_ms 41 rfl) rfl
theorem qs42 : (Cond.selects "StrictProofsModel" ⟨"StrictProofsModel", "begins", "()Z"⟩ ⟨"StrictProofsModel", "begins", "()Z"⟩) ∈ lw_all := lw_g (lw_at lw_ms 42 rfl) rfl
theorem qs43 : (Cond.selects "StrictProofsModel" ⟨"StrictProofsModel", "node", "(II)I"⟩ ⟨"StrictProofsModel", "node", "(II)I"⟩) ∈ lw_all := lw_g (lw_at lw_ms 43 rfl) rfl
theorem qs44 : (Cond.selects "StrictProofsModel" ⟨"StrictProofsModel", "onSum", "(II)V"⟩ ⟨"StrictProofsModel", "onSum", "(II)V"⟩) ∈ lw_all := lw_g (lw_at lw_ms 44 rfl) rfl
theorem qs45 : (Cond.selects "StrictProofsModel" ⟨"StrictProofsModel", "onAtom", "()V"⟩ ⟨"StrictProofsModel", "onAtom", "()V"⟩) ∈ lw_all := lw_g (lw_at lw_ms 45 rfl) rfl
theorem qs46 : (Cond.selects "StrictProofsModel" ⟨"StrictProofsModel", "make", "(I)V"⟩ ⟨"StrictProofsModel", "make", "(I)V"⟩) ∈ lw_all := lw_g (lw_at lw_ms 46 rfl) rfl
theorem qs47 : (Cond.selects "StrictProofsModel" ⟨"StrictProofsModel", "last", "()I"⟩ ⟨"StrictProofsModel", "last", "()I"⟩) ∈ lw_all := lw_g (lw_at lw_ms 47 rfl) rfl
theorem qs48 : (Cond.selects "StrictProofsModel" ⟨"StrictProofsModel", "onRest", "(II)V"⟩ ⟨"StrictProofsModel", "onRest", "(II)V"⟩) ∈ lw_all := lw_g (lw_at lw_ms 48 rfl) rfl
theorem qs49 : (Cond.selects "StrictProofsModel" ⟨"StrictProofsModel", "onCouple", "(I)V"⟩ ⟨"StrictProofsModel", "onCouple", "(I)V"⟩) ∈ lw_all := lw_g (lw_at lw_ms 49 rfl) rfl
theorem qs50 : (Cond.selects "StrictProofsModel" ⟨"StrictProofsModel", "judge", "()V"⟩ ⟨"StrictProofsModel", "judge", "()V"⟩) ∈ lw_all := lw_g (lw_at lw_ms 50 rfl) rfl
theorem qs51 : (Cond.selects "StrictProofsModel" ⟨"StrictProofsModel", "task", "(III)V"⟩ ⟨"StrictProofsModel", "task", "(III)V"⟩) ∈ lw_all := lw_g (lw_at lw_ms 51 rfl) rfl
theorem qs52 : (Cond.selects "StrictProofsModel" ⟨"StrictProofsModel", "onJudge", "(II)V"⟩ ⟨"StrictProofsModel", "onJudge", "(II)V"⟩) ∈ lw_all := lw_g (lw_at lw_ms 52 rfl) rfl
theorem qs53 : (Cond.selects "StrictProofsModel" ⟨"StrictProofsModel", "meant", "(J)I"⟩ ⟨"StrictProofsModel", "meant", "(J)I"⟩) ∈ lw_all := lw_g (lw_at lw_ms 53 rfl) rfl
theorem qs54 : (Cond.selects "StrictProofsModel" ⟨"StrictProofsModel", "judgeCall", "(I)V"⟩ ⟨"StrictProofsModel", "judgeCall", "(I)V"⟩) ∈ lw_all := lw_g (lw_at lw_ms 54 rfl) rfl
theorem qs55 : (Cond.selects "StrictProofsModel" ⟨"StrictProofsModel", "tells", "(II)V"⟩ ⟨"StrictProofsModel", "tells", "(II)V"⟩) ∈ lw_all := lw_g (lw_at lw_ms 55 rfl) rfl
theorem qs56 : (Cond.selects "StrictProofsModel" ⟨"StrictProofsModel", "onShut", "(II)V"⟩ ⟨"StrictProofsModel", "onShut", "(II)V"⟩) ∈ lw_all := lw_g (lw_at lw_ms 56 rfl) rfl
theorem qs57 : (Cond.selects "StrictProofsModel" ⟨"StrictProofsModel", "isFn", "(I)Z"⟩ ⟨"StrictProofsModel", "isFn", "(I)Z"⟩) ∈ lw_all := lw_g (lw_at lw_ms 57 rfl) rfl
theorem qs58 : (Cond.selects "StrictProofsModel" ⟨"StrictProofsModel", "renewed", "(II)Z"⟩ ⟨"StrictProofsModel", "renewed", "(II)Z"⟩) ∈ lw_all := lw_g (lw_at lw_ms 58 rfl) rfl
theorem qs59 : (Cond.selects "StrictProofsModel" ⟨"StrictProofsModel", "asks", "(II)Z"⟩ ⟨"StrictProofsModel", "asks", "(II)Z"⟩) ∈ lw_all := lw_g (lw_at lw_ms 59 rfl) rfl
theorem qs60 : (Cond.selects "StrictProofsModel" ⟨"StrictProofsModel", "asking", "(IIII)V"⟩ ⟨"StrictProofsModel", "asking", "(IIII)V"⟩) ∈ lw_all := lw_g (lw_at lw_ms 60 rfl) rfl
theorem qs61 : (Cond.selects "StrictProofsModel" ⟨"StrictProofsModel", "onAsk", "(III)V"⟩ ⟨"StrictProofsModel", "onAsk", "(III)V"⟩) ∈ lw_all := lw_g (lw_at lw_ms 61 rfl) rfl
theorem qs62 : (Cond.selects "StrictProofsModel" ⟨"StrictProofsModel", "join", "(IZ)V"⟩ ⟨"StrictProofsModel", "join", "(IZ)V"⟩) ∈ lw_all := lw_g (lw_at lw_ms 62 rfl) rfl
theorem qs63 : (Cond.selects "StrictProofsModel" ⟨"StrictProofsModel", "onArgument", "(III)V"⟩ ⟨"StrictProofsModel", "onArgument", "(III)V"⟩) ∈ lw_all := lw_g (lw_at lw_ms 63 rfl) rfl
theorem qs64 : (Cond.selects "StrictProofsModel" ⟨"StrictProofsModel", "isRowThere", "(II)Z"⟩ ⟨"StrictProofsModel", "isRowThere", "(II)Z"⟩) ∈ lw_all := lw_g (lw_at lw_ms 64 rfl) rfl
theorem qs65 : (Cond.selects "StrictProofsModel" ⟨"StrictProofsModel", "isParamOf", "(II)Z"⟩ ⟨"StrictProofsModel", "isParamOf", "(II)Z"⟩) ∈ lw_all := lw_g (lw_at lw_ms 65 rfl) rfl
theorem qs66 : (Cond.selects "StrictProofsModel" ⟨"StrictProofsModel", "has", "(III)I"⟩ ⟨"StrictProofsModel", "has", "(III)I"⟩) ∈ lw_all := lw_g (lw_at lw_ms 66 rfl) rfl
theorem qs67 : (Cond.selects "StrictProofsModel" ⟨"StrictProofsModel", "all", "(II)I"⟩ ⟨"StrictProofsModel", "all", "(II)I"⟩) ∈ lw_all := lw_g (lw_at lw_ms 67 rfl) rfl
theorem qs68 : (Cond.selects "StrictProofsModel" ⟨"StrictProofsModel", "tellsTooMuch", "(II)Z"⟩ ⟨"StrictProofsModel", "tellsTooMuch", "(II)Z"⟩) ∈ lw_all := lw_g (lw_at lw_ms 68 rfl) rfl
theorem qs69 : (Cond.selects "StrictProofsModel" ⟨"StrictProofsModel", "behind", "(II)I"⟩ ⟨"StrictProofsModel", "behind", "(II)I"⟩) ∈ lw_all := lw_g (lw_at lw_ms 69 rfl) rfl
theorem qs70 : (Cond.selects "StrictProofsModel" ⟨"StrictProofsModel", "lay", "(II)I"⟩ ⟨"StrictProofsModel", "lay", "(II)I"⟩) ∈ lw_all := lw_g (lw_at lw_ms 70 rfl) rfl
theorem qs71 : (Cond.selects "StrictProofsModel" ⟨"StrictProofsModel", "goes", "()V"⟩ ⟨"StrictProofsModel", "goes", "()V"⟩) ∈ lw_all := lw_g (lw_at lw_ms 71 rfl) rfl
theorem qs72 : (Cond.selects "StrictProofsModel" ⟨"StrictProofsModel", "work", "(II)V"⟩ ⟨"StrictProofsModel", "work", "(II)V"⟩) ∈ lw_all := lw_g (lw_at lw_ms 72 rfl) rfl
theorem qs73 : (Cond.selects "StrictProofsModel" ⟨"StrictProofsModel", "gives", "(II)V"⟩ ⟨"StrictProofsModel", "gives", "(II)V"⟩) ∈ lw_all := lw_g (lw_at lw_ms 73 rfl) rfl
theorem qs74 : (Cond.selects "StrictProofsModel" ⟨"StrictProofsModel", "need", "(I)V"⟩ ⟨"StrictProofsModel", "need", "(I)V"⟩) ∈ lw_all := lw_g (lw_at lw_ms 74 rfl) rfl
theorem qs75 : (Cond.selects "StrictProofsModel" ⟨"StrictProofsModel", "thing", "(II)I"⟩ ⟨"StrictProofsModel", "thing", "(II)I"⟩) ∈ lw_all := lw_g (lw_at lw_ms 75 rfl) rfl
theorem qs76 : (Cond.selects "StrictProofsModel" ⟨"StrictProofsModel", "called", "(II)V"⟩ ⟨"StrictProofsModel", "called", "(II)V"⟩) ∈ lw_all := lw_g (lw_at lw_ms 76 rfl) rfl
theorem qs77 : (Cond.selects "StrictProofsModel" ⟨"StrictProofsModel", "paired", "(II)V"⟩ ⟨"StrictProofsModel", "paired", "(II)V"⟩) ∈ lw_all := lw_g (lw_at lw_ms 77 rfl) rfl
theorem qs78 : (Cond.selects "StrictProofsModel" ⟨"StrictProofsModel", "demand", "(II)V"⟩ ⟨"StrictProofsModel", "demand", "(II)V"⟩) ∈ lw_all := lw_g (lw_at lw_ms 78 rfl) rfl
theorem qs79 : (Cond.selects "StrictProofsModel" ⟨"StrictProofsModel", "parted", "(ZZ)Z"⟩ ⟨"StrictProofsModel", "parted", "(ZZ)Z"⟩) ∈ lw_all := lw_g (lw_at lw_ms 79 rfl) rfl
-- ===== end of PART A; then your names; then what follows =====
