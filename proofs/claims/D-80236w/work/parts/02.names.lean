set_option maxRecDepth 100000
/-! StrictProofsLaw -/
def RX0 : String := "StrictProofsLaw"
abbrev cX0_feed : ByteArray := method_3_code
def yX0_feed : MethodName := ⟨RX0, "feed", "(LStrictProofs;IIIII[J)I"⟩
abbrev cX0_cut : ByteArray := method_4_code
def yX0_cut : MethodName := ⟨RX0, "cut", "(LStrictProofs;I[J)I"⟩
abbrev cX0_function : ByteArray := method_5_code
def yX0_function : MethodName := ⟨RX0, "function", "(LStrictProofs;II[J)I"⟩
abbrev cX0_rounds : ByteArray := method_6_code
def yX0_rounds : MethodName := ⟨RX0, "rounds", "(LStrictProofs;[J)I"⟩
abbrev cX0_dead : ByteArray := method_7_code
def yX0_dead : MethodName := ⟨RX0, "dead", "(LStrictProofs;II[J)I"⟩
abbrev cX0_asks : ByteArray := method_8_code
def yX0_asks : MethodName := ⟨RX0, "asks", "(LStrictProofs;III[J)I"⟩
abbrev cX0_strict : ByteArray := method_9_code
def yX0_strict : MethodName := ⟨RX0, "strict", "(LStrictProofs;II[J)I"⟩
abbrev cX0_plant : ByteArray := method_10_code
def yX0_plant : MethodName := ⟨RX0, "plant", "(LStrictProofs;IIII[J)I"⟩
abbrev cX0_check : ByteArray := method_11_code
def yX0_check : MethodName := ⟨RX0, "check", "(LStrictProofs;[J)I"⟩
abbrev cX0_input : ByteArray := method_12_code
def yX0_input : MethodName := ⟨RX0, "input", "(LStrictProofs;II[J)I"⟩
abbrev cX0_run : ByteArray := method_13_code
def yX0_run : MethodName := ⟨RX0, "run", "(LStrictProofs;III[J)I"⟩
abbrev cX0_told : ByteArray := method_14_code
def yX0_told : MethodName := ⟨RX0, "told", "(LStrictProofs;I[J)I"⟩
abbrev cX0_result : ByteArray := method_15_code
def yX0_result : MethodName := ⟨RX0, "result", "(LStrictProofs;I[J)I"⟩
abbrev cX0_needed : ByteArray := method_16_code
def yX0_needed : MethodName := ⟨RX0, "needed", "(LStrictProofs;I[J)I"⟩
/-! StrictProofs -/
def RX1 : String := "StrictProofs"
def TX1 : u_T := fun k => match k with
  | 0 => ("StrictProofs", "text", "LStrictProofs$Text;", true)
  | 1 => ("StrictProofs", "parser", "LStrictProofs$Parser;", true)
  | 2 => ("StrictProofs", "judge", "LStrictProofs$Judge;", true)
  | 3 => ("StrictProofs", "asker", "LStrictProofs$Asker;", true)
  | 4 => ("StrictProofs", "machine", "LStrictProofs$Machine;", true)
  | 5 => ("StrictProofs", "tape", "[B", true)
  | 6 => ("StrictProofs", "taped", "I", false)
  | 7 => ("StrictProofs", "place", "I", false)
  | 8 => ("StrictProofs", "functions", "[LStrictProofs$Function;", true)
  | 9 => ("StrictProofs", "many", "I", false)
  | 10 => ("StrictProofs", "isAsked", "Z", false)
  | 11 => ("StrictProofs", "kinds", "[I", true)
  | 12 => ("StrictProofs", "numbers", "[I", true)
  | _ => ("StrictProofs", "inputMany", "I", false)
def tyX1 : Nat → FieldType := fun k => match k with
  | 0 => .object "StrictProofs$Text"
  | 1 => .object "StrictProofs$Parser"
  | 2 => .object "StrictProofs$Judge"
  | 3 => .object "StrictProofs$Asker"
  | 4 => .object "StrictProofs$Machine"
  | 5 => .array .byte
  | 6 => .int
  | 7 => .int
  | 8 => .array (.object "StrictProofs$Function")
  | 9 => .int
  | 10 => .boolean
  | 11 => .array .int
  | 12 => .array .int
  | _ => .int
abbrev wsX10 : List Cond := u_ws RX1 TX1 14
theorem nmX1 : ∀ a, a < 14 → ∀ b, b < 14 → a ≠ b → (TX1 a).2.1 ≠ (TX1 b).2.1 := by decide +kernel
theorem tyX1_ok : ∀ k, k < 14 → parseFieldDescriptor (TX1 k).2.2.1 = some (tyX1 k) := by decide +kernel
abbrev cX1_init : ByteArray := prog_1_method_12_code
def yX1_init : MethodName := ⟨RX1, "<init>", "()V"⟩
abbrev cX1_read : ByteArray := prog_1_method_20_code
def yX1_read : MethodName := ⟨RX1, "read", "()I"⟩
abbrev cX1_reads : ByteArray := prog_1_method_19_code
def yX1_reads : MethodName := ⟨RX1, "reads", "()Z"⟩
abbrev cX1_pairOf : ByteArray := prog_1_method_5_code
def yX1_pairOf : MethodName := ⟨RX1, "pairOf", "(II)I"⟩
abbrev cX1_left : ByteArray := prog_1_method_2_code
def yX1_left : MethodName := ⟨RX1, "left", "(I)I"⟩
abbrev cX1_right : ByteArray := prog_1_method_3_code
def yX1_right : MethodName := ⟨RX1, "right", "(I)I"⟩
abbrev cX1_place : ByteArray := prog_1_method_21_code
def yX1_place : MethodName := ⟨RX1, "place", "()I"⟩
abbrev cX1_feed : ByteArray := prog_1_method_17_code
def yX1_feed : MethodName := ⟨RX1, "feed", "(IIIII)I"⟩
abbrev cX1_may : ByteArray := prog_1_method_13_code
def yX1_may : MethodName := ⟨RX1, "may", "(Z)V"⟩
abbrev cX1_lay : ByteArray := prog_1_method_16_code
def yX1_lay : MethodName := ⟨RX1, "lay", "(I)V"⟩
abbrev cX1_cut : ByteArray := prog_1_method_18_code
def yX1_cut : MethodName := ⟨RX1, "cut", "(I)I"⟩
abbrev cX1_fits : ByteArray := prog_1_method_15_code
def yX1_fits : MethodName := ⟨RX1, "fits", "(Z)V"⟩
abbrev cX1_function : ByteArray := prog_1_method_23_code
def yX1_function : MethodName := ⟨RX1, "function", "(II)I"⟩
abbrev cX1_functionAt : ByteArray := prog_1_method_22_code
def yX1_functionAt : MethodName := ⟨RX1, "functionAt", "(I)LStrictProofs$Function;"⟩
abbrev cX1_lies : ByteArray := prog_1_method_14_code
def yX1_lies : MethodName := ⟨RX1, "lies", "(Z)V"⟩
abbrev cX1_sizeOf : ByteArray := prog_1_method_1_code
def yX1_sizeOf : MethodName := ⟨RX1, "sizeOf", "(I)I"⟩
abbrev cX1_rounds : ByteArray := prog_1_method_24_code
def yX1_rounds : MethodName := ⟨RX1, "rounds", "()I"⟩
abbrev cX1_round : ByteArray := prog_1_method_25_code
def yX1_round : MethodName := ⟨RX1, "round", "()Z"⟩
abbrev cX1_together : ByteArray := prog_1_method_10_code
def yX1_together : MethodName := ⟨RX1, "together", "(III)I"⟩
abbrev cX1_first : ByteArray := prog_1_method_7_code
def yX1_first : MethodName := ⟨RX1, "first", "(II)I"⟩
abbrev cX1_second : ByteArray := prog_1_method_8_code
def yX1_second : MethodName := ⟨RX1, "second", "(II)I"⟩
abbrev cX1_both : ByteArray := prog_1_method_9_code
def yX1_both : MethodName := ⟨RX1, "both", "(III)I"⟩
abbrev cX1_either : ByteArray := prog_1_method_11_code
def yX1_either : MethodName := ⟨RX1, "either", "(III)I"⟩
abbrev cX1_all : ByteArray := prog_1_method_6_code
def yX1_all : MethodName := ⟨RX1, "all", "(I)I"⟩
abbrev cX1_rowOf : ByteArray := prog_1_method_26_code
def yX1_rowOf : MethodName := ⟨RX1, "rowOf", "(LStrictProofs$Function;II)I"⟩
abbrev cX1_dead : ByteArray := prog_1_method_28_code
def yX1_dead : MethodName := ⟨RX1, "dead", "(II)Z"⟩
abbrev cX1_rowAt : ByteArray := prog_1_method_27_code
def yX1_rowAt : MethodName := ⟨RX1, "rowAt", "(II)LStrictProofs$Function;"⟩
abbrev cX1_asks : ByteArray := prog_1_method_29_code
def yX1_asks : MethodName := ⟨RX1, "asks", "(III)I"⟩
abbrev cX1_strict : ByteArray := prog_1_method_30_code
def yX1_strict : MethodName := ⟨RX1, "strict", "(II)Z"⟩
abbrev cX1_plant : ByteArray := prog_1_method_31_code
def yX1_plant : MethodName := ⟨RX1, "plant", "(IIII)I"⟩
abbrev cX1_check : ByteArray := prog_1_method_32_code
def yX1_check : MethodName := ⟨RX1, "check", "()I"⟩
abbrev cX1_input : ByteArray := prog_1_method_33_code
def yX1_input : MethodName := ⟨RX1, "input", "(II)I"⟩
abbrev cX1_run : ByteArray := prog_1_method_34_code
def yX1_run : MethodName := ⟨RX1, "run", "(III)I"⟩
abbrev cX1_told : ByteArray := prog_1_method_35_code
def yX1_told : MethodName := ⟨RX1, "told", "(I)I"⟩
abbrev cX1_result : ByteArray := prog_1_method_36_code
def yX1_result : MethodName := ⟨RX1, "result", "(I)I"⟩
abbrev cX1_needed : ByteArray := prog_1_method_37_code
def yX1_needed : MethodName := ⟨RX1, "needed", "(I)Z"⟩
theorem in_X1 : ∀ w ∈ wsX10, w ∈ lw_all := lw_in wsX10 [386, 388, 390, 392, 394, 396, 398, 400, 402, 404, 406, 408, 410, 412] (by decide +kernel) (by decide +kernel)
/-! StrictProofs$Text -/
def RX2 : String := "StrictProofs$Text"
def TX2 : u_T := fun k => match k with
  | 0 => ("StrictProofs$Text", "bytes", "[B", true)
  | 1 => ("StrictProofs$Text", "size", "I", false)
  | 2 => ("StrictProofs$Text", "places", "[I", true)
  | 3 => ("StrictProofs$Text", "lengths", "[I", true)
  | 4 => ("StrictProofs$Text", "many", "I", false)
  | 5 => ("StrictProofs$Text", "sort", "I", false)
  | 6 => ("StrictProofs$Text", "value", "I", false)
  | 7 => ("StrictProofs$Text", "at", "I", false)
  | 8 => ("StrictProofs$Text", "place", "I", false)
  | 9 => ("StrictProofs$Text", "fault", "I", false)
  | _ => ("StrictProofs$Text", "faultPlace", "I", false)
def tyX2 : Nat → FieldType := fun k => match k with
  | 0 => .array .byte
  | 1 => .int
  | 2 => .array .int
  | 3 => .array .int
  | 4 => .int
  | 5 => .int
  | 6 => .int
  | 7 => .int
  | 8 => .int
  | 9 => .int
  | _ => .int
abbrev wsX20 : List Cond := u_ws RX2 TX2 11
theorem nmX2 : ∀ a, a < 11 → ∀ b, b < 11 → a ≠ b → (TX2 a).2.1 ≠ (TX2 b).2.1 := by decide +kernel
theorem tyX2_ok : ∀ k, k < 11 → parseFieldDescriptor (TX2 k).2.2.1 = some (tyX2 k) := by decide +kernel
abbrev cX2_init : ByteArray := prog_18_method_1_code
def yX2_init : MethodName := ⟨RX2, "<init>", "()V"⟩
abbrev cX2_begin : ByteArray := prog_18_method_6_code
def yX2_begin : MethodName := ⟨RX2, "begin", "()V"⟩
abbrev cX2_next : ByteArray := prog_18_method_7_code
def yX2_next : MethodName := ⟨RX2, "next", "()V"⟩
abbrev cX2_byteAt : ByteArray := prog_18_method_5_code
def yX2_byteAt : MethodName := ⟨RX2, "byteAt", "(I)I"⟩
abbrev cX2_isLetter : ByteArray := prog_18_method_3_code
def yX2_isLetter : MethodName := ⟨RX2, "isLetter", "(I)Z"⟩
abbrev cX2_isDigit : ByteArray := prog_18_method_4_code
def yX2_isDigit : MethodName := ⟨RX2, "isDigit", "(I)Z"⟩
abbrev cX2_word : ByteArray := prog_18_method_8_code
def yX2_word : MethodName := ⟨RX2, "word", "()V"⟩
abbrev cX2_wordOf : ByteArray := prog_18_method_9_code
def yX2_wordOf : MethodName := ⟨RX2, "wordOf", "(I)I"⟩
abbrev cX2_stands : ByteArray := prog_18_method_13_code
def yX2_stands : MethodName := ⟨RX2, "stands", "(Z)V"⟩
abbrev cX2_want : ByteArray := prog_18_method_2_code
def yX2_want : MethodName := ⟨RX2, "want", "(ZII)V"⟩
abbrev cX2_token : ByteArray := prog_18_method_10_code
def yX2_token : MethodName := ⟨RX2, "token", "()I"⟩
abbrev cX2_same : ByteArray := prog_18_method_17_code
def yX2_same : MethodName := ⟨RX2, "same", "(II)Z"⟩
abbrev cX2_room : ByteArray := prog_18_method_14_code
def yX2_room : MethodName := ⟨RX2, "room", "()V"⟩
abbrev cX2_sign : ByteArray := prog_18_method_15_code
def yX2_sign : MethodName := ⟨RX2, "sign", "(I)V"⟩
abbrev cX2_isSign : ByteArray := prog_18_method_11_code
def yX2_isSign : MethodName := ⟨RX2, "isSign", "(I)Z"⟩
abbrev cX2_isWord : ByteArray := prog_18_method_12_code
def yX2_isWord : MethodName := ⟨RX2, "isWord", "(I)Z"⟩
abbrev cX2_word_2 : ByteArray := prog_18_method_16_code
def yX2_word_2 : MethodName := ⟨RX2, "word", "(I)V"⟩
theorem in_X2 : ∀ w ∈ wsX20, w ∈ lw_all := lw_in wsX20 [147, 149, 151, 153, 155, 157, 159, 161, 163, 165, 167] (by decide +kernel) (by decide +kernel)
/-! StrictProofs$Parser -/
def RX3 : String := "StrictProofs$Parser"
def TX3 : u_T := fun k => match k with
  | 0 => ("StrictProofs$Parser", "t", "LStrictProofs$Text;", true)
  | 1 => ("StrictProofs$Parser", "functions", "[LStrictProofs$Function;", true)
  | 2 => ("StrictProofs$Parser", "many", "I", false)
  | 3 => ("StrictProofs$Parser", "now", "LStrictProofs$Function;", false)
  | _ => ("StrictProofs$Parser", "within", "I", false)
def tyX3 : Nat → FieldType := fun k => match k with
  | 0 => .object "StrictProofs$Text"
  | 1 => .array (.object "StrictProofs$Function")
  | 2 => .int
  | 3 => .object "StrictProofs$Function"
  | _ => .int
abbrev wsX30 : List Cond := u_ws RX3 TX3 5
theorem nmX3 : ∀ a, a < 5 → ∀ b, b < 5 → a ≠ b → (TX3 a).2.1 ≠ (TX3 b).2.1 := by decide +kernel
theorem tyX3_ok : ∀ k, k < 5 → parseFieldDescriptor (TX3 k).2.2.1 = some (tyX3 k) := by decide +kernel
abbrev cX3_init : ByteArray := prog_15_method_1_code
def yX3_init : MethodName := ⟨RX3, "<init>", "(LStrictProofs$Text;)V"⟩
abbrev cX3_program : ByteArray := prog_15_method_2_code
def yX3_program : MethodName := ⟨RX3, "program", "()V"⟩
abbrev cX3_function : ByteArray := prog_15_method_4_code
def yX3_function : MethodName := ⟨RX3, "function", "()V"⟩
abbrev cX3_name : ByteArray := prog_15_method_3_code
def yX3_name : MethodName := ⟨RX3, "name", "()I"⟩
abbrev cX3_param : ByteArray := prog_15_method_5_code
def yX3_param : MethodName := ⟨RX3, "param", "()V"⟩
abbrev cX3_slot : ByteArray := prog_15_method_6_code
def yX3_slot : MethodName := ⟨RX3, "slot", "()I"⟩
abbrev cX3_type : ByteArray := prog_15_method_7_code
def yX3_type : MethodName := ⟨RX3, "type", "(I)I"⟩
abbrev cX3_expression : ByteArray := prog_15_method_9_code
def yX3_expression : MethodName := ⟨RX3, "expression", "()LStrictProofs$Expression;"⟩
abbrev cX3_begins : ByteArray := prog_15_method_8_code
def yX3_begins : MethodName := ⟨RX3, "begins", "()Z"⟩
abbrev cX3_let : ByteArray := prog_15_method_10_code
def yX3_let : MethodName := ⟨RX3, "let", "()LStrictProofs$Expression;"⟩
abbrev cX3_ofCase : ByteArray := prog_15_method_11_code
def yX3_ofCase : MethodName := ⟨RX3, "ofCase", "()LStrictProofs$Expression;"⟩
abbrev cX3_ofIf : ByteArray := prog_15_method_12_code
def yX3_ofIf : MethodName := ⟨RX3, "ofIf", "()LStrictProofs$Expression;"⟩
abbrev cX3_compared : ByteArray := prog_15_method_13_code
def yX3_compared : MethodName := ⟨RX3, "compared", "()LStrictProofs$Expression;"⟩
abbrev cX3_sum : ByteArray := prog_15_method_14_code
def yX3_sum : MethodName := ⟨RX3, "sum", "()LStrictProofs$Expression;"⟩
abbrev cX3_product : ByteArray := prog_15_method_15_code
def yX3_product : MethodName := ⟨RX3, "product", "()LStrictProofs$Expression;"⟩
abbrev cX3_atom : ByteArray := prog_15_method_16_code
def yX3_atom : MethodName := ⟨RX3, "atom", "()LStrictProofs$Expression;"⟩
abbrev cX3_brackets : ByteArray := prog_15_method_17_code
def yX3_brackets : MethodName := ⟨RX3, "brackets", "(I)LStrictProofs$Expression;"⟩
abbrev cX3_call : ByteArray := prog_15_method_18_code
def yX3_call : MethodName := ⟨RX3, "call", "(I)LStrictProofs$Expression;"⟩
abbrev cX3_argument : ByteArray := prog_15_method_19_code
def yX3_argument : MethodName := ⟨RX3, "argument", "(LStrictProofs$Call;)V"⟩
theorem in_X3 : ∀ w ∈ wsX30, w ∈ lw_all := lw_in wsX30 [187, 189, 191, 193, 195] (by decide +kernel) (by decide +kernel)
/-! StrictProofs$Judge -/
def RX4 : String := "StrictProofs$Judge"
def TX4 : u_T := fun k => match k with
  | 0 => ("StrictProofs$Judge", "t", "LStrictProofs$Text;", true)
  | 1 => ("StrictProofs$Judge", "functions", "[LStrictProofs$Function;", true)
  | 2 => ("StrictProofs$Judge", "many", "I", false)
  | 3 => ("StrictProofs$Judge", "function", "LStrictProofs$Function;", false)
  | 4 => ("StrictProofs$Judge", "open", "[I", true)
  | _ => ("StrictProofs$Judge", "opened", "I", false)
def tyX4 : Nat → FieldType := fun k => match k with
  | 0 => .object "StrictProofs$Text"
  | 1 => .array (.object "StrictProofs$Function")
  | 2 => .int
  | 3 => .object "StrictProofs$Function"
  | 4 => .array .int
  | _ => .int
abbrev wsX40 : List Cond := u_ws RX4 TX4 6
theorem nmX4 : ∀ a, a < 6 → ∀ b, b < 6 → a ≠ b → (TX4 a).2.1 ≠ (TX4 b).2.1 := by decide +kernel
theorem tyX4_ok : ∀ k, k < 6 → parseFieldDescriptor (TX4 k).2.2.1 = some (tyX4 k) := by decide +kernel
abbrev cX4_init : ByteArray := prog_9_method_1_code
def yX4_init : MethodName := ⟨RX4, "<init>", "(LStrictProofs$Text;[LStrictProofs$Function;)V"⟩
abbrev cX4_all : ByteArray := prog_9_method_2_code
def yX4_all : MethodName := ⟨RX4, "all", "(I)V"⟩
abbrev cX4_open : ByteArray := prog_9_method_4_code
def yX4_open : MethodName := ⟨RX4, "open", "(I)V"⟩
abbrev cX4_judge : ByteArray := prog_9_method_8_code
def yX4_judge : MethodName := ⟨RX4, "judge", "(LStrictProofs$Expression;I)I"⟩
abbrev cX4_function : ByteArray := prog_9_method_7_code
def yX4_function : MethodName := ⟨RX4, "function", "(I)LStrictProofs$Function;"⟩
abbrev cX4_want : ByteArray := prog_9_method_3_code
def yX4_want : MethodName := ⟨RX4, "want", "(ZII)V"⟩
abbrev cX4_close : ByteArray := prog_9_method_5_code
def yX4_close : MethodName := ⟨RX4, "close", "(I)V"⟩
abbrev cX4_find : ByteArray := prog_9_method_6_code
def yX4_find : MethodName := ⟨RX4, "find", "(I)I"⟩
theorem in_X4 : ∀ w ∈ wsX40, w ∈ lw_all := lw_in wsX40 [213, 215, 217, 219, 221, 223] (by decide +kernel) (by decide +kernel)
/-! StrictProofs$Asker -/
def RX5 : String := "StrictProofs$Asker"
def TX5 : u_T := fun k => match k with
  | 0 => ("StrictProofs$Asker", "function", "LStrictProofs$Function;", false)
  | 1 => ("StrictProofs$Asker", "rows", "[LStrictProofs$Row;", true)
  | _ => ("StrictProofs$Asker", "top", "LStrictProofs$Row;", true)
def tyX5 : Nat → FieldType := fun k => match k with
  | 0 => .object "StrictProofs$Function"
  | 1 => .array (.object "StrictProofs$Row")
  | _ => .object "StrictProofs$Row"
abbrev wsX50 : List Cond := u_ws RX5 TX5 3
theorem nmX5 : ∀ a, a < 3 → ∀ b, b < 3 → a ≠ b → (TX5 a).2.1 ≠ (TX5 b).2.1 := by decide +kernel
theorem tyX5_ok : ∀ k, k < 3 → parseFieldDescriptor (TX5 k).2.2.1 = some (tyX5 k) := by decide +kernel
abbrev cX5_init : ByteArray := prog_2_method_1_code
def yX5_init : MethodName := ⟨RX5, "<init>", "()V"⟩
abbrev cX5_of : ByteArray := prog_2_method_3_code
def yX5_of : MethodName := ⟨RX5, "of", "(LStrictProofs$Function;I)LStrictProofs$Row;"⟩
abbrev cX5_row : ByteArray := prog_2_method_2_code
def yX5_row : MethodName := ⟨RX5, "row", "(I)LStrictProofs$Row;"⟩
theorem in_X5 : ∀ w ∈ wsX50, w ∈ lw_all := lw_in wsX50 [259, 261, 263] (by decide +kernel) (by decide +kernel)
/-! StrictProofs$Row -/
def RX6 : String := "StrictProofs$Row"
def TX6 : u_T := fun k => match k with
  | 0 => ("StrictProofs$Row", "asks", "[I", true)
  | _ => ("StrictProofs$Row", "isDead", "Z", false)
def tyX6 : Nat → FieldType := fun k => match k with
  | 0 => .array .int
  | _ => .boolean
abbrev wsX60 : List Cond := u_ws RX6 TX6 2
theorem nmX6 : ∀ a, a < 2 → ∀ b, b < 2 → a ≠ b → (TX6 a).2.1 ≠ (TX6 b).2.1 := by decide +kernel
theorem tyX6_ok : ∀ k, k < 2 → parseFieldDescriptor (TX6 k).2.2.1 = some (tyX6 k) := by decide +kernel
abbrev cX6_init : ByteArray := prog_16_method_1_code
def yX6_init : MethodName := ⟨RX6, "<init>", "()V"⟩
abbrev cX6_clear : ByteArray := prog_16_method_2_code
def yX6_clear : MethodName := ⟨RX6, "clear", "()V"⟩
abbrev cX6_add : ByteArray := prog_16_method_3_code
def yX6_add : MethodName := ⟨RX6, "add", "([III)V"⟩
abbrev cX6_addEither : ByteArray := prog_16_method_4_code
def yX6_addEither : MethodName := ⟨RX6, "addEither", "([IILStrictProofs$Row;LStrictProofs$Row;)V"⟩
theorem in_X6 : ∀ w ∈ wsX60, w ∈ lw_all := lw_in wsX60 [249, 251] (by decide +kernel) (by decide +kernel)
/-! StrictProofs$Machine -/
def RX7 : String := "StrictProofs$Machine"
def TX7 : u_T := fun k => match k with
  | 0 => ("StrictProofs$Machine", "what", "[LStrictProofs$Expression;", true)
  | 1 => ("StrictProofs$Machine", "frames", "[I", true)
  | 2 => ("StrictProofs$Machine", "states", "[B", true)
  | 3 => ("StrictProofs$Machine", "values", "[I", true)
  | 4 => ("StrictProofs$Machine", "things", "I", false)
  | 5 => ("StrictProofs$Machine", "lefts", "[I", true)
  | 6 => ("StrictProofs$Machine", "rights", "[I", true)
  | 7 => ("StrictProofs$Machine", "pairs", "I", false)
  | 8 => ("StrictProofs$Machine", "slots", "[I", true)
  | 9 => ("StrictProofs$Machine", "calls", "I", false)
  | 10 => ("StrictProofs$Machine", "inputs", "I", false)
  | 11 => ("StrictProofs$Machine", "inputPairs", "I", false)
  | 12 => ("StrictProofs$Machine", "limit", "I", false)
  | 13 => ("StrictProofs$Machine", "steps", "I", false)
  | 14 => ("StrictProofs$Machine", "depth", "I", false)
  | 15 => ("StrictProofs$Machine", "deepest", "I", false)
  | 16 => ("StrictProofs$Machine", "ended", "I", false)
  | 17 => ("StrictProofs$Machine", "answer", "I", false)
  | 18 => ("StrictProofs$Machine", "type", "I", false)
  | 19 => ("StrictProofs$Machine", "params", "I", false)
  | 20 => ("StrictProofs$Machine", "wasNeeded", "[Z", true)
  | 21 => ("StrictProofs$Machine", "at", "I", false)
  | _ => ("StrictProofs$Machine", "todo", "[I", true)
def tyX7 : Nat → FieldType := fun k => match k with
  | 0 => .array (.object "StrictProofs$Expression")
  | 1 => .array .int
  | 2 => .array .byte
  | 3 => .array .int
  | 4 => .int
  | 5 => .array .int
  | 6 => .array .int
  | 7 => .int
  | 8 => .array .int
  | 9 => .int
  | 10 => .int
  | 11 => .int
  | 12 => .int
  | 13 => .int
  | 14 => .int
  | 15 => .int
  | 16 => .int
  | 17 => .int
  | 18 => .int
  | 19 => .int
  | 20 => .array .boolean
  | 21 => .int
  | _ => .array .int
abbrev wsX70 : List Cond := u_ws RX7 TX7 23
theorem nmX7 : ∀ a, a < 23 → ∀ b, b < 23 → a ≠ b → (TX7 a).2.1 ≠ (TX7 b).2.1 := by decide +kernel
theorem tyX7_ok : ∀ k, k < 23 → parseFieldDescriptor (TX7 k).2.2.1 = some (tyX7 k) := by decide +kernel
abbrev cX7_init : ByteArray := prog_11_method_1_code
def yX7_init : MethodName := ⟨RX7, "<init>", "()V"⟩
abbrev cX7_forget : ByteArray := prog_11_method_2_code
def yX7_forget : MethodName := ⟨RX7, "forget", "()V"⟩
abbrev cX7_fit : ByteArray := prog_11_method_13_code
def yX7_fit : MethodName := ⟨RX7, "fit", "([IILStrictProofs$Function;)Z"⟩
abbrev cX7_run : ByteArray := prog_11_method_14_code
def yX7_run : MethodName := ⟨RX7, "run", "(LStrictProofs$Function;II[I[I)I"⟩
abbrev cX7_input : ByteArray := prog_11_method_12_code
def yX7_input : MethodName := ⟨RX7, "input", "([I[II)I"⟩
abbrev cX7_put : ByteArray := prog_11_method_5_code
def yX7_put : MethodName := ⟨RX7, "put", "(LStrictProofs$Expression;II)I"⟩
abbrev cX7_work : ByteArray := prog_11_method_4_code
def yX7_work : MethodName := ⟨RX7, "work", "(LStrictProofs$Expression;I)I"⟩
abbrev cX7_ends : ByteArray := prog_11_method_3_code
def yX7_ends : MethodName := ⟨RX7, "ends", "(I)V"⟩
abbrev cX7_call : ByteArray := prog_11_method_8_code
def yX7_call : MethodName := ⟨RX7, "call", "()I"⟩
abbrev cX7_thing : ByteArray := prog_11_method_6_code
def yX7_thing : MethodName := ⟨RX7, "thing", "(LStrictProofs$Expression;I)I"⟩
abbrev cX7_need : ByteArray := prog_11_method_9_code
def yX7_need : MethodName := ⟨RX7, "need", "(I)I"⟩
abbrev cX7_pair : ByteArray := prog_11_method_7_code
def yX7_pair : MethodName := ⟨RX7, "pair", "()I"⟩
abbrev cX7_ask : ByteArray := prog_11_method_10_code
def yX7_ask : MethodName := ⟨RX7, "ask", "(III)V"⟩
abbrev cX7_part : ByteArray := prog_11_method_11_code
def yX7_part : MethodName := ⟨RX7, "part", "(III)V"⟩
abbrev cX7_thingAt : ByteArray := prog_11_method_15_code
def yX7_thingAt : MethodName := ⟨RX7, "thingAt", "(I)I"⟩
theorem in_X7 : ∀ w ∈ wsX70, w ∈ lw_all := lw_in wsX70 [323, 325, 327, 329, 331, 333, 335, 337, 339, 341, 343, 345, 347, 349, 351, 353, 355, 357, 359, 361, 363, 365, 367] (by decide +kernel) (by decide +kernel)
/-! StrictProofsModel -/
def RX8 : String := "StrictProofsModel"
def TX8 : u_T := fun k => match k with
  | 0 => ("StrictProofsModel", "thrown", "I", false)
  | 1 => ("StrictProofsModel", "tape", "[I", true)
  | 2 => ("StrictProofsModel", "taped", "I", false)
  | 3 => ("StrictProofsModel", "at", "I", false)
  | 4 => ("StrictProofsModel", "token", "I", false)
  | 5 => ("StrictProofsModel", "tokenAt", "I", false)
  | 6 => ("StrictProofsModel", "tokenCount", "I", false)
  | 7 => ("StrictProofsModel", "key", "J", false)
  | 8 => ("StrictProofsModel", "amount", "I", false)
  | 9 => ("StrictProofsModel", "fault", "I", false)
  | 10 => ("StrictProofsModel", "faultAt", "I", false)
  | 11 => ("StrictProofsModel", "fnKey", "[J", true)
  | 12 => ("StrictProofsModel", "fnType", "[I", true)
  | 13 => ("StrictProofsModel", "fnParams", "[I", true)
  | 14 => ("StrictProofsModel", "fnNames", "[I", true)
  | 15 => ("StrictProofsModel", "fnBody", "[I", true)
  | 16 => ("StrictProofsModel", "nameKey", "[J", true)
  | 17 => ("StrictProofsModel", "nameType", "[I", true)
  | 18 => ("StrictProofsModel", "xKind", "[I", true)
  | 19 => ("StrictProofsModel", "xA", "[I", true)
  | 20 => ("StrictProofsModel", "xB", "[I", true)
  | 21 => ("StrictProofsModel", "xC", "[I", true)
  | 22 => ("StrictProofsModel", "xAt", "[I", true)
  | 23 => ("StrictProofsModel", "xType", "[I", true)
  | 24 => ("StrictProofsModel", "xKey", "[J", true)
  | 25 => ("StrictProofsModel", "argOf", "[I", true)
  | 26 => ("StrictProofsModel", "bankFns", "[I", true)
  | 27 => ("StrictProofsModel", "bank", "I", false)
  | 28 => ("StrictProofsModel", "fns", "I", false)
  | 29 => ("StrictProofsModel", "nodes", "I", false)
  | 30 => ("StrictProofsModel", "argsLaid", "I", false)
  | 31 => ("StrictProofsModel", "waiting", "[I", true)
  | 32 => ("StrictProofsModel", "waits", "I", false)
  | 33 => ("StrictProofsModel", "f", "I", false)
  | 34 => ("StrictProofsModel", "sy", "[I", true)
  | 35 => ("StrictProofsModel", "sa", "[I", true)
  | 36 => ("StrictProofsModel", "tasks", "I", false)
  | 37 => ("StrictProofsModel", "made", "[I", true)
  | 38 => ("StrictProofsModel", "makes", "I", false)
  | 39 => ("StrictProofsModel", "types", "[I", true)
  | 40 => ("StrictProofsModel", "typesMade", "I", false)
  | 41 => ("StrictProofsModel", "others", "I", false)
  | 42 => ("StrictProofsModel", "sw", "[I", true)
  | 43 => ("StrictProofsModel", "scope", "[I", true)
  | 44 => ("StrictProofsModel", "scoped", "I", false)
  | 45 => ("StrictProofsModel", "isProgram", "Z", false)
  | 46 => ("StrictProofsModel", "areRows", "Z", false)
  | 47 => ("StrictProofsModel", "here", "I", false)
  | 48 => ("StrictProofsModel", "sd", "[I", true)
  | 49 => ("StrictProofsModel", "asked", "[I", true)
  | 50 => ("StrictProofsModel", "isDead", "[Z", true)
  | 51 => ("StrictProofsModel", "rows", "[I", true)
  | 52 => ("StrictProofsModel", "rowDead", "[Z", true)
  | 53 => ("StrictProofsModel", "inputKind", "[I", true)
  | 54 => ("StrictProofsModel", "inputValue", "[I", true)
  | 55 => ("StrictProofsModel", "inputs", "I", false)
  | 56 => ("StrictProofsModel", "ofType", "[I", true)
  | 57 => ("StrictProofsModel", "thingOf", "[I", true)
  | 58 => ("StrictProofsModel", "thingIn", "[I", true)
  | 59 => ("StrictProofsModel", "thingState", "[I", true)
  | 60 => ("StrictProofsModel", "thingKind", "[I", true)
  | 61 => ("StrictProofsModel", "thingValue", "[I", true)
  | 62 => ("StrictProofsModel", "thingNeeded", "[Z", true)
  | 63 => ("StrictProofsModel", "pairFirst", "[I", true)
  | 64 => ("StrictProofsModel", "pairSecond", "[I", true)
  | 65 => ("StrictProofsModel", "envs", "[I", true)
  | 66 => ("StrictProofsModel", "paramThing", "[I", true)
  | 67 => ("StrictProofsModel", "things", "I", false)
  | 68 => ("StrictProofsModel", "pairs", "I", false)
  | 69 => ("StrictProofsModel", "calls", "I", false)
  | 70 => ("StrictProofsModel", "stepped", "I", false)
  | 71 => ("StrictProofsModel", "most", "I", false)
  | 72 => ("StrictProofsModel", "depth", "I", false)
  | 73 => ("StrictProofsModel", "deepest", "I", false)
  | 74 => ("StrictProofsModel", "end", "I", false)
  | 75 => ("StrictProofsModel", "ran", "I", false)
  | 76 => ("StrictProofsModel", "ended", "I", false)
  | 77 => ("StrictProofsModel", "outKind", "I", false)
  | 78 => ("StrictProofsModel", "outValue", "I", false)
  | 79 => ("StrictProofsModel", "answerKind", "I", false)
  | 80 => ("StrictProofsModel", "answerValue", "I", false)
  | 81 => ("StrictProofsModel", "lefts", "[I", true)
  | _ => ("StrictProofsModel", "kept", "I", false)
def tyX8 : Nat → FieldType := fun k => match k with
  | 0 => .int
  | 1 => .array .int
  | 2 => .int
  | 3 => .int
  | 4 => .int
  | 5 => .int
  | 6 => .int
  | 7 => .long
  | 8 => .int
  | 9 => .int
  | 10 => .int
  | 11 => .array .long
  | 12 => .array .int
  | 13 => .array .int
  | 14 => .array .int
  | 15 => .array .int
  | 16 => .array .long
  | 17 => .array .int
  | 18 => .array .int
  | 19 => .array .int
  | 20 => .array .int
  | 21 => .array .int
  | 22 => .array .int
  | 23 => .array .int
  | 24 => .array .long
  | 25 => .array .int
  | 26 => .array .int
  | 27 => .int
  | 28 => .int
  | 29 => .int
  | 30 => .int
  | 31 => .array .int
  | 32 => .int
  | 33 => .int
  | 34 => .array .int
  | 35 => .array .int
  | 36 => .int
  | 37 => .array .int
  | 38 => .int
  | 39 => .array .int
  | 40 => .int
  | 41 => .int
  | 42 => .array .int
  | 43 => .array .int
  | 44 => .int
  | 45 => .boolean
  | 46 => .boolean
  | 47 => .int
  | 48 => .array .int
  | 49 => .array .int
  | 50 => .array .boolean
  | 51 => .array .int
  | 52 => .array .boolean
  | 53 => .array .int
  | 54 => .array .int
  | 55 => .int
  | 56 => .array .int
  | 57 => .array .int
  | 58 => .array .int
  | 59 => .array .int
  | 60 => .array .int
  | 61 => .array .int
  | 62 => .array .boolean
  | 63 => .array .int
  | 64 => .array .int
  | 65 => .array .int
  | 66 => .array .int
  | 67 => .int
  | 68 => .int
  | 69 => .int
  | 70 => .int
  | 71 => .int
  | 72 => .int
  | 73 => .int
  | 74 => .int
  | 75 => .int
  | 76 => .int
  | 77 => .int
  | 78 => .int
  | 79 => .int
  | 80 => .int
  | 81 => .array .int
  | _ => .int
abbrev wsX80 : List Cond := u_ws RX8 TX8 83
theorem nmX8 : ∀ a, a < 83 → ∀ b, b < 83 → a ≠ b → (TX8 a).2.1 ≠ (TX8 b).2.1 := by decide +kernel
theorem tyX8_ok : ∀ k, k < 83 → parseFieldDescriptor (TX8 k).2.2.1 = some (tyX8 k) := by decide +kernel
abbrev cX8_init : ByteArray := prog_20_method_1_code
def yX8_init : MethodName := ⟨RX8, "<init>", "()V"⟩
abbrev cX8_thrown : ByteArray := prog_20_method_2_code
def yX8_thrown : MethodName := ⟨RX8, "thrown", "()I"⟩
abbrev cX8_feed : ByteArray := prog_20_method_4_code
def yX8_feed : MethodName := ⟨RX8, "feed", "(IIIII)I"⟩
abbrev cX8_cut : ByteArray := prog_20_method_5_code
def yX8_cut : MethodName := ⟨RX8, "cut", "(I)I"⟩
abbrev cX8_within : ByteArray := prog_20_method_3_code
def yX8_within : MethodName := ⟨RX8, "within", "(JJJ)Z"⟩
abbrev cX8_read : ByteArray := prog_20_method_45_code
def yX8_read : MethodName := ⟨RX8, "read", "()I"⟩
abbrev cX8_next : ByteArray := prog_20_method_18_code
def yX8_next : MethodName := ⟨RX8, "next", "()V"⟩
abbrev cX8_isRow : ByteArray := prog_20_method_15_code
def yX8_isRow : MethodName := ⟨RX8, "isRow", "(I)Z"⟩
abbrev cX8_isDigit : ByteArray := prog_20_method_14_code
def yX8_isDigit : MethodName := ⟨RX8, "isDigit", "(I)Z"⟩
abbrev cX8_row : ByteArray := prog_20_method_19_code
def yX8_row : MethodName := ⟨RX8, "row", "()V"⟩
abbrev cX8_wordOf : ByteArray := prog_20_method_17_code
def yX8_wordOf : MethodName := ⟨RX8, "wordOf", "(J)I"⟩
abbrev cX8_packed : ByteArray := prog_20_method_16_code
def yX8_packed : MethodName := ⟨RX8, "packed", "(IIII)J"⟩
abbrev cX8_stop : ByteArray := prog_20_method_13_code
def yX8_stop : MethodName := ⟨RX8, "stop", "(II)V"⟩
abbrev cX8_definition : ByteArray := prog_20_method_37_code
def yX8_definition : MethodName := ⟨RX8, "definition", "()V"⟩
abbrev cX8_pass : ByteArray := prog_20_method_20_code
def yX8_pass : MethodName := ⟨RX8, "pass", "()V"⟩
abbrev cX8_want : ByteArray := prog_20_method_21_code
def yX8_want : MethodName := ⟨RX8, "want", "(I)V"⟩
abbrev cX8_name : ByteArray := prog_20_method_23_code
def yX8_name : MethodName := ⟨RX8, "name", "(Z)I"⟩
abbrev cX8_isParam : ByteArray := prog_20_method_24_code
def yX8_isParam : MethodName := ⟨RX8, "isParam", "(J)Z"⟩
abbrev cX8_type : ByteArray := prog_20_method_36_code
def yX8_type : MethodName := ⟨RX8, "type", "()I"⟩
abbrev cX8_parse : ByteArray := prog_20_method_28_code
def yX8_parse : MethodName := ⟨RX8, "parse", "(I)V"⟩
abbrev cX8_push : ByteArray := prog_20_method_25_code
def yX8_push : MethodName := ⟨RX8, "push", "(II)V"⟩
abbrev cX8_onType : ByteArray := prog_20_method_29_code
def yX8_onType : MethodName := ⟨RX8, "onType", "(II)V"⟩
abbrev cX8_pairOf : ByteArray := prog_20_method_8_code
def yX8_pairOf : MethodName := ⟨RX8, "pairOf", "(II)I"⟩
abbrev cX8_onE : ByteArray := prog_20_method_31_code
def yX8_onE : MethodName := ⟨RX8, "onE", "()V"⟩
abbrev cX8_begins : ByteArray := prog_20_method_30_code
def yX8_begins : MethodName := ⟨RX8, "begins", "()Z"⟩
abbrev cX8_node : ByteArray := prog_20_method_22_code
def yX8_node : MethodName := ⟨RX8, "node", "(II)I"⟩
abbrev cX8_onSum : ByteArray := prog_20_method_32_code
def yX8_onSum : MethodName := ⟨RX8, "onSum", "(II)V"⟩
abbrev cX8_onAtom : ByteArray := prog_20_method_33_code
def yX8_onAtom : MethodName := ⟨RX8, "onAtom", "()V"⟩
abbrev cX8_make : ByteArray := prog_20_method_26_code
def yX8_make : MethodName := ⟨RX8, "make", "(I)V"⟩
abbrev cX8_last : ByteArray := prog_20_method_27_code
def yX8_last : MethodName := ⟨RX8, "last", "()I"⟩
abbrev cX8_onRest : ByteArray := prog_20_method_34_code
def yX8_onRest : MethodName := ⟨RX8, "onRest", "(II)V"⟩
abbrev cX8_onCouple : ByteArray := prog_20_method_35_code
def yX8_onCouple : MethodName := ⟨RX8, "onCouple", "(I)V"⟩
abbrev cX8_judge : ByteArray := prog_20_method_41_code
def yX8_judge : MethodName := ⟨RX8, "judge", "()V"⟩
abbrev cX8_task : ByteArray := prog_20_method_38_code
def yX8_task : MethodName := ⟨RX8, "task", "(III)V"⟩
abbrev cX8_onJudge : ByteArray := prog_20_method_42_code
def yX8_onJudge : MethodName := ⟨RX8, "onJudge", "(II)V"⟩
abbrev cX8_meant : ByteArray := prog_20_method_39_code
def yX8_meant : MethodName := ⟨RX8, "meant", "(J)I"⟩
abbrev cX8_judgeCall : ByteArray := prog_20_method_43_code
def yX8_judgeCall : MethodName := ⟨RX8, "judgeCall", "(I)V"⟩
abbrev cX8_secondOf : ByteArray := prog_20_method_7_code
def yX8_secondOf : MethodName := ⟨RX8, "secondOf", "(I)I"⟩
abbrev cX8_firstOf : ByteArray := prog_20_method_6_code
def yX8_firstOf : MethodName := ⟨RX8, "firstOf", "(I)I"⟩
abbrev cX8_tells : ByteArray := prog_20_method_40_code
def yX8_tells : MethodName := ⟨RX8, "tells", "(II)V"⟩
abbrev cX8_onShut : ByteArray := prog_20_method_44_code
def yX8_onShut : MethodName := ⟨RX8, "onShut", "(II)V"⟩
abbrev cX8_place : ByteArray := prog_20_method_46_code
def yX8_place : MethodName := ⟨RX8, "place", "()I"⟩
abbrev cX8_function : ByteArray := prog_20_method_48_code
def yX8_function : MethodName := ⟨RX8, "function", "(II)I"⟩
abbrev cX8_isFn : ByteArray := prog_20_method_47_code
def yX8_isFn : MethodName := ⟨RX8, "isFn", "(I)Z"⟩
abbrev cX8_demands : ByteArray := prog_20_method_9_code
def yX8_demands : MethodName := ⟨RX8, "demands", "(I)I"⟩
abbrev cX8_rounds : ByteArray := prog_20_method_56_code
def yX8_rounds : MethodName := ⟨RX8, "rounds", "()I"⟩
abbrev cX8_renewed : ByteArray := prog_20_method_55_code
def yX8_renewed : MethodName := ⟨RX8, "renewed", "(II)Z"⟩
abbrev cX8_asks : ByteArray := prog_20_method_51_code
def yX8_asks : MethodName := ⟨RX8, "asks", "(II)Z"⟩
abbrev cX8_asking : ByteArray := prog_20_method_49_code
def yX8_asking : MethodName := ⟨RX8, "asking", "(IIII)V"⟩
abbrev cX8_onAsk : ByteArray := prog_20_method_52_code
def yX8_onAsk : MethodName := ⟨RX8, "onAsk", "(III)V"⟩
abbrev cX8_join : ByteArray := prog_20_method_50_code
def yX8_join : MethodName := ⟨RX8, "join", "(IZ)V"⟩
abbrev cX8_joined : ByteArray := prog_20_method_12_code
def yX8_joined : MethodName := ⟨RX8, "joined", "(IIIZ)I"⟩
abbrev cX8_partBoth : ByteArray := prog_20_method_11_code
def yX8_partBoth : MethodName := ⟨RX8, "partBoth", "(IIIZ)I"⟩
abbrev cX8_nearBoth : ByteArray := prog_20_method_10_code
def yX8_nearBoth : MethodName := ⟨RX8, "nearBoth", "(IIZ)I"⟩
abbrev cX8_onArgument : ByteArray := prog_20_method_53_code
def yX8_onArgument : MethodName := ⟨RX8, "onArgument", "(III)V"⟩
abbrev cX8_dead : ByteArray := prog_20_method_59_code
def yX8_dead : MethodName := ⟨RX8, "dead", "(II)Z"⟩
abbrev cX8_isRowThere : ByteArray := prog_20_method_57_code
def yX8_isRowThere : MethodName := ⟨RX8, "isRowThere", "(II)Z"⟩
abbrev cX8_asks_2 : ByteArray := prog_20_method_61_code
def yX8_asks_2 : MethodName := ⟨RX8, "asks", "(III)I"⟩
abbrev cX8_isParamOf : ByteArray := prog_20_method_60_code
def yX8_isParamOf : MethodName := ⟨RX8, "isParamOf", "(II)Z"⟩
abbrev cX8_has : ByteArray := prog_20_method_58_code
def yX8_has : MethodName := ⟨RX8, "has", "(III)I"⟩
abbrev cX8_all : ByteArray := prog_20_method_54_code
def yX8_all : MethodName := ⟨RX8, "all", "(II)I"⟩
abbrev cX8_strict : ByteArray := prog_20_method_62_code
def yX8_strict : MethodName := ⟨RX8, "strict", "(II)Z"⟩
abbrev cX8_plant : ByteArray := prog_20_method_63_code
def yX8_plant : MethodName := ⟨RX8, "plant", "(IIII)I"⟩
abbrev cX8_check : ByteArray := prog_20_method_64_code
def yX8_check : MethodName := ⟨RX8, "check", "()I"⟩
abbrev cX8_tellsTooMuch : ByteArray := prog_20_method_65_code
def yX8_tellsTooMuch : MethodName := ⟨RX8, "tellsTooMuch", "(II)Z"⟩
abbrev cX8_input : ByteArray := prog_20_method_66_code
def yX8_input : MethodName := ⟨RX8, "input", "(II)I"⟩
abbrev cX8_run : ByteArray := prog_20_method_77_code
def yX8_run : MethodName := ⟨RX8, "run", "(III)I"⟩
abbrev cX8_behind : ByteArray := prog_20_method_67_code
def yX8_behind : MethodName := ⟨RX8, "behind", "(II)I"⟩
abbrev cX8_lay : ByteArray := prog_20_method_68_code
def yX8_lay : MethodName := ⟨RX8, "lay", "(II)I"⟩
abbrev cX8_goes : ByteArray := prog_20_method_72_code
def yX8_goes : MethodName := ⟨RX8, "goes", "()V"⟩
abbrev cX8_work : ByteArray := prog_20_method_73_code
def yX8_work : MethodName := ⟨RX8, "work", "(II)V"⟩
abbrev cX8_gives : ByteArray := prog_20_method_70_code
def yX8_gives : MethodName := ⟨RX8, "gives", "(II)V"⟩
abbrev cX8_need : ByteArray := prog_20_method_71_code
def yX8_need : MethodName := ⟨RX8, "need", "(I)V"⟩
abbrev cX8_thing : ByteArray := prog_20_method_69_code
def yX8_thing : MethodName := ⟨RX8, "thing", "(II)I"⟩
abbrev cX8_called : ByteArray := prog_20_method_74_code
def yX8_called : MethodName := ⟨RX8, "called", "(II)V"⟩
abbrev cX8_paired : ByteArray := prog_20_method_75_code
def yX8_paired : MethodName := ⟨RX8, "paired", "(II)V"⟩
abbrev cX8_demand : ByteArray := prog_20_method_76_code
def yX8_demand : MethodName := ⟨RX8, "demand", "(II)V"⟩
abbrev cX8_told : ByteArray := prog_20_method_78_code
def yX8_told : MethodName := ⟨RX8, "told", "(I)I"⟩
abbrev cX8_result : ByteArray := prog_20_method_80_code
def yX8_result : MethodName := ⟨RX8, "result", "(I)I"⟩
abbrev cX8_parted : ByteArray := prog_20_method_79_code
def yX8_parted : MethodName := ⟨RX8, "parted", "(ZZ)Z"⟩
abbrev cX8_needed : ByteArray := prog_20_method_81_code
def yX8_needed : MethodName := ⟨RX8, "needed", "(I)Z"⟩
theorem in_X8 : ∀ w ∈ wsX80, w ∈ lw_all := lw_in wsX80 [1541, 1543, 1545, 1547, 1549, 1551, 1553, 1555, 1557, 1559, 1561, 1563, 1565, 1567, 1569, 1571, 1573, 1575, 1577, 1579, 1581, 1583, 1585, 1587, 1589, 1591, 1593, 1595, 1597, 1599, 1601, 1603, 1605, 1607, 1609, 1611, 1613, 1615, 1617, 1619, 1621, 1623, 1625, 1627, 1629, 1631, 1633, 1635, 1637, 1639, 1641, 1643, 1645, 1647, 1649, 1651, 1653, 1655, 1657, 1659, 1661, 1663, 1665, 1667, 1669, 1671, 1673, 1675, 1677, 1679, 1681, 1683, 1685, 1687, 1689, 1691, 1693, 1695, 1697, 1699, 1701, 1703, 1705] (by decide +kernel) (by decide +kernel)
/-! StrictProofs$Function -/
def RX9 : String := "StrictProofs$Function"
def TX9 : u_T := fun k => match k with
  | 0 => ("StrictProofs$Function", "token", "I", false)
  | 1 => ("StrictProofs$Function", "params", "I", false)
  | 2 => ("StrictProofs$Function", "names", "I", false)
  | 3 => ("StrictProofs$Function", "type", "I", false)
  | 4 => ("StrictProofs$Function", "nameTokens", "[I", true)
  | 5 => ("StrictProofs$Function", "types", "[I", true)
  | 6 => ("StrictProofs$Function", "body", "LStrictProofs$Expression;", false)
  | 7 => ("StrictProofs$Function", "dead", "[Z", true)
  | _ => ("StrictProofs$Function", "asks", "[I", true)
def tyX9 : Nat → FieldType := fun k => match k with
  | 0 => .int
  | 1 => .int
  | 2 => .int
  | 3 => .int
  | 4 => .array .int
  | 5 => .array .int
  | 6 => .object "StrictProofs$Expression"
  | 7 => .array .boolean
  | _ => .array .int
abbrev wsX90 : List Cond := u_ws RX9 TX9 9
theorem nmX9 : ∀ a, a < 9 → ∀ b, b < 9 → a ≠ b → (TX9 a).2.1 ≠ (TX9 b).2.1 := by decide +kernel
theorem tyX9_ok : ∀ k, k < 9 → parseFieldDescriptor (TX9 k).2.2.1 = some (tyX9 k) := by decide +kernel
abbrev cX9_init : ByteArray := prog_7_method_1_code
def yX9_init : MethodName := ⟨RX9, "<init>", "()V"⟩
theorem in_X9 : ∀ w ∈ wsX90, w ∈ lw_all := lw_in wsX90 [700, 702, 704, 706, 708, 710, 712, 714, 716] (by decide +kernel) (by decide +kernel)
/-! StrictProofs$Expression -/
def RX10 : String := "StrictProofs$Expression"
abbrev cX10_init : ByteArray := prog_5_method_1_code
def yX10_init : MethodName := ⟨RX10, "<init>", "(I)V"⟩
abbrev cX10_alone : ByteArray := prog_5_method_5_code
def yX10_alone : MethodName := ⟨RX10, "alone", "()I"⟩
/-! StrictProofs$Let -/
def RX11 : String := "StrictProofs$Let"
def TX11 : u_T := fun k => match k with
  | 0 => ("StrictProofs$Expression", "token", "I", true)
  | 1 => ("StrictProofs$Expression", "type", "I", false)
  | 2 => ("StrictProofs$Let", "slot", "I", true)
  | 3 => ("StrictProofs$Let", "first", "LStrictProofs$Expression;", true)
  | _ => ("StrictProofs$Let", "last", "LStrictProofs$Expression;", true)
def tyX11 : Nat → FieldType := fun k => match k with
  | 0 => .int
  | 1 => .int
  | 2 => .int
  | 3 => .object "StrictProofs$Expression"
  | _ => .object "StrictProofs$Expression"
abbrev wsX110 : List Cond := u_ws RX11 TX11 5
theorem nmX11 : ∀ a, a < 5 → ∀ b, b < 5 → a ≠ b → (TX11 a).2.1 ≠ (TX11 b).2.1 := by decide +kernel
theorem tyX11_ok : ∀ k, k < 5 → parseFieldDescriptor (TX11 k).2.2.1 = some (tyX11 k) := by decide +kernel
abbrev cX11_init : ByteArray := prog_10_method_1_code
def yX11_init : MethodName := ⟨RX11, "<init>", "(IILStrictProofs$Expression;LStrictProofs$Expression;)V"⟩
abbrev cX11_judge : ByteArray := prog_10_method_2_code
def yX11_judge : MethodName := ⟨RX11, "judge", "(LStrictProofs$Judge;I)I"⟩
abbrev cX11_ask : ByteArray := prog_10_method_3_code
def yX11_ask : MethodName := ⟨RX11, "ask", "(LStrictProofs$Asker;ILStrictProofs$Row;I)V"⟩
abbrev cX11_work : ByteArray := prog_10_method_4_code
def yX11_work : MethodName := ⟨RX11, "work", "(LStrictProofs$Machine;I)I"⟩
theorem in_X11 : ∀ w ∈ wsX110, w ∈ lw_all := lw_in wsX110 [806, 808, 800, 802, 804] (by decide +kernel) (by decide +kernel)
/-! StrictProofs$Case -/
def RX12 : String := "StrictProofs$Case"
def TX12 : u_T := fun k => match k with
  | 0 => ("StrictProofs$Expression", "token", "I", true)
  | 1 => ("StrictProofs$Expression", "type", "I", false)
  | 2 => ("StrictProofs$Case", "slot", "I", true)
  | 3 => ("StrictProofs$Case", "first", "LStrictProofs$Expression;", true)
  | _ => ("StrictProofs$Case", "last", "LStrictProofs$Expression;", true)
def tyX12 : Nat → FieldType := fun k => match k with
  | 0 => .int
  | 1 => .int
  | 2 => .int
  | 3 => .object "StrictProofs$Expression"
  | _ => .object "StrictProofs$Expression"
abbrev wsX120 : List Cond := u_ws RX12 TX12 5
theorem nmX12 : ∀ a, a < 5 → ∀ b, b < 5 → a ≠ b → (TX12 a).2.1 ≠ (TX12 b).2.1 := by decide +kernel
theorem tyX12_ok : ∀ k, k < 5 → parseFieldDescriptor (TX12 k).2.2.1 = some (tyX12 k) := by decide +kernel
abbrev cX12_init : ByteArray := prog_4_method_1_code
def yX12_init : MethodName := ⟨RX12, "<init>", "(IILStrictProofs$Expression;LStrictProofs$Expression;)V"⟩
abbrev cX12_judge : ByteArray := prog_4_method_2_code
def yX12_judge : MethodName := ⟨RX12, "judge", "(LStrictProofs$Judge;I)I"⟩
abbrev cX12_ask : ByteArray := prog_4_method_3_code
def yX12_ask : MethodName := ⟨RX12, "ask", "(LStrictProofs$Asker;ILStrictProofs$Row;I)V"⟩
abbrev cX12_work : ByteArray := prog_4_method_4_code
def yX12_work : MethodName := ⟨RX12, "work", "(LStrictProofs$Machine;I)I"⟩
theorem in_X12 : ∀ w ∈ wsX120, w ∈ lw_all := lw_in wsX120 [830, 831, 824, 826, 828] (by decide +kernel) (by decide +kernel)
/-! StrictProofs$If -/
def RX13 : String := "StrictProofs$If"
def TX13 : u_T := fun k => match k with
  | 0 => ("StrictProofs$Expression", "token", "I", true)
  | 1 => ("StrictProofs$Expression", "type", "I", false)
  | 2 => ("StrictProofs$If", "test", "LStrictProofs$Expression;", true)
  | 3 => ("StrictProofs$If", "a", "LStrictProofs$Expression;", true)
  | _ => ("StrictProofs$If", "b", "LStrictProofs$Expression;", true)
def tyX13 : Nat → FieldType := fun k => match k with
  | 0 => .int
  | 1 => .int
  | 2 => .object "StrictProofs$Expression"
  | 3 => .object "StrictProofs$Expression"
  | _ => .object "StrictProofs$Expression"
abbrev wsX130 : List Cond := u_ws RX13 TX13 5
theorem nmX13 : ∀ a, a < 5 → ∀ b, b < 5 → a ≠ b → (TX13 a).2.1 ≠ (TX13 b).2.1 := by decide +kernel
theorem tyX13_ok : ∀ k, k < 5 → parseFieldDescriptor (TX13 k).2.2.1 = some (tyX13 k) := by decide +kernel
abbrev cX13_init : ByteArray := prog_8_method_1_code
def yX13_init : MethodName := ⟨RX13, "<init>", "(ILStrictProofs$Expression;LStrictProofs$Expression;LStrictProofs$Expression;)V"⟩
abbrev cX13_judge : ByteArray := prog_8_method_2_code
def yX13_judge : MethodName := ⟨RX13, "judge", "(LStrictProofs$Judge;I)I"⟩
abbrev cX13_ask : ByteArray := prog_8_method_3_code
def yX13_ask : MethodName := ⟨RX13, "ask", "(LStrictProofs$Asker;ILStrictProofs$Row;I)V"⟩
abbrev cX13_work : ByteArray := prog_8_method_4_code
def yX13_work : MethodName := ⟨RX13, "work", "(LStrictProofs$Machine;I)I"⟩
theorem in_X13 : ∀ w ∈ wsX130, w ∈ lw_all := lw_in wsX130 [852, 853, 846, 848, 850] (by decide +kernel) (by decide +kernel)
/-! StrictProofs$Num -/
def RX14 : String := "StrictProofs$Num"
def TX14 : u_T := fun k => match k with
  | 0 => ("StrictProofs$Expression", "token", "I", true)
  | 1 => ("StrictProofs$Expression", "type", "I", false)
  | _ => ("StrictProofs$Num", "value", "I", true)
def tyX14 : Nat → FieldType := fun k => match k with
  | 0 => .int
  | 1 => .int
  | _ => .int
abbrev wsX140 : List Cond := u_ws RX14 TX14 3
theorem nmX14 : ∀ a, a < 3 → ∀ b, b < 3 → a ≠ b → (TX14 a).2.1 ≠ (TX14 b).2.1 := by decide +kernel
theorem tyX14_ok : ∀ k, k < 3 → parseFieldDescriptor (TX14 k).2.2.1 = some (tyX14 k) := by decide +kernel
abbrev cX14_init : ByteArray := prog_13_method_1_code
def yX14_init : MethodName := ⟨RX14, "<init>", "(II)V"⟩
abbrev cX14_judge : ByteArray := prog_13_method_2_code
def yX14_judge : MethodName := ⟨RX14, "judge", "(LStrictProofs$Judge;I)I"⟩
abbrev cX14_ask : ByteArray := prog_13_method_3_code
def yX14_ask : MethodName := ⟨RX14, "ask", "(LStrictProofs$Asker;ILStrictProofs$Row;I)V"⟩
abbrev cX14_work : ByteArray := prog_13_method_4_code
def yX14_work : MethodName := ⟨RX14, "work", "(LStrictProofs$Machine;I)I"⟩
theorem in_X14 : ∀ w ∈ wsX140, w ∈ lw_all := lw_in wsX140 [880, 881, 878] (by decide +kernel) (by decide +kernel)
/-! StrictProofs$Fail -/
def RX15 : String := "StrictProofs$Fail"
def TX15 : u_T := fun k => match k with
  | 0 => ("StrictProofs$Expression", "token", "I", true)
  | _ => ("StrictProofs$Expression", "type", "I", false)
def tyX15 : Nat → FieldType := fun k => match k with
  | 0 => .int
  | _ => .int
abbrev wsX150 : List Cond := u_ws RX15 TX15 2
theorem nmX15 : ∀ a, a < 2 → ∀ b, b < 2 → a ≠ b → (TX15 a).2.1 ≠ (TX15 b).2.1 := by decide +kernel
theorem tyX15_ok : ∀ k, k < 2 → parseFieldDescriptor (TX15 k).2.2.1 = some (tyX15 k) := by decide +kernel
abbrev cX15_init : ByteArray := prog_6_method_1_code
def yX15_init : MethodName := ⟨RX15, "<init>", "(II)V"⟩
abbrev cX15_judge : ByteArray := prog_6_method_2_code
def yX15_judge : MethodName := ⟨RX15, "judge", "(LStrictProofs$Judge;I)I"⟩
abbrev cX15_ask : ByteArray := prog_6_method_3_code
def yX15_ask : MethodName := ⟨RX15, "ask", "(LStrictProofs$Asker;ILStrictProofs$Row;I)V"⟩
abbrev cX15_work : ByteArray := prog_6_method_4_code
def yX15_work : MethodName := ⟨RX15, "work", "(LStrictProofs$Machine;I)I"⟩
theorem in_X15 : ∀ w ∈ wsX150, w ∈ lw_all := lw_in wsX150 [889, 890] (by decide +kernel) (by decide +kernel)
/-! StrictProofs$Pair -/
def RX16 : String := "StrictProofs$Pair"
def TX16 : u_T := fun k => match k with
  | 0 => ("StrictProofs$Expression", "token", "I", true)
  | 1 => ("StrictProofs$Expression", "type", "I", false)
  | 2 => ("StrictProofs$Pair", "a", "LStrictProofs$Expression;", true)
  | _ => ("StrictProofs$Pair", "b", "LStrictProofs$Expression;", true)
def tyX16 : Nat → FieldType := fun k => match k with
  | 0 => .int
  | 1 => .int
  | 2 => .object "StrictProofs$Expression"
  | _ => .object "StrictProofs$Expression"
abbrev wsX160 : List Cond := u_ws RX16 TX16 4
theorem nmX16 : ∀ a, a < 4 → ∀ b, b < 4 → a ≠ b → (TX16 a).2.1 ≠ (TX16 b).2.1 := by decide +kernel
theorem tyX16_ok : ∀ k, k < 4 → parseFieldDescriptor (TX16 k).2.2.1 = some (tyX16 k) := by decide +kernel
abbrev cX16_init : ByteArray := prog_14_method_1_code
def yX16_init : MethodName := ⟨RX16, "<init>", "(ILStrictProofs$Expression;LStrictProofs$Expression;)V"⟩
abbrev cX16_judge : ByteArray := prog_14_method_2_code
def yX16_judge : MethodName := ⟨RX16, "judge", "(LStrictProofs$Judge;I)I"⟩
abbrev cX16_ask : ByteArray := prog_14_method_3_code
def yX16_ask : MethodName := ⟨RX16, "ask", "(LStrictProofs$Asker;ILStrictProofs$Row;I)V"⟩
abbrev cX16_work : ByteArray := prog_14_method_4_code
def yX16_work : MethodName := ⟨RX16, "work", "(LStrictProofs$Machine;I)I"⟩
theorem in_X16 : ∀ w ∈ wsX160, w ∈ lw_all := lw_in wsX160 [908, 909, 904, 906] (by decide +kernel) (by decide +kernel)
/-! StrictProofs$Call -/
def RX17 : String := "StrictProofs$Call"
def TX17 : u_T := fun k => match k with
  | 0 => ("StrictProofs$Expression", "token", "I", true)
  | 1 => ("StrictProofs$Expression", "type", "I", false)
  | 2 => ("StrictProofs$Call", "its", "LStrictProofs$Function;", false)
  | 3 => ("StrictProofs$Call", "with", "[LStrictProofs$Expression;", true)
  | _ => ("StrictProofs$Call", "many", "I", false)
def tyX17 : Nat → FieldType := fun k => match k with
  | 0 => .int
  | 1 => .int
  | 2 => .object "StrictProofs$Function"
  | 3 => .array (.object "StrictProofs$Expression")
  | _ => .int
abbrev wsX170 : List Cond := u_ws RX17 TX17 5
theorem nmX17 : ∀ a, a < 5 → ∀ b, b < 5 → a ≠ b → (TX17 a).2.1 ≠ (TX17 b).2.1 := by decide +kernel
theorem tyX17_ok : ∀ k, k < 5 → parseFieldDescriptor (TX17 k).2.2.1 = some (tyX17 k) := by decide +kernel
abbrev cX17_init : ByteArray := prog_3_method_1_code
def yX17_init : MethodName := ⟨RX17, "<init>", "(I)V"⟩
abbrev cX17_judge : ByteArray := prog_3_method_2_code
def yX17_judge : MethodName := ⟨RX17, "judge", "(LStrictProofs$Judge;I)I"⟩
abbrev cX17_ask : ByteArray := prog_3_method_3_code
def yX17_ask : MethodName := ⟨RX17, "ask", "(LStrictProofs$Asker;ILStrictProofs$Row;I)V"⟩
abbrev cX17_work : ByteArray := prog_3_method_4_code
def yX17_work : MethodName := ⟨RX17, "work", "(LStrictProofs$Machine;I)I"⟩
theorem in_X17 : ∀ w ∈ wsX170, w ∈ lw_all := lw_in wsX170 [933, 934, 927, 929, 931] (by decide +kernel) (by decide +kernel)
/-! StrictProofs$Name -/
def RX18 : String := "StrictProofs$Name"
def TX18 : u_T := fun k => match k with
  | 0 => ("StrictProofs$Expression", "token", "I", true)
  | 1 => ("StrictProofs$Expression", "type", "I", false)
  | _ => ("StrictProofs$Name", "slot", "I", false)
def tyX18 : Nat → FieldType := fun k => match k with
  | 0 => .int
  | 1 => .int
  | _ => .int
abbrev wsX180 : List Cond := u_ws RX18 TX18 3
theorem nmX18 : ∀ a, a < 3 → ∀ b, b < 3 → a ≠ b → (TX18 a).2.1 ≠ (TX18 b).2.1 := by decide +kernel
theorem tyX18_ok : ∀ k, k < 3 → parseFieldDescriptor (TX18 k).2.2.1 = some (tyX18 k) := by decide +kernel
abbrev cX18_init : ByteArray := prog_12_method_1_code
def yX18_init : MethodName := ⟨RX18, "<init>", "(I)V"⟩
abbrev cX18_judge : ByteArray := prog_12_method_2_code
def yX18_judge : MethodName := ⟨RX18, "judge", "(LStrictProofs$Judge;I)I"⟩
abbrev cX18_ask : ByteArray := prog_12_method_3_code
def yX18_ask : MethodName := ⟨RX18, "ask", "(LStrictProofs$Asker;ILStrictProofs$Row;I)V"⟩
abbrev cX18_alone : ByteArray := prog_12_method_5_code
def yX18_alone : MethodName := ⟨RX18, "alone", "()I"⟩
abbrev cX18_work : ByteArray := prog_12_method_4_code
def yX18_work : MethodName := ⟨RX18, "work", "(LStrictProofs$Machine;I)I"⟩
theorem in_X18 : ∀ w ∈ wsX180, w ∈ lw_all := lw_in wsX180 [949, 950, 947] (by decide +kernel) (by decide +kernel)
/-! StrictProofs$Sign -/
def RX19 : String := "StrictProofs$Sign"
def TX19 : u_T := fun k => match k with
  | 0 => ("StrictProofs$Expression", "token", "I", true)
  | 1 => ("StrictProofs$Expression", "type", "I", false)
  | 2 => ("StrictProofs$Sign", "op", "I", true)
  | 3 => ("StrictProofs$Sign", "a", "LStrictProofs$Expression;", true)
  | _ => ("StrictProofs$Sign", "b", "LStrictProofs$Expression;", true)
def tyX19 : Nat → FieldType := fun k => match k with
  | 0 => .int
  | 1 => .int
  | 2 => .int
  | 3 => .object "StrictProofs$Expression"
  | _ => .object "StrictProofs$Expression"
abbrev wsX190 : List Cond := u_ws RX19 TX19 5
theorem nmX19 : ∀ a, a < 5 → ∀ b, b < 5 → a ≠ b → (TX19 a).2.1 ≠ (TX19 b).2.1 := by decide +kernel
theorem tyX19_ok : ∀ k, k < 5 → parseFieldDescriptor (TX19 k).2.2.1 = some (tyX19 k) := by decide +kernel
abbrev cX19_init : ByteArray := prog_17_method_1_code
def yX19_init : MethodName := ⟨RX19, "<init>", "(ILStrictProofs$Expression;LStrictProofs$Expression;)V"⟩
abbrev cX19_judge : ByteArray := prog_17_method_2_code
def yX19_judge : MethodName := ⟨RX19, "judge", "(LStrictProofs$Judge;I)I"⟩
abbrev cX19_ask : ByteArray := prog_17_method_3_code
def yX19_ask : MethodName := ⟨RX19, "ask", "(LStrictProofs$Asker;ILStrictProofs$Row;I)V"⟩
abbrev cX19_work : ByteArray := prog_17_method_4_code
def yX19_work : MethodName := ⟨RX19, "work", "(LStrictProofs$Machine;I)I"⟩
theorem in_X19 : ∀ w ∈ wsX190, w ∈ lw_all := lw_in wsX190 [967, 968, 961, 963, 965] (by decide +kernel) (by decide +kernel)
/-! java/lang/Throwable -/
def RJ0 : String := "java/lang/Throwable"
def TJ0 : u_T := fun k => match k with
  | 0 => ("java/lang/Throwable", "cause", "Ljava/lang/Throwable;", false)
  | 1 => ("java/lang/Throwable", "stackTrace", "[Ljava/lang/StackTraceElement;", false)
  | 2 => ("java/lang/Throwable", "suppressedExceptions", "Ljava/util/List;", false)
  | 3 => ("java/lang/Throwable", "detailMessage", "Ljava/lang/String;", false)
  | _ => ("java/lang/Throwable", "backtrace", "Ljava/lang/Object;", false)
def tyJ0 : Nat → FieldType := fun k => match k with
  | 0 => .object "java/lang/Throwable"
  | 1 => .array (.object "java/lang/StackTraceElement")
  | 2 => .object "java/util/List"
  | 3 => .object "java/lang/String"
  | _ => .object "java/lang/Object"
abbrev wsJ00 : List Cond := u_ws RJ0 TJ0 5
theorem nmJ0 : ∀ a, a < 5 → ∀ b, b < 5 → a ≠ b → (TJ0 a).2.1 ≠ (TJ0 b).2.1 := by decide +kernel
theorem tyJ0_ok : ∀ k, k < 5 → parseFieldDescriptor (TJ0 k).2.2.1 = some (tyJ0 k) := by decide +kernel
abbrev cJ0_init : ByteArray := prog_33_method_1_code
def yJ0_init : MethodName := ⟨RJ0, "<init>", "()V"⟩
abbrev cJ0_init_2 : ByteArray := prog_33_method_2_code
def yJ0_init_2 : MethodName := ⟨RJ0, "<init>", "(Ljava/lang/String;)V"⟩
theorem in_J0 : ∀ w ∈ wsJ00, w ∈ lw_all := lw_in wsJ00 [590, 592, 594, 596, 598] (by decide +kernel) (by decide +kernel)
/-! java/lang/Exception -/
def RJ1 : String := "java/lang/Exception"
abbrev cJ1_init : ByteArray := prog_23_method_2_code
def yJ1_init : MethodName := ⟨RJ1, "<init>", "(Ljava/lang/String;)V"⟩
abbrev cJ1_init_2 : ByteArray := prog_23_method_1_code
def yJ1_init_2 : MethodName := ⟨RJ1, "<init>", "()V"⟩
/-! java/lang/RuntimeException -/
def RJ2 : String := "java/lang/RuntimeException"
abbrev cJ2_init : ByteArray := prog_28_method_2_code
def yJ2_init : MethodName := ⟨RJ2, "<init>", "(Ljava/lang/String;)V"⟩
abbrev cJ2_init_2 : ByteArray := prog_28_method_1_code
def yJ2_init_2 : MethodName := ⟨RJ2, "<init>", "()V"⟩
/-! java/lang/IllegalStateException -/
def RJ3 : String := "java/lang/IllegalStateException"
def TJ3 : u_T := fun k => match k with
  | 0 => ("java/lang/Throwable", "cause", "Ljava/lang/Throwable;", false)
  | 1 => ("java/lang/Throwable", "stackTrace", "[Ljava/lang/StackTraceElement;", false)
  | 2 => ("java/lang/Throwable", "suppressedExceptions", "Ljava/util/List;", false)
  | 3 => ("java/lang/Throwable", "detailMessage", "Ljava/lang/String;", false)
  | 4 => ("java/lang/Throwable", "backtrace", "Ljava/lang/Object;", false)
  | _ => ("java/lang/Throwable", "depth", "I", false)
def tyJ3 : Nat → FieldType := fun k => match k with
  | 0 => .object "java/lang/Throwable"
  | 1 => .array (.object "java/lang/StackTraceElement")
  | 2 => .object "java/util/List"
  | 3 => .object "java/lang/String"
  | 4 => .object "java/lang/Object"
  | _ => .int
abbrev wsJ30 : List Cond := u_ws RJ3 TJ3 6
theorem nmJ3 : ∀ a, a < 6 → ∀ b, b < 6 → a ≠ b → (TJ3 a).2.1 ≠ (TJ3 b).2.1 := by decide +kernel
theorem tyJ3_ok : ∀ k, k < 6 → parseFieldDescriptor (TJ3 k).2.2.1 = some (tyJ3 k) := by decide +kernel
abbrev cJ3_init : ByteArray := prog_25_method_2_code
def yJ3_init : MethodName := ⟨RJ3, "<init>", "(Ljava/lang/String;)V"⟩
abbrev cJ3_init_2 : ByteArray := prog_25_method_1_code
def yJ3_init_2 : MethodName := ⟨RJ3, "<init>", "()V"⟩
theorem in_J3 : ∀ w ∈ wsJ30, w ∈ lw_all := lw_in wsJ30 [589, 591, 593, 595, 597, 642] (by decide +kernel) (by decide +kernel)
/-! java/lang/IllegalArgumentException -/
def RJ4 : String := "java/lang/IllegalArgumentException"
def TJ4 : u_T := fun k => match k with
  | 0 => ("java/lang/Throwable", "cause", "Ljava/lang/Throwable;", false)
  | 1 => ("java/lang/Throwable", "stackTrace", "[Ljava/lang/StackTraceElement;", false)
  | 2 => ("java/lang/Throwable", "suppressedExceptions", "Ljava/util/List;", false)
  | 3 => ("java/lang/Throwable", "detailMessage", "Ljava/lang/String;", false)
  | 4 => ("java/lang/Throwable", "backtrace", "Ljava/lang/Object;", false)
  | _ => ("java/lang/Throwable", "depth", "I", false)
def tyJ4 : Nat → FieldType := fun k => match k with
  | 0 => .object "java/lang/Throwable"
  | 1 => .array (.object "java/lang/StackTraceElement")
  | 2 => .object "java/util/List"
  | 3 => .object "java/lang/String"
  | 4 => .object "java/lang/Object"
  | _ => .int
abbrev wsJ40 : List Cond := u_ws RJ4 TJ4 6
theorem nmJ4 : ∀ a, a < 6 → ∀ b, b < 6 → a ≠ b → (TJ4 a).2.1 ≠ (TJ4 b).2.1 := by decide +kernel
theorem tyJ4_ok : ∀ k, k < 6 → parseFieldDescriptor (TJ4 k).2.2.1 = some (tyJ4 k) := by decide +kernel
abbrev cJ4_init : ByteArray := prog_24_method_1_code
def yJ4_init : MethodName := ⟨RJ4, "<init>", "()V"⟩
theorem in_J4 : ∀ w ∈ wsJ40, w ∈ lw_all := lw_in wsJ40 [1097, 1098, 1099, 1100, 1101, 1106] (by decide +kernel) (by decide +kernel)
/-! java/lang/String -/
def RJ5 : String := "java/lang/String"
def TJ5 : u_T := fun k => match k with
  | 0 => ("java/lang/String", "value", "[B", true)
  | _ => ("java/lang/String", "coder", "B", true)
def tyJ5 : Nat → FieldType := fun k => match k with
  | 0 => .array .byte
  | _ => .byte
abbrev wsJ50 : List Cond := u_ws RJ5 TJ5 2
theorem nmJ5 : ∀ a, a < 2 → ∀ b, b < 2 → a ≠ b → (TJ5 a).2.1 ≠ (TJ5 b).2.1 := by decide +kernel
theorem tyJ5_ok : ∀ k, k < 2 → parseFieldDescriptor (TJ5 k).2.2.1 = some (tyJ5 k) := by decide +kernel
abbrev cJ5_length : ByteArray := prog_29_method_54_code
def yJ5_length : MethodName := ⟨RJ5, "length", "()I"⟩
abbrev cJ5_coder : ByteArray := prog_29_method_152_code
def yJ5_coder : MethodName := ⟨RJ5, "coder", "()B"⟩
abbrev cJ5_charAt : ByteArray := prog_29_method_56_code
def yJ5_charAt : MethodName := ⟨RJ5, "charAt", "(I)C"⟩
abbrev cJ5_isLatin1 : ByteArray := prog_29_method_154_code
def yJ5_isLatin1 : MethodName := ⟨RJ5, "isLatin1", "()Z"⟩
abbrev cJ5_checkIndex : ByteArray := prog_29_method_155_code
def yJ5_checkIndex : MethodName := ⟨RJ5, "checkIndex", "(II)V"⟩
abbrev cJ5_indexOf : ByteArray := prog_29_method_79_code
def yJ5_indexOf : MethodName := ⟨RJ5, "indexOf", "(I)I"⟩
abbrev cJ5_indexOf_2 : ByteArray := prog_29_method_80_code
def yJ5_indexOf_2 : MethodName := ⟨RJ5, "indexOf", "(II)I"⟩
abbrev cJ5_checkBoundsBeginEnd : ByteArray := prog_29_method_158_code
def yJ5_checkBoundsBeginEnd : MethodName := ⟨RJ5, "checkBoundsBeginEnd", "(III)V"⟩
theorem in_J5 : ∀ w ∈ wsJ50, w ∈ lw_all := lw_in wsJ50 [1131, 1133] (by decide +kernel) (by decide +kernel)
/-! java/lang/StringLatin1 -/
def RJ6 : String := "java/lang/StringLatin1"
abbrev cJ6_charAt : ByteArray := prog_30_method_2_code
def yJ6_charAt : MethodName := ⟨RJ6, "charAt", "([BI)C"⟩
abbrev cJ6_indexOf : ByteArray := prog_30_method_22_code
def yJ6_indexOf : MethodName := ⟨RJ6, "indexOf", "([BIII)I"⟩
abbrev cJ6_canEncode : ByteArray := prog_30_method_4_code
def yJ6_canEncode : MethodName := ⟨RJ6, "canEncode", "(I)Z"⟩
abbrev cJ6_indexOfChar : ByteArray := prog_30_method_23_code
def yJ6_indexOfChar : MethodName := ⟨RJ6, "indexOfChar", "([BIII)I"⟩
/-! jdk/internal/util/Preconditions -/
def RJ7 : String := "jdk/internal/util/Preconditions"
abbrev cJ7_checkIndex : ByteArray := prog_34_method_11_code
def yJ7_checkIndex : MethodName := ⟨RJ7, "checkIndex", "(IILjava/util/function/BiFunction;)I"⟩
abbrev cJ7_checkFromToIndex : ByteArray := prog_34_method_12_code
def yJ7_checkFromToIndex : MethodName := ⟨RJ7, "checkFromToIndex", "(IIILjava/util/function/BiFunction;)I"⟩
/-! java/lang/StringUTF16 -/
def RJ8 : String := "java/lang/StringUTF16"
abbrev cJ8_charAt : ByteArray := prog_31_method_83_code
def yJ8_charAt : MethodName := ⟨RJ8, "charAt", "([BI)C"⟩
abbrev cJ8_checkIndex : ByteArray := prog_31_method_91_code
def yJ8_checkIndex : MethodName := ⟨RJ8, "checkIndex", "(I[B)V"⟩
abbrev cJ8_length : ByteArray := prog_31_method_6_code
def yJ8_length : MethodName := ⟨RJ8, "length", "([B)I"⟩
abbrev cJ8_getChar : ByteArray := prog_31_method_5_code
def yJ8_getChar : MethodName := ⟨RJ8, "getChar", "([BI)C"⟩
abbrev cJ8_indexOf : ByteArray := prog_31_method_40_code
def yJ8_indexOf : MethodName := ⟨RJ8, "indexOf", "([BIII)I"⟩
abbrev cJ8_indexOfChar : ByteArray := prog_31_method_47_code
def yJ8_indexOfChar : MethodName := ⟨RJ8, "indexOfChar", "([BIII)I"⟩
abbrev cJ8_checkBoundsBeginEnd : ByteArray := prog_31_method_93_code
def yJ8_checkBoundsBeginEnd : MethodName := ⟨RJ8, "checkBoundsBeginEnd", "(II[B)V"⟩
abbrev cJ8_indexOfCharUnsafe : ByteArray := prog_31_method_48_code
def yJ8_indexOfCharUnsafe : MethodName := ⟨RJ8, "indexOfCharUnsafe", "([BIII)I"⟩
abbrev cJ8_indexOfSupplementary : ByteArray := prog_31_method_49_code
def yJ8_indexOfSupplementary : MethodName := ⟨RJ8, "indexOfSupplementary", "([BIII)I"⟩
/-! java/lang/Math -/
def RJ9 : String := "java/lang/Math"
abbrev cJ9_max : ByteArray := prog_27_method_65_code
def yJ9_max : MethodName := ⟨RJ9, "max", "(II)I"⟩
abbrev cJ9_min : ByteArray := prog_27_method_69_code
def yJ9_min : MethodName := ⟨RJ9, "min", "(II)I"⟩
/-! java/lang/Character -/
def RJ10 : String := "java/lang/Character"
abbrev cJ10_isValidCodePoint : ByteArray := prog_22_method_11_code
def yJ10_isValidCodePoint : MethodName := ⟨RJ10, "isValidCodePoint", "(I)Z"⟩
abbrev cJ10_highSurrogate : ByteArray := prog_22_method_28_code
def yJ10_highSurrogate : MethodName := ⟨RJ10, "highSurrogate", "(I)C"⟩
abbrev cJ10_lowSurrogate : ByteArray := prog_22_method_29_code
def yJ10_lowSurrogate : MethodName := ⟨RJ10, "lowSurrogate", "(I)C"⟩
/-! java/lang/IndexOutOfBoundsException -/
def RJ11 : String := "java/lang/IndexOutOfBoundsException"
def TJ11 : u_T := fun k => match k with
  | 0 => ("java/lang/Throwable", "cause", "Ljava/lang/Throwable;", false)
  | 1 => ("java/lang/Throwable", "stackTrace", "[Ljava/lang/StackTraceElement;", false)
  | 2 => ("java/lang/Throwable", "suppressedExceptions", "Ljava/util/List;", false)
  | 3 => ("java/lang/Throwable", "detailMessage", "Ljava/lang/String;", false)
  | 4 => ("java/lang/Throwable", "backtrace", "Ljava/lang/Object;", false)
  | _ => ("java/lang/Throwable", "depth", "I", false)
def tyJ11 : Nat → FieldType := fun k => match k with
  | 0 => .object "java/lang/Throwable"
  | 1 => .array (.object "java/lang/StackTraceElement")
  | 2 => .object "java/util/List"
  | 3 => .object "java/lang/String"
  | 4 => .object "java/lang/Object"
  | _ => .int
abbrev wsJ110 : List Cond := u_ws RJ11 TJ11 6
theorem nmJ11 : ∀ a, a < 6 → ∀ b, b < 6 → a ≠ b → (TJ11 a).2.1 ≠ (TJ11 b).2.1 := by decide +kernel
theorem tyJ11_ok : ∀ k, k < 6 → parseFieldDescriptor (TJ11 k).2.2.1 = some (tyJ11 k) := by decide +kernel
abbrev cJ11_init : ByteArray := prog_26_method_2_code
def yJ11_init : MethodName := ⟨RJ11, "<init>", "(Ljava/lang/String;)V"⟩
abbrev cJ11_init_2 : ByteArray := prog_26_method_1_code
def yJ11_init_2 : MethodName := ⟨RJ11, "<init>", "()V"⟩
theorem in_J11 : ∀ w ∈ wsJ110, w ∈ lw_all := lw_in wsJ110 [1150, 1151, 1152, 1153, 1154, 1159] (by decide +kernel) (by decide +kernel)
/-! java/lang/ArrayIndexOutOfBoundsException -/
def RJ12 : String := "java/lang/ArrayIndexOutOfBoundsException"
def TJ12 : u_T := fun k => match k with
  | 0 => ("java/lang/Throwable", "backtrace", "Ljava/lang/Object;", false)
  | 1 => ("java/lang/Throwable", "detailMessage", "Ljava/lang/String;", false)
  | 2 => ("java/lang/Throwable", "cause", "Ljava/lang/Throwable;", false)
  | 3 => ("java/lang/Throwable", "stackTrace", "[Ljava/lang/StackTraceElement;", false)
  | 4 => ("java/lang/Throwable", "depth", "I", false)
  | _ => ("java/lang/Throwable", "suppressedExceptions", "Ljava/util/List;", false)
def tyJ12 : Nat → FieldType := fun k => match k with
  | 0 => .object "java/lang/Object"
  | 1 => .object "java/lang/String"
  | 2 => .object "java/lang/Throwable"
  | 3 => .array (.object "java/lang/StackTraceElement")
  | 4 => .int
  | _ => .object "java/util/List"
abbrev wsJ120 : List Cond := u_ws RJ12 TJ12 6
theorem nmJ12 : ∀ a, a < 6 → ∀ b, b < 6 → a ≠ b → (TJ12 a).2.1 ≠ (TJ12 b).2.1 := by decide +kernel
theorem tyJ12_ok : ∀ k, k < 6 → parseFieldDescriptor (TJ12 k).2.2.1 = some (tyJ12 k) := by decide +kernel
abbrev cJ12_init : ByteArray := prog_21_method_2_code
def yJ12_init : MethodName := ⟨RJ12, "<init>", "(Ljava/lang/String;)V"⟩
theorem in_J12 : ∀ w ∈ wsJ120, w ∈ lw_all := lw_in wsJ120 [1119, 1120, 1121, 1122, 1123, 1124] (by decide +kernel) (by decide +kernel)
/-! java/lang/Object -/
def RJ13 : String := "java/lang/Object"
abbrev cJ13_init : ByteArray := object_method_1_code
def yJ13_init : MethodName := ⟨RJ13, "<init>", "()V"⟩
theorem q80 : (Jvm.Cond.initialized "StrictProofsLaw") ∈ lw_all := lw_g (lw_at lw_m1 0 rfl) rfl
theorem q114 : (Jvm.Cond.classLink "StrictProofsLaw" (8 : Nat) "StrictProofs") ∈ lw_all := lw_g (lw_at lw_m1 34 rfl) rfl
theorem q116 : (Jvm.Cond.methodLink "StrictProofsLaw" (65 : Nat) ({ cls := "StrictProofs", name := "<init>", desc := "()V" } : Jvm.MethodName)) ∈ lw_all := lw_g (lw_at lw_m1 36 rfl) rfl
theorem q415 : (Jvm.Cond.methodLink "StrictProofsLaw" (82 : Nat) ({ cls := "StrictProofs", name := "read", desc := "()I" } : Jvm.MethodName)) ∈ lw_all := lw_g (lw_at lw_m2 95 rfl) rfl
theorem q1053 : (Jvm.Cond.methodLink "StrictProofsLaw" (86 : Nat) ({ cls := "StrictProofs", name := "place", desc := "()I" } : Jvm.MethodName)) ∈ lw_all := lw_g (lw_at lw_m5 13 rfl) rfl
theorem q1057 : (Jvm.Cond.methodLink "StrictProofsLaw" (69 : Nat) ({ cls := "StrictProofsLaw", name := "feed", desc := "(LStrictProofs;IIIII[J)I" } : Jvm.MethodName)) ∈ lw_all := lw_g (lw_at lw_m5 17 rfl) rfl
theorem q1058 : (Jvm.Cond.static ({ cls := "StrictProofsLaw", name := "feed", desc := "(LStrictProofs;IIIII[J)I" } : Jvm.MethodName)) ∈ lw_all := lw_g (lw_at lw_m5 18 rfl) rfl
theorem q1059 : (Jvm.Cond.codeWith ({ cls := "StrictProofsLaw", name := "feed", desc := "(LStrictProofs;IIIII[J)I" } : Jvm.MethodName) method_3_code (8 : Nat) (Option.some Jvm.ClassFile.FieldType.int) [((0 : Nat), (16 : Nat), (19 : Nat), (13 : Nat))]) ∈ lw_all := lw_g (lw_at lw_m5 19 rfl) rfl
theorem q1060 : (Jvm.Cond.classLink "StrictProofsLaw" (13 : Nat) "java/lang/IllegalStateException") ∈ lw_all := lw_g (lw_at lw_m5 20 rfl) rfl
theorem q1061 : (Jvm.Cond.methodLink "StrictProofsLaw" (7 : Nat) ({ cls := "StrictProofs", name := "feed", desc := "(IIIII)I" } : Jvm.MethodName)) ∈ lw_all := lw_g (lw_at lw_m5 21 rfl) rfl
theorem q1082 : (Jvm.Cond.methodLink "StrictProofsLaw" (78 : Nat) ({ cls := "StrictProofsLaw", name := "cut", desc := "(LStrictProofs;I[J)I" } : Jvm.MethodName)) ∈ lw_all := lw_g (lw_at lw_m5 42 rfl) rfl
theorem q1083 : (Jvm.Cond.static ({ cls := "StrictProofsLaw", name := "cut", desc := "(LStrictProofs;I[J)I" } : Jvm.MethodName)) ∈ lw_all := lw_g (lw_at lw_m5 43 rfl) rfl
theorem q1084 : (Jvm.Cond.codeWith ({ cls := "StrictProofsLaw", name := "cut", desc := "(LStrictProofs;I[J)I" } : Jvm.MethodName) method_4_code (4 : Nat) (Option.some Jvm.ClassFile.FieldType.int) [((0 : Nat), (9 : Nat), (12 : Nat), (19 : Nat))]) ∈ lw_all := lw_g (lw_at lw_m5 44 rfl) rfl
theorem q1085 : (Jvm.Cond.classLink "StrictProofsLaw" (19 : Nat) "java/lang/IllegalArgumentException") ∈ lw_all := lw_g (lw_at lw_m5 45 rfl) rfl
theorem q1086 : (Jvm.Cond.methodLink "StrictProofsLaw" (15 : Nat) ({ cls := "StrictProofs", name := "cut", desc := "(I)I" } : Jvm.MethodName)) ∈ lw_all := lw_g (lw_at lw_m5 46 rfl) rfl
theorem q1108 : (Jvm.Cond.methodLink "StrictProofsLaw" (90 : Nat) ({ cls := "StrictProofsLaw", name := "function", desc := "(LStrictProofs;II[J)I" } : Jvm.MethodName)) ∈ lw_all := lw_g (lw_at lw_m5 68 rfl) rfl
theorem q1109 : (Jvm.Cond.static ({ cls := "StrictProofsLaw", name := "function", desc := "(LStrictProofs;II[J)I" } : Jvm.MethodName)) ∈ lw_all := lw_g (lw_at lw_m5 69 rfl) rfl
theorem q1110 : (Jvm.Cond.codeWith ({ cls := "StrictProofsLaw", name := "function", desc := "(LStrictProofs;II[J)I" } : Jvm.MethodName) method_5_code (5 : Nat) (Option.some Jvm.ClassFile.FieldType.int) [((0 : Nat), (10 : Nat), (13 : Nat), (25 : Nat))]) ∈ lw_all := lw_g (lw_at lw_m5 70 rfl) rfl
theorem q1111 : (Jvm.Cond.classLink "StrictProofsLaw" (25 : Nat) "java/lang/IndexOutOfBoundsException") ∈ lw_all := lw_g (lw_at lw_m5 71 rfl) rfl
theorem q1135 : (Jvm.Cond.methodLink "StrictProofsLaw" (21 : Nat) ({ cls := "StrictProofs", name := "function", desc := "(II)I" } : Jvm.MethodName)) ∈ lw_all := lw_g (lw_at lw_m5 95 rfl) rfl
theorem q1166 : (Jvm.Cond.methodLink "StrictProofsLaw" (94 : Nat) ({ cls := "StrictProofsLaw", name := "rounds", desc := "(LStrictProofs;[J)I" } : Jvm.MethodName)) ∈ lw_all := lw_g (lw_at lw_m5 126 rfl) rfl
theorem q1167 : (Jvm.Cond.static ({ cls := "StrictProofsLaw", name := "rounds", desc := "(LStrictProofs;[J)I" } : Jvm.MethodName)) ∈ lw_all := lw_g (lw_at lw_m5 127 rfl) rfl
theorem q1168 : (Jvm.Cond.codeWith ({ cls := "StrictProofsLaw", name := "rounds", desc := "(LStrictProofs;[J)I" } : Jvm.MethodName) method_6_code (3 : Nat) (Option.some Jvm.ClassFile.FieldType.int) [((0 : Nat), (8 : Nat), (11 : Nat), (13 : Nat))]) ∈ lw_all := lw_g (lw_at lw_m5 128 rfl) rfl
theorem q1169 : (Jvm.Cond.methodLink "StrictProofsLaw" (27 : Nat) ({ cls := "StrictProofs", name := "rounds", desc := "()I" } : Jvm.MethodName)) ∈ lw_all := lw_g (lw_at lw_m5 129 rfl) rfl
theorem q1265 : (Jvm.Cond.methodLink "StrictProofsLaw" (98 : Nat) ({ cls := "StrictProofsLaw", name := "dead", desc := "(LStrictProofs;II[J)I" } : Jvm.MethodName)) ∈ lw_all := lw_g (lw_at lw_m5 225 rfl) rfl
theorem q1266 : (Jvm.Cond.static ({ cls := "StrictProofsLaw", name := "dead", desc := "(LStrictProofs;II[J)I" } : Jvm.MethodName)) ∈ lw_all := lw_g (lw_at lw_m5 226 rfl) rfl
theorem q1267 : (Jvm.Cond.codeWith ({ cls := "StrictProofsLaw", name := "dead", desc := "(LStrictProofs;II[J)I" } : Jvm.MethodName) method_7_code (5 : Nat) (Option.some Jvm.ClassFile.FieldType.int) [((0 : Nat), (17 : Nat), (20 : Nat), (13 : Nat)), ((0 : Nat), (17 : Nat), (24 : Nat), (25 : Nat))]) ∈ lw_all := lw_g (lw_at lw_m5 227 rfl) rfl
theorem q1268 : (Jvm.Cond.methodLink "StrictProofsLaw" (31 : Nat) ({ cls := "StrictProofs", name := "dead", desc := "(II)Z" } : Jvm.MethodName)) ∈ lw_all := lw_g (lw_at lw_m5 228 rfl) rfl
theorem q1276 : (Jvm.Cond.methodLink "StrictProofsLaw" (101 : Nat) ({ cls := "StrictProofsLaw", name := "asks", desc := "(LStrictProofs;III[J)I" } : Jvm.MethodName)) ∈ lw_all := lw_g (lw_at lw_m5 236 rfl) rfl
theorem q1277 : (Jvm.Cond.static ({ cls := "StrictProofsLaw", name := "asks", desc := "(LStrictProofs;III[J)I" } : Jvm.MethodName)) ∈ lw_all := lw_g (lw_at lw_m5 237 rfl) rfl
theorem q1278 : (Jvm.Cond.codeWith ({ cls := "StrictProofsLaw", name := "asks", desc := "(LStrictProofs;III[J)I" } : Jvm.MethodName) method_8_code (6 : Nat) (Option.some Jvm.ClassFile.FieldType.int) [((0 : Nat), (12 : Nat), (15 : Nat), (13 : Nat)), ((0 : Nat), (12 : Nat), (19 : Nat), (25 : Nat))]) ∈ lw_all := lw_g (lw_at lw_m5 238 rfl) rfl
theorem q1279 : (Jvm.Cond.methodLink "StrictProofsLaw" (35 : Nat) ({ cls := "StrictProofs", name := "asks", desc := "(III)I" } : Jvm.MethodName)) ∈ lw_all := lw_g (lw_at lw_m5 239 rfl) rfl
theorem q1283 : (Jvm.Cond.methodLink "StrictProofsLaw" (105 : Nat) ({ cls := "StrictProofsLaw", name := "strict", desc := "(LStrictProofs;II[J)I" } : Jvm.MethodName)) ∈ lw_all := lw_g (lw_at lw_m6 3 rfl) rfl
theorem q1284 : (Jvm.Cond.static ({ cls := "StrictProofsLaw", name := "strict", desc := "(LStrictProofs;II[J)I" } : Jvm.MethodName)) ∈ lw_all := lw_g (lw_at lw_m6 4 rfl) rfl
theorem q1285 : (Jvm.Cond.codeWith ({ cls := "StrictProofsLaw", name := "strict", desc := "(LStrictProofs;II[J)I" } : Jvm.MethodName) method_9_code (5 : Nat) (Option.some Jvm.ClassFile.FieldType.int) [((0 : Nat), (17 : Nat), (20 : Nat), (13 : Nat)), ((0 : Nat), (17 : Nat), (24 : Nat), (25 : Nat))]) ∈ lw_all := lw_g (lw_at lw_m6 5 rfl) rfl
theorem q1286 : (Jvm.Cond.methodLink "StrictProofsLaw" (39 : Nat) ({ cls := "StrictProofs", name := "strict", desc := "(II)Z" } : Jvm.MethodName)) ∈ lw_all := lw_g (lw_at lw_m6 6 rfl) rfl
theorem q1291 : (Jvm.Cond.methodLink "StrictProofsLaw" (108 : Nat) ({ cls := "StrictProofsLaw", name := "plant", desc := "(LStrictProofs;IIII[J)I" } : Jvm.MethodName)) ∈ lw_all := lw_g (lw_at lw_m6 11 rfl) rfl
theorem q1292 : (Jvm.Cond.static ({ cls := "StrictProofsLaw", name := "plant", desc := "(LStrictProofs;IIII[J)I" } : Jvm.MethodName)) ∈ lw_all := lw_g (lw_at lw_m6 12 rfl) rfl
theorem q1293 : (Jvm.Cond.codeWith ({ cls := "StrictProofsLaw", name := "plant", desc := "(LStrictProofs;IIII[J)I" } : Jvm.MethodName) method_10_code (7 : Nat) (Option.some Jvm.ClassFile.FieldType.int) [((0 : Nat), (14 : Nat), (17 : Nat), (13 : Nat)), ((0 : Nat), (14 : Nat), (21 : Nat), (25 : Nat)), ((0 : Nat), (14 : Nat), (25 : Nat), (19 : Nat))]) ∈ lw_all := lw_g (lw_at lw_m6 13 rfl) rfl
theorem q1294 : (Jvm.Cond.methodLink "StrictProofsLaw" (42 : Nat) ({ cls := "StrictProofs", name := "plant", desc := "(IIII)I" } : Jvm.MethodName)) ∈ lw_all := lw_g (lw_at lw_m6 14 rfl) rfl
theorem q1298 : (Jvm.Cond.methodLink "StrictProofsLaw" (112 : Nat) ({ cls := "StrictProofsLaw", name := "check", desc := "(LStrictProofs;[J)I" } : Jvm.MethodName)) ∈ lw_all := lw_g (lw_at lw_m6 18 rfl) rfl
theorem q1299 : (Jvm.Cond.static ({ cls := "StrictProofsLaw", name := "check", desc := "(LStrictProofs;[J)I" } : Jvm.MethodName)) ∈ lw_all := lw_g (lw_at lw_m6 19 rfl) rfl
theorem q1300 : (Jvm.Cond.codeWith ({ cls := "StrictProofsLaw", name := "check", desc := "(LStrictProofs;[J)I" } : Jvm.MethodName) method_11_code (3 : Nat) (Option.some Jvm.ClassFile.FieldType.int) [((0 : Nat), (8 : Nat), (11 : Nat), (13 : Nat))]) ∈ lw_all := lw_g (lw_at lw_m6 20 rfl) rfl
theorem q1301 : (Jvm.Cond.methodLink "StrictProofsLaw" (46 : Nat) ({ cls := "StrictProofs", name := "check", desc := "()I" } : Jvm.MethodName)) ∈ lw_all := lw_g (lw_at lw_m6 21 rfl) rfl
theorem q1305 : (Jvm.Cond.methodLink "StrictProofsLaw" (115 : Nat) ({ cls := "StrictProofsLaw", name := "input", desc := "(LStrictProofs;II[J)I" } : Jvm.MethodName)) ∈ lw_all := lw_g (lw_at lw_m6 25 rfl) rfl
theorem q1306 : (Jvm.Cond.static ({ cls := "StrictProofsLaw", name := "input", desc := "(LStrictProofs;II[J)I" } : Jvm.MethodName)) ∈ lw_all := lw_g (lw_at lw_m6 26 rfl) rfl
theorem q1307 : (Jvm.Cond.codeWith ({ cls := "StrictProofsLaw", name := "input", desc := "(LStrictProofs;II[J)I" } : Jvm.MethodName) method_12_code (5 : Nat) (Option.some Jvm.ClassFile.FieldType.int) [((0 : Nat), (10 : Nat), (13 : Nat), (19 : Nat)), ((0 : Nat), (10 : Nat), (17 : Nat), (13 : Nat))]) ∈ lw_all := lw_g (lw_at lw_m6 27 rfl) rfl
theorem q1308 : (Jvm.Cond.methodLink "StrictProofsLaw" (49 : Nat) ({ cls := "StrictProofs", name := "input", desc := "(II)I" } : Jvm.MethodName)) ∈ lw_all := lw_g (lw_at lw_m6 28 rfl) rfl
theorem q1312 : (Jvm.Cond.methodLink "StrictProofsLaw" (118 : Nat) ({ cls := "StrictProofsLaw", name := "run", desc := "(LStrictProofs;III[J)I" } : Jvm.MethodName)) ∈ lw_all := lw_g (lw_at lw_m6 32 rfl) rfl
theorem q1313 : (Jvm.Cond.static ({ cls := "StrictProofsLaw", name := "run", desc := "(LStrictProofs;III[J)I" } : Jvm.MethodName)) ∈ lw_all := lw_g (lw_at lw_m6 33 rfl) rfl
theorem q1314 : (Jvm.Cond.codeWith ({ cls := "StrictProofsLaw", name := "run", desc := "(LStrictProofs;III[J)I" } : Jvm.MethodName) method_13_code (6 : Nat) (Option.some Jvm.ClassFile.FieldType.int) [((0 : Nat), (12 : Nat), (15 : Nat), (13 : Nat)), ((0 : Nat), (12 : Nat), (19 : Nat), (25 : Nat)), ((0 : Nat), (12 : Nat), (23 : Nat), (19 : Nat))]) ∈ lw_all := lw_g (lw_at lw_m6 34 rfl) rfl
theorem q1315 : (Jvm.Cond.methodLink "StrictProofsLaw" (52 : Nat) ({ cls := "StrictProofs", name := "run", desc := "(III)I" } : Jvm.MethodName)) ∈ lw_all := lw_g (lw_at lw_m6 35 rfl) rfl
theorem q1427 : (Jvm.Cond.methodLink "StrictProofsLaw" (121 : Nat) ({ cls := "StrictProofsLaw", name := "told", desc := "(LStrictProofs;I[J)I" } : Jvm.MethodName)) ∈ lw_all := lw_g (lw_at lw_m6 147 rfl) rfl
theorem q1428 : (Jvm.Cond.static ({ cls := "StrictProofsLaw", name := "told", desc := "(LStrictProofs;I[J)I" } : Jvm.MethodName)) ∈ lw_all := lw_g (lw_at lw_m6 148 rfl) rfl
theorem q1429 : (Jvm.Cond.codeWith ({ cls := "StrictProofsLaw", name := "told", desc := "(LStrictProofs;I[J)I" } : Jvm.MethodName) method_14_code (4 : Nat) (Option.some Jvm.ClassFile.FieldType.int) [((0 : Nat), (9 : Nat), (12 : Nat), (25 : Nat))]) ∈ lw_all := lw_g (lw_at lw_m6 149 rfl) rfl
theorem q1430 : (Jvm.Cond.methodLink "StrictProofsLaw" (55 : Nat) ({ cls := "StrictProofs", name := "told", desc := "(I)I" } : Jvm.MethodName)) ∈ lw_all := lw_g (lw_at lw_m6 150 rfl) rfl
theorem q1434 : (Jvm.Cond.methodLink "StrictProofsLaw" (124 : Nat) ({ cls := "StrictProofsLaw", name := "result", desc := "(LStrictProofs;I[J)I" } : Jvm.MethodName)) ∈ lw_all := lw_g (lw_at lw_m6 154 rfl) rfl
theorem q1435 : (Jvm.Cond.static ({ cls := "StrictProofsLaw", name := "result", desc := "(LStrictProofs;I[J)I" } : Jvm.MethodName)) ∈ lw_all := lw_g (lw_at lw_m6 155 rfl) rfl
theorem q1436 : (Jvm.Cond.codeWith ({ cls := "StrictProofsLaw", name := "result", desc := "(LStrictProofs;I[J)I" } : Jvm.MethodName) method_15_code (4 : Nat) (Option.some Jvm.ClassFile.FieldType.int) [((0 : Nat), (9 : Nat), (12 : Nat), (25 : Nat))]) ∈ lw_all := lw_g (lw_at lw_m6 156 rfl) rfl
theorem q1437 : (Jvm.Cond.methodLink "StrictProofsLaw" (58 : Nat) ({ cls := "StrictProofs", name := "result", desc := "(I)I" } : Jvm.MethodName)) ∈ lw_all := lw_g (lw_at lw_m6 157 rfl) rfl
theorem q1445 : (Jvm.Cond.methodLink "StrictProofsLaw" (127 : Nat) ({ cls := "StrictProofsLaw", name := "needed", desc := "(LStrictProofs;I[J)I" } : Jvm.MethodName)) ∈ lw_all := lw_g (lw_at lw_m6 165 rfl) rfl
theorem q1446 : (Jvm.Cond.static ({ cls := "StrictProofsLaw", name := "needed", desc := "(LStrictProofs;I[J)I" } : Jvm.MethodName)) ∈ lw_all := lw_g (lw_at lw_m6 166 rfl) rfl
theorem q1447 : (Jvm.Cond.codeWith ({ cls := "StrictProofsLaw", name := "needed", desc := "(LStrictProofs;I[J)I" } : Jvm.MethodName) method_16_code (4 : Nat) (Option.some Jvm.ClassFile.FieldType.int) [((0 : Nat), (16 : Nat), (19 : Nat), (25 : Nat))]) ∈ lw_all := lw_g (lw_at lw_m6 167 rfl) rfl
theorem q1448 : (Jvm.Cond.methodLink "StrictProofsLaw" (61 : Nat) ({ cls := "StrictProofs", name := "needed", desc := "(I)Z" } : Jvm.MethodName)) ∈ lw_all := lw_g (lw_at lw_m6 168 rfl) rfl
theorem q1452 : (Jvm.Cond.classLink "StrictProofsLaw" (66 : Nat) "StrictProofsModel") ∈ lw_all := lw_g (lw_at lw_m6 172 rfl) rfl
theorem q1454 : (Jvm.Cond.methodLink "StrictProofsLaw" (68 : Nat) ({ cls := "StrictProofsModel", name := "<init>", desc := "()V" } : Jvm.MethodName)) ∈ lw_all := lw_g (lw_at lw_m6 174 rfl) rfl
theorem q1709 : (Jvm.Cond.methodLink "StrictProofsLaw" (75 : Nat) ({ cls := "StrictProofsModel", name := "thrown", desc := "()I" } : Jvm.MethodName)) ∈ lw_all := lw_g (lw_at lw_m7 189 rfl) rfl
theorem q1713 : (Jvm.Cond.methodLink "StrictProofsLaw" (74 : Nat) ({ cls := "StrictProofsModel", name := "feed", desc := "(IIIII)I" } : Jvm.MethodName)) ∈ lw_all := lw_g (lw_at lw_m7 193 rfl) rfl
theorem q1717 : (Jvm.Cond.methodLink "StrictProofsLaw" (81 : Nat) ({ cls := "StrictProofsModel", name := "cut", desc := "(I)I" } : Jvm.MethodName)) ∈ lw_all := lw_g (lw_at lw_m7 197 rfl) rfl
theorem q1724 : (Jvm.Cond.methodLink "StrictProofsLaw" (85 : Nat) ({ cls := "StrictProofsModel", name := "read", desc := "()I" } : Jvm.MethodName)) ∈ lw_all := lw_g (lw_at lw_m7 204 rfl) rfl
theorem q1864 : (Jvm.Cond.methodLink "StrictProofsLaw" (89 : Nat) ({ cls := "StrictProofsModel", name := "place", desc := "()I" } : Jvm.MethodName)) ∈ lw_all := lw_g (lw_at lw_m8 104 rfl) rfl
theorem q1868 : (Jvm.Cond.methodLink "StrictProofsLaw" (93 : Nat) ({ cls := "StrictProofsModel", name := "function", desc := "(II)I" } : Jvm.MethodName)) ∈ lw_all := lw_g (lw_at lw_m8 108 rfl) rfl
theorem q1879 : (Jvm.Cond.methodLink "StrictProofsLaw" (97 : Nat) ({ cls := "StrictProofsModel", name := "rounds", desc := "()I" } : Jvm.MethodName)) ∈ lw_all := lw_g (lw_at lw_m8 119 rfl) rfl
theorem q1916 : (Jvm.Cond.methodLink "StrictProofsLaw" (100 : Nat) ({ cls := "StrictProofsModel", name := "dead", desc := "(II)Z" } : Jvm.MethodName)) ∈ lw_all := lw_g (lw_at lw_m8 156 rfl) rfl
theorem q1924 : (Jvm.Cond.methodLink "StrictProofsLaw" (104 : Nat) ({ cls := "StrictProofsModel", name := "asks", desc := "(III)I" } : Jvm.MethodName)) ∈ lw_all := lw_g (lw_at lw_m8 164 rfl) rfl
theorem q1940 : (Jvm.Cond.methodLink "StrictProofsLaw" (107 : Nat) ({ cls := "StrictProofsModel", name := "strict", desc := "(II)Z" } : Jvm.MethodName)) ∈ lw_all := lw_g (lw_at lw_m8 180 rfl) rfl
theorem q1944 : (Jvm.Cond.methodLink "StrictProofsLaw" (111 : Nat) ({ cls := "StrictProofsModel", name := "plant", desc := "(IIII)I" } : Jvm.MethodName)) ∈ lw_all := lw_g (lw_at lw_m8 184 rfl) rfl
theorem q1948 : (Jvm.Cond.methodLink "StrictProofsLaw" (114 : Nat) ({ cls := "StrictProofsModel", name := "check", desc := "()I" } : Jvm.MethodName)) ∈ lw_all := lw_g (lw_at lw_m8 188 rfl) rfl
theorem q1956 : (Jvm.Cond.methodLink "StrictProofsLaw" (117 : Nat) ({ cls := "StrictProofsModel", name := "input", desc := "(II)I" } : Jvm.MethodName)) ∈ lw_all := lw_g (lw_at lw_m8 196 rfl) rfl
theorem q1961 : (Jvm.Cond.methodLink "StrictProofsLaw" (120 : Nat) ({ cls := "StrictProofsModel", name := "run", desc := "(III)I" } : Jvm.MethodName)) ∈ lw_all := lw_g (lw_at lw_m8 201 rfl) rfl
theorem q2006 : (Jvm.Cond.methodLink "StrictProofsLaw" (123 : Nat) ({ cls := "StrictProofsModel", name := "told", desc := "(I)I" } : Jvm.MethodName)) ∈ lw_all := lw_g (lw_at lw_m9 6 rfl) rfl
theorem q2011 : (Jvm.Cond.methodLink "StrictProofsLaw" (126 : Nat) ({ cls := "StrictProofsModel", name := "result", desc := "(I)I" } : Jvm.MethodName)) ∈ lw_all := lw_g (lw_at lw_m9 11 rfl) rfl
theorem q2019 : (Jvm.Cond.methodLink "StrictProofsLaw" (129 : Nat) ({ cls := "StrictProofsModel", name := "needed", desc := "(I)Z" } : Jvm.MethodName)) ∈ lw_all := lw_g (lw_at lw_m9 19 rfl) rfl
theorem q81 : (Jvm.Cond.initialized "StrictProofs") ∈ lw_all := lw_g (lw_at lw_m1 1 rfl) rfl
theorem q115 : (Jvm.Cond.instantiable "StrictProofs" (14 : Nat)) ∈ lw_all := lw_g (lw_at lw_m1 35 rfl) rfl
theorem q117 : (Jvm.Cond.instanceMethod ({ cls := "StrictProofs", name := "<init>", desc := "()V" } : Jvm.MethodName)) ∈ lw_all := lw_g (lw_at lw_m1 37 rfl) rfl
theorem q118 : (Jvm.Cond.code ({ cls := "StrictProofs", name := "<init>", desc := "()V" } : Jvm.MethodName) prog_1_method_12_code (1 : Nat) (Option.none : Option Jvm.ClassFile.FieldType)) ∈ lw_all := lw_g (lw_at lw_m1 38 rfl) rfl
theorem q119 : (Jvm.Cond.methodLink "StrictProofs" (42 : Nat) ({ cls := "java/lang/Object", name := "<init>", desc := "()V" } : Jvm.MethodName)) ∈ lw_all := lw_g (lw_at lw_m1 39 rfl) rfl
theorem q122 : (Jvm.Cond.classLink "StrictProofs" (48 : Nat) "StrictProofs$Text") ∈ lw_all := lw_g (lw_at lw_m1 42 rfl) rfl
theorem q124 : (Jvm.Cond.methodLinkNest "StrictProofs" (50 : Nat) ({ cls := "StrictProofs$Text", name := "<init>", desc := "()V" } : Jvm.MethodName) "StrictProofs") ∈ lw_tbl := lw_at lw_m1 44 rfl
theorem q129 : (Jvm.Cond.fieldLinkNest "StrictProofs" (140 : Nat) "StrictProofs$Text" "bytes" "[B" "StrictProofs") ∈ lw_tbl := lw_at lw_m1 49 rfl
theorem q131 : (Jvm.Cond.fieldLinkNest "StrictProofs" (149 : Nat) "StrictProofs$Text" "size" "I" "StrictProofs") ∈ lw_tbl := lw_at lw_m1 51 rfl
theorem q144 : (Jvm.Cond.fieldLinkNest "StrictProofs" (159 : Nat) "StrictProofs$Text" "fault" "I" "StrictProofs") ∈ lw_tbl := lw_at lw_m1 64 rfl
theorem q146 : (Jvm.Cond.fieldLinkNest "StrictProofs" (156 : Nat) "StrictProofs$Text" "faultPlace" "I" "StrictProofs") ∈ lw_tbl := lw_at lw_m1 66 rfl
theorem q172 : (Jvm.Cond.classLink "StrictProofs" (55 : Nat) "StrictProofs$Parser") ∈ lw_all := lw_g (lw_at lw_m1 92 rfl) rfl
theorem q174 : (Jvm.Cond.methodLink "StrictProofs" (57 : Nat) ({ cls := "StrictProofs$Parser", name := "<init>", desc := "(LStrictProofs$Text;)V" } : Jvm.MethodName)) ∈ lw_all := lw_g (lw_at lw_m1 94 rfl) rfl
theorem q182 : (Jvm.Cond.fieldLinkNest "StrictProofs" (66 : Nat) "StrictProofs$Parser" "functions" "[LStrictProofs$Function;" "StrictProofs") ∈ lw_tbl := lw_at lw_m1 102 rfl
theorem q184 : (Jvm.Cond.fieldLinkNest "StrictProofs" (134 : Nat) "StrictProofs$Parser" "many" "I" "StrictProofs") ∈ lw_tbl := lw_at lw_m1 104 rfl
theorem q198 : (Jvm.Cond.classLink "StrictProofs" (64 : Nat) "StrictProofs$Judge") ∈ lw_all := lw_g (lw_at lw_m1 118 rfl) rfl
theorem q200 : (Jvm.Cond.methodLink "StrictProofs" (70 : Nat) ({ cls := "StrictProofs$Judge", name := "<init>", desc := "(LStrictProofs$Text;[LStrictProofs$Function;)V" } : Jvm.MethodName)) ∈ lw_all := lw_g (lw_at lw_m1 120 rfl) rfl
theorem q226 : (Jvm.Cond.classLink "StrictProofs" (77 : Nat) "StrictProofs$Asker") ∈ lw_all := lw_g (lw_at lw_m1 146 rfl) rfl
theorem q228 : (Jvm.Cond.methodLink "StrictProofs" (79 : Nat) ({ cls := "StrictProofs$Asker", name := "<init>", desc := "()V" } : Jvm.MethodName)) ∈ lw_all := lw_g (lw_at lw_m1 148 rfl) rfl
theorem q243 : (Jvm.Cond.fieldLinkNest "StrictProofs" (209 : Nat) "StrictProofs$Row" "asks" "[I" "StrictProofs") ∈ lw_tbl := lw_at lw_m1 163 rfl
theorem q248 : (Jvm.Cond.fieldLinkNest "StrictProofs" (200 : Nat) "StrictProofs$Row" "isDead" "Z" "StrictProofs") ∈ lw_tbl := lw_at lw_m1 168 rfl
theorem q266 : (Jvm.Cond.classLink "StrictProofs" (84 : Nat) "StrictProofs$Machine") ∈ lw_all := lw_g (lw_at lw_m1 186 rfl) rfl
theorem q268 : (Jvm.Cond.methodLinkNest "StrictProofs" (86 : Nat) ({ cls := "StrictProofs$Machine", name := "<init>", desc := "()V" } : Jvm.MethodName) "StrictProofs") ∈ lw_tbl := lw_at lw_m1 188 rfl
theorem q277 : (Jvm.Cond.fieldLinkNest "StrictProofs" (253 : Nat) "StrictProofs$Machine" "states" "[B" "StrictProofs") ∈ lw_tbl := lw_at lw_m1 197 rfl
theorem q279 : (Jvm.Cond.fieldLinkNest "StrictProofs" (266 : Nat) "StrictProofs$Machine" "values" "[I" "StrictProofs") ∈ lw_tbl := lw_at lw_m1 199 rfl
theorem q281 : (Jvm.Cond.fieldLinkNest "StrictProofs" (235 : Nat) "StrictProofs$Machine" "things" "I" "StrictProofs") ∈ lw_tbl := lw_at lw_m1 201 rfl
theorem q289 : (Jvm.Cond.fieldLinkNest "StrictProofs" (241 : Nat) "StrictProofs$Machine" "pairs" "I" "StrictProofs") ∈ lw_tbl := lw_at lw_m1 209 rfl
theorem q295 : (Jvm.Cond.fieldLinkNest "StrictProofs" (273 : Nat) "StrictProofs$Machine" "slots" "[I" "StrictProofs") ∈ lw_tbl := lw_at lw_m1 215 rfl
theorem q297 : (Jvm.Cond.fieldLinkNest "StrictProofs" (247 : Nat) "StrictProofs$Machine" "calls" "I" "StrictProofs") ∈ lw_tbl := lw_at lw_m1 217 rfl
theorem q299 : (Jvm.Cond.fieldLinkNest "StrictProofs" (238 : Nat) "StrictProofs$Machine" "inputs" "I" "StrictProofs") ∈ lw_tbl := lw_at lw_m1 219 rfl
theorem q301 : (Jvm.Cond.fieldLinkNest "StrictProofs" (244 : Nat) "StrictProofs$Machine" "inputPairs" "I" "StrictProofs") ∈ lw_tbl := lw_at lw_m1 221 rfl
theorem q304 : (Jvm.Cond.fieldLinkNest "StrictProofs" (232 : Nat) "StrictProofs$Machine" "steps" "I" "StrictProofs") ∈ lw_tbl := lw_at lw_m1 224 rfl
theorem q307 : (Jvm.Cond.fieldLinkNest "StrictProofs" (250 : Nat) "StrictProofs$Machine" "deepest" "I" "StrictProofs") ∈ lw_tbl := lw_at lw_m1 227 rfl
theorem q312 : (Jvm.Cond.fieldLinkNest "StrictProofs" (256 : Nat) "StrictProofs$Machine" "ended" "I" "StrictProofs") ∈ lw_tbl := lw_at lw_m1 232 rfl
theorem q314 : (Jvm.Cond.fieldLinkNest "StrictProofs" (260 : Nat) "StrictProofs$Machine" "answer" "I" "StrictProofs") ∈ lw_tbl := lw_at lw_m1 234 rfl
theorem q316 : (Jvm.Cond.fieldLinkNest "StrictProofs" (259 : Nat) "StrictProofs$Machine" "type" "I" "StrictProofs") ∈ lw_tbl := lw_at lw_m1 236 rfl
theorem q318 : (Jvm.Cond.fieldLinkNest "StrictProofs" (269 : Nat) "StrictProofs$Machine" "params" "I" "StrictProofs") ∈ lw_tbl := lw_at lw_m1 238 rfl
theorem q320 : (Jvm.Cond.fieldLinkNest "StrictProofs" (270 : Nat) "StrictProofs$Machine" "wasNeeded" "[Z" "StrictProofs") ∈ lw_tbl := lw_at lw_m2 0 rfl
theorem q371 : (Jvm.Cond.classLink "StrictProofs" (99 : Nat) "StrictProofs$Function") ∈ lw_all := lw_g (lw_at lw_m2 51 rfl) rfl
theorem q372 : (Jvm.Cond.fieldLink "StrictProofs" (51 : Nat) "StrictProofs" "text" "LStrictProofs$Text;") ∈ lw_all := lw_g (lw_at lw_m2 52 rfl) rfl
theorem q373 : (Jvm.Cond.fieldLink "StrictProofs" (60 : Nat) "StrictProofs" "parser" "LStrictProofs$Parser;") ∈ lw_all := lw_g (lw_at lw_m2 53 rfl) rfl
theorem q374 : (Jvm.Cond.fieldLink "StrictProofs" (73 : Nat) "StrictProofs" "judge" "LStrictProofs$Judge;") ∈ lw_all := lw_g (lw_at lw_m2 54 rfl) rfl
theorem q375 : (Jvm.Cond.fieldLink "StrictProofs" (80 : Nat) "StrictProofs" "asker" "LStrictProofs$Asker;") ∈ lw_all := lw_g (lw_at lw_m2 55 rfl) rfl
theorem q376 : (Jvm.Cond.fieldLink "StrictProofs" (87 : Nat) "StrictProofs" "machine" "LStrictProofs$Machine;") ∈ lw_all := lw_g (lw_at lw_m2 56 rfl) rfl
theorem q377 : (Jvm.Cond.fieldLink "StrictProofs" (91 : Nat) "StrictProofs" "tape" "[B") ∈ lw_all := lw_g (lw_at lw_m2 57 rfl) rfl
theorem q378 : (Jvm.Cond.fieldLink "StrictProofs" (117 : Nat) "StrictProofs" "taped" "I") ∈ lw_all := lw_g (lw_at lw_m2 58 rfl) rfl
theorem q379 : (Jvm.Cond.fieldLink "StrictProofs" (95 : Nat) "StrictProofs" "place" "I") ∈ lw_all := lw_g (lw_at lw_m2 59 rfl) rfl
theorem q380 : (Jvm.Cond.fieldLink "StrictProofs" (101 : Nat) "StrictProofs" "functions" "[LStrictProofs$Function;") ∈ lw_all := lw_g (lw_at lw_m2 60 rfl) rfl
theorem q381 : (Jvm.Cond.fieldLink "StrictProofs" (162 : Nat) "StrictProofs" "many" "I") ∈ lw_all := lw_g (lw_at lw_m2 61 rfl) rfl
theorem q382 : (Jvm.Cond.fieldLink "StrictProofs" (163 : Nat) "StrictProofs" "isAsked" "Z") ∈ lw_all := lw_g (lw_at lw_m2 62 rfl) rfl
theorem q383 : (Jvm.Cond.fieldLink "StrictProofs" (102 : Nat) "StrictProofs" "kinds" "[I") ∈ lw_all := lw_g (lw_at lw_m2 63 rfl) rfl
theorem q384 : (Jvm.Cond.fieldLink "StrictProofs" (105 : Nat) "StrictProofs" "numbers" "[I") ∈ lw_all := lw_g (lw_at lw_m2 64 rfl) rfl
theorem q385 : (Jvm.Cond.fieldLink "StrictProofs" (221 : Nat) "StrictProofs" "inputMany" "I") ∈ lw_all := lw_g (lw_at lw_m2 65 rfl) rfl
theorem q386 : (Jvm.Cond.laysFinal "StrictProofs" "StrictProofs" "text" "LStrictProofs$Text;") ∈ lw_all := lw_g (lw_at lw_m2 66 rfl) rfl
theorem q387 : (Jvm.Cond.soleField "StrictProofs" "text") ∈ lw_all := lw_g (lw_at lw_m2 67 rfl) rfl
theorem q388 : (Jvm.Cond.laysFinal "StrictProofs" "StrictProofs" "parser" "LStrictProofs$Parser;") ∈ lw_all := lw_g (lw_at lw_m2 68 rfl) rfl
theorem q389 : (Jvm.Cond.soleField "StrictProofs" "parser") ∈ lw_all := lw_g (lw_at lw_m2 69 rfl) rfl
theorem q390 : (Jvm.Cond.laysFinal "StrictProofs" "StrictProofs" "judge" "LStrictProofs$Judge;") ∈ lw_all := lw_g (lw_at lw_m2 70 rfl) rfl
theorem q391 : (Jvm.Cond.soleField "StrictProofs" "judge") ∈ lw_all := lw_g (lw_at lw_m2 71 rfl) rfl
theorem q392 : (Jvm.Cond.laysFinal "StrictProofs" "StrictProofs" "asker" "LStrictProofs$Asker;") ∈ lw_all := lw_g (lw_at lw_m2 72 rfl) rfl
theorem q393 : (Jvm.Cond.soleField "StrictProofs" "asker") ∈ lw_all := lw_g (lw_at lw_m2 73 rfl) rfl
theorem q394 : (Jvm.Cond.laysFinal "StrictProofs" "StrictProofs" "machine" "LStrictProofs$Machine;") ∈ lw_all := lw_g (lw_at lw_m2 74 rfl) rfl
theorem q395 : (Jvm.Cond.soleField "StrictProofs" "machine") ∈ lw_all := lw_g (lw_at lw_m2 75 rfl) rfl
theorem q396 : (Jvm.Cond.laysFinal "StrictProofs" "StrictProofs" "tape" "[B") ∈ lw_all := lw_g (lw_at lw_m2 76 rfl) rfl
theorem q397 : (Jvm.Cond.soleField "StrictProofs" "tape") ∈ lw_all := lw_g (lw_at lw_m2 77 rfl) rfl
theorem q398 : (Jvm.Cond.lays "StrictProofs" "StrictProofs" "taped" "I") ∈ lw_all := lw_g (lw_at lw_m2 78 rfl) rfl
theorem q399 : (Jvm.Cond.soleField "StrictProofs" "taped") ∈ lw_all := lw_g (lw_at lw_m2 79 rfl) rfl
theorem q400 : (Jvm.Cond.lays "StrictProofs" "StrictProofs" "place" "I") ∈ lw_all := lw_g (lw_at lw_m2 80 rfl) rfl
theorem q401 : (Jvm.Cond.soleField "StrictProofs" "place") ∈ lw_all := lw_g (lw_at lw_m2 81 rfl) rfl
theorem q402 : (Jvm.Cond.laysFinal "StrictProofs" "StrictProofs" "functions" "[LStrictProofs$Function;") ∈ lw_all := lw_g (lw_at lw_m2 82 rfl) rfl
theorem q403 : (Jvm.Cond.soleField "StrictProofs" "functions") ∈ lw_all := lw_g (lw_at lw_m2 83 rfl) rfl
theorem q404 : (Jvm.Cond.lays "StrictProofs" "StrictProofs" "many" "I") ∈ lw_all := lw_g (lw_at lw_m2 84 rfl) rfl
theorem q405 : (Jvm.Cond.soleField "StrictProofs" "many") ∈ lw_all := lw_g (lw_at lw_m2 85 rfl) rfl
theorem q406 : (Jvm.Cond.lays "StrictProofs" "StrictProofs" "isAsked" "Z") ∈ lw_all := lw_g (lw_at lw_m2 86 rfl) rfl
theorem q407 : (Jvm.Cond.soleField "StrictProofs" "isAsked") ∈ lw_all := lw_g (lw_at lw_m2 87 rfl) rfl
theorem q408 : (Jvm.Cond.laysFinal "StrictProofs" "StrictProofs" "kinds" "[I") ∈ lw_all := lw_g (lw_at lw_m2 88 rfl) rfl
theorem q409 : (Jvm.Cond.soleField "StrictProofs" "kinds") ∈ lw_all := lw_g (lw_at lw_m2 89 rfl) rfl
theorem q410 : (Jvm.Cond.laysFinal "StrictProofs" "StrictProofs" "numbers" "[I") ∈ lw_all := lw_g (lw_at lw_m2 90 rfl) rfl
theorem q411 : (Jvm.Cond.soleField "StrictProofs" "numbers") ∈ lw_all := lw_g (lw_at lw_m2 91 rfl) rfl
theorem q412 : (Jvm.Cond.lays "StrictProofs" "StrictProofs" "inputMany" "I") ∈ lw_all := lw_g (lw_at lw_m2 92 rfl) rfl
theorem q413 : (Jvm.Cond.soleField "StrictProofs" "inputMany") ∈ lw_all := lw_g (lw_at lw_m2 93 rfl) rfl
theorem q414 : (Jvm.Cond.superclass "StrictProofs" "java/lang/Object") ∈ lw_all := lw_g (lw_at lw_m2 94 rfl) rfl
theorem q416 : (Jvm.Cond.instanceMethod ({ cls := "StrictProofs", name := "read", desc := "()I" } : Jvm.MethodName)) ∈ lw_all := lw_g (lw_at lw_m2 96 rfl) rfl
theorem q417 : (Jvm.Cond.selects "StrictProofs" ({ cls := "StrictProofs", name := "read", desc := "()I" } : Jvm.MethodName) ({ cls := "StrictProofs", name := "read", desc := "()I" } : Jvm.MethodName)) ∈ lw_all := lw_g (lw_at lw_m2 97 rfl) rfl
theorem q418 : (Jvm.Cond.code ({ cls := "StrictProofs", name := "read", desc := "()I" } : Jvm.MethodName) prog_1_method_20_code (3 : Nat) (Option.some Jvm.ClassFile.FieldType.int)) ∈ lw_all := lw_g (lw_at lw_m2 98 rfl) rfl
theorem q419 : (Jvm.Cond.methodLink "StrictProofs" (143 : Nat) ({ cls := "java/lang/System", name := "arraycopy", desc := "(Ljava/lang/Object;ILjava/lang/Object;II)V" } : Jvm.MethodName)) ∈ lw_all := lw_g (lw_at lw_m2 99 rfl) rfl
theorem q422 : (Jvm.Cond.methodLink "StrictProofs" (152 : Nat) ({ cls := "StrictProofs", name := "reads", desc := "()Z" } : Jvm.MethodName)) ∈ lw_all := lw_g (lw_at lw_m2 102 rfl) rfl
theorem q423 : (Jvm.Cond.privateMethod ({ cls := "StrictProofs", name := "reads", desc := "()Z" } : Jvm.MethodName)) ∈ lw_tbl := lw_at lw_m2 103 rfl
theorem q424 : (Jvm.Cond.instanceMethod ({ cls := "StrictProofs", name := "reads", desc := "()Z" } : Jvm.MethodName)) ∈ lw_all := lw_g (lw_at lw_m2 104 rfl) rfl
theorem q425 : (Jvm.Cond.codeWith ({ cls := "StrictProofs", name := "reads", desc := "()Z" } : Jvm.MethodName) prog_1_method_19_code (2 : Nat) (Option.some Jvm.ClassFile.FieldType.boolean) [((0 : Nat), (21 : Nat), (24 : Nat), (108 : Nat))]) ∈ lw_all := lw_g (lw_at lw_m2 105 rfl) rfl
theorem q426 : (Jvm.Cond.classLink "StrictProofs" (108 : Nat) "java/lang/IllegalStateException") ∈ lw_all := lw_g (lw_at lw_m2 106 rfl) rfl
theorem q427 : (Jvm.Cond.methodLink "StrictProofs" (131 : Nat) ({ cls := "StrictProofs$Parser", name := "program", desc := "()V" } : Jvm.MethodName)) ∈ lw_all := lw_g (lw_at lw_m2 107 rfl) rfl
theorem q667 : (Jvm.Cond.fieldLinkNest "StrictProofs" (177 : Nat) "StrictProofs$Function" "params" "I" "StrictProofs") ∈ lw_tbl := lw_at lw_m3 107 rfl
theorem q670 : (Jvm.Cond.fieldLinkNest "StrictProofs" (180 : Nat) "StrictProofs$Function" "names" "I" "StrictProofs") ∈ lw_tbl := lw_at lw_m3 110 rfl
theorem q675 : (Jvm.Cond.fieldLinkNest "StrictProofs" (183 : Nat) "StrictProofs$Function" "type" "I" "StrictProofs") ∈ lw_tbl := lw_at lw_m3 115 rfl
theorem q688 : (Jvm.Cond.fieldLinkNest "StrictProofs" (186 : Nat) "StrictProofs$Function" "types" "[I" "StrictProofs") ∈ lw_tbl := lw_at lw_m3 128 rfl
theorem q696 : (Jvm.Cond.fieldLinkNest "StrictProofs" (189 : Nat) "StrictProofs$Function" "dead" "[Z" "StrictProofs") ∈ lw_tbl := lw_at lw_m3 136 rfl
theorem q699 : (Jvm.Cond.fieldLinkNest "StrictProofs" (212 : Nat) "StrictProofs$Function" "asks" "[I" "StrictProofs") ∈ lw_tbl := lw_at lw_m3 139 rfl
theorem q761 : (Jvm.Cond.static ({ cls := "StrictProofs", name := "pairOf", desc := "(II)I" } : Jvm.MethodName)) ∈ lw_all := lw_g (lw_at lw_m3 201 rfl) rfl
theorem q762 : (Jvm.Cond.code ({ cls := "StrictProofs", name := "pairOf", desc := "(II)I" } : Jvm.MethodName) prog_1_method_5_code (2 : Nat) (Option.some Jvm.ClassFile.FieldType.int)) ∈ lw_all := lw_g (lw_at lw_m3 202 rfl) rfl
theorem q970 : (Jvm.Cond.methodLink "StrictProofs" (137 : Nat) ({ cls := "StrictProofs$Judge", name := "all", desc := "(I)V" } : Jvm.MethodName)) ∈ lw_all := lw_g (lw_at lw_m4 170 rfl) rfl
theorem q1005 : (Jvm.Cond.static ({ cls := "StrictProofs", name := "left", desc := "(I)I" } : Jvm.MethodName)) ∈ lw_all := lw_g (lw_at lw_m4 205 rfl) rfl
theorem q1006 : (Jvm.Cond.code ({ cls := "StrictProofs", name := "left", desc := "(I)I" } : Jvm.MethodName) prog_1_method_2_code (1 : Nat) (Option.some Jvm.ClassFile.FieldType.int)) ∈ lw_all := lw_g (lw_at lw_m4 206 rfl) rfl
theorem q1008 : (Jvm.Cond.static ({ cls := "StrictProofs", name := "right", desc := "(I)I" } : Jvm.MethodName)) ∈ lw_all := lw_g (lw_at lw_m4 208 rfl) rfl
theorem q1009 : (Jvm.Cond.code ({ cls := "StrictProofs", name := "right", desc := "(I)I" } : Jvm.MethodName) prog_1_method_3_code (1 : Nat) (Option.some Jvm.ClassFile.FieldType.int)) ∈ lw_all := lw_g (lw_at lw_m4 209 rfl) rfl
theorem q1049 : (Jvm.Cond.methodLink "StrictProofs" (167 : Nat) ({ cls := "StrictProofs$Machine", name := "forget", desc := "()V" } : Jvm.MethodName)) ∈ lw_all := lw_g (lw_at lw_m5 9 rfl) rfl
theorem q1054 : (Jvm.Cond.instanceMethod ({ cls := "StrictProofs", name := "place", desc := "()I" } : Jvm.MethodName)) ∈ lw_all := lw_g (lw_at lw_m5 14 rfl) rfl
theorem q1055 : (Jvm.Cond.selects "StrictProofs" ({ cls := "StrictProofs", name := "place", desc := "()I" } : Jvm.MethodName) ({ cls := "StrictProofs", name := "place", desc := "()I" } : Jvm.MethodName)) ∈ lw_all := lw_g (lw_at lw_m5 15 rfl) rfl
theorem q1056 : (Jvm.Cond.code ({ cls := "StrictProofs", name := "place", desc := "()I" } : Jvm.MethodName) prog_1_method_21_code (1 : Nat) (Option.some Jvm.ClassFile.FieldType.int)) ∈ lw_all := lw_g (lw_at lw_m5 16 rfl) rfl
theorem q1062 : (Jvm.Cond.instanceMethod ({ cls := "StrictProofs", name := "feed", desc := "(IIIII)I" } : Jvm.MethodName)) ∈ lw_all := lw_g (lw_at lw_m5 22 rfl) rfl
theorem q1063 : (Jvm.Cond.selects "StrictProofs" ({ cls := "StrictProofs", name := "feed", desc := "(IIIII)I" } : Jvm.MethodName) ({ cls := "StrictProofs", name := "feed", desc := "(IIIII)I" } : Jvm.MethodName)) ∈ lw_all := lw_g (lw_at lw_m5 23 rfl) rfl
theorem q1064 : (Jvm.Cond.code ({ cls := "StrictProofs", name := "feed", desc := "(IIIII)I" } : Jvm.MethodName) prog_1_method_17_code (6 : Nat) (Option.some Jvm.ClassFile.FieldType.int)) ∈ lw_all := lw_g (lw_at lw_m5 24 rfl) rfl
theorem q1065 : (Jvm.Cond.methodLink "StrictProofs" (120 : Nat) ({ cls := "StrictProofs", name := "may", desc := "(Z)V" } : Jvm.MethodName)) ∈ lw_all := lw_g (lw_at lw_m5 25 rfl) rfl
theorem q1066 : (Jvm.Cond.static ({ cls := "StrictProofs", name := "may", desc := "(Z)V" } : Jvm.MethodName)) ∈ lw_all := lw_g (lw_at lw_m5 26 rfl) rfl
theorem q1067 : (Jvm.Cond.code ({ cls := "StrictProofs", name := "may", desc := "(Z)V" } : Jvm.MethodName) prog_1_method_13_code (1 : Nat) (Option.none : Option Jvm.ClassFile.FieldType)) ∈ lw_all := lw_g (lw_at lw_m5 27 rfl) rfl
theorem q1068 : (Jvm.Cond.methodLink "StrictProofs" (110 : Nat) ({ cls := "java/lang/IllegalStateException", name := "<init>", desc := "()V" } : Jvm.MethodName)) ∈ lw_all := lw_g (lw_at lw_m5 28 rfl) rfl
theorem q1078 : (Jvm.Cond.methodLink "StrictProofs" (124 : Nat) ({ cls := "StrictProofs", name := "lay", desc := "(I)V" } : Jvm.MethodName)) ∈ lw_all := lw_g (lw_at lw_m5 38 rfl) rfl
theorem q1079 : (Jvm.Cond.privateMethod ({ cls := "StrictProofs", name := "lay", desc := "(I)V" } : Jvm.MethodName)) ∈ lw_tbl := lw_at lw_m5 39 rfl
theorem q1080 : (Jvm.Cond.instanceMethod ({ cls := "StrictProofs", name := "lay", desc := "(I)V" } : Jvm.MethodName)) ∈ lw_all := lw_g (lw_at lw_m5 40 rfl) rfl
theorem q1081 : (Jvm.Cond.code ({ cls := "StrictProofs", name := "lay", desc := "(I)V" } : Jvm.MethodName) prog_1_method_16_code (3 : Nat) (Option.none : Option Jvm.ClassFile.FieldType)) ∈ lw_all := lw_g (lw_at lw_m5 41 rfl) rfl
theorem q1087 : (Jvm.Cond.instanceMethod ({ cls := "StrictProofs", name := "cut", desc := "(I)I" } : Jvm.MethodName)) ∈ lw_all := lw_g (lw_at lw_m5 47 rfl) rfl
theorem q1088 : (Jvm.Cond.selects "StrictProofs" ({ cls := "StrictProofs", name := "cut", desc := "(I)I" } : Jvm.MethodName) ({ cls := "StrictProofs", name := "cut", desc := "(I)I" } : Jvm.MethodName)) ∈ lw_all := lw_g (lw_at lw_m5 48 rfl) rfl
theorem q1089 : (Jvm.Cond.code ({ cls := "StrictProofs", name := "cut", desc := "(I)I" } : Jvm.MethodName) prog_1_method_18_code (3 : Nat) (Option.some Jvm.ClassFile.FieldType.int)) ∈ lw_all := lw_g (lw_at lw_m5 49 rfl) rfl
theorem q1090 : (Jvm.Cond.methodLink "StrictProofs" (128 : Nat) ({ cls := "StrictProofs", name := "fits", desc := "(Z)V" } : Jvm.MethodName)) ∈ lw_all := lw_g (lw_at lw_m5 50 rfl) rfl
theorem q1091 : (Jvm.Cond.static ({ cls := "StrictProofs", name := "fits", desc := "(Z)V" } : Jvm.MethodName)) ∈ lw_all := lw_g (lw_at lw_m5 51 rfl) rfl
theorem q1092 : (Jvm.Cond.code ({ cls := "StrictProofs", name := "fits", desc := "(Z)V" } : Jvm.MethodName) prog_1_method_15_code (1 : Nat) (Option.none : Option Jvm.ClassFile.FieldType)) ∈ lw_all := lw_g (lw_at lw_m5 52 rfl) rfl
theorem q1093 : (Jvm.Cond.classLink "StrictProofs" (114 : Nat) "java/lang/IllegalArgumentException") ∈ lw_all := lw_g (lw_at lw_m5 53 rfl) rfl
theorem q1102 : (Jvm.Cond.methodLink "StrictProofs" (116 : Nat) ({ cls := "java/lang/IllegalArgumentException", name := "<init>", desc := "()V" } : Jvm.MethodName)) ∈ lw_all := lw_g (lw_at lw_m5 62 rfl) rfl
theorem q1136 : (Jvm.Cond.instanceMethod ({ cls := "StrictProofs", name := "function", desc := "(II)I" } : Jvm.MethodName)) ∈ lw_all := lw_g (lw_at lw_m5 96 rfl) rfl
theorem q1137 : (Jvm.Cond.selects "StrictProofs" ({ cls := "StrictProofs", name := "function", desc := "(II)I" } : Jvm.MethodName) ({ cls := "StrictProofs", name := "function", desc := "(II)I" } : Jvm.MethodName)) ∈ lw_all := lw_g (lw_at lw_m5 97 rfl) rfl
theorem q1138 : (Jvm.Cond.code ({ cls := "StrictProofs", name := "function", desc := "(II)I" } : Jvm.MethodName) prog_1_method_23_code (4 : Nat) (Option.some Jvm.ClassFile.FieldType.int)) ∈ lw_all := lw_g (lw_at lw_m5 98 rfl) rfl
theorem q1139 : (Jvm.Cond.methodLink "StrictProofs" (173 : Nat) ({ cls := "StrictProofs", name := "functionAt", desc := "(I)LStrictProofs$Function;" } : Jvm.MethodName)) ∈ lw_all := lw_g (lw_at lw_m5 99 rfl) rfl
theorem q1140 : (Jvm.Cond.privateMethod ({ cls := "StrictProofs", name := "functionAt", desc := "(I)LStrictProofs$Function;" } : Jvm.MethodName)) ∈ lw_tbl := lw_at lw_m5 100 rfl
theorem q1141 : (Jvm.Cond.instanceMethod ({ cls := "StrictProofs", name := "functionAt", desc := "(I)LStrictProofs$Function;" } : Jvm.MethodName)) ∈ lw_all := lw_g (lw_at lw_m5 101 rfl) rfl
theorem q1142 : (Jvm.Cond.code ({ cls := "StrictProofs", name := "functionAt", desc := "(I)LStrictProofs$Function;" } : Jvm.MethodName) prog_1_method_22_code (2 : Nat) (Option.some (Jvm.ClassFile.FieldType.object "StrictProofs$Function"))) ∈ lw_all := lw_g (lw_at lw_m5 102 rfl) rfl
theorem q1143 : (Jvm.Cond.methodLink "StrictProofs" (170 : Nat) ({ cls := "StrictProofs", name := "lies", desc := "(Z)V" } : Jvm.MethodName)) ∈ lw_all := lw_g (lw_at lw_m5 103 rfl) rfl
theorem q1144 : (Jvm.Cond.static ({ cls := "StrictProofs", name := "lies", desc := "(Z)V" } : Jvm.MethodName)) ∈ lw_all := lw_g (lw_at lw_m5 104 rfl) rfl
theorem q1145 : (Jvm.Cond.code ({ cls := "StrictProofs", name := "lies", desc := "(Z)V" } : Jvm.MethodName) prog_1_method_14_code (1 : Nat) (Option.none : Option Jvm.ClassFile.FieldType)) ∈ lw_all := lw_g (lw_at lw_m5 105 rfl) rfl
theorem q1146 : (Jvm.Cond.classLink "StrictProofs" (111 : Nat) "java/lang/IndexOutOfBoundsException") ∈ lw_all := lw_g (lw_at lw_m5 106 rfl) rfl
theorem q1155 : (Jvm.Cond.methodLink "StrictProofs" (113 : Nat) ({ cls := "java/lang/IndexOutOfBoundsException", name := "<init>", desc := "()V" } : Jvm.MethodName)) ∈ lw_all := lw_g (lw_at lw_m5 115 rfl) rfl
theorem q1161 : (Jvm.Cond.methodLink "StrictProofs" (7 : Nat) ({ cls := "StrictProofs", name := "sizeOf", desc := "(I)I" } : Jvm.MethodName)) ∈ lw_all := lw_g (lw_at lw_m5 121 rfl) rfl
theorem q1162 : (Jvm.Cond.static ({ cls := "StrictProofs", name := "sizeOf", desc := "(I)I" } : Jvm.MethodName)) ∈ lw_all := lw_g (lw_at lw_m5 122 rfl) rfl
theorem q1163 : (Jvm.Cond.code ({ cls := "StrictProofs", name := "sizeOf", desc := "(I)I" } : Jvm.MethodName) prog_1_method_1_code (1 : Nat) (Option.some Jvm.ClassFile.FieldType.int)) ∈ lw_all := lw_g (lw_at lw_m5 123 rfl) rfl
theorem q1164 : (Jvm.Cond.fieldLink "StrictProofs" (1 : Nat) "StrictProofs" "SIZES" "[I") ∈ lw_all := lw_g (lw_at lw_m5 124 rfl) rfl
theorem q1165 : (Jvm.Cond.laysStatic "StrictProofs" "SIZES" "[I") ∈ lw_tbl := lw_at lw_m5 125 rfl
theorem q1170 : (Jvm.Cond.instanceMethod ({ cls := "StrictProofs", name := "rounds", desc := "()I" } : Jvm.MethodName)) ∈ lw_all := lw_g (lw_at lw_m5 130 rfl) rfl
theorem q1171 : (Jvm.Cond.selects "StrictProofs" ({ cls := "StrictProofs", name := "rounds", desc := "()I" } : Jvm.MethodName) ({ cls := "StrictProofs", name := "rounds", desc := "()I" } : Jvm.MethodName)) ∈ lw_all := lw_g (lw_at lw_m5 131 rfl) rfl
theorem q1172 : (Jvm.Cond.code ({ cls := "StrictProofs", name := "rounds", desc := "()I" } : Jvm.MethodName) prog_1_method_24_code (3 : Nat) (Option.some Jvm.ClassFile.FieldType.int)) ∈ lw_all := lw_g (lw_at lw_m5 132 rfl) rfl
theorem q1173 : (Jvm.Cond.methodLink "StrictProofs" (193 : Nat) ({ cls := "StrictProofs", name := "round", desc := "()Z" } : Jvm.MethodName)) ∈ lw_all := lw_g (lw_at lw_m5 133 rfl) rfl
theorem q1174 : (Jvm.Cond.privateMethod ({ cls := "StrictProofs", name := "round", desc := "()Z" } : Jvm.MethodName)) ∈ lw_tbl := lw_at lw_m5 134 rfl
theorem q1175 : (Jvm.Cond.instanceMethod ({ cls := "StrictProofs", name := "round", desc := "()Z" } : Jvm.MethodName)) ∈ lw_all := lw_g (lw_at lw_m5 135 rfl) rfl
theorem q1176 : (Jvm.Cond.code ({ cls := "StrictProofs", name := "round", desc := "()Z" } : Jvm.MethodName) prog_1_method_25_code (8 : Nat) (Option.some Jvm.ClassFile.FieldType.boolean)) ∈ lw_all := lw_g (lw_at lw_m5 136 rfl) rfl
theorem q1177 : (Jvm.Cond.methodLink "StrictProofs" (196 : Nat) ({ cls := "StrictProofs$Asker", name := "of", desc := "(LStrictProofs$Function;I)LStrictProofs$Row;" } : Jvm.MethodName)) ∈ lw_all := lw_g (lw_at lw_m5 137 rfl) rfl
theorem q1210 : (Jvm.Cond.static ({ cls := "StrictProofs", name := "together", desc := "(III)I" } : Jvm.MethodName)) ∈ lw_all := lw_g (lw_at lw_m5 170 rfl) rfl
theorem q1211 : (Jvm.Cond.code ({ cls := "StrictProofs", name := "together", desc := "(III)I" } : Jvm.MethodName) prog_1_method_10_code (3 : Nat) (Option.some Jvm.ClassFile.FieldType.int)) ∈ lw_all := lw_g (lw_at lw_m5 171 rfl) rfl
theorem q1212 : (Jvm.Cond.methodLink "StrictProofs" (14 : Nat) ({ cls := "java/lang/Math", name := "max", desc := "(II)I" } : Jvm.MethodName)) ∈ lw_all := lw_g (lw_at lw_m5 172 rfl) rfl
theorem q1213 : (Jvm.Cond.methodLink "StrictProofs" (20 : Nat) ({ cls := "StrictProofs", name := "left", desc := "(I)I" } : Jvm.MethodName)) ∈ lw_all := lw_g (lw_at lw_m5 173 rfl) rfl
theorem q1214 : (Jvm.Cond.methodLink "StrictProofs" (23 : Nat) ({ cls := "StrictProofs", name := "first", desc := "(II)I" } : Jvm.MethodName)) ∈ lw_all := lw_g (lw_at lw_m5 174 rfl) rfl
theorem q1215 : (Jvm.Cond.static ({ cls := "StrictProofs", name := "first", desc := "(II)I" } : Jvm.MethodName)) ∈ lw_all := lw_g (lw_at lw_m5 175 rfl) rfl
theorem q1216 : (Jvm.Cond.code ({ cls := "StrictProofs", name := "first", desc := "(II)I" } : Jvm.MethodName) prog_1_method_7_code (2 : Nat) (Option.some Jvm.ClassFile.FieldType.int)) ∈ lw_all := lw_g (lw_at lw_m5 176 rfl) rfl
theorem q1217 : (Jvm.Cond.methodLink "StrictProofs" (11 : Nat) ({ cls := "StrictProofs", name := "right", desc := "(I)I" } : Jvm.MethodName)) ∈ lw_all := lw_g (lw_at lw_m5 177 rfl) rfl
theorem q1218 : (Jvm.Cond.methodLink "StrictProofs" (26 : Nat) ({ cls := "StrictProofs", name := "together", desc := "(III)I" } : Jvm.MethodName)) ∈ lw_all := lw_g (lw_at lw_m5 178 rfl) rfl
theorem q1219 : (Jvm.Cond.methodLink "StrictProofs" (30 : Nat) ({ cls := "StrictProofs", name := "second", desc := "(II)I" } : Jvm.MethodName)) ∈ lw_all := lw_g (lw_at lw_m5 179 rfl) rfl
theorem q1220 : (Jvm.Cond.static ({ cls := "StrictProofs", name := "second", desc := "(II)I" } : Jvm.MethodName)) ∈ lw_all := lw_g (lw_at lw_m5 180 rfl) rfl
theorem q1221 : (Jvm.Cond.code ({ cls := "StrictProofs", name := "second", desc := "(II)I" } : Jvm.MethodName) prog_1_method_8_code (2 : Nat) (Option.some Jvm.ClassFile.FieldType.int)) ∈ lw_all := lw_g (lw_at lw_m5 181 rfl) rfl
theorem q1222 : (Jvm.Cond.methodLink "StrictProofs" (33 : Nat) ({ cls := "StrictProofs", name := "both", desc := "(III)I" } : Jvm.MethodName)) ∈ lw_all := lw_g (lw_at lw_m5 182 rfl) rfl
theorem q1223 : (Jvm.Cond.static ({ cls := "StrictProofs", name := "both", desc := "(III)I" } : Jvm.MethodName)) ∈ lw_all := lw_g (lw_at lw_m5 183 rfl) rfl
theorem q1224 : (Jvm.Cond.code ({ cls := "StrictProofs", name := "both", desc := "(III)I" } : Jvm.MethodName) prog_1_method_9_code (3 : Nat) (Option.some Jvm.ClassFile.FieldType.int)) ∈ lw_all := lw_g (lw_at lw_m5 184 rfl) rfl
theorem q1244 : (Jvm.Cond.static ({ cls := "StrictProofs", name := "either", desc := "(III)I" } : Jvm.MethodName)) ∈ lw_all := lw_g (lw_at lw_m5 204 rfl) rfl
theorem q1245 : (Jvm.Cond.code ({ cls := "StrictProofs", name := "either", desc := "(III)I" } : Jvm.MethodName) prog_1_method_11_code (3 : Nat) (Option.some Jvm.ClassFile.FieldType.int)) ∈ lw_all := lw_g (lw_at lw_m5 205 rfl) rfl
theorem q1246 : (Jvm.Cond.methodLink "StrictProofs" (36 : Nat) ({ cls := "java/lang/Math", name := "min", desc := "(II)I" } : Jvm.MethodName)) ∈ lw_all := lw_g (lw_at lw_m5 206 rfl) rfl
theorem q1247 : (Jvm.Cond.methodLink "StrictProofs" (39 : Nat) ({ cls := "StrictProofs", name := "either", desc := "(III)I" } : Jvm.MethodName)) ∈ lw_all := lw_g (lw_at lw_m5 207 rfl) rfl
theorem q1259 : (Jvm.Cond.static ({ cls := "StrictProofs", name := "all", desc := "(I)I" } : Jvm.MethodName)) ∈ lw_all := lw_g (lw_at lw_m5 219 rfl) rfl
theorem q1260 : (Jvm.Cond.code ({ cls := "StrictProofs", name := "all", desc := "(I)I" } : Jvm.MethodName) prog_1_method_6_code (1 : Nat) (Option.some Jvm.ClassFile.FieldType.int)) ∈ lw_all := lw_g (lw_at lw_m5 220 rfl) rfl
theorem q1261 : (Jvm.Cond.methodLink "StrictProofs" (205 : Nat) ({ cls := "StrictProofs", name := "rowOf", desc := "(LStrictProofs$Function;II)I" } : Jvm.MethodName)) ∈ lw_all := lw_g (lw_at lw_m5 221 rfl) rfl
theorem q1262 : (Jvm.Cond.static ({ cls := "StrictProofs", name := "rowOf", desc := "(LStrictProofs$Function;II)I" } : Jvm.MethodName)) ∈ lw_all := lw_g (lw_at lw_m5 222 rfl) rfl
theorem q1263 : (Jvm.Cond.code ({ cls := "StrictProofs", name := "rowOf", desc := "(LStrictProofs$Function;II)I" } : Jvm.MethodName) prog_1_method_26_code (3 : Nat) (Option.some Jvm.ClassFile.FieldType.int)) ∈ lw_all := lw_g (lw_at lw_m5 223 rfl) rfl
theorem q1264 : (Jvm.Cond.methodLink "StrictProofs" (213 : Nat) ({ cls := "StrictProofs", name := "all", desc := "(I)I" } : Jvm.MethodName)) ∈ lw_all := lw_g (lw_at lw_m5 224 rfl) rfl
theorem q1269 : (Jvm.Cond.instanceMethod ({ cls := "StrictProofs", name := "dead", desc := "(II)Z" } : Jvm.MethodName)) ∈ lw_all := lw_g (lw_at lw_m5 229 rfl) rfl
theorem q1270 : (Jvm.Cond.selects "StrictProofs" ({ cls := "StrictProofs", name := "dead", desc := "(II)Z" } : Jvm.MethodName) ({ cls := "StrictProofs", name := "dead", desc := "(II)Z" } : Jvm.MethodName)) ∈ lw_all := lw_g (lw_at lw_m5 230 rfl) rfl
theorem q1271 : (Jvm.Cond.code ({ cls := "StrictProofs", name := "dead", desc := "(II)Z" } : Jvm.MethodName) prog_1_method_28_code (3 : Nat) (Option.some Jvm.ClassFile.FieldType.boolean)) ∈ lw_all := lw_g (lw_at lw_m5 231 rfl) rfl
theorem q1272 : (Jvm.Cond.methodLink "StrictProofs" (215 : Nat) ({ cls := "StrictProofs", name := "rowAt", desc := "(II)LStrictProofs$Function;" } : Jvm.MethodName)) ∈ lw_all := lw_g (lw_at lw_m5 232 rfl) rfl
theorem q1273 : (Jvm.Cond.privateMethod ({ cls := "StrictProofs", name := "rowAt", desc := "(II)LStrictProofs$Function;" } : Jvm.MethodName)) ∈ lw_tbl := lw_at lw_m5 233 rfl
theorem q1274 : (Jvm.Cond.instanceMethod ({ cls := "StrictProofs", name := "rowAt", desc := "(II)LStrictProofs$Function;" } : Jvm.MethodName)) ∈ lw_all := lw_g (lw_at lw_m5 234 rfl) rfl
theorem q1275 : (Jvm.Cond.code ({ cls := "StrictProofs", name := "rowAt", desc := "(II)LStrictProofs$Function;" } : Jvm.MethodName) prog_1_method_27_code (4 : Nat) (Option.some (Jvm.ClassFile.FieldType.object "StrictProofs$Function"))) ∈ lw_all := lw_g (lw_at lw_m5 235 rfl) rfl
theorem q1280 : (Jvm.Cond.instanceMethod ({ cls := "StrictProofs", name := "asks", desc := "(III)I" } : Jvm.MethodName)) ∈ lw_all := lw_g (lw_at lw_m6 0 rfl) rfl
theorem q1281 : (Jvm.Cond.selects "StrictProofs" ({ cls := "StrictProofs", name := "asks", desc := "(III)I" } : Jvm.MethodName) ({ cls := "StrictProofs", name := "asks", desc := "(III)I" } : Jvm.MethodName)) ∈ lw_all := lw_g (lw_at lw_m6 1 rfl) rfl
theorem q1282 : (Jvm.Cond.code ({ cls := "StrictProofs", name := "asks", desc := "(III)I" } : Jvm.MethodName) prog_1_method_29_code (5 : Nat) (Option.some Jvm.ClassFile.FieldType.int)) ∈ lw_all := lw_g (lw_at lw_m6 2 rfl) rfl
theorem q1287 : (Jvm.Cond.instanceMethod ({ cls := "StrictProofs", name := "strict", desc := "(II)Z" } : Jvm.MethodName)) ∈ lw_all := lw_g (lw_at lw_m6 7 rfl) rfl
theorem q1288 : (Jvm.Cond.selects "StrictProofs" ({ cls := "StrictProofs", name := "strict", desc := "(II)Z" } : Jvm.MethodName) ({ cls := "StrictProofs", name := "strict", desc := "(II)Z" } : Jvm.MethodName)) ∈ lw_all := lw_g (lw_at lw_m6 8 rfl) rfl
theorem q1289 : (Jvm.Cond.code ({ cls := "StrictProofs", name := "strict", desc := "(II)Z" } : Jvm.MethodName) prog_1_method_30_code (3 : Nat) (Option.some Jvm.ClassFile.FieldType.boolean)) ∈ lw_all := lw_g (lw_at lw_m6 9 rfl) rfl
theorem q1290 : (Jvm.Cond.methodLink "StrictProofs" (219 : Nat) ({ cls := "StrictProofs", name := "asks", desc := "(III)I" } : Jvm.MethodName)) ∈ lw_all := lw_g (lw_at lw_m6 10 rfl) rfl
theorem q1295 : (Jvm.Cond.instanceMethod ({ cls := "StrictProofs", name := "plant", desc := "(IIII)I" } : Jvm.MethodName)) ∈ lw_all := lw_g (lw_at lw_m6 15 rfl) rfl
theorem q1296 : (Jvm.Cond.selects "StrictProofs" ({ cls := "StrictProofs", name := "plant", desc := "(IIII)I" } : Jvm.MethodName) ({ cls := "StrictProofs", name := "plant", desc := "(IIII)I" } : Jvm.MethodName)) ∈ lw_all := lw_g (lw_at lw_m6 16 rfl) rfl
theorem q1297 : (Jvm.Cond.code ({ cls := "StrictProofs", name := "plant", desc := "(IIII)I" } : Jvm.MethodName) prog_1_method_31_code (8 : Nat) (Option.some Jvm.ClassFile.FieldType.int)) ∈ lw_all := lw_g (lw_at lw_m6 17 rfl) rfl
theorem q1302 : (Jvm.Cond.instanceMethod ({ cls := "StrictProofs", name := "check", desc := "()I" } : Jvm.MethodName)) ∈ lw_all := lw_g (lw_at lw_m6 22 rfl) rfl
theorem q1303 : (Jvm.Cond.selects "StrictProofs" ({ cls := "StrictProofs", name := "check", desc := "()I" } : Jvm.MethodName) ({ cls := "StrictProofs", name := "check", desc := "()I" } : Jvm.MethodName)) ∈ lw_all := lw_g (lw_at lw_m6 23 rfl) rfl
theorem q1304 : (Jvm.Cond.code ({ cls := "StrictProofs", name := "check", desc := "()I" } : Jvm.MethodName) prog_1_method_32_code (8 : Nat) (Option.some Jvm.ClassFile.FieldType.int)) ∈ lw_all := lw_g (lw_at lw_m6 24 rfl) rfl
theorem q1309 : (Jvm.Cond.instanceMethod ({ cls := "StrictProofs", name := "input", desc := "(II)I" } : Jvm.MethodName)) ∈ lw_all := lw_g (lw_at lw_m6 29 rfl) rfl
theorem q1310 : (Jvm.Cond.selects "StrictProofs" ({ cls := "StrictProofs", name := "input", desc := "(II)I" } : Jvm.MethodName) ({ cls := "StrictProofs", name := "input", desc := "(II)I" } : Jvm.MethodName)) ∈ lw_all := lw_g (lw_at lw_m6 30 rfl) rfl
theorem q1311 : (Jvm.Cond.code ({ cls := "StrictProofs", name := "input", desc := "(II)I" } : Jvm.MethodName) prog_1_method_33_code (3 : Nat) (Option.some Jvm.ClassFile.FieldType.int)) ∈ lw_all := lw_g (lw_at lw_m6 31 rfl) rfl
theorem q1316 : (Jvm.Cond.instanceMethod ({ cls := "StrictProofs", name := "run", desc := "(III)I" } : Jvm.MethodName)) ∈ lw_all := lw_g (lw_at lw_m6 36 rfl) rfl
theorem q1317 : (Jvm.Cond.selects "StrictProofs" ({ cls := "StrictProofs", name := "run", desc := "(III)I" } : Jvm.MethodName) ({ cls := "StrictProofs", name := "run", desc := "(III)I" } : Jvm.MethodName)) ∈ lw_all := lw_g (lw_at lw_m6 37 rfl) rfl
theorem q1318 : (Jvm.Cond.code ({ cls := "StrictProofs", name := "run", desc := "(III)I" } : Jvm.MethodName) prog_1_method_34_code (5 : Nat) (Option.some Jvm.ClassFile.FieldType.int)) ∈ lw_all := lw_g (lw_at lw_m6 38 rfl) rfl
theorem q1319 : (Jvm.Cond.methodLink "StrictProofs" (224 : Nat) ({ cls := "StrictProofs$Machine", name := "fit", desc := "([IILStrictProofs$Function;)Z" } : Jvm.MethodName)) ∈ lw_all := lw_g (lw_at lw_m6 39 rfl) rfl
theorem q1325 : (Jvm.Cond.methodLink "StrictProofs" (228 : Nat) ({ cls := "StrictProofs$Machine", name := "run", desc := "(LStrictProofs$Function;II[I[I)I" } : Jvm.MethodName)) ∈ lw_all := lw_g (lw_at lw_m6 45 rfl) rfl
theorem q1431 : (Jvm.Cond.instanceMethod ({ cls := "StrictProofs", name := "told", desc := "(I)I" } : Jvm.MethodName)) ∈ lw_all := lw_g (lw_at lw_m6 151 rfl) rfl
theorem q1432 : (Jvm.Cond.selects "StrictProofs" ({ cls := "StrictProofs", name := "told", desc := "(I)I" } : Jvm.MethodName) ({ cls := "StrictProofs", name := "told", desc := "(I)I" } : Jvm.MethodName)) ∈ lw_all := lw_g (lw_at lw_m6 152 rfl) rfl
theorem q1433 : (Jvm.Cond.code ({ cls := "StrictProofs", name := "told", desc := "(I)I" } : Jvm.MethodName) prog_1_method_35_code (4 : Nat) (Option.some Jvm.ClassFile.FieldType.int)) ∈ lw_all := lw_g (lw_at lw_m6 153 rfl) rfl
theorem q1438 : (Jvm.Cond.instanceMethod ({ cls := "StrictProofs", name := "result", desc := "(I)I" } : Jvm.MethodName)) ∈ lw_all := lw_g (lw_at lw_m6 158 rfl) rfl
theorem q1439 : (Jvm.Cond.selects "StrictProofs" ({ cls := "StrictProofs", name := "result", desc := "(I)I" } : Jvm.MethodName) ({ cls := "StrictProofs", name := "result", desc := "(I)I" } : Jvm.MethodName)) ∈ lw_all := lw_g (lw_at lw_m6 159 rfl) rfl
theorem q1440 : (Jvm.Cond.code ({ cls := "StrictProofs", name := "result", desc := "(I)I" } : Jvm.MethodName) prog_1_method_36_code (3 : Nat) (Option.some Jvm.ClassFile.FieldType.int)) ∈ lw_all := lw_g (lw_at lw_m6 160 rfl) rfl
theorem q1441 : (Jvm.Cond.methodLink "StrictProofs" (263 : Nat) ({ cls := "StrictProofs$Machine", name := "thingAt", desc := "(I)I" } : Jvm.MethodName)) ∈ lw_all := lw_g (lw_at lw_m6 161 rfl) rfl
theorem q1449 : (Jvm.Cond.instanceMethod ({ cls := "StrictProofs", name := "needed", desc := "(I)Z" } : Jvm.MethodName)) ∈ lw_all := lw_g (lw_at lw_m6 169 rfl) rfl
theorem q1450 : (Jvm.Cond.selects "StrictProofs" ({ cls := "StrictProofs", name := "needed", desc := "(I)Z" } : Jvm.MethodName) ({ cls := "StrictProofs", name := "needed", desc := "(I)Z" } : Jvm.MethodName)) ∈ lw_all := lw_g (lw_at lw_m6 170 rfl) rfl
theorem q1451 : (Jvm.Cond.code ({ cls := "StrictProofs", name := "needed", desc := "(I)Z" } : Jvm.MethodName) prog_1_method_37_code (2 : Nat) (Option.some Jvm.ClassFile.FieldType.boolean)) ∈ lw_all := lw_g (lw_at lw_m6 171 rfl) rfl
theorem q82 : (Jvm.Cond.initialized "StrictProofs$Text") ∈ lw_all := lw_g (lw_at lw_m1 2 rfl) rfl
theorem q123 : (Jvm.Cond.instantiable "StrictProofs$Text" (11 : Nat)) ∈ lw_all := lw_g (lw_at lw_m1 43 rfl) rfl
theorem q125 : (Jvm.Cond.instanceMethod ({ cls := "StrictProofs$Text", name := "<init>", desc := "()V" } : Jvm.MethodName)) ∈ lw_all := lw_g (lw_at lw_m1 45 rfl) rfl
theorem q126 : (Jvm.Cond.code ({ cls := "StrictProofs$Text", name := "<init>", desc := "()V" } : Jvm.MethodName) prog_18_method_1_code (1 : Nat) (Option.none : Option Jvm.ClassFile.FieldType)) ∈ lw_all := lw_g (lw_at lw_m1 46 rfl) rfl
theorem q127 : (Jvm.Cond.methodLink "StrictProofs$Text" (3 : Nat) ({ cls := "java/lang/Object", name := "<init>", desc := "()V" } : Jvm.MethodName)) ∈ lw_all := lw_g (lw_at lw_m1 47 rfl) rfl
theorem q128 : (Jvm.Cond.fieldLink "StrictProofs$Text" (9 : Nat) "StrictProofs$Text" "bytes" "[B") ∈ lw_all := lw_g (lw_at lw_m1 48 rfl) rfl
theorem q130 : (Jvm.Cond.fieldLink "StrictProofs$Text" (36 : Nat) "StrictProofs$Text" "size" "I") ∈ lw_all := lw_g (lw_at lw_m1 50 rfl) rfl
theorem q132 : (Jvm.Cond.fieldLink "StrictProofs$Text" (15 : Nat) "StrictProofs$Text" "places" "[I") ∈ lw_all := lw_g (lw_at lw_m1 52 rfl) rfl
theorem q134 : (Jvm.Cond.fieldLink "StrictProofs$Text" (19 : Nat) "StrictProofs$Text" "lengths" "[I") ∈ lw_all := lw_g (lw_at lw_m1 54 rfl) rfl
theorem q135 : (Jvm.Cond.fieldLink "StrictProofs$Text" (42 : Nat) "StrictProofs$Text" "many" "I") ∈ lw_all := lw_g (lw_at lw_m1 55 rfl) rfl
theorem q137 : (Jvm.Cond.fieldLink "StrictProofs$Text" (55 : Nat) "StrictProofs$Text" "sort" "I") ∈ lw_all := lw_g (lw_at lw_m1 57 rfl) rfl
theorem q138 : (Jvm.Cond.fieldLink "StrictProofs$Text" (75 : Nat) "StrictProofs$Text" "value" "I") ∈ lw_all := lw_g (lw_at lw_m1 58 rfl) rfl
theorem q140 : (Jvm.Cond.fieldLink "StrictProofs$Text" (39 : Nat) "StrictProofs$Text" "at" "I") ∈ lw_all := lw_g (lw_at lw_m1 60 rfl) rfl
theorem q142 : (Jvm.Cond.fieldLink "StrictProofs$Text" (52 : Nat) "StrictProofs$Text" "place" "I") ∈ lw_all := lw_g (lw_at lw_m1 62 rfl) rfl
theorem q143 : (Jvm.Cond.fieldLink "StrictProofs$Text" (22 : Nat) "StrictProofs$Text" "fault" "I") ∈ lw_all := lw_g (lw_at lw_m1 63 rfl) rfl
theorem q145 : (Jvm.Cond.fieldLink "StrictProofs$Text" (26 : Nat) "StrictProofs$Text" "faultPlace" "I") ∈ lw_all := lw_g (lw_at lw_m1 65 rfl) rfl
theorem q147 : (Jvm.Cond.laysFinal "StrictProofs$Text" "StrictProofs$Text" "bytes" "[B") ∈ lw_all := lw_g (lw_at lw_m1 67 rfl) rfl
theorem q148 : (Jvm.Cond.soleField "StrictProofs$Text" "bytes") ∈ lw_all := lw_g (lw_at lw_m1 68 rfl) rfl
theorem q149 : (Jvm.Cond.lays "StrictProofs$Text" "StrictProofs$Text" "size" "I") ∈ lw_all := lw_g (lw_at lw_m1 69 rfl) rfl
theorem q150 : (Jvm.Cond.soleField "StrictProofs$Text" "size") ∈ lw_all := lw_g (lw_at lw_m1 70 rfl) rfl
theorem q151 : (Jvm.Cond.laysFinal "StrictProofs$Text" "StrictProofs$Text" "places" "[I") ∈ lw_all := lw_g (lw_at lw_m1 71 rfl) rfl
theorem q152 : (Jvm.Cond.soleField "StrictProofs$Text" "places") ∈ lw_all := lw_g (lw_at lw_m1 72 rfl) rfl
theorem q153 : (Jvm.Cond.laysFinal "StrictProofs$Text" "StrictProofs$Text" "lengths" "[I") ∈ lw_all := lw_g (lw_at lw_m1 73 rfl) rfl
theorem q154 : (Jvm.Cond.soleField "StrictProofs$Text" "lengths") ∈ lw_all := lw_g (lw_at lw_m1 74 rfl) rfl
theorem q155 : (Jvm.Cond.lays "StrictProofs$Text" "StrictProofs$Text" "many" "I") ∈ lw_all := lw_g (lw_at lw_m1 75 rfl) rfl
theorem q156 : (Jvm.Cond.soleField "StrictProofs$Text" "many") ∈ lw_all := lw_g (lw_at lw_m1 76 rfl) rfl
theorem q157 : (Jvm.Cond.lays "StrictProofs$Text" "StrictProofs$Text" "sort" "I") ∈ lw_all := lw_g (lw_at lw_m1 77 rfl) rfl
theorem q158 : (Jvm.Cond.soleField "StrictProofs$Text" "sort") ∈ lw_all := lw_g (lw_at lw_m1 78 rfl) rfl
theorem q159 : (Jvm.Cond.lays "StrictProofs$Text" "StrictProofs$Text" "value" "I") ∈ lw_all := lw_g (lw_at lw_m1 79 rfl) rfl
theorem q160 : (Jvm.Cond.soleField "StrictProofs$Text" "value") ∈ lw_all := lw_g (lw_at lw_m1 80 rfl) rfl
theorem q161 : (Jvm.Cond.lays "StrictProofs$Text" "StrictProofs$Text" "at" "I") ∈ lw_all := lw_g (lw_at lw_m1 81 rfl) rfl
theorem q162 : (Jvm.Cond.soleField "StrictProofs$Text" "at") ∈ lw_all := lw_g (lw_at lw_m1 82 rfl) rfl
theorem q163 : (Jvm.Cond.lays "StrictProofs$Text" "StrictProofs$Text" "place" "I") ∈ lw_all := lw_g (lw_at lw_m1 83 rfl) rfl
theorem q164 : (Jvm.Cond.soleField "StrictProofs$Text" "place") ∈ lw_all := lw_g (lw_at lw_m1 84 rfl) rfl
theorem q165 : (Jvm.Cond.lays "StrictProofs$Text" "StrictProofs$Text" "fault" "I") ∈ lw_all := lw_g (lw_at lw_m1 85 rfl) rfl
theorem q166 : (Jvm.Cond.soleField "StrictProofs$Text" "fault") ∈ lw_all := lw_g (lw_at lw_m1 86 rfl) rfl
theorem q167 : (Jvm.Cond.lays "StrictProofs$Text" "StrictProofs$Text" "faultPlace" "I") ∈ lw_all := lw_g (lw_at lw_m1 87 rfl) rfl
theorem q168 : (Jvm.Cond.soleField "StrictProofs$Text" "faultPlace") ∈ lw_all := lw_g (lw_at lw_m1 88 rfl) rfl
theorem q169 : (Jvm.Cond.superclass "StrictProofs$Text" "java/lang/Object") ∈ lw_all := lw_g (lw_at lw_m1 89 rfl) rfl
theorem q432 : (Jvm.Cond.instanceMethod ({ cls := "StrictProofs$Text", name := "begin", desc := "()V" } : Jvm.MethodName)) ∈ lw_all := lw_g (lw_at lw_m2 112 rfl) rfl
theorem q433 : (Jvm.Cond.selects "StrictProofs$Text" ({ cls := "StrictProofs$Text", name := "begin", desc := "()V" } : Jvm.MethodName) ({ cls := "StrictProofs$Text", name := "begin", desc := "()V" } : Jvm.MethodName)) ∈ lw_all := lw_g (lw_at lw_m2 113 rfl) rfl
theorem q434 : (Jvm.Cond.code ({ cls := "StrictProofs$Text", name := "begin", desc := "()V" } : Jvm.MethodName) prog_18_method_6_code (1 : Nat) (Option.none : Option Jvm.ClassFile.FieldType)) ∈ lw_all := lw_g (lw_at lw_m2 114 rfl) rfl
theorem q435 : (Jvm.Cond.methodLink "StrictProofs$Text" (45 : Nat) ({ cls := "StrictProofs$Text", name := "next", desc := "()V" } : Jvm.MethodName)) ∈ lw_all := lw_g (lw_at lw_m2 115 rfl) rfl
theorem q436 : (Jvm.Cond.instanceMethod ({ cls := "StrictProofs$Text", name := "next", desc := "()V" } : Jvm.MethodName)) ∈ lw_all := lw_g (lw_at lw_m2 116 rfl) rfl
theorem q437 : (Jvm.Cond.selects "StrictProofs$Text" ({ cls := "StrictProofs$Text", name := "next", desc := "()V" } : Jvm.MethodName) ({ cls := "StrictProofs$Text", name := "next", desc := "()V" } : Jvm.MethodName)) ∈ lw_all := lw_g (lw_at lw_m2 117 rfl) rfl
theorem q438 : (Jvm.Cond.code ({ cls := "StrictProofs$Text", name := "next", desc := "()V" } : Jvm.MethodName) prog_18_method_7_code (2 : Nat) (Option.none : Option Jvm.ClassFile.FieldType)) ∈ lw_all := lw_g (lw_at lw_m2 118 rfl) rfl
theorem q439 : (Jvm.Cond.methodLink "StrictProofs$Text" (48 : Nat) ({ cls := "StrictProofs$Text", name := "byteAt", desc := "(I)I" } : Jvm.MethodName)) ∈ lw_all := lw_g (lw_at lw_m2 119 rfl) rfl
theorem q440 : (Jvm.Cond.privateMethod ({ cls := "StrictProofs$Text", name := "byteAt", desc := "(I)I" } : Jvm.MethodName)) ∈ lw_tbl := lw_at lw_m2 120 rfl
theorem q441 : (Jvm.Cond.instanceMethod ({ cls := "StrictProofs$Text", name := "byteAt", desc := "(I)I" } : Jvm.MethodName)) ∈ lw_all := lw_g (lw_at lw_m2 121 rfl) rfl
theorem q442 : (Jvm.Cond.code ({ cls := "StrictProofs$Text", name := "byteAt", desc := "(I)I" } : Jvm.MethodName) prog_18_method_5_code (2 : Nat) (Option.some Jvm.ClassFile.FieldType.int)) ∈ lw_all := lw_g (lw_at lw_m2 122 rfl) rfl
theorem q443 : (Jvm.Cond.methodLink "StrictProofs$Text" (58 : Nat) ({ cls := "StrictProofs$Text", name := "isLetter", desc := "(I)Z" } : Jvm.MethodName)) ∈ lw_all := lw_g (lw_at lw_m2 123 rfl) rfl
theorem q444 : (Jvm.Cond.static ({ cls := "StrictProofs$Text", name := "isLetter", desc := "(I)Z" } : Jvm.MethodName)) ∈ lw_all := lw_g (lw_at lw_m2 124 rfl) rfl
theorem q445 : (Jvm.Cond.code ({ cls := "StrictProofs$Text", name := "isLetter", desc := "(I)Z" } : Jvm.MethodName) prog_18_method_3_code (1 : Nat) (Option.some Jvm.ClassFile.FieldType.boolean)) ∈ lw_all := lw_g (lw_at lw_m2 125 rfl) rfl
theorem q446 : (Jvm.Cond.methodLink "StrictProofs$Text" (62 : Nat) ({ cls := "StrictProofs$Text", name := "isDigit", desc := "(I)Z" } : Jvm.MethodName)) ∈ lw_all := lw_g (lw_at lw_m2 126 rfl) rfl
theorem q447 : (Jvm.Cond.static ({ cls := "StrictProofs$Text", name := "isDigit", desc := "(I)Z" } : Jvm.MethodName)) ∈ lw_all := lw_g (lw_at lw_m2 127 rfl) rfl
theorem q448 : (Jvm.Cond.code ({ cls := "StrictProofs$Text", name := "isDigit", desc := "(I)Z" } : Jvm.MethodName) prog_18_method_4_code (1 : Nat) (Option.some Jvm.ClassFile.FieldType.boolean)) ∈ lw_all := lw_g (lw_at lw_m2 128 rfl) rfl
theorem q449 : (Jvm.Cond.methodLink "StrictProofs$Text" (65 : Nat) ({ cls := "StrictProofs$Text", name := "word", desc := "()V" } : Jvm.MethodName)) ∈ lw_all := lw_g (lw_at lw_m2 129 rfl) rfl
theorem q450 : (Jvm.Cond.privateMethod ({ cls := "StrictProofs$Text", name := "word", desc := "()V" } : Jvm.MethodName)) ∈ lw_tbl := lw_at lw_m2 130 rfl
theorem q451 : (Jvm.Cond.instanceMethod ({ cls := "StrictProofs$Text", name := "word", desc := "()V" } : Jvm.MethodName)) ∈ lw_all := lw_g (lw_at lw_m2 131 rfl) rfl
theorem q452 : (Jvm.Cond.code ({ cls := "StrictProofs$Text", name := "word", desc := "()V" } : Jvm.MethodName) prog_18_method_8_code (4 : Nat) (Option.none : Option Jvm.ClassFile.FieldType)) ∈ lw_all := lw_g (lw_at lw_m2 132 rfl) rfl
theorem q453 : (Jvm.Cond.methodLink "StrictProofs$Text" (78 : Nat) ({ cls := "StrictProofs$Text", name := "wordOf", desc := "(I)I" } : Jvm.MethodName)) ∈ lw_all := lw_g (lw_at lw_m2 133 rfl) rfl
theorem q454 : (Jvm.Cond.privateMethod ({ cls := "StrictProofs$Text", name := "wordOf", desc := "(I)I" } : Jvm.MethodName)) ∈ lw_tbl := lw_at lw_m2 134 rfl
theorem q455 : (Jvm.Cond.instanceMethod ({ cls := "StrictProofs$Text", name := "wordOf", desc := "(I)I" } : Jvm.MethodName)) ∈ lw_all := lw_g (lw_at lw_m2 135 rfl) rfl
theorem q456 : (Jvm.Cond.code ({ cls := "StrictProofs$Text", name := "wordOf", desc := "(I)I" } : Jvm.MethodName) prog_18_method_9_code (7 : Nat) (Option.some Jvm.ClassFile.FieldType.int)) ∈ lw_all := lw_g (lw_at lw_m2 136 rfl) rfl
theorem q457 : (Jvm.Cond.stringRef "StrictProofs$Text" (81 : Nat) "num if then else let in case of fail ") ∈ lw_tbl := lw_at lw_m2 137 rfl
theorem q458 : (Jvm.Cond.methodLink "StrictProofs$Text" (83 : Nat) ({ cls := "java/lang/String", name := "length", desc := "()I" } : Jvm.MethodName)) ∈ lw_all := lw_g (lw_at lw_m2 138 rfl) rfl
theorem q468 : (Jvm.Cond.methodLink "StrictProofs$Text" (87 : Nat) ({ cls := "java/lang/String", name := "charAt", desc := "(I)C" } : Jvm.MethodName)) ∈ lw_all := lw_g (lw_at lw_m2 148 rfl) rfl
theorem q506 : (Jvm.Cond.stringRef "StrictProofs$Text" (68 : Nat) "(),;:=+-*<") ∈ lw_tbl := lw_at lw_m2 186 rfl
theorem q507 : (Jvm.Cond.methodLink "StrictProofs$Text" (70 : Nat) ({ cls := "java/lang/String", name := "indexOf", desc := "(I)I" } : Jvm.MethodName)) ∈ lw_all := lw_g (lw_at lw_m2 187 rfl) rfl
theorem q571 : (Jvm.Cond.instanceMethod ({ cls := "StrictProofs$Text", name := "stands", desc := "(Z)V" } : Jvm.MethodName)) ∈ lw_all := lw_g (lw_at lw_m3 11 rfl) rfl
theorem q572 : (Jvm.Cond.selects "StrictProofs$Text" ({ cls := "StrictProofs$Text", name := "stands", desc := "(Z)V" } : Jvm.MethodName) ({ cls := "StrictProofs$Text", name := "stands", desc := "(Z)V" } : Jvm.MethodName)) ∈ lw_all := lw_g (lw_at lw_m3 12 rfl) rfl
theorem q573 : (Jvm.Cond.code ({ cls := "StrictProofs$Text", name := "stands", desc := "(Z)V" } : Jvm.MethodName) prog_18_method_13_code (2 : Nat) (Option.none : Option Jvm.ClassFile.FieldType)) ∈ lw_all := lw_g (lw_at lw_m3 13 rfl) rfl
theorem q574 : (Jvm.Cond.methodLink "StrictProofs$Text" (91 : Nat) ({ cls := "StrictProofs$Text", name := "want", desc := "(ZII)V" } : Jvm.MethodName)) ∈ lw_all := lw_g (lw_at lw_m3 14 rfl) rfl
theorem q575 : (Jvm.Cond.instanceMethod ({ cls := "StrictProofs$Text", name := "want", desc := "(ZII)V" } : Jvm.MethodName)) ∈ lw_all := lw_g (lw_at lw_m3 15 rfl) rfl
theorem q576 : (Jvm.Cond.selects "StrictProofs$Text" ({ cls := "StrictProofs$Text", name := "want", desc := "(ZII)V" } : Jvm.MethodName) ({ cls := "StrictProofs$Text", name := "want", desc := "(ZII)V" } : Jvm.MethodName)) ∈ lw_all := lw_g (lw_at lw_m3 16 rfl) rfl
theorem q577 : (Jvm.Cond.code ({ cls := "StrictProofs$Text", name := "want", desc := "(ZII)V" } : Jvm.MethodName) prog_18_method_2_code (4 : Nat) (Option.none : Option Jvm.ClassFile.FieldType)) ∈ lw_all := lw_g (lw_at lw_m3 17 rfl) rfl
theorem q578 : (Jvm.Cond.classLink "StrictProofs$Text" (29 : Nat) "java/lang/IllegalStateException") ∈ lw_all := lw_g (lw_at lw_m3 18 rfl) rfl
theorem q620 : (Jvm.Cond.stringRef "StrictProofs$Text" (31 : Nat) "a fault") ∈ lw_tbl := lw_at lw_m3 60 rfl
theorem q621 : (Jvm.Cond.methodLink "StrictProofs$Text" (33 : Nat) ({ cls := "java/lang/IllegalStateException", name := "<init>", desc := "(Ljava/lang/String;)V" } : Jvm.MethodName)) ∈ lw_all := lw_g (lw_at lw_m3 61 rfl) rfl
theorem q647 : (Jvm.Cond.instanceMethod ({ cls := "StrictProofs$Text", name := "token", desc := "()I" } : Jvm.MethodName)) ∈ lw_all := lw_g (lw_at lw_m3 87 rfl) rfl
theorem q648 : (Jvm.Cond.selects "StrictProofs$Text" ({ cls := "StrictProofs$Text", name := "token", desc := "()I" } : Jvm.MethodName) ({ cls := "StrictProofs$Text", name := "token", desc := "()I" } : Jvm.MethodName)) ∈ lw_all := lw_g (lw_at lw_m3 88 rfl) rfl
theorem q649 : (Jvm.Cond.code ({ cls := "StrictProofs$Text", name := "token", desc := "()I" } : Jvm.MethodName) prog_18_method_10_code (1 : Nat) (Option.some Jvm.ClassFile.FieldType.int)) ∈ lw_all := lw_g (lw_at lw_m3 89 rfl) rfl
theorem q651 : (Jvm.Cond.instanceMethod ({ cls := "StrictProofs$Text", name := "same", desc := "(II)Z" } : Jvm.MethodName)) ∈ lw_all := lw_g (lw_at lw_m3 91 rfl) rfl
theorem q652 : (Jvm.Cond.selects "StrictProofs$Text" ({ cls := "StrictProofs$Text", name := "same", desc := "(II)Z" } : Jvm.MethodName) ({ cls := "StrictProofs$Text", name := "same", desc := "(II)Z" } : Jvm.MethodName)) ∈ lw_all := lw_g (lw_at lw_m3 92 rfl) rfl
theorem q653 : (Jvm.Cond.code ({ cls := "StrictProofs$Text", name := "same", desc := "(II)Z" } : Jvm.MethodName) prog_18_method_17_code (5 : Nat) (Option.some Jvm.ClassFile.FieldType.boolean)) ∈ lw_all := lw_g (lw_at lw_m3 93 rfl) rfl
theorem q724 : (Jvm.Cond.instanceMethod ({ cls := "StrictProofs$Text", name := "room", desc := "()V" } : Jvm.MethodName)) ∈ lw_all := lw_g (lw_at lw_m3 164 rfl) rfl
theorem q725 : (Jvm.Cond.selects "StrictProofs$Text" ({ cls := "StrictProofs$Text", name := "room", desc := "()V" } : Jvm.MethodName) ({ cls := "StrictProofs$Text", name := "room", desc := "()V" } : Jvm.MethodName)) ∈ lw_all := lw_g (lw_at lw_m3 165 rfl) rfl
theorem q726 : (Jvm.Cond.code ({ cls := "StrictProofs$Text", name := "room", desc := "()V" } : Jvm.MethodName) prog_18_method_14_code (1 : Nat) (Option.none : Option Jvm.ClassFile.FieldType)) ∈ lw_all := lw_g (lw_at lw_m3 166 rfl) rfl
theorem q729 : (Jvm.Cond.instanceMethod ({ cls := "StrictProofs$Text", name := "sign", desc := "(I)V" } : Jvm.MethodName)) ∈ lw_all := lw_g (lw_at lw_m3 169 rfl) rfl
theorem q730 : (Jvm.Cond.selects "StrictProofs$Text" ({ cls := "StrictProofs$Text", name := "sign", desc := "(I)V" } : Jvm.MethodName) ({ cls := "StrictProofs$Text", name := "sign", desc := "(I)V" } : Jvm.MethodName)) ∈ lw_all := lw_g (lw_at lw_m3 170 rfl) rfl
theorem q731 : (Jvm.Cond.code ({ cls := "StrictProofs$Text", name := "sign", desc := "(I)V" } : Jvm.MethodName) prog_18_method_15_code (2 : Nat) (Option.none : Option Jvm.ClassFile.FieldType)) ∈ lw_all := lw_g (lw_at lw_m3 171 rfl) rfl
theorem q732 : (Jvm.Cond.methodLink "StrictProofs$Text" (95 : Nat) ({ cls := "StrictProofs$Text", name := "isSign", desc := "(I)Z" } : Jvm.MethodName)) ∈ lw_all := lw_g (lw_at lw_m3 172 rfl) rfl
theorem q733 : (Jvm.Cond.instanceMethod ({ cls := "StrictProofs$Text", name := "isSign", desc := "(I)Z" } : Jvm.MethodName)) ∈ lw_all := lw_g (lw_at lw_m3 173 rfl) rfl
theorem q734 : (Jvm.Cond.selects "StrictProofs$Text" ({ cls := "StrictProofs$Text", name := "isSign", desc := "(I)Z" } : Jvm.MethodName) ({ cls := "StrictProofs$Text", name := "isSign", desc := "(I)Z" } : Jvm.MethodName)) ∈ lw_all := lw_g (lw_at lw_m3 174 rfl) rfl
theorem q735 : (Jvm.Cond.code ({ cls := "StrictProofs$Text", name := "isSign", desc := "(I)Z" } : Jvm.MethodName) prog_18_method_11_code (2 : Nat) (Option.some Jvm.ClassFile.FieldType.boolean)) ∈ lw_all := lw_g (lw_at lw_m3 175 rfl) rfl
theorem q736 : (Jvm.Cond.methodLink "StrictProofs$Text" (98 : Nat) ({ cls := "StrictProofs$Text", name := "stands", desc := "(Z)V" } : Jvm.MethodName)) ∈ lw_all := lw_g (lw_at lw_m3 176 rfl) rfl
theorem q737 : (Jvm.Cond.methodLink "StrictProofs$Text" (102 : Nat) ({ cls := "StrictProofs$Text", name := "room", desc := "()V" } : Jvm.MethodName)) ∈ lw_all := lw_g (lw_at lw_m3 177 rfl) rfl
theorem q752 : (Jvm.Cond.instanceMethod ({ cls := "StrictProofs$Text", name := "isWord", desc := "(I)Z" } : Jvm.MethodName)) ∈ lw_all := lw_g (lw_at lw_m3 192 rfl) rfl
theorem q753 : (Jvm.Cond.selects "StrictProofs$Text" ({ cls := "StrictProofs$Text", name := "isWord", desc := "(I)Z" } : Jvm.MethodName) ({ cls := "StrictProofs$Text", name := "isWord", desc := "(I)Z" } : Jvm.MethodName)) ∈ lw_all := lw_g (lw_at lw_m3 193 rfl) rfl
theorem q754 : (Jvm.Cond.code ({ cls := "StrictProofs$Text", name := "isWord", desc := "(I)Z" } : Jvm.MethodName) prog_18_method_12_code (2 : Nat) (Option.some Jvm.ClassFile.FieldType.boolean)) ∈ lw_all := lw_g (lw_at lw_m3 194 rfl) rfl
theorem q756 : (Jvm.Cond.instanceMethod ({ cls := "StrictProofs$Text", name := "word", desc := "(I)V" } : Jvm.MethodName)) ∈ lw_all := lw_g (lw_at lw_m3 196 rfl) rfl
theorem q757 : (Jvm.Cond.selects "StrictProofs$Text" ({ cls := "StrictProofs$Text", name := "word", desc := "(I)V" } : Jvm.MethodName) ({ cls := "StrictProofs$Text", name := "word", desc := "(I)V" } : Jvm.MethodName)) ∈ lw_all := lw_g (lw_at lw_m3 197 rfl) rfl
theorem q758 : (Jvm.Cond.code ({ cls := "StrictProofs$Text", name := "word", desc := "(I)V" } : Jvm.MethodName) prog_18_method_16_code (2 : Nat) (Option.none : Option Jvm.ClassFile.FieldType)) ∈ lw_all := lw_g (lw_at lw_m3 198 rfl) rfl
theorem q759 : (Jvm.Cond.methodLink "StrictProofs$Text" (105 : Nat) ({ cls := "StrictProofs$Text", name := "isWord", desc := "(I)Z" } : Jvm.MethodName)) ∈ lw_all := lw_g (lw_at lw_m3 199 rfl) rfl
theorem q83 : (Jvm.Cond.initialized "StrictProofs$Parser") ∈ lw_all := lw_g (lw_at lw_m1 3 rfl) rfl
theorem q136 : (Jvm.Cond.fieldLinkNest "StrictProofs$Parser" (33 : Nat) "StrictProofs$Text" "sort" "I" "StrictProofs") ∈ lw_tbl := lw_at lw_m1 56 rfl
theorem q139 : (Jvm.Cond.fieldLinkNest "StrictProofs$Parser" (157 : Nat) "StrictProofs$Text" "value" "I" "StrictProofs") ∈ lw_tbl := lw_at lw_m1 59 rfl
theorem q141 : (Jvm.Cond.fieldLinkNest "StrictProofs$Parser" (56 : Nat) "StrictProofs$Text" "place" "I" "StrictProofs") ∈ lw_tbl := lw_at lw_m1 61 rfl
theorem q173 : (Jvm.Cond.instantiable "StrictProofs$Parser" (5 : Nat)) ∈ lw_all := lw_g (lw_at lw_m1 93 rfl) rfl
theorem q175 : (Jvm.Cond.instanceMethod ({ cls := "StrictProofs$Parser", name := "<init>", desc := "(LStrictProofs$Text;)V" } : Jvm.MethodName)) ∈ lw_all := lw_g (lw_at lw_m1 95 rfl) rfl
theorem q176 : (Jvm.Cond.code ({ cls := "StrictProofs$Parser", name := "<init>", desc := "(LStrictProofs$Text;)V" } : Jvm.MethodName) prog_15_method_1_code (2 : Nat) (Option.none : Option Jvm.ClassFile.FieldType)) ∈ lw_all := lw_g (lw_at lw_m1 96 rfl) rfl
theorem q177 : (Jvm.Cond.methodLink "StrictProofs$Parser" (3 : Nat) ({ cls := "java/lang/Object", name := "<init>", desc := "()V" } : Jvm.MethodName)) ∈ lw_all := lw_g (lw_at lw_m1 97 rfl) rfl
theorem q178 : (Jvm.Cond.classLink "StrictProofs$Parser" (9 : Nat) "StrictProofs$Function") ∈ lw_all := lw_g (lw_at lw_m1 98 rfl) rfl
theorem q180 : (Jvm.Cond.fieldLink "StrictProofs$Parser" (17 : Nat) "StrictProofs$Parser" "t" "LStrictProofs$Text;") ∈ lw_all := lw_g (lw_at lw_m1 100 rfl) rfl
theorem q181 : (Jvm.Cond.fieldLink "StrictProofs$Parser" (11 : Nat) "StrictProofs$Parser" "functions" "[LStrictProofs$Function;") ∈ lw_all := lw_g (lw_at lw_m1 101 rfl) rfl
theorem q183 : (Jvm.Cond.fieldLink "StrictProofs$Parser" (21 : Nat) "StrictProofs$Parser" "many" "I") ∈ lw_all := lw_g (lw_at lw_m1 103 rfl) rfl
theorem q185 : (Jvm.Cond.fieldLink "StrictProofs$Parser" (64 : Nat) "StrictProofs$Parser" "now" "LStrictProofs$Function;") ∈ lw_all := lw_g (lw_at lw_m1 105 rfl) rfl
theorem q186 : (Jvm.Cond.fieldLink "StrictProofs$Parser" (88 : Nat) "StrictProofs$Parser" "within" "I") ∈ lw_all := lw_g (lw_at lw_m1 106 rfl) rfl
theorem q187 : (Jvm.Cond.laysFinal "StrictProofs$Parser" "StrictProofs$Parser" "t" "LStrictProofs$Text;") ∈ lw_all := lw_g (lw_at lw_m1 107 rfl) rfl
theorem q188 : (Jvm.Cond.soleField "StrictProofs$Parser" "t") ∈ lw_all := lw_g (lw_at lw_m1 108 rfl) rfl
theorem q189 : (Jvm.Cond.laysFinal "StrictProofs$Parser" "StrictProofs$Parser" "functions" "[LStrictProofs$Function;") ∈ lw_all := lw_g (lw_at lw_m1 109 rfl) rfl
theorem q190 : (Jvm.Cond.soleField "StrictProofs$Parser" "functions") ∈ lw_all := lw_g (lw_at lw_m1 110 rfl) rfl
theorem q191 : (Jvm.Cond.lays "StrictProofs$Parser" "StrictProofs$Parser" "many" "I") ∈ lw_all := lw_g (lw_at lw_m1 111 rfl) rfl
theorem q192 : (Jvm.Cond.soleField "StrictProofs$Parser" "many") ∈ lw_all := lw_g (lw_at lw_m1 112 rfl) rfl
theorem q193 : (Jvm.Cond.lays "StrictProofs$Parser" "StrictProofs$Parser" "now" "LStrictProofs$Function;") ∈ lw_all := lw_g (lw_at lw_m1 113 rfl) rfl
theorem q194 : (Jvm.Cond.soleField "StrictProofs$Parser" "now") ∈ lw_all := lw_g (lw_at lw_m1 114 rfl) rfl
theorem q195 : (Jvm.Cond.lays "StrictProofs$Parser" "StrictProofs$Parser" "within" "I") ∈ lw_all := lw_g (lw_at lw_m1 115 rfl) rfl
theorem q196 : (Jvm.Cond.soleField "StrictProofs$Parser" "within") ∈ lw_all := lw_g (lw_at lw_m1 116 rfl) rfl
theorem q197 : (Jvm.Cond.superclass "StrictProofs$Parser" "java/lang/Object") ∈ lw_all := lw_g (lw_at lw_m1 117 rfl) rfl
theorem q428 : (Jvm.Cond.instanceMethod ({ cls := "StrictProofs$Parser", name := "program", desc := "()V" } : Jvm.MethodName)) ∈ lw_all := lw_g (lw_at lw_m2 108 rfl) rfl
theorem q429 : (Jvm.Cond.selects "StrictProofs$Parser" ({ cls := "StrictProofs$Parser", name := "program", desc := "()V" } : Jvm.MethodName) ({ cls := "StrictProofs$Parser", name := "program", desc := "()V" } : Jvm.MethodName)) ∈ lw_all := lw_g (lw_at lw_m2 109 rfl) rfl
theorem q430 : (Jvm.Cond.code ({ cls := "StrictProofs$Parser", name := "program", desc := "()V" } : Jvm.MethodName) prog_15_method_2_code (1 : Nat) (Option.none : Option Jvm.ClassFile.FieldType)) ∈ lw_all := lw_g (lw_at lw_m2 110 rfl) rfl
theorem q431 : (Jvm.Cond.methodLink "StrictProofs$Parser" (25 : Nat) ({ cls := "StrictProofs$Text", name := "begin", desc := "()V" } : Jvm.MethodName)) ∈ lw_all := lw_g (lw_at lw_m2 111 rfl) rfl
theorem q566 : (Jvm.Cond.methodLink "StrictProofs$Parser" (30 : Nat) ({ cls := "StrictProofs$Parser", name := "function", desc := "()V" } : Jvm.MethodName)) ∈ lw_all := lw_g (lw_at lw_m3 6 rfl) rfl
theorem q567 : (Jvm.Cond.privateMethod ({ cls := "StrictProofs$Parser", name := "function", desc := "()V" } : Jvm.MethodName)) ∈ lw_tbl := lw_at lw_m3 7 rfl
theorem q568 : (Jvm.Cond.instanceMethod ({ cls := "StrictProofs$Parser", name := "function", desc := "()V" } : Jvm.MethodName)) ∈ lw_all := lw_g (lw_at lw_m3 8 rfl) rfl
theorem q569 : (Jvm.Cond.code ({ cls := "StrictProofs$Parser", name := "function", desc := "()V" } : Jvm.MethodName) prog_15_method_4_code (2 : Nat) (Option.none : Option Jvm.ClassFile.FieldType)) ∈ lw_all := lw_g (lw_at lw_m3 9 rfl) rfl
theorem q570 : (Jvm.Cond.methodLink "StrictProofs$Parser" (46 : Nat) ({ cls := "StrictProofs$Text", name := "stands", desc := "(Z)V" } : Jvm.MethodName)) ∈ lw_all := lw_g (lw_at lw_m3 10 rfl) rfl
theorem q646 : (Jvm.Cond.methodLink "StrictProofs$Parser" (36 : Nat) ({ cls := "StrictProofs$Text", name := "token", desc := "()I" } : Jvm.MethodName)) ∈ lw_all := lw_g (lw_at lw_m3 86 rfl) rfl
theorem q650 : (Jvm.Cond.methodLink "StrictProofs$Parser" (52 : Nat) ({ cls := "StrictProofs$Text", name := "same", desc := "(II)Z" } : Jvm.MethodName)) ∈ lw_all := lw_g (lw_at lw_m3 90 rfl) rfl
theorem q654 : (Jvm.Cond.methodLink "StrictProofs$Parser" (59 : Nat) ({ cls := "StrictProofs$Text", name := "want", desc := "(ZII)V" } : Jvm.MethodName)) ∈ lw_all := lw_g (lw_at lw_m3 94 rfl) rfl
theorem q656 : (Jvm.Cond.methodLinkNest "StrictProofs$Parser" (63 : Nat) ({ cls := "StrictProofs$Function", name := "<init>", desc := "()V" } : Jvm.MethodName) "StrictProofs") ∈ lw_tbl := lw_at lw_m3 96 rfl
theorem q660 : (Jvm.Cond.fieldLinkNest "StrictProofs$Parser" (50 : Nat) "StrictProofs$Function" "token" "I" "StrictProofs") ∈ lw_tbl := lw_at lw_m3 100 rfl
theorem q665 : (Jvm.Cond.fieldLinkNest "StrictProofs$Parser" (106 : Nat) "StrictProofs$Function" "params" "I" "StrictProofs") ∈ lw_tbl := lw_at lw_m3 105 rfl
theorem q669 : (Jvm.Cond.fieldLinkNest "StrictProofs$Parser" (99 : Nat) "StrictProofs$Function" "names" "I" "StrictProofs") ∈ lw_tbl := lw_at lw_m3 109 rfl
theorem q673 : (Jvm.Cond.fieldLinkNest "StrictProofs$Parser" (86 : Nat) "StrictProofs$Function" "type" "I" "StrictProofs") ∈ lw_tbl := lw_at lw_m3 113 rfl
theorem q677 : (Jvm.Cond.fieldLinkNest "StrictProofs$Parser" (102 : Nat) "StrictProofs$Function" "nameTokens" "[I" "StrictProofs") ∈ lw_tbl := lw_at lw_m3 117 rfl
theorem q686 : (Jvm.Cond.fieldLinkNest "StrictProofs$Parser" (112 : Nat) "StrictProofs$Function" "types" "[I" "StrictProofs") ∈ lw_tbl := lw_at lw_m3 126 rfl
theorem q692 : (Jvm.Cond.fieldLinkNest "StrictProofs$Parser" (95 : Nat) "StrictProofs$Function" "body" "LStrictProofs$Expression;" "StrictProofs") ∈ lw_tbl := lw_at lw_m3 132 rfl
theorem q719 : (Jvm.Cond.methodLink "StrictProofs$Parser" (68 : Nat) ({ cls := "StrictProofs$Parser", name := "name", desc := "()I" } : Jvm.MethodName)) ∈ lw_all := lw_g (lw_at lw_m3 159 rfl) rfl
theorem q720 : (Jvm.Cond.privateMethod ({ cls := "StrictProofs$Parser", name := "name", desc := "()I" } : Jvm.MethodName)) ∈ lw_tbl := lw_at lw_m3 160 rfl
theorem q721 : (Jvm.Cond.instanceMethod ({ cls := "StrictProofs$Parser", name := "name", desc := "()I" } : Jvm.MethodName)) ∈ lw_all := lw_g (lw_at lw_m3 161 rfl) rfl
theorem q722 : (Jvm.Cond.code ({ cls := "StrictProofs$Parser", name := "name", desc := "()I" } : Jvm.MethodName) prog_15_method_3_code (2 : Nat) (Option.some Jvm.ClassFile.FieldType.int)) ∈ lw_all := lw_g (lw_at lw_m3 162 rfl) rfl
theorem q723 : (Jvm.Cond.methodLink "StrictProofs$Parser" (40 : Nat) ({ cls := "StrictProofs$Text", name := "room", desc := "()V" } : Jvm.MethodName)) ∈ lw_all := lw_g (lw_at lw_m3 163 rfl) rfl
theorem q727 : (Jvm.Cond.methodLink "StrictProofs$Parser" (43 : Nat) ({ cls := "StrictProofs$Text", name := "next", desc := "()V" } : Jvm.MethodName)) ∈ lw_all := lw_g (lw_at lw_m3 167 rfl) rfl
theorem q728 : (Jvm.Cond.methodLink "StrictProofs$Parser" (71 : Nat) ({ cls := "StrictProofs$Text", name := "sign", desc := "(I)V" } : Jvm.MethodName)) ∈ lw_all := lw_g (lw_at lw_m3 168 rfl) rfl
theorem q738 : (Jvm.Cond.methodLink "StrictProofs$Parser" (75 : Nat) ({ cls := "StrictProofs$Text", name := "isSign", desc := "(I)Z" } : Jvm.MethodName)) ∈ lw_all := lw_g (lw_at lw_m3 178 rfl) rfl
theorem q739 : (Jvm.Cond.methodLink "StrictProofs$Parser" (79 : Nat) ({ cls := "StrictProofs$Parser", name := "param", desc := "()V" } : Jvm.MethodName)) ∈ lw_all := lw_g (lw_at lw_m3 179 rfl) rfl
theorem q740 : (Jvm.Cond.privateMethod ({ cls := "StrictProofs$Parser", name := "param", desc := "()V" } : Jvm.MethodName)) ∈ lw_tbl := lw_at lw_m3 180 rfl
theorem q741 : (Jvm.Cond.instanceMethod ({ cls := "StrictProofs$Parser", name := "param", desc := "()V" } : Jvm.MethodName)) ∈ lw_all := lw_g (lw_at lw_m3 181 rfl) rfl
theorem q742 : (Jvm.Cond.code ({ cls := "StrictProofs$Parser", name := "param", desc := "()V" } : Jvm.MethodName) prog_15_method_5_code (2 : Nat) (Option.none : Option Jvm.ClassFile.FieldType)) ∈ lw_all := lw_g (lw_at lw_m3 182 rfl) rfl
theorem q743 : (Jvm.Cond.methodLink "StrictProofs$Parser" (109 : Nat) ({ cls := "StrictProofs$Parser", name := "slot", desc := "()I" } : Jvm.MethodName)) ∈ lw_all := lw_g (lw_at lw_m3 183 rfl) rfl
theorem q744 : (Jvm.Cond.privateMethod ({ cls := "StrictProofs$Parser", name := "slot", desc := "()I" } : Jvm.MethodName)) ∈ lw_tbl := lw_at lw_m3 184 rfl
theorem q745 : (Jvm.Cond.instanceMethod ({ cls := "StrictProofs$Parser", name := "slot", desc := "()I" } : Jvm.MethodName)) ∈ lw_all := lw_g (lw_at lw_m3 185 rfl) rfl
theorem q746 : (Jvm.Cond.code ({ cls := "StrictProofs$Parser", name := "slot", desc := "()I" } : Jvm.MethodName) prog_15_method_6_code (1 : Nat) (Option.some Jvm.ClassFile.FieldType.int)) ∈ lw_all := lw_g (lw_at lw_m3 186 rfl) rfl
theorem q747 : (Jvm.Cond.methodLink "StrictProofs$Parser" (82 : Nat) ({ cls := "StrictProofs$Parser", name := "type", desc := "(I)I" } : Jvm.MethodName)) ∈ lw_all := lw_g (lw_at lw_m3 187 rfl) rfl
theorem q748 : (Jvm.Cond.privateMethod ({ cls := "StrictProofs$Parser", name := "type", desc := "(I)I" } : Jvm.MethodName)) ∈ lw_tbl := lw_at lw_m3 188 rfl
theorem q749 : (Jvm.Cond.instanceMethod ({ cls := "StrictProofs$Parser", name := "type", desc := "(I)I" } : Jvm.MethodName)) ∈ lw_all := lw_g (lw_at lw_m3 189 rfl) rfl
theorem q750 : (Jvm.Cond.code ({ cls := "StrictProofs$Parser", name := "type", desc := "(I)I" } : Jvm.MethodName) prog_15_method_7_code (4 : Nat) (Option.some Jvm.ClassFile.FieldType.int)) ∈ lw_all := lw_g (lw_at lw_m3 190 rfl) rfl
theorem q751 : (Jvm.Cond.methodLink "StrictProofs$Parser" (115 : Nat) ({ cls := "StrictProofs$Text", name := "isWord", desc := "(I)Z" } : Jvm.MethodName)) ∈ lw_all := lw_g (lw_at lw_m3 191 rfl) rfl
theorem q755 : (Jvm.Cond.methodLink "StrictProofs$Parser" (118 : Nat) ({ cls := "StrictProofs$Text", name := "word", desc := "(I)V" } : Jvm.MethodName)) ∈ lw_all := lw_g (lw_at lw_m3 195 rfl) rfl
theorem q760 : (Jvm.Cond.methodLinkNest "StrictProofs$Parser" (121 : Nat) ({ cls := "StrictProofs", name := "pairOf", desc := "(II)I" } : Jvm.MethodName) "StrictProofs") ∈ lw_tbl := lw_at lw_m3 200 rfl
theorem q763 : (Jvm.Cond.methodLink "StrictProofs$Parser" (91 : Nat) ({ cls := "StrictProofs$Parser", name := "expression", desc := "()LStrictProofs$Expression;" } : Jvm.MethodName)) ∈ lw_all := lw_g (lw_at lw_m3 203 rfl) rfl
theorem q764 : (Jvm.Cond.privateMethod ({ cls := "StrictProofs$Parser", name := "expression", desc := "()LStrictProofs$Expression;" } : Jvm.MethodName)) ∈ lw_tbl := lw_at lw_m3 204 rfl
theorem q765 : (Jvm.Cond.instanceMethod ({ cls := "StrictProofs$Parser", name := "expression", desc := "()LStrictProofs$Expression;" } : Jvm.MethodName)) ∈ lw_all := lw_g (lw_at lw_m3 205 rfl) rfl
theorem q766 : (Jvm.Cond.code ({ cls := "StrictProofs$Parser", name := "expression", desc := "()LStrictProofs$Expression;" } : Jvm.MethodName) prog_15_method_9_code (2 : Nat) (Option.some (Jvm.ClassFile.FieldType.object "StrictProofs$Expression"))) ∈ lw_all := lw_g (lw_at lw_m3 206 rfl) rfl
theorem q767 : (Jvm.Cond.methodLink "StrictProofs$Parser" (125 : Nat) ({ cls := "StrictProofs$Parser", name := "begins", desc := "()Z" } : Jvm.MethodName)) ∈ lw_all := lw_g (lw_at lw_m3 207 rfl) rfl
theorem q768 : (Jvm.Cond.privateMethod ({ cls := "StrictProofs$Parser", name := "begins", desc := "()Z" } : Jvm.MethodName)) ∈ lw_tbl := lw_at lw_m3 208 rfl
theorem q769 : (Jvm.Cond.instanceMethod ({ cls := "StrictProofs$Parser", name := "begins", desc := "()Z" } : Jvm.MethodName)) ∈ lw_all := lw_g (lw_at lw_m3 209 rfl) rfl
theorem q770 : (Jvm.Cond.code ({ cls := "StrictProofs$Parser", name := "begins", desc := "()Z" } : Jvm.MethodName) prog_15_method_8_code (1 : Nat) (Option.some Jvm.ClassFile.FieldType.boolean)) ∈ lw_all := lw_g (lw_at lw_m3 210 rfl) rfl
theorem q771 : (Jvm.Cond.methodLink "StrictProofs$Parser" (129 : Nat) ({ cls := "StrictProofs$Parser", name := "let", desc := "()LStrictProofs$Expression;" } : Jvm.MethodName)) ∈ lw_all := lw_g (lw_at lw_m3 211 rfl) rfl
theorem q772 : (Jvm.Cond.privateMethod ({ cls := "StrictProofs$Parser", name := "let", desc := "()LStrictProofs$Expression;" } : Jvm.MethodName)) ∈ lw_tbl := lw_at lw_m3 212 rfl
theorem q773 : (Jvm.Cond.instanceMethod ({ cls := "StrictProofs$Parser", name := "let", desc := "()LStrictProofs$Expression;" } : Jvm.MethodName)) ∈ lw_all := lw_g (lw_at lw_m3 213 rfl) rfl
theorem q774 : (Jvm.Cond.code ({ cls := "StrictProofs$Parser", name := "let", desc := "()LStrictProofs$Expression;" } : Jvm.MethodName) prog_15_method_10_code (4 : Nat) (Option.some (Jvm.ClassFile.FieldType.object "StrictProofs$Expression"))) ∈ lw_all := lw_g (lw_at lw_m3 214 rfl) rfl
theorem q775 : (Jvm.Cond.classLink "StrictProofs$Parser" (141 : Nat) "StrictProofs$Let") ∈ lw_all := lw_g (lw_at lw_m3 215 rfl) rfl
theorem q777 : (Jvm.Cond.methodLink "StrictProofs$Parser" (143 : Nat) ({ cls := "StrictProofs$Let", name := "<init>", desc := "(IILStrictProofs$Expression;LStrictProofs$Expression;)V" } : Jvm.MethodName)) ∈ lw_all := lw_g (lw_at lw_m3 217 rfl) rfl
theorem q811 : (Jvm.Cond.methodLink "StrictProofs$Parser" (132 : Nat) ({ cls := "StrictProofs$Parser", name := "ofCase", desc := "()LStrictProofs$Expression;" } : Jvm.MethodName)) ∈ lw_all := lw_g (lw_at lw_m4 11 rfl) rfl
theorem q812 : (Jvm.Cond.privateMethod ({ cls := "StrictProofs$Parser", name := "ofCase", desc := "()LStrictProofs$Expression;" } : Jvm.MethodName)) ∈ lw_tbl := lw_at lw_m4 12 rfl
theorem q813 : (Jvm.Cond.instanceMethod ({ cls := "StrictProofs$Parser", name := "ofCase", desc := "()LStrictProofs$Expression;" } : Jvm.MethodName)) ∈ lw_all := lw_g (lw_at lw_m4 13 rfl) rfl
theorem q814 : (Jvm.Cond.code ({ cls := "StrictProofs$Parser", name := "ofCase", desc := "()LStrictProofs$Expression;" } : Jvm.MethodName) prog_15_method_11_code (5 : Nat) (Option.some (Jvm.ClassFile.FieldType.object "StrictProofs$Expression"))) ∈ lw_all := lw_g (lw_at lw_m4 14 rfl) rfl
theorem q815 : (Jvm.Cond.classLink "StrictProofs$Parser" (146 : Nat) "StrictProofs$Case") ∈ lw_all := lw_g (lw_at lw_m4 15 rfl) rfl
theorem q817 : (Jvm.Cond.methodLink "StrictProofs$Parser" (148 : Nat) ({ cls := "StrictProofs$Case", name := "<init>", desc := "(IILStrictProofs$Expression;LStrictProofs$Expression;)V" } : Jvm.MethodName)) ∈ lw_all := lw_g (lw_at lw_m4 17 rfl) rfl
theorem q833 : (Jvm.Cond.methodLink "StrictProofs$Parser" (135 : Nat) ({ cls := "StrictProofs$Parser", name := "ofIf", desc := "()LStrictProofs$Expression;" } : Jvm.MethodName)) ∈ lw_all := lw_g (lw_at lw_m4 33 rfl) rfl
theorem q834 : (Jvm.Cond.privateMethod ({ cls := "StrictProofs$Parser", name := "ofIf", desc := "()LStrictProofs$Expression;" } : Jvm.MethodName)) ∈ lw_tbl := lw_at lw_m4 34 rfl
theorem q835 : (Jvm.Cond.instanceMethod ({ cls := "StrictProofs$Parser", name := "ofIf", desc := "()LStrictProofs$Expression;" } : Jvm.MethodName)) ∈ lw_all := lw_g (lw_at lw_m4 35 rfl) rfl
theorem q836 : (Jvm.Cond.code ({ cls := "StrictProofs$Parser", name := "ofIf", desc := "()LStrictProofs$Expression;" } : Jvm.MethodName) prog_15_method_12_code (4 : Nat) (Option.some (Jvm.ClassFile.FieldType.object "StrictProofs$Expression"))) ∈ lw_all := lw_g (lw_at lw_m4 36 rfl) rfl
theorem q837 : (Jvm.Cond.classLink "StrictProofs$Parser" (149 : Nat) "StrictProofs$If") ∈ lw_all := lw_g (lw_at lw_m4 37 rfl) rfl
theorem q839 : (Jvm.Cond.methodLink "StrictProofs$Parser" (151 : Nat) ({ cls := "StrictProofs$If", name := "<init>", desc := "(ILStrictProofs$Expression;LStrictProofs$Expression;LStrictProofs$Expression;)V" } : Jvm.MethodName)) ∈ lw_all := lw_g (lw_at lw_m4 39 rfl) rfl
theorem q855 : (Jvm.Cond.methodLink "StrictProofs$Parser" (138 : Nat) ({ cls := "StrictProofs$Parser", name := "compared", desc := "()LStrictProofs$Expression;" } : Jvm.MethodName)) ∈ lw_all := lw_g (lw_at lw_m4 55 rfl) rfl
theorem q856 : (Jvm.Cond.privateMethod ({ cls := "StrictProofs$Parser", name := "compared", desc := "()LStrictProofs$Expression;" } : Jvm.MethodName)) ∈ lw_tbl := lw_at lw_m4 56 rfl
theorem q857 : (Jvm.Cond.instanceMethod ({ cls := "StrictProofs$Parser", name := "compared", desc := "()LStrictProofs$Expression;" } : Jvm.MethodName)) ∈ lw_all := lw_g (lw_at lw_m4 57 rfl) rfl
theorem q858 : (Jvm.Cond.code ({ cls := "StrictProofs$Parser", name := "compared", desc := "()LStrictProofs$Expression;" } : Jvm.MethodName) prog_15_method_13_code (3 : Nat) (Option.some (Jvm.ClassFile.FieldType.object "StrictProofs$Expression"))) ∈ lw_all := lw_g (lw_at lw_m4 58 rfl) rfl
theorem q859 : (Jvm.Cond.methodLink "StrictProofs$Parser" (154 : Nat) ({ cls := "StrictProofs$Parser", name := "sum", desc := "()LStrictProofs$Expression;" } : Jvm.MethodName)) ∈ lw_all := lw_g (lw_at lw_m4 59 rfl) rfl
theorem q860 : (Jvm.Cond.privateMethod ({ cls := "StrictProofs$Parser", name := "sum", desc := "()LStrictProofs$Expression;" } : Jvm.MethodName)) ∈ lw_tbl := lw_at lw_m4 60 rfl
theorem q861 : (Jvm.Cond.instanceMethod ({ cls := "StrictProofs$Parser", name := "sum", desc := "()LStrictProofs$Expression;" } : Jvm.MethodName)) ∈ lw_all := lw_g (lw_at lw_m4 61 rfl) rfl
theorem q862 : (Jvm.Cond.code ({ cls := "StrictProofs$Parser", name := "sum", desc := "()LStrictProofs$Expression;" } : Jvm.MethodName) prog_15_method_14_code (3 : Nat) (Option.some (Jvm.ClassFile.FieldType.object "StrictProofs$Expression"))) ∈ lw_all := lw_g (lw_at lw_m4 62 rfl) rfl
theorem q863 : (Jvm.Cond.methodLink "StrictProofs$Parser" (165 : Nat) ({ cls := "StrictProofs$Parser", name := "product", desc := "()LStrictProofs$Expression;" } : Jvm.MethodName)) ∈ lw_all := lw_g (lw_at lw_m4 63 rfl) rfl
theorem q864 : (Jvm.Cond.privateMethod ({ cls := "StrictProofs$Parser", name := "product", desc := "()LStrictProofs$Expression;" } : Jvm.MethodName)) ∈ lw_tbl := lw_at lw_m4 64 rfl
theorem q865 : (Jvm.Cond.instanceMethod ({ cls := "StrictProofs$Parser", name := "product", desc := "()LStrictProofs$Expression;" } : Jvm.MethodName)) ∈ lw_all := lw_g (lw_at lw_m4 65 rfl) rfl
theorem q866 : (Jvm.Cond.code ({ cls := "StrictProofs$Parser", name := "product", desc := "()LStrictProofs$Expression;" } : Jvm.MethodName) prog_15_method_15_code (2 : Nat) (Option.some (Jvm.ClassFile.FieldType.object "StrictProofs$Expression"))) ∈ lw_all := lw_g (lw_at lw_m4 66 rfl) rfl
theorem q867 : (Jvm.Cond.methodLink "StrictProofs$Parser" (168 : Nat) ({ cls := "StrictProofs$Parser", name := "atom", desc := "()LStrictProofs$Expression;" } : Jvm.MethodName)) ∈ lw_all := lw_g (lw_at lw_m4 67 rfl) rfl
theorem q868 : (Jvm.Cond.privateMethod ({ cls := "StrictProofs$Parser", name := "atom", desc := "()LStrictProofs$Expression;" } : Jvm.MethodName)) ∈ lw_tbl := lw_at lw_m4 68 rfl
theorem q869 : (Jvm.Cond.instanceMethod ({ cls := "StrictProofs$Parser", name := "atom", desc := "()LStrictProofs$Expression;" } : Jvm.MethodName)) ∈ lw_all := lw_g (lw_at lw_m4 69 rfl) rfl
theorem q870 : (Jvm.Cond.code ({ cls := "StrictProofs$Parser", name := "atom", desc := "()LStrictProofs$Expression;" } : Jvm.MethodName) prog_15_method_16_code (3 : Nat) (Option.some (Jvm.ClassFile.FieldType.object "StrictProofs$Expression"))) ∈ lw_all := lw_g (lw_at lw_m4 70 rfl) rfl
theorem q871 : (Jvm.Cond.classLink "StrictProofs$Parser" (171 : Nat) "StrictProofs$Num") ∈ lw_all := lw_g (lw_at lw_m4 71 rfl) rfl
theorem q873 : (Jvm.Cond.methodLink "StrictProofs$Parser" (173 : Nat) ({ cls := "StrictProofs$Num", name := "<init>", desc := "(II)V" } : Jvm.MethodName)) ∈ lw_all := lw_g (lw_at lw_m4 73 rfl) rfl
theorem q883 : (Jvm.Cond.classLink "StrictProofs$Parser" (176 : Nat) "StrictProofs$Fail") ∈ lw_all := lw_g (lw_at lw_m4 83 rfl) rfl
theorem q885 : (Jvm.Cond.methodLink "StrictProofs$Parser" (178 : Nat) ({ cls := "StrictProofs$Fail", name := "<init>", desc := "(II)V" } : Jvm.MethodName)) ∈ lw_all := lw_g (lw_at lw_m4 85 rfl) rfl
theorem q892 : (Jvm.Cond.methodLink "StrictProofs$Parser" (179 : Nat) ({ cls := "StrictProofs$Parser", name := "brackets", desc := "(I)LStrictProofs$Expression;" } : Jvm.MethodName)) ∈ lw_all := lw_g (lw_at lw_m4 92 rfl) rfl
theorem q893 : (Jvm.Cond.privateMethod ({ cls := "StrictProofs$Parser", name := "brackets", desc := "(I)LStrictProofs$Expression;" } : Jvm.MethodName)) ∈ lw_tbl := lw_at lw_m4 93 rfl
theorem q894 : (Jvm.Cond.instanceMethod ({ cls := "StrictProofs$Parser", name := "brackets", desc := "(I)LStrictProofs$Expression;" } : Jvm.MethodName)) ∈ lw_all := lw_g (lw_at lw_m4 94 rfl) rfl
theorem q895 : (Jvm.Cond.code ({ cls := "StrictProofs$Parser", name := "brackets", desc := "(I)LStrictProofs$Expression;" } : Jvm.MethodName) prog_15_method_17_code (3 : Nat) (Option.some (Jvm.ClassFile.FieldType.object "StrictProofs$Expression"))) ∈ lw_all := lw_g (lw_at lw_m4 95 rfl) rfl
theorem q896 : (Jvm.Cond.classLink "StrictProofs$Parser" (190 : Nat) "StrictProofs$Pair") ∈ lw_all := lw_g (lw_at lw_m4 96 rfl) rfl
theorem q898 : (Jvm.Cond.methodLink "StrictProofs$Parser" (192 : Nat) ({ cls := "StrictProofs$Pair", name := "<init>", desc := "(ILStrictProofs$Expression;LStrictProofs$Expression;)V" } : Jvm.MethodName)) ∈ lw_all := lw_g (lw_at lw_m4 98 rfl) rfl
theorem q911 : (Jvm.Cond.methodLink "StrictProofs$Parser" (183 : Nat) ({ cls := "StrictProofs$Parser", name := "call", desc := "(I)LStrictProofs$Expression;" } : Jvm.MethodName)) ∈ lw_all := lw_g (lw_at lw_m4 111 rfl) rfl
theorem q912 : (Jvm.Cond.privateMethod ({ cls := "StrictProofs$Parser", name := "call", desc := "(I)LStrictProofs$Expression;" } : Jvm.MethodName)) ∈ lw_tbl := lw_at lw_m4 112 rfl
theorem q913 : (Jvm.Cond.instanceMethod ({ cls := "StrictProofs$Parser", name := "call", desc := "(I)LStrictProofs$Expression;" } : Jvm.MethodName)) ∈ lw_all := lw_g (lw_at lw_m4 113 rfl) rfl
theorem q914 : (Jvm.Cond.code ({ cls := "StrictProofs$Parser", name := "call", desc := "(I)LStrictProofs$Expression;" } : Jvm.MethodName) prog_15_method_18_code (3 : Nat) (Option.some (Jvm.ClassFile.FieldType.object "StrictProofs$Expression"))) ∈ lw_all := lw_g (lw_at lw_m4 114 rfl) rfl
theorem q915 : (Jvm.Cond.classLink "StrictProofs$Parser" (193 : Nat) "StrictProofs$Call") ∈ lw_all := lw_g (lw_at lw_m4 115 rfl) rfl
theorem q917 : (Jvm.Cond.methodLink "StrictProofs$Parser" (195 : Nat) ({ cls := "StrictProofs$Call", name := "<init>", desc := "(I)V" } : Jvm.MethodName)) ∈ lw_all := lw_g (lw_at lw_m4 117 rfl) rfl
theorem q924 : (Jvm.Cond.fieldLinkNest "StrictProofs$Parser" (201 : Nat) "StrictProofs$Call" "with" "[LStrictProofs$Expression;" "StrictProofs") ∈ lw_tbl := lw_at lw_m4 124 rfl
theorem q926 : (Jvm.Cond.fieldLinkNest "StrictProofs$Parser" (200 : Nat) "StrictProofs$Call" "many" "I" "StrictProofs") ∈ lw_tbl := lw_at lw_m4 126 rfl
theorem q936 : (Jvm.Cond.methodLink "StrictProofs$Parser" (196 : Nat) ({ cls := "StrictProofs$Parser", name := "argument", desc := "(LStrictProofs$Call;)V" } : Jvm.MethodName)) ∈ lw_all := lw_g (lw_at lw_m4 136 rfl) rfl
theorem q937 : (Jvm.Cond.privateMethod ({ cls := "StrictProofs$Parser", name := "argument", desc := "(LStrictProofs$Call;)V" } : Jvm.MethodName)) ∈ lw_tbl := lw_at lw_m4 137 rfl
theorem q938 : (Jvm.Cond.instanceMethod ({ cls := "StrictProofs$Parser", name := "argument", desc := "(LStrictProofs$Call;)V" } : Jvm.MethodName)) ∈ lw_all := lw_g (lw_at lw_m4 138 rfl) rfl
theorem q939 : (Jvm.Cond.code ({ cls := "StrictProofs$Parser", name := "argument", desc := "(LStrictProofs$Call;)V" } : Jvm.MethodName) prog_15_method_19_code (3 : Nat) (Option.none : Option Jvm.ClassFile.FieldType)) ∈ lw_all := lw_g (lw_at lw_m4 139 rfl) rfl
theorem q940 : (Jvm.Cond.classLink "StrictProofs$Parser" (186 : Nat) "StrictProofs$Name") ∈ lw_all := lw_g (lw_at lw_m4 140 rfl) rfl
theorem q942 : (Jvm.Cond.methodLink "StrictProofs$Parser" (188 : Nat) ({ cls := "StrictProofs$Name", name := "<init>", desc := "(I)V" } : Jvm.MethodName)) ∈ lw_all := lw_g (lw_at lw_m4 142 rfl) rfl
theorem q952 : (Jvm.Cond.classLink "StrictProofs$Parser" (160 : Nat) "StrictProofs$Sign") ∈ lw_all := lw_g (lw_at lw_m4 152 rfl) rfl
theorem q954 : (Jvm.Cond.methodLink "StrictProofs$Parser" (162 : Nat) ({ cls := "StrictProofs$Sign", name := "<init>", desc := "(ILStrictProofs$Expression;LStrictProofs$Expression;)V" } : Jvm.MethodName)) ∈ lw_all := lw_g (lw_at lw_m4 154 rfl) rfl
theorem q84 : (Jvm.Cond.initialized "StrictProofs$Judge") ∈ lw_all := lw_g (lw_at lw_m1 4 rfl) rfl
theorem q133 : (Jvm.Cond.fieldLinkNest "StrictProofs$Judge" (53 : Nat) "StrictProofs$Text" "places" "[I" "StrictProofs") ∈ lw_tbl := lw_at lw_m1 53 rfl
theorem q199 : (Jvm.Cond.instantiable "StrictProofs$Judge" (6 : Nat)) ∈ lw_all := lw_g (lw_at lw_m1 119 rfl) rfl
theorem q201 : (Jvm.Cond.instanceMethod ({ cls := "StrictProofs$Judge", name := "<init>", desc := "(LStrictProofs$Text;[LStrictProofs$Function;)V" } : Jvm.MethodName)) ∈ lw_all := lw_g (lw_at lw_m1 121 rfl) rfl
theorem q202 : (Jvm.Cond.code ({ cls := "StrictProofs$Judge", name := "<init>", desc := "(LStrictProofs$Text;[LStrictProofs$Function;)V" } : Jvm.MethodName) prog_9_method_1_code (3 : Nat) (Option.none : Option Jvm.ClassFile.FieldType)) ∈ lw_all := lw_g (lw_at lw_m1 122 rfl) rfl
theorem q203 : (Jvm.Cond.methodLink "StrictProofs$Judge" (3 : Nat) ({ cls := "java/lang/Object", name := "<init>", desc := "()V" } : Jvm.MethodName)) ∈ lw_all := lw_g (lw_at lw_m1 123 rfl) rfl
theorem q204 : (Jvm.Cond.fieldLink "StrictProofs$Judge" (15 : Nat) "StrictProofs$Judge" "t" "LStrictProofs$Text;") ∈ lw_all := lw_g (lw_at lw_m1 124 rfl) rfl
theorem q205 : (Jvm.Cond.fieldLink "StrictProofs$Judge" (19 : Nat) "StrictProofs$Judge" "functions" "[LStrictProofs$Function;") ∈ lw_all := lw_g (lw_at lw_m1 125 rfl) rfl
theorem q206 : (Jvm.Cond.fieldLink "StrictProofs$Judge" (23 : Nat) "StrictProofs$Judge" "many" "I") ∈ lw_all := lw_g (lw_at lw_m1 126 rfl) rfl
theorem q210 : (Jvm.Cond.fieldLink "StrictProofs$Judge" (27 : Nat) "StrictProofs$Judge" "function" "LStrictProofs$Function;") ∈ lw_all := lw_g (lw_at lw_m1 130 rfl) rfl
theorem q211 : (Jvm.Cond.fieldLink "StrictProofs$Judge" (9 : Nat) "StrictProofs$Judge" "open" "[I") ∈ lw_all := lw_g (lw_at lw_m1 131 rfl) rfl
theorem q212 : (Jvm.Cond.fieldLink "StrictProofs$Judge" (31 : Nat) "StrictProofs$Judge" "opened" "I") ∈ lw_all := lw_g (lw_at lw_m1 132 rfl) rfl
theorem q213 : (Jvm.Cond.laysFinal "StrictProofs$Judge" "StrictProofs$Judge" "t" "LStrictProofs$Text;") ∈ lw_all := lw_g (lw_at lw_m1 133 rfl) rfl
theorem q214 : (Jvm.Cond.soleField "StrictProofs$Judge" "t") ∈ lw_all := lw_g (lw_at lw_m1 134 rfl) rfl
theorem q215 : (Jvm.Cond.laysFinal "StrictProofs$Judge" "StrictProofs$Judge" "functions" "[LStrictProofs$Function;") ∈ lw_all := lw_g (lw_at lw_m1 135 rfl) rfl
theorem q216 : (Jvm.Cond.soleField "StrictProofs$Judge" "functions") ∈ lw_all := lw_g (lw_at lw_m1 136 rfl) rfl
theorem q217 : (Jvm.Cond.lays "StrictProofs$Judge" "StrictProofs$Judge" "many" "I") ∈ lw_all := lw_g (lw_at lw_m1 137 rfl) rfl
theorem q218 : (Jvm.Cond.soleField "StrictProofs$Judge" "many") ∈ lw_all := lw_g (lw_at lw_m1 138 rfl) rfl
theorem q219 : (Jvm.Cond.lays "StrictProofs$Judge" "StrictProofs$Judge" "function" "LStrictProofs$Function;") ∈ lw_all := lw_g (lw_at lw_m1 139 rfl) rfl
theorem q220 : (Jvm.Cond.soleField "StrictProofs$Judge" "function") ∈ lw_all := lw_g (lw_at lw_m1 140 rfl) rfl
theorem q221 : (Jvm.Cond.laysFinal "StrictProofs$Judge" "StrictProofs$Judge" "open" "[I") ∈ lw_all := lw_g (lw_at lw_m1 141 rfl) rfl
theorem q222 : (Jvm.Cond.soleField "StrictProofs$Judge" "open") ∈ lw_all := lw_g (lw_at lw_m1 142 rfl) rfl
theorem q223 : (Jvm.Cond.lays "StrictProofs$Judge" "StrictProofs$Judge" "opened" "I") ∈ lw_all := lw_g (lw_at lw_m1 143 rfl) rfl
theorem q224 : (Jvm.Cond.soleField "StrictProofs$Judge" "opened") ∈ lw_all := lw_g (lw_at lw_m1 144 rfl) rfl
theorem q225 : (Jvm.Cond.superclass "StrictProofs$Judge" "java/lang/Object") ∈ lw_all := lw_g (lw_at lw_m1 145 rfl) rfl
theorem q661 : (Jvm.Cond.fieldLinkNest "StrictProofs$Judge" (70 : Nat) "StrictProofs$Function" "token" "I" "StrictProofs") ∈ lw_tbl := lw_at lw_m3 101 rfl
theorem q663 : (Jvm.Cond.fieldLinkNest "StrictProofs$Judge" (34 : Nat) "StrictProofs$Function" "params" "I" "StrictProofs") ∈ lw_tbl := lw_at lw_m3 103 rfl
theorem q671 : (Jvm.Cond.fieldLinkNest "StrictProofs$Judge" (46 : Nat) "StrictProofs$Function" "type" "I" "StrictProofs") ∈ lw_tbl := lw_at lw_m3 111 rfl
theorem q678 : (Jvm.Cond.fieldLinkNest "StrictProofs$Judge" (62 : Nat) "StrictProofs$Function" "nameTokens" "[I" "StrictProofs") ∈ lw_tbl := lw_at lw_m3 118 rfl
theorem q689 : (Jvm.Cond.fieldLinkNest "StrictProofs$Judge" (42 : Nat) "StrictProofs$Function" "body" "LStrictProofs$Expression;" "StrictProofs") ∈ lw_tbl := lw_at lw_m3 129 rfl
theorem q793 : (Jvm.Cond.fieldLink "StrictProofs$Judge" (79 : Nat) "StrictProofs$Expression" "token" "I") ∈ lw_all := lw_g (lw_at lw_m3 233 rfl) rfl
theorem q799 : (Jvm.Cond.fieldLink "StrictProofs$Judge" (78 : Nat) "StrictProofs$Expression" "type" "I") ∈ lw_all := lw_g (lw_at lw_m3 239 rfl) rfl
theorem q971 : (Jvm.Cond.instanceMethod ({ cls := "StrictProofs$Judge", name := "all", desc := "(I)V" } : Jvm.MethodName)) ∈ lw_all := lw_g (lw_at lw_m4 171 rfl) rfl
theorem q972 : (Jvm.Cond.selects "StrictProofs$Judge" ({ cls := "StrictProofs$Judge", name := "all", desc := "(I)V" } : Jvm.MethodName) ({ cls := "StrictProofs$Judge", name := "all", desc := "(I)V" } : Jvm.MethodName)) ∈ lw_all := lw_g (lw_at lw_m4 172 rfl) rfl
theorem q973 : (Jvm.Cond.code ({ cls := "StrictProofs$Judge", name := "all", desc := "(I)V" } : Jvm.MethodName) prog_9_method_2_code (4 : Nat) (Option.none : Option Jvm.ClassFile.FieldType)) ∈ lw_all := lw_g (lw_at lw_m4 173 rfl) rfl
theorem q974 : (Jvm.Cond.methodLink "StrictProofs$Judge" (39 : Nat) ({ cls := "StrictProofs$Judge", name := "open", desc := "(I)V" } : Jvm.MethodName)) ∈ lw_all := lw_g (lw_at lw_m4 174 rfl) rfl
theorem q975 : (Jvm.Cond.instanceMethod ({ cls := "StrictProofs$Judge", name := "open", desc := "(I)V" } : Jvm.MethodName)) ∈ lw_all := lw_g (lw_at lw_m4 175 rfl) rfl
theorem q976 : (Jvm.Cond.selects "StrictProofs$Judge" ({ cls := "StrictProofs$Judge", name := "open", desc := "(I)V" } : Jvm.MethodName) ({ cls := "StrictProofs$Judge", name := "open", desc := "(I)V" } : Jvm.MethodName)) ∈ lw_all := lw_g (lw_at lw_m4 176 rfl) rfl
theorem q977 : (Jvm.Cond.code ({ cls := "StrictProofs$Judge", name := "open", desc := "(I)V" } : Jvm.MethodName) prog_9_method_4_code (2 : Nat) (Option.none : Option Jvm.ClassFile.FieldType)) ∈ lw_all := lw_g (lw_at lw_m4 177 rfl) rfl
theorem q978 : (Jvm.Cond.methodLink "StrictProofs$Judge" (49 : Nat) ({ cls := "StrictProofs$Judge", name := "judge", desc := "(LStrictProofs$Expression;I)I" } : Jvm.MethodName)) ∈ lw_all := lw_g (lw_at lw_m4 178 rfl) rfl
theorem q979 : (Jvm.Cond.instanceMethod ({ cls := "StrictProofs$Judge", name := "judge", desc := "(LStrictProofs$Expression;I)I" } : Jvm.MethodName)) ∈ lw_all := lw_g (lw_at lw_m4 179 rfl) rfl
theorem q980 : (Jvm.Cond.selects "StrictProofs$Judge" ({ cls := "StrictProofs$Judge", name := "judge", desc := "(LStrictProofs$Expression;I)I" } : Jvm.MethodName) ({ cls := "StrictProofs$Judge", name := "judge", desc := "(LStrictProofs$Expression;I)I" } : Jvm.MethodName)) ∈ lw_all := lw_g (lw_at lw_m4 180 rfl) rfl
theorem q981 : (Jvm.Cond.code ({ cls := "StrictProofs$Judge", name := "judge", desc := "(LStrictProofs$Expression;I)I" } : Jvm.MethodName) prog_9_method_8_code (3 : Nat) (Option.some Jvm.ClassFile.FieldType.int)) ∈ lw_all := lw_g (lw_at lw_m4 181 rfl) rfl
theorem q982 : (Jvm.Cond.methodLink "StrictProofs$Judge" (73 : Nat) ({ cls := "StrictProofs$Expression", name := "judge", desc := "(LStrictProofs$Judge;I)I" } : Jvm.MethodName)) ∈ lw_all := lw_g (lw_at lw_m4 182 rfl) rfl
theorem q989 : (Jvm.Cond.instanceMethod ({ cls := "StrictProofs$Judge", name := "function", desc := "(I)LStrictProofs$Function;" } : Jvm.MethodName)) ∈ lw_all := lw_g (lw_at lw_m4 189 rfl) rfl
theorem q990 : (Jvm.Cond.selects "StrictProofs$Judge" ({ cls := "StrictProofs$Judge", name := "function", desc := "(I)LStrictProofs$Function;" } : Jvm.MethodName) ({ cls := "StrictProofs$Judge", name := "function", desc := "(I)LStrictProofs$Function;" } : Jvm.MethodName)) ∈ lw_all := lw_g (lw_at lw_m4 190 rfl) rfl
theorem q991 : (Jvm.Cond.code ({ cls := "StrictProofs$Judge", name := "function", desc := "(I)LStrictProofs$Function;" } : Jvm.MethodName) prog_9_method_7_code (4 : Nat) (Option.some (Jvm.ClassFile.FieldType.object "StrictProofs$Function"))) ∈ lw_all := lw_g (lw_at lw_m4 191 rfl) rfl
theorem q992 : (Jvm.Cond.methodLink "StrictProofs$Judge" (65 : Nat) ({ cls := "StrictProofs$Text", name := "same", desc := "(II)Z" } : Jvm.MethodName)) ∈ lw_all := lw_g (lw_at lw_m4 192 rfl) rfl
theorem q993 : (Jvm.Cond.methodLink "StrictProofs$Judge" (69 : Nat) ({ cls := "StrictProofs$Judge", name := "want", desc := "(ZII)V" } : Jvm.MethodName)) ∈ lw_all := lw_g (lw_at lw_m4 193 rfl) rfl
theorem q994 : (Jvm.Cond.instanceMethod ({ cls := "StrictProofs$Judge", name := "want", desc := "(ZII)V" } : Jvm.MethodName)) ∈ lw_all := lw_g (lw_at lw_m4 194 rfl) rfl
theorem q995 : (Jvm.Cond.selects "StrictProofs$Judge" ({ cls := "StrictProofs$Judge", name := "want", desc := "(ZII)V" } : Jvm.MethodName) ({ cls := "StrictProofs$Judge", name := "want", desc := "(ZII)V" } : Jvm.MethodName)) ∈ lw_all := lw_g (lw_at lw_m4 195 rfl) rfl
theorem q996 : (Jvm.Cond.code ({ cls := "StrictProofs$Judge", name := "want", desc := "(ZII)V" } : Jvm.MethodName) prog_9_method_3_code (4 : Nat) (Option.none : Option Jvm.ClassFile.FieldType)) ∈ lw_all := lw_g (lw_at lw_m4 196 rfl) rfl
theorem q997 : (Jvm.Cond.methodLink "StrictProofs$Judge" (58 : Nat) ({ cls := "StrictProofs$Text", name := "want", desc := "(ZII)V" } : Jvm.MethodName)) ∈ lw_all := lw_g (lw_at lw_m4 197 rfl) rfl
theorem q1012 : (Jvm.Cond.instanceMethod ({ cls := "StrictProofs$Judge", name := "close", desc := "(I)V" } : Jvm.MethodName)) ∈ lw_all := lw_g (lw_at lw_m4 212 rfl) rfl
theorem q1013 : (Jvm.Cond.selects "StrictProofs$Judge" ({ cls := "StrictProofs$Judge", name := "close", desc := "(I)V" } : Jvm.MethodName) ({ cls := "StrictProofs$Judge", name := "close", desc := "(I)V" } : Jvm.MethodName)) ∈ lw_all := lw_g (lw_at lw_m4 213 rfl) rfl
theorem q1014 : (Jvm.Cond.code ({ cls := "StrictProofs$Judge", name := "close", desc := "(I)V" } : Jvm.MethodName) prog_9_method_5_code (2 : Nat) (Option.none : Option Jvm.ClassFile.FieldType)) ∈ lw_all := lw_g (lw_at lw_m4 214 rfl) rfl
theorem q1032 : (Jvm.Cond.instanceMethod ({ cls := "StrictProofs$Judge", name := "find", desc := "(I)I" } : Jvm.MethodName)) ∈ lw_all := lw_g (lw_at lw_m4 232 rfl) rfl
theorem q1033 : (Jvm.Cond.selects "StrictProofs$Judge" ({ cls := "StrictProofs$Judge", name := "find", desc := "(I)I" } : Jvm.MethodName) ({ cls := "StrictProofs$Judge", name := "find", desc := "(I)I" } : Jvm.MethodName)) ∈ lw_all := lw_g (lw_at lw_m4 233 rfl) rfl
theorem q1034 : (Jvm.Cond.code ({ cls := "StrictProofs$Judge", name := "find", desc := "(I)I" } : Jvm.MethodName) prog_9_method_6_code (4 : Nat) (Option.some Jvm.ClassFile.FieldType.int)) ∈ lw_all := lw_g (lw_at lw_m4 234 rfl) rfl
theorem q85 : (Jvm.Cond.initialized "StrictProofs$Asker") ∈ lw_all := lw_g (lw_at lw_m1 5 rfl) rfl
theorem q227 : (Jvm.Cond.instantiable "StrictProofs$Asker" (3 : Nat)) ∈ lw_all := lw_g (lw_at lw_m1 147 rfl) rfl
theorem q229 : (Jvm.Cond.instanceMethod ({ cls := "StrictProofs$Asker", name := "<init>", desc := "()V" } : Jvm.MethodName)) ∈ lw_all := lw_g (lw_at lw_m1 149 rfl) rfl
theorem q230 : (Jvm.Cond.code ({ cls := "StrictProofs$Asker", name := "<init>", desc := "()V" } : Jvm.MethodName) prog_2_method_1_code (2 : Nat) (Option.none : Option Jvm.ClassFile.FieldType)) ∈ lw_all := lw_g (lw_at lw_m1 150 rfl) rfl
theorem q231 : (Jvm.Cond.methodLink "StrictProofs$Asker" (3 : Nat) ({ cls := "java/lang/Object", name := "<init>", desc := "()V" } : Jvm.MethodName)) ∈ lw_all := lw_g (lw_at lw_m1 151 rfl) rfl
theorem q232 : (Jvm.Cond.classLink "StrictProofs$Asker" (9 : Nat) "StrictProofs$Row") ∈ lw_all := lw_g (lw_at lw_m1 152 rfl) rfl
theorem q235 : (Jvm.Cond.methodLinkNest "StrictProofs$Asker" (17 : Nat) ({ cls := "StrictProofs$Row", name := "<init>", desc := "()V" } : Jvm.MethodName) "StrictProofs") ∈ lw_tbl := lw_at lw_m1 155 rfl
theorem q242 : (Jvm.Cond.fieldLinkNest "StrictProofs$Asker" (49 : Nat) "StrictProofs$Row" "asks" "[I" "StrictProofs") ∈ lw_tbl := lw_at lw_m1 162 rfl
theorem q247 : (Jvm.Cond.fieldLinkNest "StrictProofs$Asker" (45 : Nat) "StrictProofs$Row" "isDead" "Z" "StrictProofs") ∈ lw_tbl := lw_at lw_m1 167 rfl
theorem q254 : (Jvm.Cond.fieldLink "StrictProofs$Asker" (25 : Nat) "StrictProofs$Asker" "function" "LStrictProofs$Function;") ∈ lw_all := lw_g (lw_at lw_m1 174 rfl) rfl
theorem q257 : (Jvm.Cond.fieldLink "StrictProofs$Asker" (11 : Nat) "StrictProofs$Asker" "rows" "[LStrictProofs$Row;") ∈ lw_all := lw_g (lw_at lw_m1 177 rfl) rfl
theorem q258 : (Jvm.Cond.fieldLink "StrictProofs$Asker" (18 : Nat) "StrictProofs$Asker" "top" "LStrictProofs$Row;") ∈ lw_all := lw_g (lw_at lw_m1 178 rfl) rfl
theorem q259 : (Jvm.Cond.lays "StrictProofs$Asker" "StrictProofs$Asker" "function" "LStrictProofs$Function;") ∈ lw_all := lw_g (lw_at lw_m1 179 rfl) rfl
theorem q260 : (Jvm.Cond.soleField "StrictProofs$Asker" "function") ∈ lw_all := lw_g (lw_at lw_m1 180 rfl) rfl
theorem q261 : (Jvm.Cond.laysFinal "StrictProofs$Asker" "StrictProofs$Asker" "rows" "[LStrictProofs$Row;") ∈ lw_all := lw_g (lw_at lw_m1 181 rfl) rfl
theorem q262 : (Jvm.Cond.soleField "StrictProofs$Asker" "rows") ∈ lw_all := lw_g (lw_at lw_m1 182 rfl) rfl
theorem q263 : (Jvm.Cond.laysFinal "StrictProofs$Asker" "StrictProofs$Asker" "top" "LStrictProofs$Row;") ∈ lw_all := lw_g (lw_at lw_m1 183 rfl) rfl
theorem q264 : (Jvm.Cond.soleField "StrictProofs$Asker" "top") ∈ lw_all := lw_g (lw_at lw_m1 184 rfl) rfl
theorem q265 : (Jvm.Cond.superclass "StrictProofs$Asker" "java/lang/Object") ∈ lw_all := lw_g (lw_at lw_m1 185 rfl) rfl
theorem q664 : (Jvm.Cond.fieldLinkNest "StrictProofs$Asker" (41 : Nat) "StrictProofs$Function" "params" "I" "StrictProofs") ∈ lw_tbl := lw_at lw_m3 104 rfl
theorem q684 : (Jvm.Cond.fieldLinkNest "StrictProofs$Asker" (53 : Nat) "StrictProofs$Function" "types" "[I" "StrictProofs") ∈ lw_tbl := lw_at lw_m3 124 rfl
theorem q690 : (Jvm.Cond.fieldLinkNest "StrictProofs$Asker" (29 : Nat) "StrictProofs$Function" "body" "LStrictProofs$Expression;" "StrictProofs") ∈ lw_tbl := lw_at lw_m3 130 rfl
theorem q1178 : (Jvm.Cond.instanceMethod ({ cls := "StrictProofs$Asker", name := "of", desc := "(LStrictProofs$Function;I)LStrictProofs$Row;" } : Jvm.MethodName)) ∈ lw_all := lw_g (lw_at lw_m5 138 rfl) rfl
theorem q1179 : (Jvm.Cond.selects "StrictProofs$Asker" ({ cls := "StrictProofs$Asker", name := "of", desc := "(LStrictProofs$Function;I)LStrictProofs$Row;" } : Jvm.MethodName) ({ cls := "StrictProofs$Asker", name := "of", desc := "(LStrictProofs$Function;I)LStrictProofs$Row;" } : Jvm.MethodName)) ∈ lw_all := lw_g (lw_at lw_m5 139 rfl) rfl
theorem q1180 : (Jvm.Cond.code ({ cls := "StrictProofs$Asker", name := "of", desc := "(LStrictProofs$Function;I)LStrictProofs$Row;" } : Jvm.MethodName) prog_2_method_3_code (4 : Nat) (Option.some (Jvm.ClassFile.FieldType.object "StrictProofs$Row"))) ∈ lw_all := lw_g (lw_at lw_m5 140 rfl) rfl
theorem q1181 : (Jvm.Cond.methodLink "StrictProofs$Asker" (22 : Nat) ({ cls := "StrictProofs$Row", name := "clear", desc := "()V" } : Jvm.MethodName)) ∈ lw_all := lw_g (lw_at lw_m5 141 rfl) rfl
theorem q1185 : (Jvm.Cond.methodLink "StrictProofs$Asker" (35 : Nat) ({ cls := "StrictProofs$Expression", name := "ask", desc := "(LStrictProofs$Asker;ILStrictProofs$Row;I)V" } : Jvm.MethodName)) ∈ lw_all := lw_g (lw_at lw_m5 145 rfl) rfl
theorem q1236 : (Jvm.Cond.instanceMethod ({ cls := "StrictProofs$Asker", name := "row", desc := "(I)LStrictProofs$Row;" } : Jvm.MethodName)) ∈ lw_all := lw_g (lw_at lw_m5 196 rfl) rfl
theorem q1237 : (Jvm.Cond.selects "StrictProofs$Asker" ({ cls := "StrictProofs$Asker", name := "row", desc := "(I)LStrictProofs$Row;" } : Jvm.MethodName) ({ cls := "StrictProofs$Asker", name := "row", desc := "(I)LStrictProofs$Row;" } : Jvm.MethodName)) ∈ lw_all := lw_g (lw_at lw_m5 197 rfl) rfl
theorem q1238 : (Jvm.Cond.code ({ cls := "StrictProofs$Asker", name := "row", desc := "(I)LStrictProofs$Row;" } : Jvm.MethodName) prog_2_method_2_code (2 : Nat) (Option.some (Jvm.ClassFile.FieldType.object "StrictProofs$Row"))) ∈ lw_all := lw_g (lw_at lw_m5 198 rfl) rfl
theorem q1258 : (Jvm.Cond.methodLinkNest "StrictProofs$Asker" (56 : Nat) ({ cls := "StrictProofs", name := "all", desc := "(I)I" } : Jvm.MethodName) "StrictProofs") ∈ lw_tbl := lw_at lw_m5 218 rfl
theorem q86 : (Jvm.Cond.initialized "StrictProofs$Row") ∈ lw_all := lw_g (lw_at lw_m1 6 rfl) rfl
theorem q234 : (Jvm.Cond.instantiable "StrictProofs$Row" (2 : Nat)) ∈ lw_all := lw_g (lw_at lw_m1 154 rfl) rfl
theorem q236 : (Jvm.Cond.instanceMethod ({ cls := "StrictProofs$Row", name := "<init>", desc := "()V" } : Jvm.MethodName)) ∈ lw_all := lw_g (lw_at lw_m1 156 rfl) rfl
theorem q237 : (Jvm.Cond.code ({ cls := "StrictProofs$Row", name := "<init>", desc := "()V" } : Jvm.MethodName) prog_16_method_1_code (1 : Nat) (Option.none : Option Jvm.ClassFile.FieldType)) ∈ lw_all := lw_g (lw_at lw_m1 157 rfl) rfl
theorem q238 : (Jvm.Cond.methodLink "StrictProofs$Row" (3 : Nat) ({ cls := "java/lang/Object", name := "<init>", desc := "()V" } : Jvm.MethodName)) ∈ lw_all := lw_g (lw_at lw_m1 158 rfl) rfl
theorem q239 : (Jvm.Cond.fieldLink "StrictProofs$Row" (9 : Nat) "StrictProofs$Row" "asks" "[I") ∈ lw_all := lw_g (lw_at lw_m1 159 rfl) rfl
theorem q244 : (Jvm.Cond.fieldLink "StrictProofs$Row" (15 : Nat) "StrictProofs$Row" "isDead" "Z") ∈ lw_all := lw_g (lw_at lw_m1 164 rfl) rfl
theorem q249 : (Jvm.Cond.laysFinal "StrictProofs$Row" "StrictProofs$Row" "asks" "[I") ∈ lw_all := lw_g (lw_at lw_m1 169 rfl) rfl
theorem q250 : (Jvm.Cond.soleField "StrictProofs$Row" "asks") ∈ lw_all := lw_g (lw_at lw_m1 170 rfl) rfl
theorem q251 : (Jvm.Cond.lays "StrictProofs$Row" "StrictProofs$Row" "isDead" "Z") ∈ lw_all := lw_g (lw_at lw_m1 171 rfl) rfl
theorem q252 : (Jvm.Cond.soleField "StrictProofs$Row" "isDead") ∈ lw_all := lw_g (lw_at lw_m1 172 rfl) rfl
theorem q253 : (Jvm.Cond.superclass "StrictProofs$Row" "java/lang/Object") ∈ lw_all := lw_g (lw_at lw_m1 173 rfl) rfl
theorem q1182 : (Jvm.Cond.instanceMethod ({ cls := "StrictProofs$Row", name := "clear", desc := "()V" } : Jvm.MethodName)) ∈ lw_all := lw_g (lw_at lw_m5 142 rfl) rfl
theorem q1183 : (Jvm.Cond.selects "StrictProofs$Row" ({ cls := "StrictProofs$Row", name := "clear", desc := "()V" } : Jvm.MethodName) ({ cls := "StrictProofs$Row", name := "clear", desc := "()V" } : Jvm.MethodName)) ∈ lw_all := lw_g (lw_at lw_m5 143 rfl) rfl
theorem q1184 : (Jvm.Cond.code ({ cls := "StrictProofs$Row", name := "clear", desc := "()V" } : Jvm.MethodName) prog_16_method_2_code (2 : Nat) (Option.none : Option Jvm.ClassFile.FieldType)) ∈ lw_all := lw_g (lw_at lw_m5 144 rfl) rfl
theorem q1206 : (Jvm.Cond.instanceMethod ({ cls := "StrictProofs$Row", name := "add", desc := "([III)V" } : Jvm.MethodName)) ∈ lw_all := lw_g (lw_at lw_m5 166 rfl) rfl
theorem q1207 : (Jvm.Cond.selects "StrictProofs$Row" ({ cls := "StrictProofs$Row", name := "add", desc := "([III)V" } : Jvm.MethodName) ({ cls := "StrictProofs$Row", name := "add", desc := "([III)V" } : Jvm.MethodName)) ∈ lw_all := lw_g (lw_at lw_m5 167 rfl) rfl
theorem q1208 : (Jvm.Cond.code ({ cls := "StrictProofs$Row", name := "add", desc := "([III)V" } : Jvm.MethodName) prog_16_method_3_code (4 : Nat) (Option.none : Option Jvm.ClassFile.FieldType)) ∈ lw_all := lw_g (lw_at lw_m5 168 rfl) rfl
theorem q1209 : (Jvm.Cond.methodLinkNest "StrictProofs$Row" (19 : Nat) ({ cls := "StrictProofs", name := "together", desc := "(III)I" } : Jvm.MethodName) "StrictProofs") ∈ lw_tbl := lw_at lw_m5 169 rfl
theorem q1240 : (Jvm.Cond.instanceMethod ({ cls := "StrictProofs$Row", name := "addEither", desc := "([IILStrictProofs$Row;LStrictProofs$Row;)V" } : Jvm.MethodName)) ∈ lw_all := lw_g (lw_at lw_m5 200 rfl) rfl
theorem q1241 : (Jvm.Cond.selects "StrictProofs$Row" ({ cls := "StrictProofs$Row", name := "addEither", desc := "([IILStrictProofs$Row;LStrictProofs$Row;)V" } : Jvm.MethodName) ({ cls := "StrictProofs$Row", name := "addEither", desc := "([IILStrictProofs$Row;LStrictProofs$Row;)V" } : Jvm.MethodName)) ∈ lw_all := lw_g (lw_at lw_m5 201 rfl) rfl
theorem q1242 : (Jvm.Cond.code ({ cls := "StrictProofs$Row", name := "addEither", desc := "([IILStrictProofs$Row;LStrictProofs$Row;)V" } : Jvm.MethodName) prog_16_method_4_code (6 : Nat) (Option.none : Option Jvm.ClassFile.FieldType)) ∈ lw_all := lw_g (lw_at lw_m5 202 rfl) rfl
theorem q1243 : (Jvm.Cond.methodLinkNest "StrictProofs$Row" (23 : Nat) ({ cls := "StrictProofs", name := "either", desc := "(III)I" } : Jvm.MethodName) "StrictProofs") ∈ lw_tbl := lw_at lw_m5 203 rfl
theorem q1248 : (Jvm.Cond.methodLink "StrictProofs$Row" (26 : Nat) ({ cls := "StrictProofs$Row", name := "add", desc := "([III)V" } : Jvm.MethodName)) ∈ lw_all := lw_g (lw_at lw_m5 208 rfl) rfl
theorem q87 : (Jvm.Cond.initialized "StrictProofs$Machine") ∈ lw_all := lw_g (lw_at lw_m1 7 rfl) rfl
theorem q267 : (Jvm.Cond.instantiable "StrictProofs$Machine" (23 : Nat)) ∈ lw_all := lw_g (lw_at lw_m1 187 rfl) rfl
theorem q269 : (Jvm.Cond.instanceMethod ({ cls := "StrictProofs$Machine", name := "<init>", desc := "()V" } : Jvm.MethodName)) ∈ lw_all := lw_g (lw_at lw_m1 189 rfl) rfl
theorem q270 : (Jvm.Cond.code ({ cls := "StrictProofs$Machine", name := "<init>", desc := "()V" } : Jvm.MethodName) prog_11_method_1_code (1 : Nat) (Option.none : Option Jvm.ClassFile.FieldType)) ∈ lw_all := lw_g (lw_at lw_m1 190 rfl) rfl
theorem q271 : (Jvm.Cond.methodLink "StrictProofs$Machine" (3 : Nat) ({ cls := "java/lang/Object", name := "<init>", desc := "()V" } : Jvm.MethodName)) ∈ lw_all := lw_g (lw_at lw_m1 191 rfl) rfl
theorem q272 : (Jvm.Cond.classLink "StrictProofs$Machine" (9 : Nat) "StrictProofs$Expression") ∈ lw_all := lw_g (lw_at lw_m1 192 rfl) rfl
theorem q274 : (Jvm.Cond.fieldLink "StrictProofs$Machine" (11 : Nat) "StrictProofs$Machine" "what" "[LStrictProofs$Expression;") ∈ lw_all := lw_g (lw_at lw_m1 194 rfl) rfl
theorem q275 : (Jvm.Cond.fieldLink "StrictProofs$Machine" (17 : Nat) "StrictProofs$Machine" "frames" "[I") ∈ lw_all := lw_g (lw_at lw_m1 195 rfl) rfl
theorem q276 : (Jvm.Cond.fieldLink "StrictProofs$Machine" (21 : Nat) "StrictProofs$Machine" "states" "[B") ∈ lw_all := lw_g (lw_at lw_m1 196 rfl) rfl
theorem q278 : (Jvm.Cond.fieldLink "StrictProofs$Machine" (25 : Nat) "StrictProofs$Machine" "values" "[I") ∈ lw_all := lw_g (lw_at lw_m1 198 rfl) rfl
theorem q280 : (Jvm.Cond.fieldLink "StrictProofs$Machine" (44 : Nat) "StrictProofs$Machine" "things" "I") ∈ lw_all := lw_g (lw_at lw_m1 200 rfl) rfl
theorem q282 : (Jvm.Cond.fieldLink "StrictProofs$Machine" (28 : Nat) "StrictProofs$Machine" "lefts" "[I") ∈ lw_all := lw_g (lw_at lw_m1 202 rfl) rfl
theorem q285 : (Jvm.Cond.fieldLink "StrictProofs$Machine" (31 : Nat) "StrictProofs$Machine" "rights" "[I") ∈ lw_all := lw_g (lw_at lw_m1 205 rfl) rfl
theorem q288 : (Jvm.Cond.fieldLink "StrictProofs$Machine" (48 : Nat) "StrictProofs$Machine" "pairs" "I") ∈ lw_all := lw_g (lw_at lw_m1 208 rfl) rfl
theorem q290 : (Jvm.Cond.fieldLink "StrictProofs$Machine" (34 : Nat) "StrictProofs$Machine" "slots" "[I") ∈ lw_all := lw_g (lw_at lw_m1 210 rfl) rfl
theorem q296 : (Jvm.Cond.fieldLink "StrictProofs$Machine" (51 : Nat) "StrictProofs$Machine" "calls" "I") ∈ lw_all := lw_g (lw_at lw_m1 216 rfl) rfl
theorem q298 : (Jvm.Cond.fieldLink "StrictProofs$Machine" (54 : Nat) "StrictProofs$Machine" "inputs" "I") ∈ lw_all := lw_g (lw_at lw_m1 218 rfl) rfl
theorem q300 : (Jvm.Cond.fieldLink "StrictProofs$Machine" (57 : Nat) "StrictProofs$Machine" "inputPairs" "I") ∈ lw_all := lw_g (lw_at lw_m1 220 rfl) rfl
theorem q302 : (Jvm.Cond.fieldLink "StrictProofs$Machine" (75 : Nat) "StrictProofs$Machine" "limit" "I") ∈ lw_all := lw_g (lw_at lw_m1 222 rfl) rfl
theorem q303 : (Jvm.Cond.fieldLink "StrictProofs$Machine" (60 : Nat) "StrictProofs$Machine" "steps" "I") ∈ lw_all := lw_g (lw_at lw_m1 223 rfl) rfl
theorem q305 : (Jvm.Cond.fieldLink "StrictProofs$Machine" (63 : Nat) "StrictProofs$Machine" "depth" "I") ∈ lw_all := lw_g (lw_at lw_m1 225 rfl) rfl
theorem q306 : (Jvm.Cond.fieldLink "StrictProofs$Machine" (66 : Nat) "StrictProofs$Machine" "deepest" "I") ∈ lw_all := lw_g (lw_at lw_m1 226 rfl) rfl
theorem q308 : (Jvm.Cond.fieldLink "StrictProofs$Machine" (69 : Nat) "StrictProofs$Machine" "ended" "I") ∈ lw_all := lw_g (lw_at lw_m1 228 rfl) rfl
theorem q313 : (Jvm.Cond.fieldLink "StrictProofs$Machine" (150 : Nat) "StrictProofs$Machine" "answer" "I") ∈ lw_all := lw_g (lw_at lw_m1 233 rfl) rfl
theorem q315 : (Jvm.Cond.fieldLink "StrictProofs$Machine" (145 : Nat) "StrictProofs$Machine" "type" "I") ∈ lw_all := lw_g (lw_at lw_m1 235 rfl) rfl
theorem q317 : (Jvm.Cond.fieldLink "StrictProofs$Machine" (72 : Nat) "StrictProofs$Machine" "params" "I") ∈ lw_all := lw_g (lw_at lw_m1 237 rfl) rfl
theorem q319 : (Jvm.Cond.fieldLink "StrictProofs$Machine" (37 : Nat) "StrictProofs$Machine" "wasNeeded" "[Z") ∈ lw_all := lw_g (lw_at lw_m1 239 rfl) rfl
theorem q321 : (Jvm.Cond.fieldLink "StrictProofs$Machine" (126 : Nat) "StrictProofs$Machine" "at" "I") ∈ lw_all := lw_g (lw_at lw_m2 1 rfl) rfl
theorem q322 : (Jvm.Cond.fieldLink "StrictProofs$Machine" (41 : Nat) "StrictProofs$Machine" "todo" "[I") ∈ lw_all := lw_g (lw_at lw_m2 2 rfl) rfl
theorem q323 : (Jvm.Cond.laysFinal "StrictProofs$Machine" "StrictProofs$Machine" "what" "[LStrictProofs$Expression;") ∈ lw_all := lw_g (lw_at lw_m2 3 rfl) rfl
theorem q324 : (Jvm.Cond.soleField "StrictProofs$Machine" "what") ∈ lw_all := lw_g (lw_at lw_m2 4 rfl) rfl
theorem q325 : (Jvm.Cond.laysFinal "StrictProofs$Machine" "StrictProofs$Machine" "frames" "[I") ∈ lw_all := lw_g (lw_at lw_m2 5 rfl) rfl
theorem q326 : (Jvm.Cond.soleField "StrictProofs$Machine" "frames") ∈ lw_all := lw_g (lw_at lw_m2 6 rfl) rfl
theorem q327 : (Jvm.Cond.laysFinal "StrictProofs$Machine" "StrictProofs$Machine" "states" "[B") ∈ lw_all := lw_g (lw_at lw_m2 7 rfl) rfl
theorem q328 : (Jvm.Cond.soleField "StrictProofs$Machine" "states") ∈ lw_all := lw_g (lw_at lw_m2 8 rfl) rfl
theorem q329 : (Jvm.Cond.laysFinal "StrictProofs$Machine" "StrictProofs$Machine" "values" "[I") ∈ lw_all := lw_g (lw_at lw_m2 9 rfl) rfl
theorem q330 : (Jvm.Cond.soleField "StrictProofs$Machine" "values") ∈ lw_all := lw_g (lw_at lw_m2 10 rfl) rfl
theorem q331 : (Jvm.Cond.lays "StrictProofs$Machine" "StrictProofs$Machine" "things" "I") ∈ lw_all := lw_g (lw_at lw_m2 11 rfl) rfl
theorem q332 : (Jvm.Cond.soleField "StrictProofs$Machine" "things") ∈ lw_all := lw_g (lw_at lw_m2 12 rfl) rfl
theorem q333 : (Jvm.Cond.laysFinal "StrictProofs$Machine" "StrictProofs$Machine" "lefts" "[I") ∈ lw_all := lw_g (lw_at lw_m2 13 rfl) rfl
theorem q334 : (Jvm.Cond.soleField "StrictProofs$Machine" "lefts") ∈ lw_all := lw_g (lw_at lw_m2 14 rfl) rfl
theorem q335 : (Jvm.Cond.laysFinal "StrictProofs$Machine" "StrictProofs$Machine" "rights" "[I") ∈ lw_all := lw_g (lw_at lw_m2 15 rfl) rfl
theorem q336 : (Jvm.Cond.soleField "StrictProofs$Machine" "rights") ∈ lw_all := lw_g (lw_at lw_m2 16 rfl) rfl
theorem q337 : (Jvm.Cond.lays "StrictProofs$Machine" "StrictProofs$Machine" "pairs" "I") ∈ lw_all := lw_g (lw_at lw_m2 17 rfl) rfl
theorem q338 : (Jvm.Cond.soleField "StrictProofs$Machine" "pairs") ∈ lw_all := lw_g (lw_at lw_m2 18 rfl) rfl
theorem q339 : (Jvm.Cond.laysFinal "StrictProofs$Machine" "StrictProofs$Machine" "slots" "[I") ∈ lw_all := lw_g (lw_at lw_m2 19 rfl) rfl
theorem q340 : (Jvm.Cond.soleField "StrictProofs$Machine" "slots") ∈ lw_all := lw_g (lw_at lw_m2 20 rfl) rfl
theorem q341 : (Jvm.Cond.lays "StrictProofs$Machine" "StrictProofs$Machine" "calls" "I") ∈ lw_all := lw_g (lw_at lw_m2 21 rfl) rfl
theorem q342 : (Jvm.Cond.soleField "StrictProofs$Machine" "calls") ∈ lw_all := lw_g (lw_at lw_m2 22 rfl) rfl
theorem q343 : (Jvm.Cond.lays "StrictProofs$Machine" "StrictProofs$Machine" "inputs" "I") ∈ lw_all := lw_g (lw_at lw_m2 23 rfl) rfl
theorem q344 : (Jvm.Cond.soleField "StrictProofs$Machine" "inputs") ∈ lw_all := lw_g (lw_at lw_m2 24 rfl) rfl
theorem q345 : (Jvm.Cond.lays "StrictProofs$Machine" "StrictProofs$Machine" "inputPairs" "I") ∈ lw_all := lw_g (lw_at lw_m2 25 rfl) rfl
theorem q346 : (Jvm.Cond.soleField "StrictProofs$Machine" "inputPairs") ∈ lw_all := lw_g (lw_at lw_m2 26 rfl) rfl
theorem q347 : (Jvm.Cond.lays "StrictProofs$Machine" "StrictProofs$Machine" "limit" "I") ∈ lw_all := lw_g (lw_at lw_m2 27 rfl) rfl
theorem q348 : (Jvm.Cond.soleField "StrictProofs$Machine" "limit") ∈ lw_all := lw_g (lw_at lw_m2 28 rfl) rfl
theorem q349 : (Jvm.Cond.lays "StrictProofs$Machine" "StrictProofs$Machine" "steps" "I") ∈ lw_all := lw_g (lw_at lw_m2 29 rfl) rfl
theorem q350 : (Jvm.Cond.soleField "StrictProofs$Machine" "steps") ∈ lw_all := lw_g (lw_at lw_m2 30 rfl) rfl
theorem q351 : (Jvm.Cond.lays "StrictProofs$Machine" "StrictProofs$Machine" "depth" "I") ∈ lw_all := lw_g (lw_at lw_m2 31 rfl) rfl
theorem q352 : (Jvm.Cond.soleField "StrictProofs$Machine" "depth") ∈ lw_all := lw_g (lw_at lw_m2 32 rfl) rfl
theorem q353 : (Jvm.Cond.lays "StrictProofs$Machine" "StrictProofs$Machine" "deepest" "I") ∈ lw_all := lw_g (lw_at lw_m2 33 rfl) rfl
theorem q354 : (Jvm.Cond.soleField "StrictProofs$Machine" "deepest") ∈ lw_all := lw_g (lw_at lw_m2 34 rfl) rfl
theorem q355 : (Jvm.Cond.lays "StrictProofs$Machine" "StrictProofs$Machine" "ended" "I") ∈ lw_all := lw_g (lw_at lw_m2 35 rfl) rfl
theorem q356 : (Jvm.Cond.soleField "StrictProofs$Machine" "ended") ∈ lw_all := lw_g (lw_at lw_m2 36 rfl) rfl
theorem q357 : (Jvm.Cond.lays "StrictProofs$Machine" "StrictProofs$Machine" "answer" "I") ∈ lw_all := lw_g (lw_at lw_m2 37 rfl) rfl
theorem q358 : (Jvm.Cond.soleField "StrictProofs$Machine" "answer") ∈ lw_all := lw_g (lw_at lw_m2 38 rfl) rfl
theorem q359 : (Jvm.Cond.lays "StrictProofs$Machine" "StrictProofs$Machine" "type" "I") ∈ lw_all := lw_g (lw_at lw_m2 39 rfl) rfl
theorem q360 : (Jvm.Cond.soleField "StrictProofs$Machine" "type") ∈ lw_all := lw_g (lw_at lw_m2 40 rfl) rfl
theorem q361 : (Jvm.Cond.lays "StrictProofs$Machine" "StrictProofs$Machine" "params" "I") ∈ lw_all := lw_g (lw_at lw_m2 41 rfl) rfl
theorem q362 : (Jvm.Cond.soleField "StrictProofs$Machine" "params") ∈ lw_all := lw_g (lw_at lw_m2 42 rfl) rfl
theorem q363 : (Jvm.Cond.laysFinal "StrictProofs$Machine" "StrictProofs$Machine" "wasNeeded" "[Z") ∈ lw_all := lw_g (lw_at lw_m2 43 rfl) rfl
theorem q364 : (Jvm.Cond.soleField "StrictProofs$Machine" "wasNeeded") ∈ lw_all := lw_g (lw_at lw_m2 44 rfl) rfl
theorem q365 : (Jvm.Cond.lays "StrictProofs$Machine" "StrictProofs$Machine" "at" "I") ∈ lw_all := lw_g (lw_at lw_m2 45 rfl) rfl
theorem q366 : (Jvm.Cond.soleField "StrictProofs$Machine" "at") ∈ lw_all := lw_g (lw_at lw_m2 46 rfl) rfl
theorem q367 : (Jvm.Cond.laysFinal "StrictProofs$Machine" "StrictProofs$Machine" "todo" "[I") ∈ lw_all := lw_g (lw_at lw_m2 47 rfl) rfl
theorem q368 : (Jvm.Cond.soleField "StrictProofs$Machine" "todo") ∈ lw_all := lw_g (lw_at lw_m2 48 rfl) rfl
theorem q369 : (Jvm.Cond.superclass "StrictProofs$Machine" "java/lang/Object") ∈ lw_all := lw_g (lw_at lw_m2 49 rfl) rfl
theorem q666 : (Jvm.Cond.fieldLinkNest "StrictProofs$Machine" (133 : Nat) "StrictProofs$Function" "params" "I" "StrictProofs") ∈ lw_tbl := lw_at lw_m3 106 rfl
theorem q674 : (Jvm.Cond.fieldLinkNest "StrictProofs$Machine" (142 : Nat) "StrictProofs$Function" "type" "I" "StrictProofs") ∈ lw_tbl := lw_at lw_m3 114 rfl
theorem q687 : (Jvm.Cond.fieldLinkNest "StrictProofs$Machine" (136 : Nat) "StrictProofs$Function" "types" "[I" "StrictProofs") ∈ lw_tbl := lw_at lw_m3 127 rfl
theorem q693 : (Jvm.Cond.fieldLinkNest "StrictProofs$Machine" (146 : Nat) "StrictProofs$Function" "body" "LStrictProofs$Expression;" "StrictProofs") ∈ lw_tbl := lw_at lw_m3 133 rfl
theorem q1050 : (Jvm.Cond.instanceMethod ({ cls := "StrictProofs$Machine", name := "forget", desc := "()V" } : Jvm.MethodName)) ∈ lw_all := lw_g (lw_at lw_m5 10 rfl) rfl
theorem q1051 : (Jvm.Cond.selects "StrictProofs$Machine" ({ cls := "StrictProofs$Machine", name := "forget", desc := "()V" } : Jvm.MethodName) ({ cls := "StrictProofs$Machine", name := "forget", desc := "()V" } : Jvm.MethodName)) ∈ lw_all := lw_g (lw_at lw_m5 11 rfl) rfl
theorem q1052 : (Jvm.Cond.code ({ cls := "StrictProofs$Machine", name := "forget", desc := "()V" } : Jvm.MethodName) prog_11_method_2_code (1 : Nat) (Option.none : Option Jvm.ClassFile.FieldType)) ∈ lw_all := lw_g (lw_at lw_m5 12 rfl) rfl
theorem q1320 : (Jvm.Cond.instanceMethod ({ cls := "StrictProofs$Machine", name := "fit", desc := "([IILStrictProofs$Function;)Z" } : Jvm.MethodName)) ∈ lw_all := lw_g (lw_at lw_m6 40 rfl) rfl
theorem q1321 : (Jvm.Cond.selects "StrictProofs$Machine" ({ cls := "StrictProofs$Machine", name := "fit", desc := "([IILStrictProofs$Function;)Z" } : Jvm.MethodName) ({ cls := "StrictProofs$Machine", name := "fit", desc := "([IILStrictProofs$Function;)Z" } : Jvm.MethodName)) ∈ lw_all := lw_g (lw_at lw_m6 41 rfl) rfl
theorem q1322 : (Jvm.Cond.code ({ cls := "StrictProofs$Machine", name := "fit", desc := "([IILStrictProofs$Function;)Z" } : Jvm.MethodName) prog_11_method_13_code (7 : Nat) (Option.some Jvm.ClassFile.FieldType.boolean)) ∈ lw_all := lw_g (lw_at lw_m6 42 rfl) rfl
theorem q1323 : (Jvm.Cond.methodLinkNest "StrictProofs$Machine" (114 : Nat) ({ cls := "StrictProofs", name := "right", desc := "(I)I" } : Jvm.MethodName) "StrictProofs") ∈ lw_tbl := lw_at lw_m6 43 rfl
theorem q1324 : (Jvm.Cond.methodLinkNest "StrictProofs$Machine" (103 : Nat) ({ cls := "StrictProofs", name := "left", desc := "(I)I" } : Jvm.MethodName) "StrictProofs") ∈ lw_tbl := lw_at lw_m6 44 rfl
theorem q1326 : (Jvm.Cond.instanceMethod ({ cls := "StrictProofs$Machine", name := "run", desc := "(LStrictProofs$Function;II[I[I)I" } : Jvm.MethodName)) ∈ lw_all := lw_g (lw_at lw_m6 46 rfl) rfl
theorem q1327 : (Jvm.Cond.selects "StrictProofs$Machine" ({ cls := "StrictProofs$Machine", name := "run", desc := "(LStrictProofs$Function;II[I[I)I" } : Jvm.MethodName) ({ cls := "StrictProofs$Machine", name := "run", desc := "(LStrictProofs$Function;II[I[I)I" } : Jvm.MethodName)) ∈ lw_all := lw_g (lw_at lw_m6 47 rfl) rfl
theorem q1328 : (Jvm.Cond.code ({ cls := "StrictProofs$Machine", name := "run", desc := "(LStrictProofs$Function;II[I[I)I" } : Jvm.MethodName) prog_11_method_14_code (7 : Nat) (Option.some Jvm.ClassFile.FieldType.int)) ∈ lw_all := lw_g (lw_at lw_m6 48 rfl) rfl
theorem q1329 : (Jvm.Cond.methodLink "StrictProofs$Machine" (139 : Nat) ({ cls := "StrictProofs$Machine", name := "forget", desc := "()V" } : Jvm.MethodName)) ∈ lw_all := lw_g (lw_at lw_m6 49 rfl) rfl
theorem q1330 : (Jvm.Cond.methodLink "StrictProofs$Machine" (129 : Nat) ({ cls := "StrictProofs$Machine", name := "input", desc := "([I[II)I" } : Jvm.MethodName)) ∈ lw_all := lw_g (lw_at lw_m6 50 rfl) rfl
theorem q1331 : (Jvm.Cond.privateMethod ({ cls := "StrictProofs$Machine", name := "input", desc := "([I[II)I" } : Jvm.MethodName)) ∈ lw_tbl := lw_at lw_m6 51 rfl
theorem q1332 : (Jvm.Cond.instanceMethod ({ cls := "StrictProofs$Machine", name := "input", desc := "([I[II)I" } : Jvm.MethodName)) ∈ lw_all := lw_g (lw_at lw_m6 52 rfl) rfl
theorem q1333 : (Jvm.Cond.code ({ cls := "StrictProofs$Machine", name := "input", desc := "([I[II)I" } : Jvm.MethodName) prog_11_method_12_code (7 : Nat) (Option.some Jvm.ClassFile.FieldType.int)) ∈ lw_all := lw_g (lw_at lw_m6 53 rfl) rfl
theorem q1334 : (Jvm.Cond.methodLink "StrictProofs$Machine" (96 : Nat) ({ cls := "StrictProofs$Machine", name := "put", desc := "(LStrictProofs$Expression;II)I" } : Jvm.MethodName)) ∈ lw_all := lw_g (lw_at lw_m6 54 rfl) rfl
theorem q1335 : (Jvm.Cond.privateMethod ({ cls := "StrictProofs$Machine", name := "put", desc := "(LStrictProofs$Expression;II)I" } : Jvm.MethodName)) ∈ lw_tbl := lw_at lw_m6 55 rfl
theorem q1336 : (Jvm.Cond.instanceMethod ({ cls := "StrictProofs$Machine", name := "put", desc := "(LStrictProofs$Expression;II)I" } : Jvm.MethodName)) ∈ lw_all := lw_g (lw_at lw_m6 56 rfl) rfl
theorem q1337 : (Jvm.Cond.code ({ cls := "StrictProofs$Machine", name := "put", desc := "(LStrictProofs$Expression;II)I" } : Jvm.MethodName) prog_11_method_5_code (4 : Nat) (Option.some Jvm.ClassFile.FieldType.int)) ∈ lw_all := lw_g (lw_at lw_m6 57 rfl) rfl
theorem q1338 : (Jvm.Cond.methodLink "StrictProofs$Machine" (100 : Nat) ({ cls := "StrictProofs$Machine", name := "work", desc := "(LStrictProofs$Expression;I)I" } : Jvm.MethodName)) ∈ lw_all := lw_g (lw_at lw_m6 58 rfl) rfl
theorem q1339 : (Jvm.Cond.instanceMethod ({ cls := "StrictProofs$Machine", name := "work", desc := "(LStrictProofs$Expression;I)I" } : Jvm.MethodName)) ∈ lw_all := lw_g (lw_at lw_m6 59 rfl) rfl
theorem q1340 : (Jvm.Cond.selects "StrictProofs$Machine" ({ cls := "StrictProofs$Machine", name := "work", desc := "(LStrictProofs$Expression;I)I" } : Jvm.MethodName) ({ cls := "StrictProofs$Machine", name := "work", desc := "(LStrictProofs$Expression;I)I" } : Jvm.MethodName)) ∈ lw_all := lw_g (lw_at lw_m6 60 rfl) rfl
theorem q1341 : (Jvm.Cond.code ({ cls := "StrictProofs$Machine", name := "work", desc := "(LStrictProofs$Expression;I)I" } : Jvm.MethodName) prog_11_method_4_code (4 : Nat) (Option.some Jvm.ClassFile.FieldType.int)) ∈ lw_all := lw_g (lw_at lw_m6 61 rfl) rfl
theorem q1342 : (Jvm.Cond.methodLink "StrictProofs$Machine" (78 : Nat) ({ cls := "StrictProofs$Machine", name := "ends", desc := "(I)V" } : Jvm.MethodName)) ∈ lw_all := lw_g (lw_at lw_m6 62 rfl) rfl
theorem q1343 : (Jvm.Cond.instanceMethod ({ cls := "StrictProofs$Machine", name := "ends", desc := "(I)V" } : Jvm.MethodName)) ∈ lw_all := lw_g (lw_at lw_m6 63 rfl) rfl
theorem q1344 : (Jvm.Cond.selects "StrictProofs$Machine" ({ cls := "StrictProofs$Machine", name := "ends", desc := "(I)V" } : Jvm.MethodName) ({ cls := "StrictProofs$Machine", name := "ends", desc := "(I)V" } : Jvm.MethodName)) ∈ lw_all := lw_g (lw_at lw_m6 64 rfl) rfl
theorem q1345 : (Jvm.Cond.code ({ cls := "StrictProofs$Machine", name := "ends", desc := "(I)V" } : Jvm.MethodName) prog_11_method_3_code (2 : Nat) (Option.none : Option Jvm.ClassFile.FieldType)) ∈ lw_all := lw_g (lw_at lw_m6 65 rfl) rfl
theorem q1346 : (Jvm.Cond.methodLink "StrictProofs$Machine" (82 : Nat) ({ cls := "java/lang/Math", name := "max", desc := "(II)I" } : Jvm.MethodName)) ∈ lw_all := lw_g (lw_at lw_m6 66 rfl) rfl
theorem q1347 : (Jvm.Cond.methodLink "StrictProofs$Machine" (88 : Nat) ({ cls := "StrictProofs$Expression", name := "work", desc := "(LStrictProofs$Machine;I)I" } : Jvm.MethodName)) ∈ lw_all := lw_g (lw_at lw_m6 67 rfl) rfl
theorem q1354 : (Jvm.Cond.instanceMethod ({ cls := "StrictProofs$Machine", name := "call", desc := "()I" } : Jvm.MethodName)) ∈ lw_all := lw_g (lw_at lw_m6 74 rfl) rfl
theorem q1355 : (Jvm.Cond.selects "StrictProofs$Machine" ({ cls := "StrictProofs$Machine", name := "call", desc := "()I" } : Jvm.MethodName) ({ cls := "StrictProofs$Machine", name := "call", desc := "()I" } : Jvm.MethodName)) ∈ lw_all := lw_g (lw_at lw_m6 75 rfl) rfl
theorem q1356 : (Jvm.Cond.code ({ cls := "StrictProofs$Machine", name := "call", desc := "()I" } : Jvm.MethodName) prog_11_method_8_code (1 : Nat) (Option.some Jvm.ClassFile.FieldType.int)) ∈ lw_all := lw_g (lw_at lw_m6 76 rfl) rfl
theorem q1358 : (Jvm.Cond.instanceMethod ({ cls := "StrictProofs$Machine", name := "thing", desc := "(LStrictProofs$Expression;I)I" } : Jvm.MethodName)) ∈ lw_all := lw_g (lw_at lw_m6 78 rfl) rfl
theorem q1359 : (Jvm.Cond.selects "StrictProofs$Machine" ({ cls := "StrictProofs$Machine", name := "thing", desc := "(LStrictProofs$Expression;I)I" } : Jvm.MethodName) ({ cls := "StrictProofs$Machine", name := "thing", desc := "(LStrictProofs$Expression;I)I" } : Jvm.MethodName)) ∈ lw_all := lw_g (lw_at lw_m6 79 rfl) rfl
theorem q1360 : (Jvm.Cond.code ({ cls := "StrictProofs$Machine", name := "thing", desc := "(LStrictProofs$Expression;I)I" } : Jvm.MethodName) prog_11_method_6_code (3 : Nat) (Option.some Jvm.ClassFile.FieldType.int)) ∈ lw_all := lw_g (lw_at lw_m6 80 rfl) rfl
theorem q1361 : (Jvm.Cond.methodLink "StrictProofs$Machine" (92 : Nat) ({ cls := "StrictProofs$Expression", name := "alone", desc := "()I" } : Jvm.MethodName)) ∈ lw_all := lw_g (lw_at lw_m6 81 rfl) rfl
theorem q1398 : (Jvm.Cond.instanceMethod ({ cls := "StrictProofs$Machine", name := "need", desc := "(I)I" } : Jvm.MethodName)) ∈ lw_all := lw_g (lw_at lw_m6 118 rfl) rfl
theorem q1399 : (Jvm.Cond.selects "StrictProofs$Machine" ({ cls := "StrictProofs$Machine", name := "need", desc := "(I)I" } : Jvm.MethodName) ({ cls := "StrictProofs$Machine", name := "need", desc := "(I)I" } : Jvm.MethodName)) ∈ lw_all := lw_g (lw_at lw_m6 119 rfl) rfl
theorem q1400 : (Jvm.Cond.code ({ cls := "StrictProofs$Machine", name := "need", desc := "(I)I" } : Jvm.MethodName) prog_11_method_9_code (3 : Nat) (Option.some Jvm.ClassFile.FieldType.int)) ∈ lw_all := lw_g (lw_at lw_m6 120 rfl) rfl
theorem q1408 : (Jvm.Cond.instanceMethod ({ cls := "StrictProofs$Machine", name := "pair", desc := "()I" } : Jvm.MethodName)) ∈ lw_all := lw_g (lw_at lw_m6 128 rfl) rfl
theorem q1409 : (Jvm.Cond.selects "StrictProofs$Machine" ({ cls := "StrictProofs$Machine", name := "pair", desc := "()I" } : Jvm.MethodName) ({ cls := "StrictProofs$Machine", name := "pair", desc := "()I" } : Jvm.MethodName)) ∈ lw_all := lw_g (lw_at lw_m6 129 rfl) rfl
theorem q1410 : (Jvm.Cond.code ({ cls := "StrictProofs$Machine", name := "pair", desc := "()I" } : Jvm.MethodName) prog_11_method_7_code (1 : Nat) (Option.some Jvm.ClassFile.FieldType.int)) ∈ lw_all := lw_g (lw_at lw_m6 130 rfl) rfl
theorem q1416 : (Jvm.Cond.methodLink "StrictProofs$Machine" (123 : Nat) ({ cls := "StrictProofs$Machine", name := "ask", desc := "(III)V" } : Jvm.MethodName)) ∈ lw_all := lw_g (lw_at lw_m6 136 rfl) rfl
theorem q1417 : (Jvm.Cond.instanceMethod ({ cls := "StrictProofs$Machine", name := "ask", desc := "(III)V" } : Jvm.MethodName)) ∈ lw_all := lw_g (lw_at lw_m6 137 rfl) rfl
theorem q1418 : (Jvm.Cond.selects "StrictProofs$Machine" ({ cls := "StrictProofs$Machine", name := "ask", desc := "(III)V" } : Jvm.MethodName) ({ cls := "StrictProofs$Machine", name := "ask", desc := "(III)V" } : Jvm.MethodName)) ∈ lw_all := lw_g (lw_at lw_m6 138 rfl) rfl
theorem q1419 : (Jvm.Cond.code ({ cls := "StrictProofs$Machine", name := "ask", desc := "(III)V" } : Jvm.MethodName) prog_11_method_10_code (4 : Nat) (Option.none : Option Jvm.ClassFile.FieldType)) ∈ lw_all := lw_g (lw_at lw_m6 139 rfl) rfl
theorem q1420 : (Jvm.Cond.methodLinkNest "StrictProofs$Machine" (107 : Nat) ({ cls := "StrictProofs", name := "first", desc := "(II)I" } : Jvm.MethodName) "StrictProofs") ∈ lw_tbl := lw_at lw_m6 140 rfl
theorem q1421 : (Jvm.Cond.methodLink "StrictProofs$Machine" (110 : Nat) ({ cls := "StrictProofs$Machine", name := "part", desc := "(III)V" } : Jvm.MethodName)) ∈ lw_all := lw_g (lw_at lw_m6 141 rfl) rfl
theorem q1422 : (Jvm.Cond.privateMethod ({ cls := "StrictProofs$Machine", name := "part", desc := "(III)V" } : Jvm.MethodName)) ∈ lw_tbl := lw_at lw_m6 142 rfl
theorem q1423 : (Jvm.Cond.instanceMethod ({ cls := "StrictProofs$Machine", name := "part", desc := "(III)V" } : Jvm.MethodName)) ∈ lw_all := lw_g (lw_at lw_m6 143 rfl) rfl
theorem q1424 : (Jvm.Cond.code ({ cls := "StrictProofs$Machine", name := "part", desc := "(III)V" } : Jvm.MethodName) prog_11_method_11_code (4 : Nat) (Option.none : Option Jvm.ClassFile.FieldType)) ∈ lw_all := lw_g (lw_at lw_m6 144 rfl) rfl
theorem q1425 : (Jvm.Cond.methodLink "StrictProofs$Machine" (120 : Nat) ({ cls := "StrictProofs$Machine", name := "need", desc := "(I)I" } : Jvm.MethodName)) ∈ lw_all := lw_g (lw_at lw_m6 145 rfl) rfl
theorem q1426 : (Jvm.Cond.methodLinkNest "StrictProofs$Machine" (117 : Nat) ({ cls := "StrictProofs", name := "second", desc := "(II)I" } : Jvm.MethodName) "StrictProofs") ∈ lw_tbl := lw_at lw_m6 146 rfl
theorem q1442 : (Jvm.Cond.instanceMethod ({ cls := "StrictProofs$Machine", name := "thingAt", desc := "(I)I" } : Jvm.MethodName)) ∈ lw_all := lw_g (lw_at lw_m6 162 rfl) rfl
theorem q1443 : (Jvm.Cond.selects "StrictProofs$Machine" ({ cls := "StrictProofs$Machine", name := "thingAt", desc := "(I)I" } : Jvm.MethodName) ({ cls := "StrictProofs$Machine", name := "thingAt", desc := "(I)I" } : Jvm.MethodName)) ∈ lw_all := lw_g (lw_at lw_m6 163 rfl) rfl
theorem q1444 : (Jvm.Cond.code ({ cls := "StrictProofs$Machine", name := "thingAt", desc := "(I)I" } : Jvm.MethodName) prog_11_method_15_code (7 : Nat) (Option.some Jvm.ClassFile.FieldType.int)) ∈ lw_all := lw_g (lw_at lw_m6 164 rfl) rfl
theorem q88 : (Jvm.Cond.initialized "StrictProofsModel") ∈ lw_all := lw_g (lw_at lw_m1 8 rfl) rfl
theorem q1453 : (Jvm.Cond.instantiable "StrictProofsModel" (83 : Nat)) ∈ lw_all := lw_g (lw_at lw_m6 173 rfl) rfl
theorem q1455 : (Jvm.Cond.instanceMethod ({ cls := "StrictProofsModel", name := "<init>", desc := "()V" } : Jvm.MethodName)) ∈ lw_all := lw_g (lw_at lw_m6 175 rfl) rfl
theorem q1456 : (Jvm.Cond.code ({ cls := "StrictProofsModel", name := "<init>", desc := "()V" } : Jvm.MethodName) prog_20_method_1_code (1 : Nat) (Option.none : Option Jvm.ClassFile.FieldType)) ∈ lw_all := lw_g (lw_at lw_m6 176 rfl) rfl
theorem q1457 : (Jvm.Cond.methodLink "StrictProofsModel" (1 : Nat) ({ cls := "java/lang/Object", name := "<init>", desc := "()V" } : Jvm.MethodName)) ∈ lw_all := lw_g (lw_at lw_m6 177 rfl) rfl
theorem q1458 : (Jvm.Cond.fieldLink "StrictProofsModel" (148 : Nat) "StrictProofsModel" "thrown" "I") ∈ lw_all := lw_g (lw_at lw_m6 178 rfl) rfl
theorem q1459 : (Jvm.Cond.fieldLink "StrictProofsModel" (7 : Nat) "StrictProofsModel" "tape" "[I") ∈ lw_all := lw_g (lw_at lw_m6 179 rfl) rfl
theorem q1460 : (Jvm.Cond.fieldLink "StrictProofsModel" (151 : Nat) "StrictProofsModel" "taped" "I") ∈ lw_all := lw_g (lw_at lw_m6 180 rfl) rfl
theorem q1461 : (Jvm.Cond.fieldLink "StrictProofsModel" (187 : Nat) "StrictProofsModel" "at" "I") ∈ lw_all := lw_g (lw_at lw_m6 181 rfl) rfl
theorem q1462 : (Jvm.Cond.fieldLink "StrictProofsModel" (193 : Nat) "StrictProofsModel" "token" "I") ∈ lw_all := lw_g (lw_at lw_m6 182 rfl) rfl
theorem q1463 : (Jvm.Cond.fieldLink "StrictProofsModel" (190 : Nat) "StrictProofsModel" "tokenAt" "I") ∈ lw_all := lw_g (lw_at lw_m6 183 rfl) rfl
theorem q1464 : (Jvm.Cond.fieldLink "StrictProofsModel" (196 : Nat) "StrictProofsModel" "tokenCount" "I") ∈ lw_all := lw_g (lw_at lw_m6 184 rfl) rfl
theorem q1465 : (Jvm.Cond.fieldLink "StrictProofsModel" (222 : Nat) "StrictProofsModel" "key" "J") ∈ lw_all := lw_g (lw_at lw_m6 185 rfl) rfl
theorem q1466 : (Jvm.Cond.fieldLink "StrictProofsModel" (215 : Nat) "StrictProofsModel" "amount" "I") ∈ lw_all := lw_g (lw_at lw_m6 186 rfl) rfl
theorem q1467 : (Jvm.Cond.fieldLink "StrictProofsModel" (176 : Nat) "StrictProofsModel" "fault" "I") ∈ lw_all := lw_g (lw_at lw_m6 187 rfl) rfl
theorem q1468 : (Jvm.Cond.fieldLink "StrictProofsModel" (13 : Nat) "StrictProofsModel" "faultAt" "I") ∈ lw_all := lw_g (lw_at lw_m6 188 rfl) rfl
theorem q1469 : (Jvm.Cond.fieldLink "StrictProofsModel" (17 : Nat) "StrictProofsModel" "fnKey" "[J") ∈ lw_all := lw_g (lw_at lw_m6 189 rfl) rfl
theorem q1470 : (Jvm.Cond.fieldLink "StrictProofsModel" (21 : Nat) "StrictProofsModel" "fnType" "[I") ∈ lw_all := lw_g (lw_at lw_m6 190 rfl) rfl
theorem q1471 : (Jvm.Cond.fieldLink "StrictProofsModel" (24 : Nat) "StrictProofsModel" "fnParams" "[I") ∈ lw_all := lw_g (lw_at lw_m6 191 rfl) rfl
theorem q1472 : (Jvm.Cond.fieldLink "StrictProofsModel" (27 : Nat) "StrictProofsModel" "fnNames" "[I") ∈ lw_all := lw_g (lw_at lw_m6 192 rfl) rfl
theorem q1473 : (Jvm.Cond.fieldLink "StrictProofsModel" (30 : Nat) "StrictProofsModel" "fnBody" "[I") ∈ lw_all := lw_g (lw_at lw_m6 193 rfl) rfl
theorem q1474 : (Jvm.Cond.fieldLink "StrictProofsModel" (33 : Nat) "StrictProofsModel" "nameKey" "[J") ∈ lw_all := lw_g (lw_at lw_m6 194 rfl) rfl
theorem q1475 : (Jvm.Cond.fieldLink "StrictProofsModel" (36 : Nat) "StrictProofsModel" "nameType" "[I") ∈ lw_all := lw_g (lw_at lw_m6 195 rfl) rfl
theorem q1476 : (Jvm.Cond.fieldLink "StrictProofsModel" (39 : Nat) "StrictProofsModel" "xKind" "[I") ∈ lw_all := lw_g (lw_at lw_m6 196 rfl) rfl
theorem q1477 : (Jvm.Cond.fieldLink "StrictProofsModel" (42 : Nat) "StrictProofsModel" "xA" "[I") ∈ lw_all := lw_g (lw_at lw_m6 197 rfl) rfl
theorem q1478 : (Jvm.Cond.fieldLink "StrictProofsModel" (45 : Nat) "StrictProofsModel" "xB" "[I") ∈ lw_all := lw_g (lw_at lw_m6 198 rfl) rfl
theorem q1479 : (Jvm.Cond.fieldLink "StrictProofsModel" (48 : Nat) "StrictProofsModel" "xC" "[I") ∈ lw_all := lw_g (lw_at lw_m6 199 rfl) rfl
theorem q1480 : (Jvm.Cond.fieldLink "StrictProofsModel" (51 : Nat) "StrictProofsModel" "xAt" "[I") ∈ lw_all := lw_g (lw_at lw_m6 200 rfl) rfl
theorem q1481 : (Jvm.Cond.fieldLink "StrictProofsModel" (54 : Nat) "StrictProofsModel" "xType" "[I") ∈ lw_all := lw_g (lw_at lw_m6 201 rfl) rfl
theorem q1482 : (Jvm.Cond.fieldLink "StrictProofsModel" (57 : Nat) "StrictProofsModel" "xKey" "[J") ∈ lw_all := lw_g (lw_at lw_m6 202 rfl) rfl
theorem q1483 : (Jvm.Cond.fieldLink "StrictProofsModel" (60 : Nat) "StrictProofsModel" "argOf" "[I") ∈ lw_all := lw_g (lw_at lw_m6 203 rfl) rfl
theorem q1484 : (Jvm.Cond.fieldLink "StrictProofsModel" (63 : Nat) "StrictProofsModel" "bankFns" "[I") ∈ lw_all := lw_g (lw_at lw_m6 204 rfl) rfl
theorem q1485 : (Jvm.Cond.fieldLink "StrictProofsModel" (310 : Nat) "StrictProofsModel" "bank" "I") ∈ lw_all := lw_g (lw_at lw_m6 205 rfl) rfl
theorem q1486 : (Jvm.Cond.fieldLink "StrictProofsModel" (313 : Nat) "StrictProofsModel" "fns" "I") ∈ lw_all := lw_g (lw_at lw_m6 206 rfl) rfl
theorem q1487 : (Jvm.Cond.fieldLink "StrictProofsModel" (232 : Nat) "StrictProofsModel" "nodes" "I") ∈ lw_all := lw_g (lw_at lw_m6 207 rfl) rfl
theorem q1488 : (Jvm.Cond.fieldLink "StrictProofsModel" (301 : Nat) "StrictProofsModel" "argsLaid" "I") ∈ lw_all := lw_g (lw_at lw_m6 208 rfl) rfl
theorem q1489 : (Jvm.Cond.fieldLink "StrictProofsModel" (66 : Nat) "StrictProofsModel" "waiting" "[I") ∈ lw_all := lw_g (lw_at lw_m6 209 rfl) rfl
theorem q1490 : (Jvm.Cond.fieldLink "StrictProofsModel" (294 : Nat) "StrictProofsModel" "waits" "I") ∈ lw_all := lw_g (lw_at lw_m6 210 rfl) rfl
theorem q1491 : (Jvm.Cond.fieldLink "StrictProofsModel" (239 : Nat) "StrictProofsModel" "f" "I") ∈ lw_all := lw_g (lw_at lw_m6 211 rfl) rfl
theorem q1492 : (Jvm.Cond.fieldLink "StrictProofsModel" (69 : Nat) "StrictProofsModel" "sy" "[I") ∈ lw_all := lw_g (lw_at lw_m6 212 rfl) rfl
theorem q1493 : (Jvm.Cond.fieldLink "StrictProofsModel" (72 : Nat) "StrictProofsModel" "sa" "[I") ∈ lw_all := lw_g (lw_at lw_m6 213 rfl) rfl
theorem q1494 : (Jvm.Cond.fieldLink "StrictProofsModel" (242 : Nat) "StrictProofsModel" "tasks" "I") ∈ lw_all := lw_g (lw_at lw_m6 214 rfl) rfl
theorem q1495 : (Jvm.Cond.fieldLink "StrictProofsModel" (75 : Nat) "StrictProofsModel" "made" "[I") ∈ lw_all := lw_g (lw_at lw_m6 215 rfl) rfl
theorem q1496 : (Jvm.Cond.fieldLink "StrictProofsModel" (245 : Nat) "StrictProofsModel" "makes" "I") ∈ lw_all := lw_g (lw_at lw_m6 216 rfl) rfl
theorem q1497 : (Jvm.Cond.fieldLink "StrictProofsModel" (78 : Nat) "StrictProofsModel" "types" "[I") ∈ lw_all := lw_g (lw_at lw_m6 217 rfl) rfl
theorem q1498 : (Jvm.Cond.fieldLink "StrictProofsModel" (248 : Nat) "StrictProofsModel" "typesMade" "I") ∈ lw_all := lw_g (lw_at lw_m6 218 rfl) rfl
theorem q1499 : (Jvm.Cond.fieldLink "StrictProofsModel" (251 : Nat) "StrictProofsModel" "others" "I") ∈ lw_all := lw_g (lw_at lw_m6 219 rfl) rfl
theorem q1500 : (Jvm.Cond.fieldLink "StrictProofsModel" (81 : Nat) "StrictProofsModel" "sw" "[I") ∈ lw_all := lw_g (lw_at lw_m6 220 rfl) rfl
theorem q1501 : (Jvm.Cond.fieldLink "StrictProofsModel" (84 : Nat) "StrictProofsModel" "scope" "[I") ∈ lw_all := lw_g (lw_at lw_m6 221 rfl) rfl
theorem q1502 : (Jvm.Cond.fieldLink "StrictProofsModel" (319 : Nat) "StrictProofsModel" "scoped" "I") ∈ lw_all := lw_g (lw_at lw_m6 222 rfl) rfl
theorem q1503 : (Jvm.Cond.fieldLink "StrictProofsModel" (341 : Nat) "StrictProofsModel" "isProgram" "Z") ∈ lw_all := lw_g (lw_at lw_m6 223 rfl) rfl
theorem q1504 : (Jvm.Cond.fieldLink "StrictProofsModel" (354 : Nat) "StrictProofsModel" "areRows" "Z") ∈ lw_all := lw_g (lw_at lw_m6 224 rfl) rfl
theorem q1505 : (Jvm.Cond.fieldLink "StrictProofsModel" (345 : Nat) "StrictProofsModel" "here" "I") ∈ lw_all := lw_g (lw_at lw_m6 225 rfl) rfl
theorem q1506 : (Jvm.Cond.fieldLink "StrictProofsModel" (87 : Nat) "StrictProofsModel" "sd" "[I") ∈ lw_all := lw_g (lw_at lw_m6 226 rfl) rfl
theorem q1507 : (Jvm.Cond.fieldLink "StrictProofsModel" (90 : Nat) "StrictProofsModel" "asked" "[I") ∈ lw_all := lw_g (lw_at lw_m6 227 rfl) rfl
theorem q1508 : (Jvm.Cond.fieldLink "StrictProofsModel" (93 : Nat) "StrictProofsModel" "isDead" "[Z") ∈ lw_all := lw_g (lw_at lw_m6 228 rfl) rfl
theorem q1509 : (Jvm.Cond.fieldLink "StrictProofsModel" (97 : Nat) "StrictProofsModel" "rows" "[I") ∈ lw_all := lw_g (lw_at lw_m6 229 rfl) rfl
theorem q1510 : (Jvm.Cond.fieldLink "StrictProofsModel" (100 : Nat) "StrictProofsModel" "rowDead" "[Z") ∈ lw_all := lw_g (lw_at lw_m6 230 rfl) rfl
theorem q1511 : (Jvm.Cond.fieldLink "StrictProofsModel" (103 : Nat) "StrictProofsModel" "inputKind" "[I") ∈ lw_all := lw_g (lw_at lw_m6 231 rfl) rfl
theorem q1512 : (Jvm.Cond.fieldLink "StrictProofsModel" (106 : Nat) "StrictProofsModel" "inputValue" "[I") ∈ lw_all := lw_g (lw_at lw_m6 232 rfl) rfl
theorem q1513 : (Jvm.Cond.fieldLink "StrictProofsModel" (402 : Nat) "StrictProofsModel" "inputs" "I") ∈ lw_all := lw_g (lw_at lw_m6 233 rfl) rfl
theorem q1514 : (Jvm.Cond.fieldLink "StrictProofsModel" (109 : Nat) "StrictProofsModel" "ofType" "[I") ∈ lw_all := lw_g (lw_at lw_m6 234 rfl) rfl
theorem q1515 : (Jvm.Cond.fieldLink "StrictProofsModel" (112 : Nat) "StrictProofsModel" "thingOf" "[I") ∈ lw_all := lw_g (lw_at lw_m6 235 rfl) rfl
theorem q1516 : (Jvm.Cond.fieldLink "StrictProofsModel" (115 : Nat) "StrictProofsModel" "thingIn" "[I") ∈ lw_all := lw_g (lw_at lw_m6 236 rfl) rfl
theorem q1517 : (Jvm.Cond.fieldLink "StrictProofsModel" (118 : Nat) "StrictProofsModel" "thingState" "[I") ∈ lw_all := lw_g (lw_at lw_m6 237 rfl) rfl
theorem q1518 : (Jvm.Cond.fieldLink "StrictProofsModel" (121 : Nat) "StrictProofsModel" "thingKind" "[I") ∈ lw_all := lw_g (lw_at lw_m6 238 rfl) rfl
theorem q1519 : (Jvm.Cond.fieldLink "StrictProofsModel" (124 : Nat) "StrictProofsModel" "thingValue" "[I") ∈ lw_all := lw_g (lw_at lw_m6 239 rfl) rfl
theorem q1520 : (Jvm.Cond.fieldLink "StrictProofsModel" (127 : Nat) "StrictProofsModel" "thingNeeded" "[Z") ∈ lw_all := lw_g (lw_at lw_m7 0 rfl) rfl
theorem q1521 : (Jvm.Cond.fieldLink "StrictProofsModel" (130 : Nat) "StrictProofsModel" "pairFirst" "[I") ∈ lw_all := lw_g (lw_at lw_m7 1 rfl) rfl
theorem q1522 : (Jvm.Cond.fieldLink "StrictProofsModel" (133 : Nat) "StrictProofsModel" "pairSecond" "[I") ∈ lw_all := lw_g (lw_at lw_m7 2 rfl) rfl
theorem q1523 : (Jvm.Cond.fieldLink "StrictProofsModel" (136 : Nat) "StrictProofsModel" "envs" "[I") ∈ lw_all := lw_g (lw_at lw_m7 3 rfl) rfl
theorem q1524 : (Jvm.Cond.fieldLink "StrictProofsModel" (139 : Nat) "StrictProofsModel" "paramThing" "[I") ∈ lw_all := lw_g (lw_at lw_m7 4 rfl) rfl
theorem q1525 : (Jvm.Cond.fieldLink "StrictProofsModel" (411 : Nat) "StrictProofsModel" "things" "I") ∈ lw_all := lw_g (lw_at lw_m7 5 rfl) rfl
theorem q1526 : (Jvm.Cond.fieldLink "StrictProofsModel" (459 : Nat) "StrictProofsModel" "pairs" "I") ∈ lw_all := lw_g (lw_at lw_m7 6 rfl) rfl
theorem q1527 : (Jvm.Cond.fieldLink "StrictProofsModel" (456 : Nat) "StrictProofsModel" "calls" "I") ∈ lw_all := lw_g (lw_at lw_m7 7 rfl) rfl
theorem q1528 : (Jvm.Cond.fieldLink "StrictProofsModel" (438 : Nat) "StrictProofsModel" "stepped" "I") ∈ lw_all := lw_g (lw_at lw_m7 8 rfl) rfl
theorem q1529 : (Jvm.Cond.fieldLink "StrictProofsModel" (441 : Nat) "StrictProofsModel" "most" "I") ∈ lw_all := lw_g (lw_at lw_m7 9 rfl) rfl
theorem q1530 : (Jvm.Cond.fieldLink "StrictProofsModel" (426 : Nat) "StrictProofsModel" "depth" "I") ∈ lw_all := lw_g (lw_at lw_m7 10 rfl) rfl
theorem q1531 : (Jvm.Cond.fieldLink "StrictProofsModel" (444 : Nat) "StrictProofsModel" "deepest" "I") ∈ lw_all := lw_g (lw_at lw_m7 11 rfl) rfl
theorem q1532 : (Jvm.Cond.fieldLink "StrictProofsModel" (408 : Nat) "StrictProofsModel" "end" "I") ∈ lw_all := lw_g (lw_at lw_m7 12 rfl) rfl
theorem q1533 : (Jvm.Cond.fieldLink "StrictProofsModel" (142 : Nat) "StrictProofsModel" "ran" "I") ∈ lw_all := lw_g (lw_at lw_m7 13 rfl) rfl
theorem q1534 : (Jvm.Cond.fieldLink "StrictProofsModel" (476 : Nat) "StrictProofsModel" "ended" "I") ∈ lw_all := lw_g (lw_at lw_m7 14 rfl) rfl
theorem q1535 : (Jvm.Cond.fieldLink "StrictProofsModel" (414 : Nat) "StrictProofsModel" "outKind" "I") ∈ lw_all := lw_g (lw_at lw_m7 15 rfl) rfl
theorem q1536 : (Jvm.Cond.fieldLink "StrictProofsModel" (417 : Nat) "StrictProofsModel" "outValue" "I") ∈ lw_all := lw_g (lw_at lw_m7 16 rfl) rfl
theorem q1537 : (Jvm.Cond.fieldLink "StrictProofsModel" (470 : Nat) "StrictProofsModel" "answerKind" "I") ∈ lw_all := lw_g (lw_at lw_m7 17 rfl) rfl
theorem q1538 : (Jvm.Cond.fieldLink "StrictProofsModel" (473 : Nat) "StrictProofsModel" "answerValue" "I") ∈ lw_all := lw_g (lw_at lw_m7 18 rfl) rfl
theorem q1539 : (Jvm.Cond.fieldLink "StrictProofsModel" (145 : Nat) "StrictProofsModel" "lefts" "[I") ∈ lw_all := lw_g (lw_at lw_m7 19 rfl) rfl
theorem q1540 : (Jvm.Cond.fieldLink "StrictProofsModel" (429 : Nat) "StrictProofsModel" "kept" "I") ∈ lw_all := lw_g (lw_at lw_m7 20 rfl) rfl
theorem q1541 : (Jvm.Cond.lays "StrictProofsModel" "StrictProofsModel" "thrown" "I") ∈ lw_all := lw_g (lw_at lw_m7 21 rfl) rfl
theorem q1542 : (Jvm.Cond.soleField "StrictProofsModel" "thrown") ∈ lw_all := lw_g (lw_at lw_m7 22 rfl) rfl
theorem q1543 : (Jvm.Cond.laysFinal "StrictProofsModel" "StrictProofsModel" "tape" "[I") ∈ lw_all := lw_g (lw_at lw_m7 23 rfl) rfl
theorem q1544 : (Jvm.Cond.soleField "StrictProofsModel" "tape") ∈ lw_all := lw_g (lw_at lw_m7 24 rfl) rfl
theorem q1545 : (Jvm.Cond.lays "StrictProofsModel" "StrictProofsModel" "taped" "I") ∈ lw_all := lw_g (lw_at lw_m7 25 rfl) rfl
theorem q1546 : (Jvm.Cond.soleField "StrictProofsModel" "taped") ∈ lw_all := lw_g (lw_at lw_m7 26 rfl) rfl
theorem q1547 : (Jvm.Cond.lays "StrictProofsModel" "StrictProofsModel" "at" "I") ∈ lw_all := lw_g (lw_at lw_m7 27 rfl) rfl
theorem q1548 : (Jvm.Cond.soleField "StrictProofsModel" "at") ∈ lw_all := lw_g (lw_at lw_m7 28 rfl) rfl
theorem q1549 : (Jvm.Cond.lays "StrictProofsModel" "StrictProofsModel" "token" "I") ∈ lw_all := lw_g (lw_at lw_m7 29 rfl) rfl
theorem q1550 : (Jvm.Cond.soleField "StrictProofsModel" "token") ∈ lw_all := lw_g (lw_at lw_m7 30 rfl) rfl
theorem q1551 : (Jvm.Cond.lays "StrictProofsModel" "StrictProofsModel" "tokenAt" "I") ∈ lw_all := lw_g (lw_at lw_m7 31 rfl) rfl
theorem q1552 : (Jvm.Cond.soleField "StrictProofsModel" "tokenAt") ∈ lw_all := lw_g (lw_at lw_m7 32 rfl) rfl
theorem q1553 : (Jvm.Cond.lays "StrictProofsModel" "StrictProofsModel" "tokenCount" "I") ∈ lw_all := lw_g (lw_at lw_m7 33 rfl) rfl
theorem q1554 : (Jvm.Cond.soleField "StrictProofsModel" "tokenCount") ∈ lw_all := lw_g (lw_at lw_m7 34 rfl) rfl
theorem q1555 : (Jvm.Cond.lays "StrictProofsModel" "StrictProofsModel" "key" "J") ∈ lw_all := lw_g (lw_at lw_m7 35 rfl) rfl
theorem q1556 : (Jvm.Cond.soleField "StrictProofsModel" "key") ∈ lw_all := lw_g (lw_at lw_m7 36 rfl) rfl
theorem q1557 : (Jvm.Cond.lays "StrictProofsModel" "StrictProofsModel" "amount" "I") ∈ lw_all := lw_g (lw_at lw_m7 37 rfl) rfl
theorem q1558 : (Jvm.Cond.soleField "StrictProofsModel" "amount") ∈ lw_all := lw_g (lw_at lw_m7 38 rfl) rfl
theorem q1559 : (Jvm.Cond.lays "StrictProofsModel" "StrictProofsModel" "fault" "I") ∈ lw_all := lw_g (lw_at lw_m7 39 rfl) rfl
theorem q1560 : (Jvm.Cond.soleField "StrictProofsModel" "fault") ∈ lw_all := lw_g (lw_at lw_m7 40 rfl) rfl
theorem q1561 : (Jvm.Cond.lays "StrictProofsModel" "StrictProofsModel" "faultAt" "I") ∈ lw_all := lw_g (lw_at lw_m7 41 rfl) rfl
theorem q1562 : (Jvm.Cond.soleField "StrictProofsModel" "faultAt") ∈ lw_all := lw_g (lw_at lw_m7 42 rfl) rfl
theorem q1563 : (Jvm.Cond.laysFinal "StrictProofsModel" "StrictProofsModel" "fnKey" "[J") ∈ lw_all := lw_g (lw_at lw_m7 43 rfl) rfl
theorem q1564 : (Jvm.Cond.soleField "StrictProofsModel" "fnKey") ∈ lw_all := lw_g (lw_at lw_m7 44 rfl) rfl
theorem q1565 : (Jvm.Cond.laysFinal "StrictProofsModel" "StrictProofsModel" "fnType" "[I") ∈ lw_all := lw_g (lw_at lw_m7 45 rfl) rfl
theorem q1566 : (Jvm.Cond.soleField "StrictProofsModel" "fnType") ∈ lw_all := lw_g (lw_at lw_m7 46 rfl) rfl
theorem q1567 : (Jvm.Cond.laysFinal "StrictProofsModel" "StrictProofsModel" "fnParams" "[I") ∈ lw_all := lw_g (lw_at lw_m7 47 rfl) rfl
theorem q1568 : (Jvm.Cond.soleField "StrictProofsModel" "fnParams") ∈ lw_all := lw_g (lw_at lw_m7 48 rfl) rfl
theorem q1569 : (Jvm.Cond.laysFinal "StrictProofsModel" "StrictProofsModel" "fnNames" "[I") ∈ lw_all := lw_g (lw_at lw_m7 49 rfl) rfl
theorem q1570 : (Jvm.Cond.soleField "StrictProofsModel" "fnNames") ∈ lw_all := lw_g (lw_at lw_m7 50 rfl) rfl
theorem q1571 : (Jvm.Cond.laysFinal "StrictProofsModel" "StrictProofsModel" "fnBody" "[I") ∈ lw_all := lw_g (lw_at lw_m7 51 rfl) rfl
theorem q1572 : (Jvm.Cond.soleField "StrictProofsModel" "fnBody") ∈ lw_all := lw_g (lw_at lw_m7 52 rfl) rfl
theorem q1573 : (Jvm.Cond.laysFinal "StrictProofsModel" "StrictProofsModel" "nameKey" "[J") ∈ lw_all := lw_g (lw_at lw_m7 53 rfl) rfl
theorem q1574 : (Jvm.Cond.soleField "StrictProofsModel" "nameKey") ∈ lw_all := lw_g (lw_at lw_m7 54 rfl) rfl
theorem q1575 : (Jvm.Cond.laysFinal "StrictProofsModel" "StrictProofsModel" "nameType" "[I") ∈ lw_all := lw_g (lw_at lw_m7 55 rfl) rfl
theorem q1576 : (Jvm.Cond.soleField "StrictProofsModel" "nameType") ∈ lw_all := lw_g (lw_at lw_m7 56 rfl) rfl
theorem q1577 : (Jvm.Cond.laysFinal "StrictProofsModel" "StrictProofsModel" "xKind" "[I") ∈ lw_all := lw_g (lw_at lw_m7 57 rfl) rfl
theorem q1578 : (Jvm.Cond.soleField "StrictProofsModel" "xKind") ∈ lw_all := lw_g (lw_at lw_m7 58 rfl) rfl
theorem q1579 : (Jvm.Cond.laysFinal "StrictProofsModel" "StrictProofsModel" "xA" "[I") ∈ lw_all := lw_g (lw_at lw_m7 59 rfl) rfl
theorem q1580 : (Jvm.Cond.soleField "StrictProofsModel" "xA") ∈ lw_all := lw_g (lw_at lw_m7 60 rfl) rfl
theorem q1581 : (Jvm.Cond.laysFinal "StrictProofsModel" "StrictProofsModel" "xB" "[I") ∈ lw_all := lw_g (lw_at lw_m7 61 rfl) rfl
theorem q1582 : (Jvm.Cond.soleField "StrictProofsModel" "xB") ∈ lw_all := lw_g (lw_at lw_m7 62 rfl) rfl
theorem q1583 : (Jvm.Cond.laysFinal "StrictProofsModel" "StrictProofsModel" "xC" "[I") ∈ lw_all := lw_g (lw_at lw_m7 63 rfl) rfl
theorem q1584 : (Jvm.Cond.soleField "StrictProofsModel" "xC") ∈ lw_all := lw_g (lw_at lw_m7 64 rfl) rfl
theorem q1585 : (Jvm.Cond.laysFinal "StrictProofsModel" "StrictProofsModel" "xAt" "[I") ∈ lw_all := lw_g (lw_at lw_m7 65 rfl) rfl
theorem q1586 : (Jvm.Cond.soleField "StrictProofsModel" "xAt") ∈ lw_all := lw_g (lw_at lw_m7 66 rfl) rfl
theorem q1587 : (Jvm.Cond.laysFinal "StrictProofsModel" "StrictProofsModel" "xType" "[I") ∈ lw_all := lw_g (lw_at lw_m7 67 rfl) rfl
theorem q1588 : (Jvm.Cond.soleField "StrictProofsModel" "xType") ∈ lw_all := lw_g (lw_at lw_m7 68 rfl) rfl
theorem q1589 : (Jvm.Cond.laysFinal "StrictProofsModel" "StrictProofsModel" "xKey" "[J") ∈ lw_all := lw_g (lw_at lw_m7 69 rfl) rfl
theorem q1590 : (Jvm.Cond.soleField "StrictProofsModel" "xKey") ∈ lw_all := lw_g (lw_at lw_m7 70 rfl) rfl
theorem q1591 : (Jvm.Cond.laysFinal "StrictProofsModel" "StrictProofsModel" "argOf" "[I") ∈ lw_all := lw_g (lw_at lw_m7 71 rfl) rfl
theorem q1592 : (Jvm.Cond.soleField "StrictProofsModel" "argOf") ∈ lw_all := lw_g (lw_at lw_m7 72 rfl) rfl
theorem q1593 : (Jvm.Cond.laysFinal "StrictProofsModel" "StrictProofsModel" "bankFns" "[I") ∈ lw_all := lw_g (lw_at lw_m7 73 rfl) rfl
theorem q1594 : (Jvm.Cond.soleField "StrictProofsModel" "bankFns") ∈ lw_all := lw_g (lw_at lw_m7 74 rfl) rfl
theorem q1595 : (Jvm.Cond.lays "StrictProofsModel" "StrictProofsModel" "bank" "I") ∈ lw_all := lw_g (lw_at lw_m7 75 rfl) rfl
theorem q1596 : (Jvm.Cond.soleField "StrictProofsModel" "bank") ∈ lw_all := lw_g (lw_at lw_m7 76 rfl) rfl
theorem q1597 : (Jvm.Cond.lays "StrictProofsModel" "StrictProofsModel" "fns" "I") ∈ lw_all := lw_g (lw_at lw_m7 77 rfl) rfl
theorem q1598 : (Jvm.Cond.soleField "StrictProofsModel" "fns") ∈ lw_all := lw_g (lw_at lw_m7 78 rfl) rfl
theorem q1599 : (Jvm.Cond.lays "StrictProofsModel" "StrictProofsModel" "nodes" "I") ∈ lw_all := lw_g (lw_at lw_m7 79 rfl) rfl
theorem q1600 : (Jvm.Cond.soleField "StrictProofsModel" "nodes") ∈ lw_all := lw_g (lw_at lw_m7 80 rfl) rfl
theorem q1601 : (Jvm.Cond.lays "StrictProofsModel" "StrictProofsModel" "argsLaid" "I") ∈ lw_all := lw_g (lw_at lw_m7 81 rfl) rfl
theorem q1602 : (Jvm.Cond.soleField "StrictProofsModel" "argsLaid") ∈ lw_all := lw_g (lw_at lw_m7 82 rfl) rfl
theorem q1603 : (Jvm.Cond.laysFinal "StrictProofsModel" "StrictProofsModel" "waiting" "[I") ∈ lw_all := lw_g (lw_at lw_m7 83 rfl) rfl
theorem q1604 : (Jvm.Cond.soleField "StrictProofsModel" "waiting") ∈ lw_all := lw_g (lw_at lw_m7 84 rfl) rfl
theorem q1605 : (Jvm.Cond.lays "StrictProofsModel" "StrictProofsModel" "waits" "I") ∈ lw_all := lw_g (lw_at lw_m7 85 rfl) rfl
theorem q1606 : (Jvm.Cond.soleField "StrictProofsModel" "waits") ∈ lw_all := lw_g (lw_at lw_m7 86 rfl) rfl
theorem q1607 : (Jvm.Cond.lays "StrictProofsModel" "StrictProofsModel" "f" "I") ∈ lw_all := lw_g (lw_at lw_m7 87 rfl) rfl
theorem q1608 : (Jvm.Cond.soleField "StrictProofsModel" "f") ∈ lw_all := lw_g (lw_at lw_m7 88 rfl) rfl
theorem q1609 : (Jvm.Cond.laysFinal "StrictProofsModel" "StrictProofsModel" "sy" "[I") ∈ lw_all := lw_g (lw_at lw_m7 89 rfl) rfl
theorem q1610 : (Jvm.Cond.soleField "StrictProofsModel" "sy") ∈ lw_all := lw_g (lw_at lw_m7 90 rfl) rfl
theorem q1611 : (Jvm.Cond.laysFinal "StrictProofsModel" "StrictProofsModel" "sa" "[I") ∈ lw_all := lw_g (lw_at lw_m7 91 rfl) rfl
theorem q1612 : (Jvm.Cond.soleField "StrictProofsModel" "sa") ∈ lw_all := lw_g (lw_at lw_m7 92 rfl) rfl
theorem q1613 : (Jvm.Cond.lays "StrictProofsModel" "StrictProofsModel" "tasks" "I") ∈ lw_all := lw_g (lw_at lw_m7 93 rfl) rfl
theorem q1614 : (Jvm.Cond.soleField "StrictProofsModel" "tasks") ∈ lw_all := lw_g (lw_at lw_m7 94 rfl) rfl
theorem q1615 : (Jvm.Cond.laysFinal "StrictProofsModel" "StrictProofsModel" "made" "[I") ∈ lw_all := lw_g (lw_at lw_m7 95 rfl) rfl
theorem q1616 : (Jvm.Cond.soleField "StrictProofsModel" "made") ∈ lw_all := lw_g (lw_at lw_m7 96 rfl) rfl
theorem q1617 : (Jvm.Cond.lays "StrictProofsModel" "StrictProofsModel" "makes" "I") ∈ lw_all := lw_g (lw_at lw_m7 97 rfl) rfl
theorem q1618 : (Jvm.Cond.soleField "StrictProofsModel" "makes") ∈ lw_all := lw_g (lw_at lw_m7 98 rfl) rfl
theorem q1619 : (Jvm.Cond.laysFinal "StrictProofsModel" "StrictProofsModel" "types" "[I") ∈ lw_all := lw_g (lw_at lw_m7 99 rfl) rfl
theorem q1620 : (Jvm.Cond.soleField "StrictProofsModel" "types") ∈ lw_all := lw_g (lw_at lw_m7 100 rfl) rfl
theorem q1621 : (Jvm.Cond.lays "StrictProofsModel" "StrictProofsModel" "typesMade" "I") ∈ lw_all := lw_g (lw_at lw_m7 101 rfl) rfl
theorem q1622 : (Jvm.Cond.soleField "StrictProofsModel" "typesMade") ∈ lw_all := lw_g (lw_at lw_m7 102 rfl) rfl
theorem q1623 : (Jvm.Cond.lays "StrictProofsModel" "StrictProofsModel" "others" "I") ∈ lw_all := lw_g (lw_at lw_m7 103 rfl) rfl
theorem q1624 : (Jvm.Cond.soleField "StrictProofsModel" "others") ∈ lw_all := lw_g (lw_at lw_m7 104 rfl) rfl
theorem q1625 : (Jvm.Cond.laysFinal "StrictProofsModel" "StrictProofsModel" "sw" "[I") ∈ lw_all := lw_g (lw_at lw_m7 105 rfl) rfl
theorem q1626 : (Jvm.Cond.soleField "StrictProofsModel" "sw") ∈ lw_all := lw_g (lw_at lw_m7 106 rfl) rfl
theorem q1627 : (Jvm.Cond.laysFinal "StrictProofsModel" "StrictProofsModel" "scope" "[I") ∈ lw_all := lw_g (lw_at lw_m7 107 rfl) rfl
theorem q1628 : (Jvm.Cond.soleField "StrictProofsModel" "scope") ∈ lw_all := lw_g (lw_at lw_m7 108 rfl) rfl
theorem q1629 : (Jvm.Cond.lays "StrictProofsModel" "StrictProofsModel" "scoped" "I") ∈ lw_all := lw_g (lw_at lw_m7 109 rfl) rfl
theorem q1630 : (Jvm.Cond.soleField "StrictProofsModel" "scoped") ∈ lw_all := lw_g (lw_at lw_m7 110 rfl) rfl
theorem q1631 : (Jvm.Cond.lays "StrictProofsModel" "StrictProofsModel" "isProgram" "Z") ∈ lw_all := lw_g (lw_at lw_m7 111 rfl) rfl
theorem q1632 : (Jvm.Cond.soleField "StrictProofsModel" "isProgram") ∈ lw_all := lw_g (lw_at lw_m7 112 rfl) rfl
theorem q1633 : (Jvm.Cond.lays "StrictProofsModel" "StrictProofsModel" "areRows" "Z") ∈ lw_all := lw_g (lw_at lw_m7 113 rfl) rfl
theorem q1634 : (Jvm.Cond.soleField "StrictProofsModel" "areRows") ∈ lw_all := lw_g (lw_at lw_m7 114 rfl) rfl
theorem q1635 : (Jvm.Cond.lays "StrictProofsModel" "StrictProofsModel" "here" "I") ∈ lw_all := lw_g (lw_at lw_m7 115 rfl) rfl
theorem q1636 : (Jvm.Cond.soleField "StrictProofsModel" "here") ∈ lw_all := lw_g (lw_at lw_m7 116 rfl) rfl
theorem q1637 : (Jvm.Cond.laysFinal "StrictProofsModel" "StrictProofsModel" "sd" "[I") ∈ lw_all := lw_g (lw_at lw_m7 117 rfl) rfl
theorem q1638 : (Jvm.Cond.soleField "StrictProofsModel" "sd") ∈ lw_all := lw_g (lw_at lw_m7 118 rfl) rfl
theorem q1639 : (Jvm.Cond.laysFinal "StrictProofsModel" "StrictProofsModel" "asked" "[I") ∈ lw_all := lw_g (lw_at lw_m7 119 rfl) rfl
theorem q1640 : (Jvm.Cond.soleField "StrictProofsModel" "asked") ∈ lw_all := lw_g (lw_at lw_m7 120 rfl) rfl
theorem q1641 : (Jvm.Cond.laysFinal "StrictProofsModel" "StrictProofsModel" "isDead" "[Z") ∈ lw_all := lw_g (lw_at lw_m7 121 rfl) rfl
theorem q1642 : (Jvm.Cond.soleField "StrictProofsModel" "isDead") ∈ lw_all := lw_g (lw_at lw_m7 122 rfl) rfl
theorem q1643 : (Jvm.Cond.laysFinal "StrictProofsModel" "StrictProofsModel" "rows" "[I") ∈ lw_all := lw_g (lw_at lw_m7 123 rfl) rfl
theorem q1644 : (Jvm.Cond.soleField "StrictProofsModel" "rows") ∈ lw_all := lw_g (lw_at lw_m7 124 rfl) rfl
theorem q1645 : (Jvm.Cond.laysFinal "StrictProofsModel" "StrictProofsModel" "rowDead" "[Z") ∈ lw_all := lw_g (lw_at lw_m7 125 rfl) rfl
theorem q1646 : (Jvm.Cond.soleField "StrictProofsModel" "rowDead") ∈ lw_all := lw_g (lw_at lw_m7 126 rfl) rfl
theorem q1647 : (Jvm.Cond.laysFinal "StrictProofsModel" "StrictProofsModel" "inputKind" "[I") ∈ lw_all := lw_g (lw_at lw_m7 127 rfl) rfl
theorem q1648 : (Jvm.Cond.soleField "StrictProofsModel" "inputKind") ∈ lw_all := lw_g (lw_at lw_m7 128 rfl) rfl
theorem q1649 : (Jvm.Cond.laysFinal "StrictProofsModel" "StrictProofsModel" "inputValue" "[I") ∈ lw_all := lw_g (lw_at lw_m7 129 rfl) rfl
theorem q1650 : (Jvm.Cond.soleField "StrictProofsModel" "inputValue") ∈ lw_all := lw_g (lw_at lw_m7 130 rfl) rfl
theorem q1651 : (Jvm.Cond.lays "StrictProofsModel" "StrictProofsModel" "inputs" "I") ∈ lw_all := lw_g (lw_at lw_m7 131 rfl) rfl
theorem q1652 : (Jvm.Cond.soleField "StrictProofsModel" "inputs") ∈ lw_all := lw_g (lw_at lw_m7 132 rfl) rfl
theorem q1653 : (Jvm.Cond.laysFinal "StrictProofsModel" "StrictProofsModel" "ofType" "[I") ∈ lw_all := lw_g (lw_at lw_m7 133 rfl) rfl
theorem q1654 : (Jvm.Cond.soleField "StrictProofsModel" "ofType") ∈ lw_all := lw_g (lw_at lw_m7 134 rfl) rfl
theorem q1655 : (Jvm.Cond.laysFinal "StrictProofsModel" "StrictProofsModel" "thingOf" "[I") ∈ lw_all := lw_g (lw_at lw_m7 135 rfl) rfl
theorem q1656 : (Jvm.Cond.soleField "StrictProofsModel" "thingOf") ∈ lw_all := lw_g (lw_at lw_m7 136 rfl) rfl
theorem q1657 : (Jvm.Cond.laysFinal "StrictProofsModel" "StrictProofsModel" "thingIn" "[I") ∈ lw_all := lw_g (lw_at lw_m7 137 rfl) rfl
theorem q1658 : (Jvm.Cond.soleField "StrictProofsModel" "thingIn") ∈ lw_all := lw_g (lw_at lw_m7 138 rfl) rfl
theorem q1659 : (Jvm.Cond.laysFinal "StrictProofsModel" "StrictProofsModel" "thingState" "[I") ∈ lw_all := lw_g (lw_at lw_m7 139 rfl) rfl
theorem q1660 : (Jvm.Cond.soleField "StrictProofsModel" "thingState") ∈ lw_all := lw_g (lw_at lw_m7 140 rfl) rfl
theorem q1661 : (Jvm.Cond.laysFinal "StrictProofsModel" "StrictProofsModel" "thingKind" "[I") ∈ lw_all := lw_g (lw_at lw_m7 141 rfl) rfl
theorem q1662 : (Jvm.Cond.soleField "StrictProofsModel" "thingKind") ∈ lw_all := lw_g (lw_at lw_m7 142 rfl) rfl
theorem q1663 : (Jvm.Cond.laysFinal "StrictProofsModel" "StrictProofsModel" "thingValue" "[I") ∈ lw_all := lw_g (lw_at lw_m7 143 rfl) rfl
theorem q1664 : (Jvm.Cond.soleField "StrictProofsModel" "thingValue") ∈ lw_all := lw_g (lw_at lw_m7 144 rfl) rfl
theorem q1665 : (Jvm.Cond.laysFinal "StrictProofsModel" "StrictProofsModel" "thingNeeded" "[Z") ∈ lw_all := lw_g (lw_at lw_m7 145 rfl) rfl
theorem q1666 : (Jvm.Cond.soleField "StrictProofsModel" "thingNeeded") ∈ lw_all := lw_g (lw_at lw_m7 146 rfl) rfl
theorem q1667 : (Jvm.Cond.laysFinal "StrictProofsModel" "StrictProofsModel" "pairFirst" "[I") ∈ lw_all := lw_g (lw_at lw_m7 147 rfl) rfl
theorem q1668 : (Jvm.Cond.soleField "StrictProofsModel" "pairFirst") ∈ lw_all := lw_g (lw_at lw_m7 148 rfl) rfl
theorem q1669 : (Jvm.Cond.laysFinal "StrictProofsModel" "StrictProofsModel" "pairSecond" "[I") ∈ lw_all := lw_g (lw_at lw_m7 149 rfl) rfl
theorem q1670 : (Jvm.Cond.soleField "StrictProofsModel" "pairSecond") ∈ lw_all := lw_g (lw_at lw_m7 150 rfl) rfl
theorem q1671 : (Jvm.Cond.laysFinal "StrictProofsModel" "StrictProofsModel" "envs" "[I") ∈ lw_all := lw_g (lw_at lw_m7 151 rfl) rfl
theorem q1672 : (Jvm.Cond.soleField "StrictProofsModel" "envs") ∈ lw_all := lw_g (lw_at lw_m7 152 rfl) rfl
theorem q1673 : (Jvm.Cond.laysFinal "StrictProofsModel" "StrictProofsModel" "paramThing" "[I") ∈ lw_all := lw_g (lw_at lw_m7 153 rfl) rfl
theorem q1674 : (Jvm.Cond.soleField "StrictProofsModel" "paramThing") ∈ lw_all := lw_g (lw_at lw_m7 154 rfl) rfl
theorem q1675 : (Jvm.Cond.lays "StrictProofsModel" "StrictProofsModel" "things" "I") ∈ lw_all := lw_g (lw_at lw_m7 155 rfl) rfl
theorem q1676 : (Jvm.Cond.soleField "StrictProofsModel" "things") ∈ lw_all := lw_g (lw_at lw_m7 156 rfl) rfl
theorem q1677 : (Jvm.Cond.lays "StrictProofsModel" "StrictProofsModel" "pairs" "I") ∈ lw_all := lw_g (lw_at lw_m7 157 rfl) rfl
theorem q1678 : (Jvm.Cond.soleField "StrictProofsModel" "pairs") ∈ lw_all := lw_g (lw_at lw_m7 158 rfl) rfl
theorem q1679 : (Jvm.Cond.lays "StrictProofsModel" "StrictProofsModel" "calls" "I") ∈ lw_all := lw_g (lw_at lw_m7 159 rfl) rfl
theorem q1680 : (Jvm.Cond.soleField "StrictProofsModel" "calls") ∈ lw_all := lw_g (lw_at lw_m7 160 rfl) rfl
theorem q1681 : (Jvm.Cond.lays "StrictProofsModel" "StrictProofsModel" "stepped" "I") ∈ lw_all := lw_g (lw_at lw_m7 161 rfl) rfl
theorem q1682 : (Jvm.Cond.soleField "StrictProofsModel" "stepped") ∈ lw_all := lw_g (lw_at lw_m7 162 rfl) rfl
theorem q1683 : (Jvm.Cond.lays "StrictProofsModel" "StrictProofsModel" "most" "I") ∈ lw_all := lw_g (lw_at lw_m7 163 rfl) rfl
theorem q1684 : (Jvm.Cond.soleField "StrictProofsModel" "most") ∈ lw_all := lw_g (lw_at lw_m7 164 rfl) rfl
theorem q1685 : (Jvm.Cond.lays "StrictProofsModel" "StrictProofsModel" "depth" "I") ∈ lw_all := lw_g (lw_at lw_m7 165 rfl) rfl
theorem q1686 : (Jvm.Cond.soleField "StrictProofsModel" "depth") ∈ lw_all := lw_g (lw_at lw_m7 166 rfl) rfl
theorem q1687 : (Jvm.Cond.lays "StrictProofsModel" "StrictProofsModel" "deepest" "I") ∈ lw_all := lw_g (lw_at lw_m7 167 rfl) rfl
theorem q1688 : (Jvm.Cond.soleField "StrictProofsModel" "deepest") ∈ lw_all := lw_g (lw_at lw_m7 168 rfl) rfl
theorem q1689 : (Jvm.Cond.lays "StrictProofsModel" "StrictProofsModel" "end" "I") ∈ lw_all := lw_g (lw_at lw_m7 169 rfl) rfl
theorem q1690 : (Jvm.Cond.soleField "StrictProofsModel" "end") ∈ lw_all := lw_g (lw_at lw_m7 170 rfl) rfl
theorem q1691 : (Jvm.Cond.lays "StrictProofsModel" "StrictProofsModel" "ran" "I") ∈ lw_all := lw_g (lw_at lw_m7 171 rfl) rfl
theorem q1692 : (Jvm.Cond.soleField "StrictProofsModel" "ran") ∈ lw_all := lw_g (lw_at lw_m7 172 rfl) rfl
theorem q1693 : (Jvm.Cond.lays "StrictProofsModel" "StrictProofsModel" "ended" "I") ∈ lw_all := lw_g (lw_at lw_m7 173 rfl) rfl
theorem q1694 : (Jvm.Cond.soleField "StrictProofsModel" "ended") ∈ lw_all := lw_g (lw_at lw_m7 174 rfl) rfl
theorem q1695 : (Jvm.Cond.lays "StrictProofsModel" "StrictProofsModel" "outKind" "I") ∈ lw_all := lw_g (lw_at lw_m7 175 rfl) rfl
theorem q1696 : (Jvm.Cond.soleField "StrictProofsModel" "outKind") ∈ lw_all := lw_g (lw_at lw_m7 176 rfl) rfl
theorem q1697 : (Jvm.Cond.lays "StrictProofsModel" "StrictProofsModel" "outValue" "I") ∈ lw_all := lw_g (lw_at lw_m7 177 rfl) rfl
theorem q1698 : (Jvm.Cond.soleField "StrictProofsModel" "outValue") ∈ lw_all := lw_g (lw_at lw_m7 178 rfl) rfl
theorem q1699 : (Jvm.Cond.lays "StrictProofsModel" "StrictProofsModel" "answerKind" "I") ∈ lw_all := lw_g (lw_at lw_m7 179 rfl) rfl
theorem q1700 : (Jvm.Cond.soleField "StrictProofsModel" "answerKind") ∈ lw_all := lw_g (lw_at lw_m7 180 rfl) rfl
theorem q1701 : (Jvm.Cond.lays "StrictProofsModel" "StrictProofsModel" "answerValue" "I") ∈ lw_all := lw_g (lw_at lw_m7 181 rfl) rfl
theorem q1702 : (Jvm.Cond.soleField "StrictProofsModel" "answerValue") ∈ lw_all := lw_g (lw_at lw_m7 182 rfl) rfl
theorem q1703 : (Jvm.Cond.laysFinal "StrictProofsModel" "StrictProofsModel" "lefts" "[I") ∈ lw_all := lw_g (lw_at lw_m7 183 rfl) rfl
theorem q1704 : (Jvm.Cond.soleField "StrictProofsModel" "lefts") ∈ lw_all := lw_g (lw_at lw_m7 184 rfl) rfl
theorem q1705 : (Jvm.Cond.lays "StrictProofsModel" "StrictProofsModel" "kept" "I") ∈ lw_all := lw_g (lw_at lw_m7 185 rfl) rfl
theorem q1706 : (Jvm.Cond.soleField "StrictProofsModel" "kept") ∈ lw_all := lw_g (lw_at lw_m7 186 rfl) rfl
theorem q1707 : (Jvm.Cond.superclass "StrictProofsModel" "java/lang/Object") ∈ lw_all := lw_g (lw_at lw_m7 187 rfl) rfl
theorem q1710 : (Jvm.Cond.instanceMethod ({ cls := "StrictProofsModel", name := "thrown", desc := "()I" } : Jvm.MethodName)) ∈ lw_all := lw_g (lw_at lw_m7 190 rfl) rfl
theorem q1711 : (Jvm.Cond.selects "StrictProofsModel" ({ cls := "StrictProofsModel", name := "thrown", desc := "()I" } : Jvm.MethodName) ({ cls := "StrictProofsModel", name := "thrown", desc := "()I" } : Jvm.MethodName)) ∈ lw_all := lw_g (lw_at lw_m7 191 rfl) rfl
theorem q1712 : (Jvm.Cond.code ({ cls := "StrictProofsModel", name := "thrown", desc := "()I" } : Jvm.MethodName) prog_20_method_2_code (1 : Nat) (Option.some Jvm.ClassFile.FieldType.int)) ∈ lw_all := lw_g (lw_at lw_m7 192 rfl) rfl
theorem q1714 : (Jvm.Cond.instanceMethod ({ cls := "StrictProofsModel", name := "feed", desc := "(IIIII)I" } : Jvm.MethodName)) ∈ lw_all := lw_g (lw_at lw_m7 194 rfl) rfl
theorem q1715 : (Jvm.Cond.selects "StrictProofsModel" ({ cls := "StrictProofsModel", name := "feed", desc := "(IIIII)I" } : Jvm.MethodName) ({ cls := "StrictProofsModel", name := "feed", desc := "(IIIII)I" } : Jvm.MethodName)) ∈ lw_all := lw_g (lw_at lw_m7 195 rfl) rfl
theorem q1716 : (Jvm.Cond.code ({ cls := "StrictProofsModel", name := "feed", desc := "(IIIII)I" } : Jvm.MethodName) prog_20_method_4_code (8 : Nat) (Option.some Jvm.ClassFile.FieldType.int)) ∈ lw_all := lw_g (lw_at lw_m7 196 rfl) rfl
theorem q1718 : (Jvm.Cond.instanceMethod ({ cls := "StrictProofsModel", name := "cut", desc := "(I)I" } : Jvm.MethodName)) ∈ lw_all := lw_g (lw_at lw_m7 198 rfl) rfl
theorem q1719 : (Jvm.Cond.selects "StrictProofsModel" ({ cls := "StrictProofsModel", name := "cut", desc := "(I)I" } : Jvm.MethodName) ({ cls := "StrictProofsModel", name := "cut", desc := "(I)I" } : Jvm.MethodName)) ∈ lw_all := lw_g (lw_at lw_m7 199 rfl) rfl
theorem q1720 : (Jvm.Cond.code ({ cls := "StrictProofsModel", name := "cut", desc := "(I)I" } : Jvm.MethodName) prog_20_method_5_code (3 : Nat) (Option.some Jvm.ClassFile.FieldType.int)) ∈ lw_all := lw_g (lw_at lw_m7 200 rfl) rfl
theorem q1721 : (Jvm.Cond.methodLink "StrictProofsModel" (154 : Nat) ({ cls := "StrictProofsModel", name := "within", desc := "(JJJ)Z" } : Jvm.MethodName)) ∈ lw_all := lw_g (lw_at lw_m7 201 rfl) rfl
theorem q1722 : (Jvm.Cond.static ({ cls := "StrictProofsModel", name := "within", desc := "(JJJ)Z" } : Jvm.MethodName)) ∈ lw_all := lw_g (lw_at lw_m7 202 rfl) rfl
theorem q1723 : (Jvm.Cond.code ({ cls := "StrictProofsModel", name := "within", desc := "(JJJ)Z" } : Jvm.MethodName) prog_20_method_3_code (6 : Nat) (Option.some Jvm.ClassFile.FieldType.boolean)) ∈ lw_all := lw_g (lw_at lw_m7 203 rfl) rfl
theorem q1725 : (Jvm.Cond.instanceMethod ({ cls := "StrictProofsModel", name := "read", desc := "()I" } : Jvm.MethodName)) ∈ lw_all := lw_g (lw_at lw_m7 205 rfl) rfl
theorem q1726 : (Jvm.Cond.selects "StrictProofsModel" ({ cls := "StrictProofsModel", name := "read", desc := "()I" } : Jvm.MethodName) ({ cls := "StrictProofsModel", name := "read", desc := "()I" } : Jvm.MethodName)) ∈ lw_all := lw_g (lw_at lw_m7 206 rfl) rfl
theorem q1727 : (Jvm.Cond.code ({ cls := "StrictProofsModel", name := "read", desc := "()I" } : Jvm.MethodName) prog_20_method_45_code (1 : Nat) (Option.some Jvm.ClassFile.FieldType.int)) ∈ lw_all := lw_g (lw_at lw_m7 207 rfl) rfl
theorem q1728 : (Jvm.Cond.methodLink "StrictProofsModel" (226 : Nat) ({ cls := "StrictProofsModel", name := "next", desc := "()V" } : Jvm.MethodName)) ∈ lw_all := lw_g (lw_at lw_m7 208 rfl) rfl
theorem q1729 : (Jvm.Cond.privateMethod ({ cls := "StrictProofsModel", name := "next", desc := "()V" } : Jvm.MethodName)) ∈ lw_tbl := lw_at lw_m7 209 rfl
theorem q1730 : (Jvm.Cond.instanceMethod ({ cls := "StrictProofsModel", name := "next", desc := "()V" } : Jvm.MethodName)) ∈ lw_all := lw_g (lw_at lw_m7 210 rfl) rfl
theorem q1731 : (Jvm.Cond.code ({ cls := "StrictProofsModel", name := "next", desc := "()V" } : Jvm.MethodName) prog_20_method_18_code (2 : Nat) (Option.none : Option Jvm.ClassFile.FieldType)) ∈ lw_all := lw_g (lw_at lw_m7 211 rfl) rfl
theorem q1732 : (Jvm.Cond.methodLink "StrictProofsModel" (199 : Nat) ({ cls := "StrictProofsModel", name := "isRow", desc := "(I)Z" } : Jvm.MethodName)) ∈ lw_all := lw_g (lw_at lw_m7 212 rfl) rfl
theorem q1733 : (Jvm.Cond.static ({ cls := "StrictProofsModel", name := "isRow", desc := "(I)Z" } : Jvm.MethodName)) ∈ lw_all := lw_g (lw_at lw_m7 213 rfl) rfl
theorem q1734 : (Jvm.Cond.code ({ cls := "StrictProofsModel", name := "isRow", desc := "(I)Z" } : Jvm.MethodName) prog_20_method_15_code (1 : Nat) (Option.some Jvm.ClassFile.FieldType.boolean)) ∈ lw_all := lw_g (lw_at lw_m7 214 rfl) rfl
theorem q1735 : (Jvm.Cond.methodLink "StrictProofsModel" (179 : Nat) ({ cls := "StrictProofsModel", name := "isDigit", desc := "(I)Z" } : Jvm.MethodName)) ∈ lw_all := lw_g (lw_at lw_m7 215 rfl) rfl
theorem q1736 : (Jvm.Cond.static ({ cls := "StrictProofsModel", name := "isDigit", desc := "(I)Z" } : Jvm.MethodName)) ∈ lw_all := lw_g (lw_at lw_m7 216 rfl) rfl
theorem q1737 : (Jvm.Cond.code ({ cls := "StrictProofsModel", name := "isDigit", desc := "(I)Z" } : Jvm.MethodName) prog_20_method_14_code (1 : Nat) (Option.some Jvm.ClassFile.FieldType.boolean)) ∈ lw_all := lw_g (lw_at lw_m7 217 rfl) rfl
theorem q1738 : (Jvm.Cond.methodLink "StrictProofsModel" (202 : Nat) ({ cls := "StrictProofsModel", name := "row", desc := "()V" } : Jvm.MethodName)) ∈ lw_all := lw_g (lw_at lw_m7 218 rfl) rfl
theorem q1739 : (Jvm.Cond.privateMethod ({ cls := "StrictProofsModel", name := "row", desc := "()V" } : Jvm.MethodName)) ∈ lw_tbl := lw_at lw_m7 219 rfl
theorem q1740 : (Jvm.Cond.instanceMethod ({ cls := "StrictProofsModel", name := "row", desc := "()V" } : Jvm.MethodName)) ∈ lw_all := lw_g (lw_at lw_m7 220 rfl) rfl
theorem q1741 : (Jvm.Cond.code ({ cls := "StrictProofsModel", name := "row", desc := "()V" } : Jvm.MethodName) prog_20_method_19_code (8 : Nat) (Option.none : Option Jvm.ClassFile.FieldType)) ∈ lw_all := lw_g (lw_at lw_m7 221 rfl) rfl
theorem q1742 : (Jvm.Cond.constantLong "StrictProofsModel" (209 : Nat) (1000000000 : Int64)) ∈ lw_all := lw_g (lw_at lw_m7 222 rfl) rfl
theorem q1743 : (Jvm.Cond.constantLong "StrictProofsModel" (211 : Nat) (10 : Int64)) ∈ lw_all := lw_g (lw_at lw_m7 223 rfl) rfl
theorem q1744 : (Jvm.Cond.constantLong "StrictProofsModel" (213 : Nat) (48 : Int64)) ∈ lw_all := lw_g (lw_at lw_m7 224 rfl) rfl
theorem q1745 : (Jvm.Cond.methodLink "StrictProofsModel" (218 : Nat) ({ cls := "StrictProofsModel", name := "wordOf", desc := "(J)I" } : Jvm.MethodName)) ∈ lw_all := lw_g (lw_at lw_m7 225 rfl) rfl
theorem q1746 : (Jvm.Cond.static ({ cls := "StrictProofsModel", name := "wordOf", desc := "(J)I" } : Jvm.MethodName)) ∈ lw_all := lw_g (lw_at lw_m7 226 rfl) rfl
theorem q1747 : (Jvm.Cond.code ({ cls := "StrictProofsModel", name := "wordOf", desc := "(J)I" } : Jvm.MethodName) prog_20_method_17_code (2 : Nat) (Option.some Jvm.ClassFile.FieldType.int)) ∈ lw_all := lw_g (lw_at lw_m7 227 rfl) rfl
theorem q1748 : (Jvm.Cond.methodLink "StrictProofsModel" (183 : Nat) ({ cls := "StrictProofsModel", name := "packed", desc := "(IIII)J" } : Jvm.MethodName)) ∈ lw_all := lw_g (lw_at lw_m7 228 rfl) rfl
theorem q1749 : (Jvm.Cond.static ({ cls := "StrictProofsModel", name := "packed", desc := "(IIII)J" } : Jvm.MethodName)) ∈ lw_all := lw_g (lw_at lw_m7 229 rfl) rfl
theorem q1750 : (Jvm.Cond.code ({ cls := "StrictProofsModel", name := "packed", desc := "(IIII)J" } : Jvm.MethodName) prog_20_method_16_code (4 : Nat) (Option.some Jvm.ClassFile.FieldType.long)) ∈ lw_all := lw_g (lw_at lw_m7 230 rfl) rfl
theorem q1751 : (Jvm.Cond.methodLink "StrictProofsModel" (205 : Nat) ({ cls := "StrictProofsModel", name := "stop", desc := "(II)V" } : Jvm.MethodName)) ∈ lw_all := lw_g (lw_at lw_m7 231 rfl) rfl
theorem q1752 : (Jvm.Cond.privateMethod ({ cls := "StrictProofsModel", name := "stop", desc := "(II)V" } : Jvm.MethodName)) ∈ lw_tbl := lw_at lw_m7 232 rfl
theorem q1753 : (Jvm.Cond.instanceMethod ({ cls := "StrictProofsModel", name := "stop", desc := "(II)V" } : Jvm.MethodName)) ∈ lw_all := lw_g (lw_at lw_m7 233 rfl) rfl
theorem q1754 : (Jvm.Cond.code ({ cls := "StrictProofsModel", name := "stop", desc := "(II)V" } : Jvm.MethodName) prog_20_method_13_code (3 : Nat) (Option.none : Option Jvm.ClassFile.FieldType)) ∈ lw_all := lw_g (lw_at lw_m7 234 rfl) rfl
theorem q1755 : (Jvm.Cond.methodLink "StrictProofsModel" (348 : Nat) ({ cls := "StrictProofsModel", name := "definition", desc := "()V" } : Jvm.MethodName)) ∈ lw_all := lw_g (lw_at lw_m7 235 rfl) rfl
theorem q1756 : (Jvm.Cond.privateMethod ({ cls := "StrictProofsModel", name := "definition", desc := "()V" } : Jvm.MethodName)) ∈ lw_tbl := lw_at lw_m7 236 rfl
theorem q1757 : (Jvm.Cond.instanceMethod ({ cls := "StrictProofsModel", name := "definition", desc := "()V" } : Jvm.MethodName)) ∈ lw_all := lw_g (lw_at lw_m7 237 rfl) rfl
theorem q1758 : (Jvm.Cond.code ({ cls := "StrictProofsModel", name := "definition", desc := "()V" } : Jvm.MethodName) prog_20_method_37_code (3 : Nat) (Option.none : Option Jvm.ClassFile.FieldType)) ∈ lw_all := lw_g (lw_at lw_m7 238 rfl) rfl
theorem q1759 : (Jvm.Cond.methodLink "StrictProofsModel" (229 : Nat) ({ cls := "StrictProofsModel", name := "pass", desc := "()V" } : Jvm.MethodName)) ∈ lw_all := lw_g (lw_at lw_m7 239 rfl) rfl
theorem q1760 : (Jvm.Cond.privateMethod ({ cls := "StrictProofsModel", name := "pass", desc := "()V" } : Jvm.MethodName)) ∈ lw_tbl := lw_at lw_m8 0 rfl
theorem q1761 : (Jvm.Cond.instanceMethod ({ cls := "StrictProofsModel", name := "pass", desc := "()V" } : Jvm.MethodName)) ∈ lw_all := lw_g (lw_at lw_m8 1 rfl) rfl
theorem q1762 : (Jvm.Cond.code ({ cls := "StrictProofsModel", name := "pass", desc := "()V" } : Jvm.MethodName) prog_20_method_20_code (1 : Nat) (Option.none : Option Jvm.ClassFile.FieldType)) ∈ lw_all := lw_g (lw_at lw_m8 2 rfl) rfl
theorem q1763 : (Jvm.Cond.methodLink "StrictProofsModel" (269 : Nat) ({ cls := "StrictProofsModel", name := "want", desc := "(I)V" } : Jvm.MethodName)) ∈ lw_all := lw_g (lw_at lw_m8 3 rfl) rfl
theorem q1764 : (Jvm.Cond.privateMethod ({ cls := "StrictProofsModel", name := "want", desc := "(I)V" } : Jvm.MethodName)) ∈ lw_tbl := lw_at lw_m8 4 rfl
theorem q1765 : (Jvm.Cond.instanceMethod ({ cls := "StrictProofsModel", name := "want", desc := "(I)V" } : Jvm.MethodName)) ∈ lw_all := lw_g (lw_at lw_m8 5 rfl) rfl
theorem q1766 : (Jvm.Cond.code ({ cls := "StrictProofsModel", name := "want", desc := "(I)V" } : Jvm.MethodName) prog_20_method_21_code (2 : Nat) (Option.none : Option Jvm.ClassFile.FieldType)) ∈ lw_all := lw_g (lw_at lw_m8 6 rfl) rfl
theorem q1767 : (Jvm.Cond.methodLink "StrictProofsModel" (297 : Nat) ({ cls := "StrictProofsModel", name := "name", desc := "(Z)I" } : Jvm.MethodName)) ∈ lw_all := lw_g (lw_at lw_m8 7 rfl) rfl
theorem q1768 : (Jvm.Cond.privateMethod ({ cls := "StrictProofsModel", name := "name", desc := "(Z)I" } : Jvm.MethodName)) ∈ lw_tbl := lw_at lw_m8 8 rfl
theorem q1769 : (Jvm.Cond.instanceMethod ({ cls := "StrictProofsModel", name := "name", desc := "(Z)I" } : Jvm.MethodName)) ∈ lw_all := lw_g (lw_at lw_m8 9 rfl) rfl
theorem q1770 : (Jvm.Cond.code ({ cls := "StrictProofsModel", name := "name", desc := "(Z)I" } : Jvm.MethodName) prog_20_method_23_code (3 : Nat) (Option.some Jvm.ClassFile.FieldType.int)) ∈ lw_all := lw_g (lw_at lw_m8 10 rfl) rfl
theorem q1771 : (Jvm.Cond.methodLink "StrictProofsModel" (235 : Nat) ({ cls := "StrictProofsModel", name := "isParam", desc := "(J)Z" } : Jvm.MethodName)) ∈ lw_all := lw_g (lw_at lw_m8 11 rfl) rfl
theorem q1772 : (Jvm.Cond.privateMethod ({ cls := "StrictProofsModel", name := "isParam", desc := "(J)Z" } : Jvm.MethodName)) ∈ lw_tbl := lw_at lw_m8 12 rfl
theorem q1773 : (Jvm.Cond.instanceMethod ({ cls := "StrictProofsModel", name := "isParam", desc := "(J)Z" } : Jvm.MethodName)) ∈ lw_all := lw_g (lw_at lw_m8 13 rfl) rfl
theorem q1774 : (Jvm.Cond.code ({ cls := "StrictProofsModel", name := "isParam", desc := "(J)Z" } : Jvm.MethodName) prog_20_method_24_code (5 : Nat) (Option.some Jvm.ClassFile.FieldType.boolean)) ∈ lw_all := lw_g (lw_at lw_m8 14 rfl) rfl
theorem q1775 : (Jvm.Cond.methodLink "StrictProofsModel" (316 : Nat) ({ cls := "StrictProofsModel", name := "type", desc := "()I" } : Jvm.MethodName)) ∈ lw_all := lw_g (lw_at lw_m8 15 rfl) rfl
theorem q1776 : (Jvm.Cond.privateMethod ({ cls := "StrictProofsModel", name := "type", desc := "()I" } : Jvm.MethodName)) ∈ lw_tbl := lw_at lw_m8 16 rfl
theorem q1777 : (Jvm.Cond.instanceMethod ({ cls := "StrictProofsModel", name := "type", desc := "()I" } : Jvm.MethodName)) ∈ lw_all := lw_g (lw_at lw_m8 17 rfl) rfl
theorem q1778 : (Jvm.Cond.code ({ cls := "StrictProofsModel", name := "type", desc := "()I" } : Jvm.MethodName) prog_20_method_36_code (1 : Nat) (Option.some Jvm.ClassFile.FieldType.int)) ∈ lw_all := lw_g (lw_at lw_m8 18 rfl) rfl
theorem q1779 : (Jvm.Cond.methodLink "StrictProofsModel" (307 : Nat) ({ cls := "StrictProofsModel", name := "parse", desc := "(I)V" } : Jvm.MethodName)) ∈ lw_all := lw_g (lw_at lw_m8 19 rfl) rfl
theorem q1780 : (Jvm.Cond.privateMethod ({ cls := "StrictProofsModel", name := "parse", desc := "(I)V" } : Jvm.MethodName)) ∈ lw_tbl := lw_at lw_m8 20 rfl
theorem q1781 : (Jvm.Cond.instanceMethod ({ cls := "StrictProofsModel", name := "parse", desc := "(I)V" } : Jvm.MethodName)) ∈ lw_all := lw_g (lw_at lw_m8 21 rfl) rfl
theorem q1782 : (Jvm.Cond.code ({ cls := "StrictProofsModel", name := "parse", desc := "(I)V" } : Jvm.MethodName) prog_20_method_28_code (4 : Nat) (Option.none : Option Jvm.ClassFile.FieldType)) ∈ lw_all := lw_g (lw_at lw_m8 22 rfl) rfl
theorem q1783 : (Jvm.Cond.methodLink "StrictProofsModel" (254 : Nat) ({ cls := "StrictProofsModel", name := "push", desc := "(II)V" } : Jvm.MethodName)) ∈ lw_all := lw_g (lw_at lw_m8 23 rfl) rfl
theorem q1784 : (Jvm.Cond.privateMethod ({ cls := "StrictProofsModel", name := "push", desc := "(II)V" } : Jvm.MethodName)) ∈ lw_tbl := lw_at lw_m8 24 rfl
theorem q1785 : (Jvm.Cond.instanceMethod ({ cls := "StrictProofsModel", name := "push", desc := "(II)V" } : Jvm.MethodName)) ∈ lw_all := lw_g (lw_at lw_m8 25 rfl) rfl
theorem q1786 : (Jvm.Cond.code ({ cls := "StrictProofsModel", name := "push", desc := "(II)V" } : Jvm.MethodName) prog_20_method_25_code (3 : Nat) (Option.none : Option Jvm.ClassFile.FieldType)) ∈ lw_all := lw_g (lw_at lw_m8 26 rfl) rfl
theorem q1787 : (Jvm.Cond.methodLink "StrictProofsModel" (257 : Nat) ({ cls := "StrictProofsModel", name := "onType", desc := "(II)V" } : Jvm.MethodName)) ∈ lw_all := lw_g (lw_at lw_m8 27 rfl) rfl
theorem q1788 : (Jvm.Cond.privateMethod ({ cls := "StrictProofsModel", name := "onType", desc := "(II)V" } : Jvm.MethodName)) ∈ lw_tbl := lw_at lw_m8 28 rfl
theorem q1789 : (Jvm.Cond.instanceMethod ({ cls := "StrictProofsModel", name := "onType", desc := "(II)V" } : Jvm.MethodName)) ∈ lw_all := lw_g (lw_at lw_m8 29 rfl) rfl
theorem q1790 : (Jvm.Cond.code ({ cls := "StrictProofsModel", name := "onType", desc := "(II)V" } : Jvm.MethodName) prog_20_method_29_code (3 : Nat) (Option.none : Option Jvm.ClassFile.FieldType)) ∈ lw_all := lw_g (lw_at lw_m8 30 rfl) rfl
theorem q1791 : (Jvm.Cond.methodLink "StrictProofsModel" (273 : Nat) ({ cls := "StrictProofsModel", name := "pairOf", desc := "(II)I" } : Jvm.MethodName)) ∈ lw_all := lw_g (lw_at lw_m8 31 rfl) rfl
theorem q1792 : (Jvm.Cond.static ({ cls := "StrictProofsModel", name := "pairOf", desc := "(II)I" } : Jvm.MethodName)) ∈ lw_all := lw_g (lw_at lw_m8 32 rfl) rfl
theorem q1793 : (Jvm.Cond.code ({ cls := "StrictProofsModel", name := "pairOf", desc := "(II)I" } : Jvm.MethodName) prog_20_method_8_code (2 : Nat) (Option.some Jvm.ClassFile.FieldType.int)) ∈ lw_all := lw_g (lw_at lw_m8 33 rfl) rfl
theorem q1794 : (Jvm.Cond.methodLink "StrictProofsModel" (260 : Nat) ({ cls := "StrictProofsModel", name := "onE", desc := "()V" } : Jvm.MethodName)) ∈ lw_all := lw_g (lw_at lw_m8 34 rfl) rfl
theorem q1795 : (Jvm.Cond.privateMethod ({ cls := "StrictProofsModel", name := "onE", desc := "()V" } : Jvm.MethodName)) ∈ lw_tbl := lw_at lw_m8 35 rfl
theorem q1796 : (Jvm.Cond.instanceMethod ({ cls := "StrictProofsModel", name := "onE", desc := "()V" } : Jvm.MethodName)) ∈ lw_all := lw_g (lw_at lw_m8 36 rfl) rfl
theorem q1797 : (Jvm.Cond.code ({ cls := "StrictProofsModel", name := "onE", desc := "()V" } : Jvm.MethodName) prog_20_method_31_code (2 : Nat) (Option.none : Option Jvm.ClassFile.FieldType)) ∈ lw_all := lw_g (lw_at lw_m8 37 rfl) rfl
theorem q1798 : (Jvm.Cond.methodLink "StrictProofsModel" (277 : Nat) ({ cls := "StrictProofsModel", name := "begins", desc := "()Z" } : Jvm.MethodName)) ∈ lw_all := lw_g (lw_at lw_m8 38 rfl) rfl
theorem q1799 : (Jvm.Cond.privateMethod ({ cls := "StrictProofsModel", name := "begins", desc := "()Z" } : Jvm.MethodName)) ∈ lw_tbl := lw_at lw_m8 39 rfl
theorem q1800 : (Jvm.Cond.instanceMethod ({ cls := "StrictProofsModel", name := "begins", desc := "()Z" } : Jvm.MethodName)) ∈ lw_all := lw_g (lw_at lw_m8 40 rfl) rfl
theorem q1801 : (Jvm.Cond.code ({ cls := "StrictProofsModel", name := "begins", desc := "()Z" } : Jvm.MethodName) prog_20_method_30_code (1 : Nat) (Option.some Jvm.ClassFile.FieldType.boolean)) ∈ lw_all := lw_g (lw_at lw_m8 41 rfl) rfl
theorem q1802 : (Jvm.Cond.methodLink "StrictProofsModel" (281 : Nat) ({ cls := "StrictProofsModel", name := "node", desc := "(II)I" } : Jvm.MethodName)) ∈ lw_all := lw_g (lw_at lw_m8 42 rfl) rfl
theorem q1803 : (Jvm.Cond.privateMethod ({ cls := "StrictProofsModel", name := "node", desc := "(II)I" } : Jvm.MethodName)) ∈ lw_tbl := lw_at lw_m8 43 rfl
theorem q1804 : (Jvm.Cond.instanceMethod ({ cls := "StrictProofsModel", name := "node", desc := "(II)I" } : Jvm.MethodName)) ∈ lw_all := lw_g (lw_at lw_m8 44 rfl) rfl
theorem q1805 : (Jvm.Cond.code ({ cls := "StrictProofsModel", name := "node", desc := "(II)I" } : Jvm.MethodName) prog_20_method_22_code (4 : Nat) (Option.some Jvm.ClassFile.FieldType.int)) ∈ lw_all := lw_g (lw_at lw_m8 45 rfl) rfl
theorem q1806 : (Jvm.Cond.methodLink "StrictProofsModel" (263 : Nat) ({ cls := "StrictProofsModel", name := "onSum", desc := "(II)V" } : Jvm.MethodName)) ∈ lw_all := lw_g (lw_at lw_m8 46 rfl) rfl
theorem q1807 : (Jvm.Cond.privateMethod ({ cls := "StrictProofsModel", name := "onSum", desc := "(II)V" } : Jvm.MethodName)) ∈ lw_tbl := lw_at lw_m8 47 rfl
theorem q1808 : (Jvm.Cond.instanceMethod ({ cls := "StrictProofsModel", name := "onSum", desc := "(II)V" } : Jvm.MethodName)) ∈ lw_all := lw_g (lw_at lw_m8 48 rfl) rfl
theorem q1809 : (Jvm.Cond.code ({ cls := "StrictProofsModel", name := "onSum", desc := "(II)V" } : Jvm.MethodName) prog_20_method_32_code (6 : Nat) (Option.none : Option Jvm.ClassFile.FieldType)) ∈ lw_all := lw_g (lw_at lw_m8 49 rfl) rfl
theorem q1810 : (Jvm.Cond.methodLink "StrictProofsModel" (284 : Nat) ({ cls := "StrictProofsModel", name := "onAtom", desc := "()V" } : Jvm.MethodName)) ∈ lw_all := lw_g (lw_at lw_m8 50 rfl) rfl
theorem q1811 : (Jvm.Cond.privateMethod ({ cls := "StrictProofsModel", name := "onAtom", desc := "()V" } : Jvm.MethodName)) ∈ lw_tbl := lw_at lw_m8 51 rfl
theorem q1812 : (Jvm.Cond.instanceMethod ({ cls := "StrictProofsModel", name := "onAtom", desc := "()V" } : Jvm.MethodName)) ∈ lw_all := lw_g (lw_at lw_m8 52 rfl) rfl
theorem q1813 : (Jvm.Cond.code ({ cls := "StrictProofsModel", name := "onAtom", desc := "()V" } : Jvm.MethodName) prog_20_method_33_code (3 : Nat) (Option.none : Option Jvm.ClassFile.FieldType)) ∈ lw_all := lw_g (lw_at lw_m8 53 rfl) rfl
theorem q1814 : (Jvm.Cond.methodLink "StrictProofsModel" (291 : Nat) ({ cls := "StrictProofsModel", name := "make", desc := "(I)V" } : Jvm.MethodName)) ∈ lw_all := lw_g (lw_at lw_m8 54 rfl) rfl
theorem q1815 : (Jvm.Cond.privateMethod ({ cls := "StrictProofsModel", name := "make", desc := "(I)V" } : Jvm.MethodName)) ∈ lw_tbl := lw_at lw_m8 55 rfl
theorem q1816 : (Jvm.Cond.instanceMethod ({ cls := "StrictProofsModel", name := "make", desc := "(I)V" } : Jvm.MethodName)) ∈ lw_all := lw_g (lw_at lw_m8 56 rfl) rfl
theorem q1817 : (Jvm.Cond.code ({ cls := "StrictProofsModel", name := "make", desc := "(I)V" } : Jvm.MethodName) prog_20_method_26_code (2 : Nat) (Option.none : Option Jvm.ClassFile.FieldType)) ∈ lw_all := lw_g (lw_at lw_m8 57 rfl) rfl
theorem q1818 : (Jvm.Cond.methodLink "StrictProofsModel" (287 : Nat) ({ cls := "StrictProofsModel", name := "last", desc := "()I" } : Jvm.MethodName)) ∈ lw_all := lw_g (lw_at lw_m8 58 rfl) rfl
theorem q1819 : (Jvm.Cond.privateMethod ({ cls := "StrictProofsModel", name := "last", desc := "()I" } : Jvm.MethodName)) ∈ lw_tbl := lw_at lw_m8 59 rfl
theorem q1820 : (Jvm.Cond.instanceMethod ({ cls := "StrictProofsModel", name := "last", desc := "()I" } : Jvm.MethodName)) ∈ lw_all := lw_g (lw_at lw_m8 60 rfl) rfl
theorem q1821 : (Jvm.Cond.code ({ cls := "StrictProofsModel", name := "last", desc := "()I" } : Jvm.MethodName) prog_20_method_27_code (1 : Nat) (Option.some Jvm.ClassFile.FieldType.int)) ∈ lw_all := lw_g (lw_at lw_m8 61 rfl) rfl
theorem q1822 : (Jvm.Cond.methodLink "StrictProofsModel" (266 : Nat) ({ cls := "StrictProofsModel", name := "onRest", desc := "(II)V" } : Jvm.MethodName)) ∈ lw_all := lw_g (lw_at lw_m8 62 rfl) rfl
theorem q1823 : (Jvm.Cond.privateMethod ({ cls := "StrictProofsModel", name := "onRest", desc := "(II)V" } : Jvm.MethodName)) ∈ lw_tbl := lw_at lw_m8 63 rfl
theorem q1824 : (Jvm.Cond.instanceMethod ({ cls := "StrictProofsModel", name := "onRest", desc := "(II)V" } : Jvm.MethodName)) ∈ lw_all := lw_g (lw_at lw_m8 64 rfl) rfl
theorem q1825 : (Jvm.Cond.code ({ cls := "StrictProofsModel", name := "onRest", desc := "(II)V" } : Jvm.MethodName) prog_20_method_34_code (6 : Nat) (Option.none : Option Jvm.ClassFile.FieldType)) ∈ lw_all := lw_g (lw_at lw_m8 65 rfl) rfl
theorem q1826 : (Jvm.Cond.methodLink "StrictProofsModel" (304 : Nat) ({ cls := "StrictProofsModel", name := "onCouple", desc := "(I)V" } : Jvm.MethodName)) ∈ lw_all := lw_g (lw_at lw_m8 66 rfl) rfl
theorem q1827 : (Jvm.Cond.privateMethod ({ cls := "StrictProofsModel", name := "onCouple", desc := "(I)V" } : Jvm.MethodName)) ∈ lw_tbl := lw_at lw_m8 67 rfl
theorem q1828 : (Jvm.Cond.instanceMethod ({ cls := "StrictProofsModel", name := "onCouple", desc := "(I)V" } : Jvm.MethodName)) ∈ lw_all := lw_g (lw_at lw_m8 68 rfl) rfl
theorem q1829 : (Jvm.Cond.code ({ cls := "StrictProofsModel", name := "onCouple", desc := "(I)V" } : Jvm.MethodName) prog_20_method_35_code (3 : Nat) (Option.none : Option Jvm.ClassFile.FieldType)) ∈ lw_all := lw_g (lw_at lw_m8 69 rfl) rfl
theorem q1830 : (Jvm.Cond.methodLink "StrictProofsModel" (351 : Nat) ({ cls := "StrictProofsModel", name := "judge", desc := "()V" } : Jvm.MethodName)) ∈ lw_all := lw_g (lw_at lw_m8 70 rfl) rfl
theorem q1831 : (Jvm.Cond.privateMethod ({ cls := "StrictProofsModel", name := "judge", desc := "()V" } : Jvm.MethodName)) ∈ lw_tbl := lw_at lw_m8 71 rfl
theorem q1832 : (Jvm.Cond.instanceMethod ({ cls := "StrictProofsModel", name := "judge", desc := "()V" } : Jvm.MethodName)) ∈ lw_all := lw_g (lw_at lw_m8 72 rfl) rfl
theorem q1833 : (Jvm.Cond.code ({ cls := "StrictProofsModel", name := "judge", desc := "()V" } : Jvm.MethodName) prog_20_method_41_code (4 : Nat) (Option.none : Option Jvm.ClassFile.FieldType)) ∈ lw_all := lw_g (lw_at lw_m8 73 rfl) rfl
theorem q1834 : (Jvm.Cond.methodLink "StrictProofsModel" (322 : Nat) ({ cls := "StrictProofsModel", name := "task", desc := "(III)V" } : Jvm.MethodName)) ∈ lw_all := lw_g (lw_at lw_m8 74 rfl) rfl
theorem q1835 : (Jvm.Cond.privateMethod ({ cls := "StrictProofsModel", name := "task", desc := "(III)V" } : Jvm.MethodName)) ∈ lw_tbl := lw_at lw_m8 75 rfl
theorem q1836 : (Jvm.Cond.instanceMethod ({ cls := "StrictProofsModel", name := "task", desc := "(III)V" } : Jvm.MethodName)) ∈ lw_all := lw_g (lw_at lw_m8 76 rfl) rfl
theorem q1837 : (Jvm.Cond.code ({ cls := "StrictProofsModel", name := "task", desc := "(III)V" } : Jvm.MethodName) prog_20_method_38_code (4 : Nat) (Option.none : Option Jvm.ClassFile.FieldType)) ∈ lw_all := lw_g (lw_at lw_m8 77 rfl) rfl
theorem q1838 : (Jvm.Cond.methodLink "StrictProofsModel" (326 : Nat) ({ cls := "StrictProofsModel", name := "onJudge", desc := "(II)V" } : Jvm.MethodName)) ∈ lw_all := lw_g (lw_at lw_m8 78 rfl) rfl
theorem q1839 : (Jvm.Cond.privateMethod ({ cls := "StrictProofsModel", name := "onJudge", desc := "(II)V" } : Jvm.MethodName)) ∈ lw_tbl := lw_at lw_m8 79 rfl
theorem q1840 : (Jvm.Cond.instanceMethod ({ cls := "StrictProofsModel", name := "onJudge", desc := "(II)V" } : Jvm.MethodName)) ∈ lw_all := lw_g (lw_at lw_m8 80 rfl) rfl
theorem q1841 : (Jvm.Cond.code ({ cls := "StrictProofsModel", name := "onJudge", desc := "(II)V" } : Jvm.MethodName) prog_20_method_42_code (4 : Nat) (Option.none : Option Jvm.ClassFile.FieldType)) ∈ lw_all := lw_g (lw_at lw_m8 81 rfl) rfl
theorem q1842 : (Jvm.Cond.methodLink "StrictProofsModel" (335 : Nat) ({ cls := "StrictProofsModel", name := "meant", desc := "(J)I" } : Jvm.MethodName)) ∈ lw_all := lw_g (lw_at lw_m8 82 rfl) rfl
theorem q1843 : (Jvm.Cond.privateMethod ({ cls := "StrictProofsModel", name := "meant", desc := "(J)I" } : Jvm.MethodName)) ∈ lw_tbl := lw_at lw_m8 83 rfl
theorem q1844 : (Jvm.Cond.instanceMethod ({ cls := "StrictProofsModel", name := "meant", desc := "(J)I" } : Jvm.MethodName)) ∈ lw_all := lw_g (lw_at lw_m8 84 rfl) rfl
theorem q1845 : (Jvm.Cond.code ({ cls := "StrictProofsModel", name := "meant", desc := "(J)I" } : Jvm.MethodName) prog_20_method_39_code (4 : Nat) (Option.some Jvm.ClassFile.FieldType.int)) ∈ lw_all := lw_g (lw_at lw_m8 85 rfl) rfl
theorem q1846 : (Jvm.Cond.methodLink "StrictProofsModel" (338 : Nat) ({ cls := "StrictProofsModel", name := "judgeCall", desc := "(I)V" } : Jvm.MethodName)) ∈ lw_all := lw_g (lw_at lw_m8 86 rfl) rfl
theorem q1847 : (Jvm.Cond.privateMethod ({ cls := "StrictProofsModel", name := "judgeCall", desc := "(I)V" } : Jvm.MethodName)) ∈ lw_tbl := lw_at lw_m8 87 rfl
theorem q1848 : (Jvm.Cond.instanceMethod ({ cls := "StrictProofsModel", name := "judgeCall", desc := "(I)V" } : Jvm.MethodName)) ∈ lw_all := lw_g (lw_at lw_m8 88 rfl) rfl
theorem q1849 : (Jvm.Cond.code ({ cls := "StrictProofsModel", name := "judgeCall", desc := "(I)V" } : Jvm.MethodName) prog_20_method_43_code (4 : Nat) (Option.none : Option Jvm.ClassFile.FieldType)) ∈ lw_all := lw_g (lw_at lw_m8 89 rfl) rfl
theorem q1850 : (Jvm.Cond.methodLink "StrictProofsModel" (162 : Nat) ({ cls := "StrictProofsModel", name := "secondOf", desc := "(I)I" } : Jvm.MethodName)) ∈ lw_all := lw_g (lw_at lw_m8 90 rfl) rfl
theorem q1851 : (Jvm.Cond.static ({ cls := "StrictProofsModel", name := "secondOf", desc := "(I)I" } : Jvm.MethodName)) ∈ lw_all := lw_g (lw_at lw_m8 91 rfl) rfl
theorem q1852 : (Jvm.Cond.code ({ cls := "StrictProofsModel", name := "secondOf", desc := "(I)I" } : Jvm.MethodName) prog_20_method_7_code (1 : Nat) (Option.some Jvm.ClassFile.FieldType.int)) ∈ lw_all := lw_g (lw_at lw_m8 92 rfl) rfl
theorem q1853 : (Jvm.Cond.methodLink "StrictProofsModel" (169 : Nat) ({ cls := "StrictProofsModel", name := "firstOf", desc := "(I)I" } : Jvm.MethodName)) ∈ lw_all := lw_g (lw_at lw_m8 93 rfl) rfl
theorem q1854 : (Jvm.Cond.static ({ cls := "StrictProofsModel", name := "firstOf", desc := "(I)I" } : Jvm.MethodName)) ∈ lw_all := lw_g (lw_at lw_m8 94 rfl) rfl
theorem q1855 : (Jvm.Cond.code ({ cls := "StrictProofsModel", name := "firstOf", desc := "(I)I" } : Jvm.MethodName) prog_20_method_6_code (1 : Nat) (Option.some Jvm.ClassFile.FieldType.int)) ∈ lw_all := lw_g (lw_at lw_m8 95 rfl) rfl
theorem q1856 : (Jvm.Cond.methodLink "StrictProofsModel" (329 : Nat) ({ cls := "StrictProofsModel", name := "tells", desc := "(II)V" } : Jvm.MethodName)) ∈ lw_all := lw_g (lw_at lw_m8 96 rfl) rfl
theorem q1857 : (Jvm.Cond.privateMethod ({ cls := "StrictProofsModel", name := "tells", desc := "(II)V" } : Jvm.MethodName)) ∈ lw_tbl := lw_at lw_m8 97 rfl
theorem q1858 : (Jvm.Cond.instanceMethod ({ cls := "StrictProofsModel", name := "tells", desc := "(II)V" } : Jvm.MethodName)) ∈ lw_all := lw_g (lw_at lw_m8 98 rfl) rfl
theorem q1859 : (Jvm.Cond.code ({ cls := "StrictProofsModel", name := "tells", desc := "(II)V" } : Jvm.MethodName) prog_20_method_40_code (3 : Nat) (Option.none : Option Jvm.ClassFile.FieldType)) ∈ lw_all := lw_g (lw_at lw_m8 99 rfl) rfl
theorem q1860 : (Jvm.Cond.methodLink "StrictProofsModel" (332 : Nat) ({ cls := "StrictProofsModel", name := "onShut", desc := "(II)V" } : Jvm.MethodName)) ∈ lw_all := lw_g (lw_at lw_m8 100 rfl) rfl
theorem q1861 : (Jvm.Cond.privateMethod ({ cls := "StrictProofsModel", name := "onShut", desc := "(II)V" } : Jvm.MethodName)) ∈ lw_tbl := lw_at lw_m8 101 rfl
theorem q1862 : (Jvm.Cond.instanceMethod ({ cls := "StrictProofsModel", name := "onShut", desc := "(II)V" } : Jvm.MethodName)) ∈ lw_all := lw_g (lw_at lw_m8 102 rfl) rfl
theorem q1863 : (Jvm.Cond.code ({ cls := "StrictProofsModel", name := "onShut", desc := "(II)V" } : Jvm.MethodName) prog_20_method_44_code (5 : Nat) (Option.none : Option Jvm.ClassFile.FieldType)) ∈ lw_all := lw_g (lw_at lw_m8 103 rfl) rfl
theorem q1865 : (Jvm.Cond.instanceMethod ({ cls := "StrictProofsModel", name := "place", desc := "()I" } : Jvm.MethodName)) ∈ lw_all := lw_g (lw_at lw_m8 105 rfl) rfl
theorem q1866 : (Jvm.Cond.selects "StrictProofsModel" ({ cls := "StrictProofsModel", name := "place", desc := "()I" } : Jvm.MethodName) ({ cls := "StrictProofsModel", name := "place", desc := "()I" } : Jvm.MethodName)) ∈ lw_all := lw_g (lw_at lw_m8 106 rfl) rfl
theorem q1867 : (Jvm.Cond.code ({ cls := "StrictProofsModel", name := "place", desc := "()I" } : Jvm.MethodName) prog_20_method_46_code (1 : Nat) (Option.some Jvm.ClassFile.FieldType.int)) ∈ lw_all := lw_g (lw_at lw_m8 107 rfl) rfl
theorem q1869 : (Jvm.Cond.instanceMethod ({ cls := "StrictProofsModel", name := "function", desc := "(II)I" } : Jvm.MethodName)) ∈ lw_all := lw_g (lw_at lw_m8 109 rfl) rfl
theorem q1870 : (Jvm.Cond.selects "StrictProofsModel" ({ cls := "StrictProofsModel", name := "function", desc := "(II)I" } : Jvm.MethodName) ({ cls := "StrictProofsModel", name := "function", desc := "(II)I" } : Jvm.MethodName)) ∈ lw_all := lw_g (lw_at lw_m8 110 rfl) rfl
theorem q1871 : (Jvm.Cond.code ({ cls := "StrictProofsModel", name := "function", desc := "(II)I" } : Jvm.MethodName) prog_20_method_48_code (4 : Nat) (Option.some Jvm.ClassFile.FieldType.int)) ∈ lw_all := lw_g (lw_at lw_m8 111 rfl) rfl
theorem q1872 : (Jvm.Cond.methodLink "StrictProofsModel" (357 : Nat) ({ cls := "StrictProofsModel", name := "isFn", desc := "(I)Z" } : Jvm.MethodName)) ∈ lw_all := lw_g (lw_at lw_m8 112 rfl) rfl
theorem q1873 : (Jvm.Cond.privateMethod ({ cls := "StrictProofsModel", name := "isFn", desc := "(I)Z" } : Jvm.MethodName)) ∈ lw_tbl := lw_at lw_m8 113 rfl
theorem q1874 : (Jvm.Cond.instanceMethod ({ cls := "StrictProofsModel", name := "isFn", desc := "(I)Z" } : Jvm.MethodName)) ∈ lw_all := lw_g (lw_at lw_m8 114 rfl) rfl
theorem q1875 : (Jvm.Cond.code ({ cls := "StrictProofsModel", name := "isFn", desc := "(I)Z" } : Jvm.MethodName) prog_20_method_47_code (2 : Nat) (Option.some Jvm.ClassFile.FieldType.boolean)) ∈ lw_all := lw_g (lw_at lw_m8 115 rfl) rfl
theorem q1876 : (Jvm.Cond.methodLink "StrictProofsModel" (166 : Nat) ({ cls := "StrictProofsModel", name := "demands", desc := "(I)I" } : Jvm.MethodName)) ∈ lw_all := lw_g (lw_at lw_m8 116 rfl) rfl
theorem q1877 : (Jvm.Cond.static ({ cls := "StrictProofsModel", name := "demands", desc := "(I)I" } : Jvm.MethodName)) ∈ lw_all := lw_g (lw_at lw_m8 117 rfl) rfl
theorem q1878 : (Jvm.Cond.code ({ cls := "StrictProofsModel", name := "demands", desc := "(I)I" } : Jvm.MethodName) prog_20_method_9_code (1 : Nat) (Option.some Jvm.ClassFile.FieldType.int)) ∈ lw_all := lw_g (lw_at lw_m8 118 rfl) rfl
theorem q1880 : (Jvm.Cond.instanceMethod ({ cls := "StrictProofsModel", name := "rounds", desc := "()I" } : Jvm.MethodName)) ∈ lw_all := lw_g (lw_at lw_m8 120 rfl) rfl
theorem q1881 : (Jvm.Cond.selects "StrictProofsModel" ({ cls := "StrictProofsModel", name := "rounds", desc := "()I" } : Jvm.MethodName) ({ cls := "StrictProofsModel", name := "rounds", desc := "()I" } : Jvm.MethodName)) ∈ lw_all := lw_g (lw_at lw_m8 121 rfl) rfl
theorem q1882 : (Jvm.Cond.code ({ cls := "StrictProofsModel", name := "rounds", desc := "()I" } : Jvm.MethodName) prog_20_method_56_code (6 : Nat) (Option.some Jvm.ClassFile.FieldType.int)) ∈ lw_all := lw_g (lw_at lw_m8 122 rfl) rfl
theorem q1883 : (Jvm.Cond.methodLink "StrictProofsModel" (381 : Nat) ({ cls := "StrictProofsModel", name := "renewed", desc := "(II)Z" } : Jvm.MethodName)) ∈ lw_all := lw_g (lw_at lw_m8 123 rfl) rfl
theorem q1884 : (Jvm.Cond.privateMethod ({ cls := "StrictProofsModel", name := "renewed", desc := "(II)Z" } : Jvm.MethodName)) ∈ lw_tbl := lw_at lw_m8 124 rfl
theorem q1885 : (Jvm.Cond.instanceMethod ({ cls := "StrictProofsModel", name := "renewed", desc := "(II)Z" } : Jvm.MethodName)) ∈ lw_all := lw_g (lw_at lw_m8 125 rfl) rfl
theorem q1886 : (Jvm.Cond.code ({ cls := "StrictProofsModel", name := "renewed", desc := "(II)Z" } : Jvm.MethodName) prog_20_method_55_code (8 : Nat) (Option.some Jvm.ClassFile.FieldType.boolean)) ∈ lw_all := lw_g (lw_at lw_m8 126 rfl) rfl
theorem q1887 : (Jvm.Cond.methodLink "StrictProofsModel" (377 : Nat) ({ cls := "StrictProofsModel", name := "asks", desc := "(II)Z" } : Jvm.MethodName)) ∈ lw_all := lw_g (lw_at lw_m8 127 rfl) rfl
theorem q1888 : (Jvm.Cond.privateMethod ({ cls := "StrictProofsModel", name := "asks", desc := "(II)Z" } : Jvm.MethodName)) ∈ lw_tbl := lw_at lw_m8 128 rfl
theorem q1889 : (Jvm.Cond.instanceMethod ({ cls := "StrictProofsModel", name := "asks", desc := "(II)Z" } : Jvm.MethodName)) ∈ lw_all := lw_g (lw_at lw_m8 129 rfl) rfl
theorem q1890 : (Jvm.Cond.code ({ cls := "StrictProofsModel", name := "asks", desc := "(II)Z" } : Jvm.MethodName) prog_20_method_51_code (9 : Nat) (Option.some Jvm.ClassFile.FieldType.boolean)) ∈ lw_all := lw_g (lw_at lw_m8 130 rfl) rfl
theorem q1891 : (Jvm.Cond.methodLink "StrictProofsModel" (363 : Nat) ({ cls := "StrictProofsModel", name := "asking", desc := "(IIII)V" } : Jvm.MethodName)) ∈ lw_all := lw_g (lw_at lw_m8 131 rfl) rfl
theorem q1892 : (Jvm.Cond.privateMethod ({ cls := "StrictProofsModel", name := "asking", desc := "(IIII)V" } : Jvm.MethodName)) ∈ lw_tbl := lw_at lw_m8 132 rfl
theorem q1893 : (Jvm.Cond.instanceMethod ({ cls := "StrictProofsModel", name := "asking", desc := "(IIII)V" } : Jvm.MethodName)) ∈ lw_all := lw_g (lw_at lw_m8 133 rfl) rfl
theorem q1894 : (Jvm.Cond.code ({ cls := "StrictProofsModel", name := "asking", desc := "(IIII)V" } : Jvm.MethodName) prog_20_method_49_code (5 : Nat) (Option.none : Option Jvm.ClassFile.FieldType)) ∈ lw_all := lw_g (lw_at lw_m8 134 rfl) rfl
theorem q1895 : (Jvm.Cond.methodLink "StrictProofsModel" (367 : Nat) ({ cls := "StrictProofsModel", name := "onAsk", desc := "(III)V" } : Jvm.MethodName)) ∈ lw_all := lw_g (lw_at lw_m8 135 rfl) rfl
theorem q1896 : (Jvm.Cond.privateMethod ({ cls := "StrictProofsModel", name := "onAsk", desc := "(III)V" } : Jvm.MethodName)) ∈ lw_tbl := lw_at lw_m8 136 rfl
theorem q1897 : (Jvm.Cond.instanceMethod ({ cls := "StrictProofsModel", name := "onAsk", desc := "(III)V" } : Jvm.MethodName)) ∈ lw_all := lw_g (lw_at lw_m8 137 rfl) rfl
theorem q1898 : (Jvm.Cond.code ({ cls := "StrictProofsModel", name := "onAsk", desc := "(III)V" } : Jvm.MethodName) prog_20_method_52_code (8 : Nat) (Option.none : Option Jvm.ClassFile.FieldType)) ∈ lw_all := lw_g (lw_at lw_m8 138 rfl) rfl
theorem q1899 : (Jvm.Cond.methodLink "StrictProofsModel" (370 : Nat) ({ cls := "StrictProofsModel", name := "join", desc := "(IZ)V" } : Jvm.MethodName)) ∈ lw_all := lw_g (lw_at lw_m8 139 rfl) rfl
theorem q1900 : (Jvm.Cond.privateMethod ({ cls := "StrictProofsModel", name := "join", desc := "(IZ)V" } : Jvm.MethodName)) ∈ lw_tbl := lw_at lw_m8 140 rfl
theorem q1901 : (Jvm.Cond.instanceMethod ({ cls := "StrictProofsModel", name := "join", desc := "(IZ)V" } : Jvm.MethodName)) ∈ lw_all := lw_g (lw_at lw_m8 141 rfl) rfl
theorem q1902 : (Jvm.Cond.code ({ cls := "StrictProofsModel", name := "join", desc := "(IZ)V" } : Jvm.MethodName) prog_20_method_50_code (8 : Nat) (Option.none : Option Jvm.ClassFile.FieldType)) ∈ lw_all := lw_g (lw_at lw_m8 142 rfl) rfl
theorem q1903 : (Jvm.Cond.methodLink "StrictProofsModel" (360 : Nat) ({ cls := "StrictProofsModel", name := "joined", desc := "(IIIZ)I" } : Jvm.MethodName)) ∈ lw_all := lw_g (lw_at lw_m8 143 rfl) rfl
theorem q1904 : (Jvm.Cond.static ({ cls := "StrictProofsModel", name := "joined", desc := "(IIIZ)I" } : Jvm.MethodName)) ∈ lw_all := lw_g (lw_at lw_m8 144 rfl) rfl
theorem q1905 : (Jvm.Cond.code ({ cls := "StrictProofsModel", name := "joined", desc := "(IIIZ)I" } : Jvm.MethodName) prog_20_method_12_code (6 : Nat) (Option.some Jvm.ClassFile.FieldType.int)) ∈ lw_all := lw_g (lw_at lw_m8 145 rfl) rfl
theorem q1906 : (Jvm.Cond.methodLink "StrictProofsModel" (172 : Nat) ({ cls := "StrictProofsModel", name := "partBoth", desc := "(IIIZ)I" } : Jvm.MethodName)) ∈ lw_all := lw_g (lw_at lw_m8 146 rfl) rfl
theorem q1907 : (Jvm.Cond.static ({ cls := "StrictProofsModel", name := "partBoth", desc := "(IIIZ)I" } : Jvm.MethodName)) ∈ lw_all := lw_g (lw_at lw_m8 147 rfl) rfl
theorem q1908 : (Jvm.Cond.code ({ cls := "StrictProofsModel", name := "partBoth", desc := "(IIIZ)I" } : Jvm.MethodName) prog_20_method_11_code (4 : Nat) (Option.some Jvm.ClassFile.FieldType.int)) ∈ lw_all := lw_g (lw_at lw_m8 148 rfl) rfl
theorem q1909 : (Jvm.Cond.methodLink "StrictProofsModel" (158 : Nat) ({ cls := "StrictProofsModel", name := "nearBoth", desc := "(IIZ)I" } : Jvm.MethodName)) ∈ lw_all := lw_g (lw_at lw_m8 149 rfl) rfl
theorem q1910 : (Jvm.Cond.static ({ cls := "StrictProofsModel", name := "nearBoth", desc := "(IIZ)I" } : Jvm.MethodName)) ∈ lw_all := lw_g (lw_at lw_m8 150 rfl) rfl
theorem q1911 : (Jvm.Cond.code ({ cls := "StrictProofsModel", name := "nearBoth", desc := "(IIZ)I" } : Jvm.MethodName) prog_20_method_10_code (7 : Nat) (Option.some Jvm.ClassFile.FieldType.int)) ∈ lw_all := lw_g (lw_at lw_m8 151 rfl) rfl
theorem q1912 : (Jvm.Cond.methodLink "StrictProofsModel" (374 : Nat) ({ cls := "StrictProofsModel", name := "onArgument", desc := "(III)V" } : Jvm.MethodName)) ∈ lw_all := lw_g (lw_at lw_m8 152 rfl) rfl
theorem q1913 : (Jvm.Cond.privateMethod ({ cls := "StrictProofsModel", name := "onArgument", desc := "(III)V" } : Jvm.MethodName)) ∈ lw_tbl := lw_at lw_m8 153 rfl
theorem q1914 : (Jvm.Cond.instanceMethod ({ cls := "StrictProofsModel", name := "onArgument", desc := "(III)V" } : Jvm.MethodName)) ∈ lw_all := lw_g (lw_at lw_m8 154 rfl) rfl
theorem q1915 : (Jvm.Cond.code ({ cls := "StrictProofsModel", name := "onArgument", desc := "(III)V" } : Jvm.MethodName) prog_20_method_53_code (6 : Nat) (Option.none : Option Jvm.ClassFile.FieldType)) ∈ lw_all := lw_g (lw_at lw_m8 155 rfl) rfl
theorem q1917 : (Jvm.Cond.instanceMethod ({ cls := "StrictProofsModel", name := "dead", desc := "(II)Z" } : Jvm.MethodName)) ∈ lw_all := lw_g (lw_at lw_m8 157 rfl) rfl
theorem q1918 : (Jvm.Cond.selects "StrictProofsModel" ({ cls := "StrictProofsModel", name := "dead", desc := "(II)Z" } : Jvm.MethodName) ({ cls := "StrictProofsModel", name := "dead", desc := "(II)Z" } : Jvm.MethodName)) ∈ lw_all := lw_g (lw_at lw_m8 158 rfl) rfl
theorem q1919 : (Jvm.Cond.code ({ cls := "StrictProofsModel", name := "dead", desc := "(II)Z" } : Jvm.MethodName) prog_20_method_59_code (3 : Nat) (Option.some Jvm.ClassFile.FieldType.boolean)) ∈ lw_all := lw_g (lw_at lw_m8 159 rfl) rfl
theorem q1920 : (Jvm.Cond.methodLink "StrictProofsModel" (387 : Nat) ({ cls := "StrictProofsModel", name := "isRowThere", desc := "(II)Z" } : Jvm.MethodName)) ∈ lw_all := lw_g (lw_at lw_m8 160 rfl) rfl
theorem q1921 : (Jvm.Cond.privateMethod ({ cls := "StrictProofsModel", name := "isRowThere", desc := "(II)Z" } : Jvm.MethodName)) ∈ lw_tbl := lw_at lw_m8 161 rfl
theorem q1922 : (Jvm.Cond.instanceMethod ({ cls := "StrictProofsModel", name := "isRowThere", desc := "(II)Z" } : Jvm.MethodName)) ∈ lw_all := lw_g (lw_at lw_m8 162 rfl) rfl
theorem q1923 : (Jvm.Cond.code ({ cls := "StrictProofsModel", name := "isRowThere", desc := "(II)Z" } : Jvm.MethodName) prog_20_method_57_code (3 : Nat) (Option.some Jvm.ClassFile.FieldType.boolean)) ∈ lw_all := lw_g (lw_at lw_m8 163 rfl) rfl
theorem q1925 : (Jvm.Cond.instanceMethod ({ cls := "StrictProofsModel", name := "asks", desc := "(III)I" } : Jvm.MethodName)) ∈ lw_all := lw_g (lw_at lw_m8 165 rfl) rfl
theorem q1926 : (Jvm.Cond.selects "StrictProofsModel" ({ cls := "StrictProofsModel", name := "asks", desc := "(III)I" } : Jvm.MethodName) ({ cls := "StrictProofsModel", name := "asks", desc := "(III)I" } : Jvm.MethodName)) ∈ lw_all := lw_g (lw_at lw_m8 166 rfl) rfl
theorem q1927 : (Jvm.Cond.code ({ cls := "StrictProofsModel", name := "asks", desc := "(III)I" } : Jvm.MethodName) prog_20_method_61_code (4 : Nat) (Option.some Jvm.ClassFile.FieldType.int)) ∈ lw_all := lw_g (lw_at lw_m8 167 rfl) rfl
theorem q1928 : (Jvm.Cond.methodLink "StrictProofsModel" (390 : Nat) ({ cls := "StrictProofsModel", name := "isParamOf", desc := "(II)Z" } : Jvm.MethodName)) ∈ lw_all := lw_g (lw_at lw_m8 168 rfl) rfl
theorem q1929 : (Jvm.Cond.privateMethod ({ cls := "StrictProofsModel", name := "isParamOf", desc := "(II)Z" } : Jvm.MethodName)) ∈ lw_tbl := lw_at lw_m8 169 rfl
theorem q1930 : (Jvm.Cond.instanceMethod ({ cls := "StrictProofsModel", name := "isParamOf", desc := "(II)Z" } : Jvm.MethodName)) ∈ lw_all := lw_g (lw_at lw_m8 170 rfl) rfl
theorem q1931 : (Jvm.Cond.code ({ cls := "StrictProofsModel", name := "isParamOf", desc := "(II)Z" } : Jvm.MethodName) prog_20_method_60_code (3 : Nat) (Option.some Jvm.ClassFile.FieldType.boolean)) ∈ lw_all := lw_g (lw_at lw_m8 171 rfl) rfl
theorem q1932 : (Jvm.Cond.methodLink "StrictProofsModel" (393 : Nat) ({ cls := "StrictProofsModel", name := "has", desc := "(III)I" } : Jvm.MethodName)) ∈ lw_all := lw_g (lw_at lw_m8 172 rfl) rfl
theorem q1933 : (Jvm.Cond.privateMethod ({ cls := "StrictProofsModel", name := "has", desc := "(III)I" } : Jvm.MethodName)) ∈ lw_tbl := lw_at lw_m8 173 rfl
theorem q1934 : (Jvm.Cond.instanceMethod ({ cls := "StrictProofsModel", name := "has", desc := "(III)I" } : Jvm.MethodName)) ∈ lw_all := lw_g (lw_at lw_m8 174 rfl) rfl
theorem q1935 : (Jvm.Cond.code ({ cls := "StrictProofsModel", name := "has", desc := "(III)I" } : Jvm.MethodName) prog_20_method_58_code (4 : Nat) (Option.some Jvm.ClassFile.FieldType.int)) ∈ lw_all := lw_g (lw_at lw_m8 175 rfl) rfl
theorem q1936 : (Jvm.Cond.methodLink "StrictProofsModel" (384 : Nat) ({ cls := "StrictProofsModel", name := "all", desc := "(II)I" } : Jvm.MethodName)) ∈ lw_all := lw_g (lw_at lw_m8 176 rfl) rfl
theorem q1937 : (Jvm.Cond.privateMethod ({ cls := "StrictProofsModel", name := "all", desc := "(II)I" } : Jvm.MethodName)) ∈ lw_tbl := lw_at lw_m8 177 rfl
theorem q1938 : (Jvm.Cond.instanceMethod ({ cls := "StrictProofsModel", name := "all", desc := "(II)I" } : Jvm.MethodName)) ∈ lw_all := lw_g (lw_at lw_m8 178 rfl) rfl
theorem q1939 : (Jvm.Cond.code ({ cls := "StrictProofsModel", name := "all", desc := "(II)I" } : Jvm.MethodName) prog_20_method_54_code (3 : Nat) (Option.some Jvm.ClassFile.FieldType.int)) ∈ lw_all := lw_g (lw_at lw_m8 179 rfl) rfl
theorem q1941 : (Jvm.Cond.instanceMethod ({ cls := "StrictProofsModel", name := "strict", desc := "(II)Z" } : Jvm.MethodName)) ∈ lw_all := lw_g (lw_at lw_m8 181 rfl) rfl
theorem q1942 : (Jvm.Cond.selects "StrictProofsModel" ({ cls := "StrictProofsModel", name := "strict", desc := "(II)Z" } : Jvm.MethodName) ({ cls := "StrictProofsModel", name := "strict", desc := "(II)Z" } : Jvm.MethodName)) ∈ lw_all := lw_g (lw_at lw_m8 182 rfl) rfl
theorem q1943 : (Jvm.Cond.code ({ cls := "StrictProofsModel", name := "strict", desc := "(II)Z" } : Jvm.MethodName) prog_20_method_62_code (3 : Nat) (Option.some Jvm.ClassFile.FieldType.boolean)) ∈ lw_all := lw_g (lw_at lw_m8 183 rfl) rfl
theorem q1945 : (Jvm.Cond.instanceMethod ({ cls := "StrictProofsModel", name := "plant", desc := "(IIII)I" } : Jvm.MethodName)) ∈ lw_all := lw_g (lw_at lw_m8 185 rfl) rfl
theorem q1946 : (Jvm.Cond.selects "StrictProofsModel" ({ cls := "StrictProofsModel", name := "plant", desc := "(IIII)I" } : Jvm.MethodName) ({ cls := "StrictProofsModel", name := "plant", desc := "(IIII)I" } : Jvm.MethodName)) ∈ lw_all := lw_g (lw_at lw_m8 186 rfl) rfl
theorem q1947 : (Jvm.Cond.code ({ cls := "StrictProofsModel", name := "plant", desc := "(IIII)I" } : Jvm.MethodName) prog_20_method_63_code (8 : Nat) (Option.some Jvm.ClassFile.FieldType.int)) ∈ lw_all := lw_g (lw_at lw_m8 187 rfl) rfl
theorem q1949 : (Jvm.Cond.instanceMethod ({ cls := "StrictProofsModel", name := "check", desc := "()I" } : Jvm.MethodName)) ∈ lw_all := lw_g (lw_at lw_m8 189 rfl) rfl
theorem q1950 : (Jvm.Cond.selects "StrictProofsModel" ({ cls := "StrictProofsModel", name := "check", desc := "()I" } : Jvm.MethodName) ({ cls := "StrictProofsModel", name := "check", desc := "()I" } : Jvm.MethodName)) ∈ lw_all := lw_g (lw_at lw_m8 190 rfl) rfl
theorem q1951 : (Jvm.Cond.code ({ cls := "StrictProofsModel", name := "check", desc := "()I" } : Jvm.MethodName) prog_20_method_64_code (3 : Nat) (Option.some Jvm.ClassFile.FieldType.int)) ∈ lw_all := lw_g (lw_at lw_m8 191 rfl) rfl
theorem q1952 : (Jvm.Cond.methodLink "StrictProofsModel" (397 : Nat) ({ cls := "StrictProofsModel", name := "tellsTooMuch", desc := "(II)Z" } : Jvm.MethodName)) ∈ lw_all := lw_g (lw_at lw_m8 192 rfl) rfl
theorem q1953 : (Jvm.Cond.privateMethod ({ cls := "StrictProofsModel", name := "tellsTooMuch", desc := "(II)Z" } : Jvm.MethodName)) ∈ lw_tbl := lw_at lw_m8 193 rfl
theorem q1954 : (Jvm.Cond.instanceMethod ({ cls := "StrictProofsModel", name := "tellsTooMuch", desc := "(II)Z" } : Jvm.MethodName)) ∈ lw_all := lw_g (lw_at lw_m8 194 rfl) rfl
theorem q1955 : (Jvm.Cond.code ({ cls := "StrictProofsModel", name := "tellsTooMuch", desc := "(II)Z" } : Jvm.MethodName) prog_20_method_65_code (7 : Nat) (Option.some Jvm.ClassFile.FieldType.boolean)) ∈ lw_all := lw_g (lw_at lw_m8 195 rfl) rfl
theorem q1957 : (Jvm.Cond.instanceMethod ({ cls := "StrictProofsModel", name := "input", desc := "(II)I" } : Jvm.MethodName)) ∈ lw_all := lw_g (lw_at lw_m8 197 rfl) rfl
theorem q1958 : (Jvm.Cond.selects "StrictProofsModel" ({ cls := "StrictProofsModel", name := "input", desc := "(II)I" } : Jvm.MethodName) ({ cls := "StrictProofsModel", name := "input", desc := "(II)I" } : Jvm.MethodName)) ∈ lw_all := lw_g (lw_at lw_m8 198 rfl) rfl
theorem q1959 : (Jvm.Cond.code ({ cls := "StrictProofsModel", name := "input", desc := "(II)I" } : Jvm.MethodName) prog_20_method_66_code (3 : Nat) (Option.some Jvm.ClassFile.FieldType.int)) ∈ lw_all := lw_g (lw_at lw_m8 199 rfl) rfl
theorem q1960 : (Jvm.Cond.constantLong "StrictProofsModel" (400 : Nat) (2 : Int64)) ∈ lw_all := lw_g (lw_at lw_m8 200 rfl) rfl
theorem q1962 : (Jvm.Cond.instanceMethod ({ cls := "StrictProofsModel", name := "run", desc := "(III)I" } : Jvm.MethodName)) ∈ lw_all := lw_g (lw_at lw_m8 202 rfl) rfl
theorem q1963 : (Jvm.Cond.selects "StrictProofsModel" ({ cls := "StrictProofsModel", name := "run", desc := "(III)I" } : Jvm.MethodName) ({ cls := "StrictProofsModel", name := "run", desc := "(III)I" } : Jvm.MethodName)) ∈ lw_all := lw_g (lw_at lw_m8 203 rfl) rfl
theorem q1964 : (Jvm.Cond.code ({ cls := "StrictProofsModel", name := "run", desc := "(III)I" } : Jvm.MethodName) prog_20_method_77_code (7 : Nat) (Option.some Jvm.ClassFile.FieldType.int)) ∈ lw_all := lw_g (lw_at lw_m8 204 rfl) rfl
theorem q1965 : (Jvm.Cond.methodLink "StrictProofsModel" (405 : Nat) ({ cls := "StrictProofsModel", name := "behind", desc := "(II)I" } : Jvm.MethodName)) ∈ lw_all := lw_g (lw_at lw_m8 205 rfl) rfl
theorem q1966 : (Jvm.Cond.privateMethod ({ cls := "StrictProofsModel", name := "behind", desc := "(II)I" } : Jvm.MethodName)) ∈ lw_tbl := lw_at lw_m8 206 rfl
theorem q1967 : (Jvm.Cond.instanceMethod ({ cls := "StrictProofsModel", name := "behind", desc := "(II)I" } : Jvm.MethodName)) ∈ lw_all := lw_g (lw_at lw_m8 207 rfl) rfl
theorem q1968 : (Jvm.Cond.code ({ cls := "StrictProofsModel", name := "behind", desc := "(II)I" } : Jvm.MethodName) prog_20_method_67_code (6 : Nat) (Option.some Jvm.ClassFile.FieldType.int)) ∈ lw_all := lw_g (lw_at lw_m8 208 rfl) rfl
theorem q1969 : (Jvm.Cond.constantLong "StrictProofsModel" (462 : Nat) (20000 : Int64)) ∈ lw_all := lw_g (lw_at lw_m8 209 rfl) rfl
theorem q1970 : (Jvm.Cond.methodLink "StrictProofsModel" (464 : Nat) ({ cls := "StrictProofsModel", name := "lay", desc := "(II)I" } : Jvm.MethodName)) ∈ lw_all := lw_g (lw_at lw_m8 210 rfl) rfl
theorem q1971 : (Jvm.Cond.privateMethod ({ cls := "StrictProofsModel", name := "lay", desc := "(II)I" } : Jvm.MethodName)) ∈ lw_tbl := lw_at lw_m8 211 rfl
theorem q1972 : (Jvm.Cond.instanceMethod ({ cls := "StrictProofsModel", name := "lay", desc := "(II)I" } : Jvm.MethodName)) ∈ lw_all := lw_g (lw_at lw_m8 212 rfl) rfl
theorem q1973 : (Jvm.Cond.code ({ cls := "StrictProofsModel", name := "lay", desc := "(II)I" } : Jvm.MethodName) prog_20_method_68_code (6 : Nat) (Option.some Jvm.ClassFile.FieldType.int)) ∈ lw_all := lw_g (lw_at lw_m8 213 rfl) rfl
theorem q1974 : (Jvm.Cond.methodLink "StrictProofsModel" (467 : Nat) ({ cls := "StrictProofsModel", name := "goes", desc := "()V" } : Jvm.MethodName)) ∈ lw_all := lw_g (lw_at lw_m8 214 rfl) rfl
theorem q1975 : (Jvm.Cond.privateMethod ({ cls := "StrictProofsModel", name := "goes", desc := "()V" } : Jvm.MethodName)) ∈ lw_tbl := lw_at lw_m8 215 rfl
theorem q1976 : (Jvm.Cond.instanceMethod ({ cls := "StrictProofsModel", name := "goes", desc := "()V" } : Jvm.MethodName)) ∈ lw_all := lw_g (lw_at lw_m8 216 rfl) rfl
theorem q1977 : (Jvm.Cond.code ({ cls := "StrictProofsModel", name := "goes", desc := "()V" } : Jvm.MethodName) prog_20_method_72_code (5 : Nat) (Option.none : Option Jvm.ClassFile.FieldType)) ∈ lw_all := lw_g (lw_at lw_m8 217 rfl) rfl
theorem q1978 : (Jvm.Cond.methodLink "StrictProofsModel" (423 : Nat) ({ cls := "StrictProofsModel", name := "work", desc := "(II)V" } : Jvm.MethodName)) ∈ lw_all := lw_g (lw_at lw_m8 218 rfl) rfl
theorem q1979 : (Jvm.Cond.privateMethod ({ cls := "StrictProofsModel", name := "work", desc := "(II)V" } : Jvm.MethodName)) ∈ lw_tbl := lw_at lw_m8 219 rfl
theorem q1980 : (Jvm.Cond.instanceMethod ({ cls := "StrictProofsModel", name := "work", desc := "(II)V" } : Jvm.MethodName)) ∈ lw_all := lw_g (lw_at lw_m8 220 rfl) rfl
theorem q1981 : (Jvm.Cond.code ({ cls := "StrictProofsModel", name := "work", desc := "(II)V" } : Jvm.MethodName) prog_20_method_73_code (3 : Nat) (Option.none : Option Jvm.ClassFile.FieldType)) ∈ lw_all := lw_g (lw_at lw_m8 221 rfl) rfl
theorem q1982 : (Jvm.Cond.methodLink "StrictProofsModel" (420 : Nat) ({ cls := "StrictProofsModel", name := "gives", desc := "(II)V" } : Jvm.MethodName)) ∈ lw_all := lw_g (lw_at lw_m8 222 rfl) rfl
theorem q1983 : (Jvm.Cond.privateMethod ({ cls := "StrictProofsModel", name := "gives", desc := "(II)V" } : Jvm.MethodName)) ∈ lw_tbl := lw_at lw_m8 223 rfl
theorem q1984 : (Jvm.Cond.instanceMethod ({ cls := "StrictProofsModel", name := "gives", desc := "(II)V" } : Jvm.MethodName)) ∈ lw_all := lw_g (lw_at lw_m8 224 rfl) rfl
theorem q1985 : (Jvm.Cond.code ({ cls := "StrictProofsModel", name := "gives", desc := "(II)V" } : Jvm.MethodName) prog_20_method_70_code (3 : Nat) (Option.none : Option Jvm.ClassFile.FieldType)) ∈ lw_all := lw_g (lw_at lw_m8 225 rfl) rfl
theorem q1986 : (Jvm.Cond.methodLink "StrictProofsModel" (432 : Nat) ({ cls := "StrictProofsModel", name := "need", desc := "(I)V" } : Jvm.MethodName)) ∈ lw_all := lw_g (lw_at lw_m8 226 rfl) rfl
theorem q1987 : (Jvm.Cond.privateMethod ({ cls := "StrictProofsModel", name := "need", desc := "(I)V" } : Jvm.MethodName)) ∈ lw_tbl := lw_at lw_m8 227 rfl
theorem q1988 : (Jvm.Cond.instanceMethod ({ cls := "StrictProofsModel", name := "need", desc := "(I)V" } : Jvm.MethodName)) ∈ lw_all := lw_g (lw_at lw_m8 228 rfl) rfl
theorem q1989 : (Jvm.Cond.code ({ cls := "StrictProofsModel", name := "need", desc := "(I)V" } : Jvm.MethodName) prog_20_method_71_code (2 : Nat) (Option.none : Option Jvm.ClassFile.FieldType)) ∈ lw_all := lw_g (lw_at lw_m8 229 rfl) rfl
theorem q1990 : (Jvm.Cond.methodLink "StrictProofsModel" (447 : Nat) ({ cls := "StrictProofsModel", name := "thing", desc := "(II)I" } : Jvm.MethodName)) ∈ lw_all := lw_g (lw_at lw_m8 230 rfl) rfl
theorem q1991 : (Jvm.Cond.privateMethod ({ cls := "StrictProofsModel", name := "thing", desc := "(II)I" } : Jvm.MethodName)) ∈ lw_tbl := lw_at lw_m8 231 rfl
theorem q1992 : (Jvm.Cond.instanceMethod ({ cls := "StrictProofsModel", name := "thing", desc := "(II)I" } : Jvm.MethodName)) ∈ lw_all := lw_g (lw_at lw_m8 232 rfl) rfl
theorem q1993 : (Jvm.Cond.code ({ cls := "StrictProofsModel", name := "thing", desc := "(II)I" } : Jvm.MethodName) prog_20_method_69_code (4 : Nat) (Option.some Jvm.ClassFile.FieldType.int)) ∈ lw_all := lw_g (lw_at lw_m8 233 rfl) rfl
theorem q1994 : (Jvm.Cond.methodLink "StrictProofsModel" (450 : Nat) ({ cls := "StrictProofsModel", name := "called", desc := "(II)V" } : Jvm.MethodName)) ∈ lw_all := lw_g (lw_at lw_m8 234 rfl) rfl
theorem q1995 : (Jvm.Cond.privateMethod ({ cls := "StrictProofsModel", name := "called", desc := "(II)V" } : Jvm.MethodName)) ∈ lw_tbl := lw_at lw_m8 235 rfl
theorem q1996 : (Jvm.Cond.instanceMethod ({ cls := "StrictProofsModel", name := "called", desc := "(II)V" } : Jvm.MethodName)) ∈ lw_all := lw_g (lw_at lw_m8 236 rfl) rfl
theorem q1997 : (Jvm.Cond.code ({ cls := "StrictProofsModel", name := "called", desc := "(II)V" } : Jvm.MethodName) prog_20_method_74_code (5 : Nat) (Option.none : Option Jvm.ClassFile.FieldType)) ∈ lw_all := lw_g (lw_at lw_m8 237 rfl) rfl
theorem q1998 : (Jvm.Cond.methodLink "StrictProofsModel" (453 : Nat) ({ cls := "StrictProofsModel", name := "paired", desc := "(II)V" } : Jvm.MethodName)) ∈ lw_all := lw_g (lw_at lw_m8 238 rfl) rfl
theorem q1999 : (Jvm.Cond.privateMethod ({ cls := "StrictProofsModel", name := "paired", desc := "(II)V" } : Jvm.MethodName)) ∈ lw_tbl := lw_at lw_m8 239 rfl
theorem q2000 : (Jvm.Cond.instanceMethod ({ cls := "StrictProofsModel", name := "paired", desc := "(II)V" } : Jvm.MethodName)) ∈ lw_all := lw_g (lw_at lw_m9 0 rfl) rfl
theorem q2001 : (Jvm.Cond.code ({ cls := "StrictProofsModel", name := "paired", desc := "(II)V" } : Jvm.MethodName) prog_20_method_75_code (4 : Nat) (Option.none : Option Jvm.ClassFile.FieldType)) ∈ lw_all := lw_g (lw_at lw_m9 1 rfl) rfl
theorem q2002 : (Jvm.Cond.methodLink "StrictProofsModel" (435 : Nat) ({ cls := "StrictProofsModel", name := "demand", desc := "(II)V" } : Jvm.MethodName)) ∈ lw_all := lw_g (lw_at lw_m9 2 rfl) rfl
theorem q2003 : (Jvm.Cond.privateMethod ({ cls := "StrictProofsModel", name := "demand", desc := "(II)V" } : Jvm.MethodName)) ∈ lw_tbl := lw_at lw_m9 3 rfl
theorem q2004 : (Jvm.Cond.instanceMethod ({ cls := "StrictProofsModel", name := "demand", desc := "(II)V" } : Jvm.MethodName)) ∈ lw_all := lw_g (lw_at lw_m9 4 rfl) rfl
theorem q2005 : (Jvm.Cond.code ({ cls := "StrictProofsModel", name := "demand", desc := "(II)V" } : Jvm.MethodName) prog_20_method_76_code (5 : Nat) (Option.none : Option Jvm.ClassFile.FieldType)) ∈ lw_all := lw_g (lw_at lw_m9 5 rfl) rfl
theorem q2007 : (Jvm.Cond.instanceMethod ({ cls := "StrictProofsModel", name := "told", desc := "(I)I" } : Jvm.MethodName)) ∈ lw_all := lw_g (lw_at lw_m9 7 rfl) rfl
theorem q2008 : (Jvm.Cond.selects "StrictProofsModel" ({ cls := "StrictProofsModel", name := "told", desc := "(I)I" } : Jvm.MethodName) ({ cls := "StrictProofsModel", name := "told", desc := "(I)I" } : Jvm.MethodName)) ∈ lw_all := lw_g (lw_at lw_m9 8 rfl) rfl
theorem q2009 : (Jvm.Cond.code ({ cls := "StrictProofsModel", name := "told", desc := "(I)I" } : Jvm.MethodName) prog_20_method_78_code (4 : Nat) (Option.some Jvm.ClassFile.FieldType.int)) ∈ lw_all := lw_g (lw_at lw_m9 9 rfl) rfl
theorem q2010 : (Jvm.Cond.constantLong "StrictProofsModel" (479 : Nat) (6 : Int64)) ∈ lw_all := lw_g (lw_at lw_m9 10 rfl) rfl
theorem q2012 : (Jvm.Cond.instanceMethod ({ cls := "StrictProofsModel", name := "result", desc := "(I)I" } : Jvm.MethodName)) ∈ lw_all := lw_g (lw_at lw_m9 12 rfl) rfl
theorem q2013 : (Jvm.Cond.selects "StrictProofsModel" ({ cls := "StrictProofsModel", name := "result", desc := "(I)I" } : Jvm.MethodName) ({ cls := "StrictProofsModel", name := "result", desc := "(I)I" } : Jvm.MethodName)) ∈ lw_all := lw_g (lw_at lw_m9 13 rfl) rfl
theorem q2014 : (Jvm.Cond.code ({ cls := "StrictProofsModel", name := "result", desc := "(I)I" } : Jvm.MethodName) prog_20_method_80_code (3 : Nat) (Option.some Jvm.ClassFile.FieldType.int)) ∈ lw_all := lw_g (lw_at lw_m9 14 rfl) rfl
theorem q2015 : (Jvm.Cond.methodLink "StrictProofsModel" (481 : Nat) ({ cls := "StrictProofsModel", name := "parted", desc := "(ZZ)Z" } : Jvm.MethodName)) ∈ lw_all := lw_g (lw_at lw_m9 15 rfl) rfl
theorem q2016 : (Jvm.Cond.privateMethod ({ cls := "StrictProofsModel", name := "parted", desc := "(ZZ)Z" } : Jvm.MethodName)) ∈ lw_tbl := lw_at lw_m9 16 rfl
theorem q2017 : (Jvm.Cond.instanceMethod ({ cls := "StrictProofsModel", name := "parted", desc := "(ZZ)Z" } : Jvm.MethodName)) ∈ lw_all := lw_g (lw_at lw_m9 17 rfl) rfl
theorem q2018 : (Jvm.Cond.code ({ cls := "StrictProofsModel", name := "parted", desc := "(ZZ)Z" } : Jvm.MethodName) prog_20_method_79_code (4 : Nat) (Option.some Jvm.ClassFile.FieldType.boolean)) ∈ lw_all := lw_g (lw_at lw_m9 18 rfl) rfl
theorem q2020 : (Jvm.Cond.instanceMethod ({ cls := "StrictProofsModel", name := "needed", desc := "(I)Z" } : Jvm.MethodName)) ∈ lw_all := lw_g (lw_at lw_m9 20 rfl) rfl
theorem q2021 : (Jvm.Cond.selects "StrictProofsModel" ({ cls := "StrictProofsModel", name := "needed", desc := "(I)Z" } : Jvm.MethodName) ({ cls := "StrictProofsModel", name := "needed", desc := "(I)Z" } : Jvm.MethodName)) ∈ lw_all := lw_g (lw_at lw_m9 21 rfl) rfl
theorem q2022 : (Jvm.Cond.code ({ cls := "StrictProofsModel", name := "needed", desc := "(I)Z" } : Jvm.MethodName) prog_20_method_81_code (2 : Nat) (Option.some Jvm.ClassFile.FieldType.boolean)) ∈ lw_all := lw_g (lw_at lw_m9 22 rfl) rfl
theorem q101 : (Jvm.Cond.initialized "StrictProofs$Function") ∈ lw_all := lw_g (lw_at lw_m1 21 rfl) rfl
theorem q655 : (Jvm.Cond.instantiable "StrictProofs$Function" (9 : Nat)) ∈ lw_all := lw_g (lw_at lw_m3 95 rfl) rfl
theorem q657 : (Jvm.Cond.instanceMethod ({ cls := "StrictProofs$Function", name := "<init>", desc := "()V" } : Jvm.MethodName)) ∈ lw_all := lw_g (lw_at lw_m3 97 rfl) rfl
theorem q658 : (Jvm.Cond.code ({ cls := "StrictProofs$Function", name := "<init>", desc := "()V" } : Jvm.MethodName) prog_7_method_1_code (1 : Nat) (Option.none : Option Jvm.ClassFile.FieldType)) ∈ lw_all := lw_g (lw_at lw_m3 98 rfl) rfl
theorem q659 : (Jvm.Cond.methodLink "StrictProofs$Function" (3 : Nat) ({ cls := "java/lang/Object", name := "<init>", desc := "()V" } : Jvm.MethodName)) ∈ lw_all := lw_g (lw_at lw_m3 99 rfl) rfl
theorem q676 : (Jvm.Cond.fieldLink "StrictProofs$Function" (9 : Nat) "StrictProofs$Function" "nameTokens" "[I") ∈ lw_all := lw_g (lw_at lw_m3 116 rfl) rfl
theorem q679 : (Jvm.Cond.fieldLink "StrictProofs$Function" (15 : Nat) "StrictProofs$Function" "types" "[I") ∈ lw_all := lw_g (lw_at lw_m3 119 rfl) rfl
theorem q694 : (Jvm.Cond.fieldLink "StrictProofs$Function" (18 : Nat) "StrictProofs$Function" "dead" "[Z") ∈ lw_all := lw_g (lw_at lw_m3 134 rfl) rfl
theorem q697 : (Jvm.Cond.fieldLink "StrictProofs$Function" (22 : Nat) "StrictProofs$Function" "asks" "[I") ∈ lw_all := lw_g (lw_at lw_m3 137 rfl) rfl
theorem q700 : (Jvm.Cond.lays "StrictProofs$Function" "StrictProofs$Function" "token" "I") ∈ lw_all := lw_g (lw_at lw_m3 140 rfl) rfl
theorem q701 : (Jvm.Cond.soleField "StrictProofs$Function" "token") ∈ lw_all := lw_g (lw_at lw_m3 141 rfl) rfl
theorem q702 : (Jvm.Cond.lays "StrictProofs$Function" "StrictProofs$Function" "params" "I") ∈ lw_all := lw_g (lw_at lw_m3 142 rfl) rfl
theorem q703 : (Jvm.Cond.soleField "StrictProofs$Function" "params") ∈ lw_all := lw_g (lw_at lw_m3 143 rfl) rfl
theorem q704 : (Jvm.Cond.lays "StrictProofs$Function" "StrictProofs$Function" "names" "I") ∈ lw_all := lw_g (lw_at lw_m3 144 rfl) rfl
theorem q705 : (Jvm.Cond.soleField "StrictProofs$Function" "names") ∈ lw_all := lw_g (lw_at lw_m3 145 rfl) rfl
theorem q706 : (Jvm.Cond.lays "StrictProofs$Function" "StrictProofs$Function" "type" "I") ∈ lw_all := lw_g (lw_at lw_m3 146 rfl) rfl
theorem q707 : (Jvm.Cond.soleField "StrictProofs$Function" "type") ∈ lw_all := lw_g (lw_at lw_m3 147 rfl) rfl
theorem q708 : (Jvm.Cond.laysFinal "StrictProofs$Function" "StrictProofs$Function" "nameTokens" "[I") ∈ lw_all := lw_g (lw_at lw_m3 148 rfl) rfl
theorem q709 : (Jvm.Cond.soleField "StrictProofs$Function" "nameTokens") ∈ lw_all := lw_g (lw_at lw_m3 149 rfl) rfl
theorem q710 : (Jvm.Cond.laysFinal "StrictProofs$Function" "StrictProofs$Function" "types" "[I") ∈ lw_all := lw_g (lw_at lw_m3 150 rfl) rfl
theorem q711 : (Jvm.Cond.soleField "StrictProofs$Function" "types") ∈ lw_all := lw_g (lw_at lw_m3 151 rfl) rfl
theorem q712 : (Jvm.Cond.lays "StrictProofs$Function" "StrictProofs$Function" "body" "LStrictProofs$Expression;") ∈ lw_all := lw_g (lw_at lw_m3 152 rfl) rfl
theorem q713 : (Jvm.Cond.soleField "StrictProofs$Function" "body") ∈ lw_all := lw_g (lw_at lw_m3 153 rfl) rfl
theorem q714 : (Jvm.Cond.laysFinal "StrictProofs$Function" "StrictProofs$Function" "dead" "[Z") ∈ lw_all := lw_g (lw_at lw_m3 154 rfl) rfl
theorem q715 : (Jvm.Cond.soleField "StrictProofs$Function" "dead") ∈ lw_all := lw_g (lw_at lw_m3 155 rfl) rfl
theorem q716 : (Jvm.Cond.laysFinal "StrictProofs$Function" "StrictProofs$Function" "asks" "[I") ∈ lw_all := lw_g (lw_at lw_m3 156 rfl) rfl
theorem q717 : (Jvm.Cond.soleField "StrictProofs$Function" "asks") ∈ lw_all := lw_g (lw_at lw_m3 157 rfl) rfl
theorem q718 : (Jvm.Cond.superclass "StrictProofs$Function" "java/lang/Object") ∈ lw_all := lw_g (lw_at lw_m3 158 rfl) rfl
theorem q102 : (Jvm.Cond.initialized "StrictProofs$Expression") ∈ lw_all := lw_g (lw_at lw_m1 22 rfl) rfl
theorem q781 : (Jvm.Cond.instanceMethod ({ cls := "StrictProofs$Expression", name := "<init>", desc := "(I)V" } : Jvm.MethodName)) ∈ lw_all := lw_g (lw_at lw_m3 221 rfl) rfl
theorem q782 : (Jvm.Cond.code ({ cls := "StrictProofs$Expression", name := "<init>", desc := "(I)V" } : Jvm.MethodName) prog_5_method_1_code (2 : Nat) (Option.none : Option Jvm.ClassFile.FieldType)) ∈ lw_all := lw_g (lw_at lw_m3 222 rfl) rfl
theorem q783 : (Jvm.Cond.methodLink "StrictProofs$Expression" (3 : Nat) ({ cls := "java/lang/Object", name := "<init>", desc := "()V" } : Jvm.MethodName)) ∈ lw_all := lw_g (lw_at lw_m3 223 rfl) rfl
theorem q788 : (Jvm.Cond.fieldLink "StrictProofs$Expression" (9 : Nat) "StrictProofs$Expression" "token" "I") ∈ lw_all := lw_g (lw_at lw_m3 228 rfl) rfl
theorem q807 : (Jvm.Cond.soleField "StrictProofs$Expression" "token") ∈ lw_all := lw_g (lw_at lw_m4 7 rfl) rfl
theorem q809 : (Jvm.Cond.soleField "StrictProofs$Expression" "type") ∈ lw_all := lw_g (lw_at lw_m4 9 rfl) rfl
theorem q983 : (Jvm.Cond.declares ({ cls := "StrictProofs$Expression", name := "judge", desc := "(LStrictProofs$Judge;I)I" } : Jvm.MethodName)) ∈ lw_tbl := lw_at lw_m4 183 rfl
theorem q984 : (Jvm.Cond.sameMethod "StrictProofs$Expression" "StrictProofs$Expression" "judge" "(LStrictProofs$Judge;I)I") ∈ lw_all := lw_g (lw_at lw_m4 184 rfl) rfl
theorem q1186 : (Jvm.Cond.declares ({ cls := "StrictProofs$Expression", name := "ask", desc := "(LStrictProofs$Asker;ILStrictProofs$Row;I)V" } : Jvm.MethodName)) ∈ lw_tbl := lw_at lw_m5 146 rfl
theorem q1187 : (Jvm.Cond.sameMethod "StrictProofs$Expression" "StrictProofs$Expression" "ask" "(LStrictProofs$Asker;ILStrictProofs$Row;I)V") ∈ lw_all := lw_g (lw_at lw_m5 147 rfl) rfl
theorem q1348 : (Jvm.Cond.declares ({ cls := "StrictProofs$Expression", name := "work", desc := "(LStrictProofs$Machine;I)I" } : Jvm.MethodName)) ∈ lw_tbl := lw_at lw_m6 68 rfl
theorem q1349 : (Jvm.Cond.sameMethod "StrictProofs$Expression" "StrictProofs$Expression" "work" "(LStrictProofs$Machine;I)I") ∈ lw_all := lw_g (lw_at lw_m6 69 rfl) rfl
theorem q1362 : (Jvm.Cond.instanceMethod ({ cls := "StrictProofs$Expression", name := "alone", desc := "()I" } : Jvm.MethodName)) ∈ lw_all := lw_g (lw_at lw_m6 82 rfl) rfl
theorem q1363 : (Jvm.Cond.sameMethod "StrictProofs$Expression" "StrictProofs$Expression" "alone" "()I") ∈ lw_all := lw_g (lw_at lw_m6 83 rfl) rfl
theorem q1375 : (Jvm.Cond.code ({ cls := "StrictProofs$Expression", name := "alone", desc := "()I" } : Jvm.MethodName) prog_5_method_5_code (1 : Nat) (Option.some Jvm.ClassFile.FieldType.int)) ∈ lw_all := lw_g (lw_at lw_m6 95 rfl) rfl
theorem q103 : (Jvm.Cond.initialized "StrictProofs$Let") ∈ lw_all := lw_g (lw_at lw_m1 23 rfl) rfl
theorem q207 : (Jvm.Cond.fieldLinkNest "StrictProofs$Let" (22 : Nat) "StrictProofs$Judge" "function" "LStrictProofs$Function;" "StrictProofs") ∈ lw_tbl := lw_at lw_m1 127 rfl
theorem q240 : (Jvm.Cond.fieldLinkNest "StrictProofs$Let" (48 : Nat) "StrictProofs$Row" "asks" "[I" "StrictProofs") ∈ lw_tbl := lw_at lw_m1 160 rfl
theorem q291 : (Jvm.Cond.fieldLinkNest "StrictProofs$Let" (53 : Nat) "StrictProofs$Machine" "slots" "[I" "StrictProofs") ∈ lw_tbl := lw_at lw_m1 211 rfl
theorem q680 : (Jvm.Cond.fieldLinkNest "StrictProofs$Let" (28 : Nat) "StrictProofs$Function" "types" "[I" "StrictProofs") ∈ lw_tbl := lw_at lw_m3 120 rfl
theorem q776 : (Jvm.Cond.instantiable "StrictProofs$Let" (5 : Nat)) ∈ lw_all := lw_g (lw_at lw_m3 216 rfl) rfl
theorem q778 : (Jvm.Cond.instanceMethod ({ cls := "StrictProofs$Let", name := "<init>", desc := "(IILStrictProofs$Expression;LStrictProofs$Expression;)V" } : Jvm.MethodName)) ∈ lw_all := lw_g (lw_at lw_m3 218 rfl) rfl
theorem q779 : (Jvm.Cond.code ({ cls := "StrictProofs$Let", name := "<init>", desc := "(IILStrictProofs$Expression;LStrictProofs$Expression;)V" } : Jvm.MethodName) prog_10_method_1_code (5 : Nat) (Option.none : Option Jvm.ClassFile.FieldType)) ∈ lw_all := lw_g (lw_at lw_m3 219 rfl) rfl
theorem q780 : (Jvm.Cond.methodLink "StrictProofs$Let" (3 : Nat) ({ cls := "StrictProofs$Expression", name := "<init>", desc := "(I)V" } : Jvm.MethodName)) ∈ lw_all := lw_g (lw_at lw_m3 220 rfl) rfl
theorem q784 : (Jvm.Cond.fieldLink "StrictProofs$Let" (9 : Nat) "StrictProofs$Let" "slot" "I") ∈ lw_all := lw_g (lw_at lw_m3 224 rfl) rfl
theorem q785 : (Jvm.Cond.fieldLink "StrictProofs$Let" (15 : Nat) "StrictProofs$Let" "first" "LStrictProofs$Expression;") ∈ lw_all := lw_g (lw_at lw_m3 225 rfl) rfl
theorem q786 : (Jvm.Cond.fieldLink "StrictProofs$Let" (19 : Nat) "StrictProofs$Let" "last" "LStrictProofs$Expression;") ∈ lw_all := lw_g (lw_at lw_m3 226 rfl) rfl
theorem q800 : (Jvm.Cond.laysFinal "StrictProofs$Let" "StrictProofs$Let" "slot" "I") ∈ lw_all := lw_g (lw_at lw_m4 0 rfl) rfl
theorem q801 : (Jvm.Cond.soleField "StrictProofs$Let" "slot") ∈ lw_all := lw_g (lw_at lw_m4 1 rfl) rfl
theorem q802 : (Jvm.Cond.laysFinal "StrictProofs$Let" "StrictProofs$Let" "first" "LStrictProofs$Expression;") ∈ lw_all := lw_g (lw_at lw_m4 2 rfl) rfl
theorem q803 : (Jvm.Cond.soleField "StrictProofs$Let" "first") ∈ lw_all := lw_g (lw_at lw_m4 3 rfl) rfl
theorem q804 : (Jvm.Cond.laysFinal "StrictProofs$Let" "StrictProofs$Let" "last" "LStrictProofs$Expression;") ∈ lw_all := lw_g (lw_at lw_m4 4 rfl) rfl
theorem q805 : (Jvm.Cond.soleField "StrictProofs$Let" "last") ∈ lw_all := lw_g (lw_at lw_m4 5 rfl) rfl
theorem q806 : (Jvm.Cond.laysFinal "StrictProofs$Let" "StrictProofs$Expression" "token" "I") ∈ lw_all := lw_g (lw_at lw_m4 6 rfl) rfl
theorem q808 : (Jvm.Cond.lays "StrictProofs$Let" "StrictProofs$Expression" "type" "I") ∈ lw_all := lw_g (lw_at lw_m4 8 rfl) rfl
theorem q810 : (Jvm.Cond.superclass "StrictProofs$Let" "StrictProofs$Expression") ∈ lw_all := lw_g (lw_at lw_m4 10 rfl) rfl
theorem q1022 : (Jvm.Cond.selects "StrictProofs$Let" ({ cls := "StrictProofs$Expression", name := "judge", desc := "(LStrictProofs$Judge;I)I" } : Jvm.MethodName) ({ cls := "StrictProofs$Let", name := "judge", desc := "(LStrictProofs$Judge;I)I" } : Jvm.MethodName)) ∈ lw_all := lw_g (lw_at lw_m4 222 rfl) rfl
theorem q1023 : (Jvm.Cond.instanceMethod ({ cls := "StrictProofs$Let", name := "judge", desc := "(LStrictProofs$Judge;I)I" } : Jvm.MethodName)) ∈ lw_all := lw_g (lw_at lw_m4 223 rfl) rfl
theorem q1024 : (Jvm.Cond.code ({ cls := "StrictProofs$Let", name := "judge", desc := "(LStrictProofs$Judge;I)I" } : Jvm.MethodName) prog_10_method_2_code (4 : Nat) (Option.some Jvm.ClassFile.FieldType.int)) ∈ lw_all := lw_g (lw_at lw_m4 224 rfl) rfl
theorem q1025 : (Jvm.Cond.methodLink "StrictProofs$Let" (34 : Nat) ({ cls := "StrictProofs$Judge", name := "judge", desc := "(LStrictProofs$Expression;I)I" } : Jvm.MethodName)) ∈ lw_all := lw_g (lw_at lw_m4 225 rfl) rfl
theorem q1026 : (Jvm.Cond.methodLink "StrictProofs$Let" (38 : Nat) ({ cls := "StrictProofs$Judge", name := "open", desc := "(I)V" } : Jvm.MethodName)) ∈ lw_all := lw_g (lw_at lw_m4 226 rfl) rfl
theorem q1027 : (Jvm.Cond.methodLink "StrictProofs$Let" (41 : Nat) ({ cls := "StrictProofs$Judge", name := "close", desc := "(I)V" } : Jvm.MethodName)) ∈ lw_all := lw_g (lw_at lw_m4 227 rfl) rfl
theorem q1200 : (Jvm.Cond.instanceMethod ({ cls := "StrictProofs$Let", name := "ask", desc := "(LStrictProofs$Asker;ILStrictProofs$Row;I)V" } : Jvm.MethodName)) ∈ lw_all := lw_g (lw_at lw_m5 160 rfl) rfl
theorem q1201 : (Jvm.Cond.code ({ cls := "StrictProofs$Let", name := "ask", desc := "(LStrictProofs$Asker;ILStrictProofs$Row;I)V" } : Jvm.MethodName) prog_10_method_3_code (5 : Nat) (Option.none : Option Jvm.ClassFile.FieldType)) ∈ lw_all := lw_g (lw_at lw_m5 161 rfl) rfl
theorem q1202 : (Jvm.Cond.methodLink "StrictProofs$Let" (44 : Nat) ({ cls := "StrictProofs$Expression", name := "ask", desc := "(LStrictProofs$Asker;ILStrictProofs$Row;I)V" } : Jvm.MethodName)) ∈ lw_all := lw_g (lw_at lw_m5 162 rfl) rfl
theorem q1253 : (Jvm.Cond.selects "StrictProofs$Let" ({ cls := "StrictProofs$Expression", name := "ask", desc := "(LStrictProofs$Asker;ILStrictProofs$Row;I)V" } : Jvm.MethodName) ({ cls := "StrictProofs$Let", name := "ask", desc := "(LStrictProofs$Asker;ILStrictProofs$Row;I)V" } : Jvm.MethodName)) ∈ lw_all := lw_g (lw_at lw_m5 213 rfl) rfl
theorem q1368 : (Jvm.Cond.selects "StrictProofs$Let" ({ cls := "StrictProofs$Expression", name := "alone", desc := "()I" } : Jvm.MethodName) ({ cls := "StrictProofs$Expression", name := "alone", desc := "()I" } : Jvm.MethodName)) ∈ lw_all := lw_g (lw_at lw_m6 88 rfl) rfl
theorem q1389 : (Jvm.Cond.selects "StrictProofs$Let" ({ cls := "StrictProofs$Expression", name := "work", desc := "(LStrictProofs$Machine;I)I" } : Jvm.MethodName) ({ cls := "StrictProofs$Let", name := "work", desc := "(LStrictProofs$Machine;I)I" } : Jvm.MethodName)) ∈ lw_all := lw_g (lw_at lw_m6 109 rfl) rfl
theorem q1390 : (Jvm.Cond.instanceMethod ({ cls := "StrictProofs$Let", name := "work", desc := "(LStrictProofs$Machine;I)I" } : Jvm.MethodName)) ∈ lw_all := lw_g (lw_at lw_m6 110 rfl) rfl
theorem q1391 : (Jvm.Cond.code ({ cls := "StrictProofs$Let", name := "work", desc := "(LStrictProofs$Machine;I)I" } : Jvm.MethodName) prog_10_method_4_code (3 : Nat) (Option.some Jvm.ClassFile.FieldType.int)) ∈ lw_all := lw_g (lw_at lw_m6 111 rfl) rfl
theorem q1392 : (Jvm.Cond.methodLink "StrictProofs$Let" (58 : Nat) ({ cls := "StrictProofs$Machine", name := "thing", desc := "(LStrictProofs$Expression;I)I" } : Jvm.MethodName)) ∈ lw_all := lw_g (lw_at lw_m6 112 rfl) rfl
theorem q1393 : (Jvm.Cond.methodLink "StrictProofs$Let" (61 : Nat) ({ cls := "StrictProofs$Machine", name := "work", desc := "(LStrictProofs$Expression;I)I" } : Jvm.MethodName)) ∈ lw_all := lw_g (lw_at lw_m6 113 rfl) rfl
theorem q2025 : (Jvm.Cond.castable "StrictProofs$Let" "StrictProofs$Expression") ∈ lw_tbl := lw_at lw_m9 25 rfl
theorem q104 : (Jvm.Cond.initialized "StrictProofs$Case") ∈ lw_all := lw_g (lw_at lw_m1 24 rfl) rfl
theorem q208 : (Jvm.Cond.fieldLinkNest "StrictProofs$Case" (28 : Nat) "StrictProofs$Judge" "function" "LStrictProofs$Function;" "StrictProofs") ∈ lw_tbl := lw_at lw_m1 128 rfl
theorem q241 : (Jvm.Cond.fieldLinkNest "StrictProofs$Case" (58 : Nat) "StrictProofs$Row" "asks" "[I" "StrictProofs") ∈ lw_tbl := lw_at lw_m1 161 rfl
theorem q284 : (Jvm.Cond.fieldLinkNest "StrictProofs$Case" (78 : Nat) "StrictProofs$Machine" "lefts" "[I" "StrictProofs") ∈ lw_tbl := lw_at lw_m1 204 rfl
theorem q287 : (Jvm.Cond.fieldLinkNest "StrictProofs$Case" (81 : Nat) "StrictProofs$Machine" "rights" "[I" "StrictProofs") ∈ lw_tbl := lw_at lw_m1 207 rfl
theorem q293 : (Jvm.Cond.fieldLinkNest "StrictProofs$Case" (75 : Nat) "StrictProofs$Machine" "slots" "[I" "StrictProofs") ∈ lw_tbl := lw_at lw_m1 213 rfl
theorem q310 : (Jvm.Cond.fieldLinkNest "StrictProofs$Case" (72 : Nat) "StrictProofs$Machine" "ended" "I" "StrictProofs") ∈ lw_tbl := lw_at lw_m1 230 rfl
theorem q681 : (Jvm.Cond.fieldLinkNest "StrictProofs$Case" (32 : Nat) "StrictProofs$Function" "types" "[I" "StrictProofs") ∈ lw_tbl := lw_at lw_m3 121 rfl
theorem q798 : (Jvm.Cond.fieldLink "StrictProofs$Case" (55 : Nat) "StrictProofs$Expression" "type" "I") ∈ lw_all := lw_g (lw_at lw_m3 238 rfl) rfl
theorem q816 : (Jvm.Cond.instantiable "StrictProofs$Case" (5 : Nat)) ∈ lw_all := lw_g (lw_at lw_m4 16 rfl) rfl
theorem q818 : (Jvm.Cond.instanceMethod ({ cls := "StrictProofs$Case", name := "<init>", desc := "(IILStrictProofs$Expression;LStrictProofs$Expression;)V" } : Jvm.MethodName)) ∈ lw_all := lw_g (lw_at lw_m4 18 rfl) rfl
theorem q819 : (Jvm.Cond.code ({ cls := "StrictProofs$Case", name := "<init>", desc := "(IILStrictProofs$Expression;LStrictProofs$Expression;)V" } : Jvm.MethodName) prog_4_method_1_code (5 : Nat) (Option.none : Option Jvm.ClassFile.FieldType)) ∈ lw_all := lw_g (lw_at lw_m4 19 rfl) rfl
theorem q820 : (Jvm.Cond.methodLink "StrictProofs$Case" (3 : Nat) ({ cls := "StrictProofs$Expression", name := "<init>", desc := "(I)V" } : Jvm.MethodName)) ∈ lw_all := lw_g (lw_at lw_m4 20 rfl) rfl
theorem q821 : (Jvm.Cond.fieldLink "StrictProofs$Case" (9 : Nat) "StrictProofs$Case" "slot" "I") ∈ lw_all := lw_g (lw_at lw_m4 21 rfl) rfl
theorem q822 : (Jvm.Cond.fieldLink "StrictProofs$Case" (15 : Nat) "StrictProofs$Case" "first" "LStrictProofs$Expression;") ∈ lw_all := lw_g (lw_at lw_m4 22 rfl) rfl
theorem q823 : (Jvm.Cond.fieldLink "StrictProofs$Case" (19 : Nat) "StrictProofs$Case" "last" "LStrictProofs$Expression;") ∈ lw_all := lw_g (lw_at lw_m4 23 rfl) rfl
theorem q824 : (Jvm.Cond.laysFinal "StrictProofs$Case" "StrictProofs$Case" "slot" "I") ∈ lw_all := lw_g (lw_at lw_m4 24 rfl) rfl
theorem q825 : (Jvm.Cond.soleField "StrictProofs$Case" "slot") ∈ lw_all := lw_g (lw_at lw_m4 25 rfl) rfl
theorem q826 : (Jvm.Cond.laysFinal "StrictProofs$Case" "StrictProofs$Case" "first" "LStrictProofs$Expression;") ∈ lw_all := lw_g (lw_at lw_m4 26 rfl) rfl
theorem q827 : (Jvm.Cond.soleField "StrictProofs$Case" "first") ∈ lw_all := lw_g (lw_at lw_m4 27 rfl) rfl
theorem q828 : (Jvm.Cond.laysFinal "StrictProofs$Case" "StrictProofs$Case" "last" "LStrictProofs$Expression;") ∈ lw_all := lw_g (lw_at lw_m4 28 rfl) rfl
theorem q829 : (Jvm.Cond.soleField "StrictProofs$Case" "last") ∈ lw_all := lw_g (lw_at lw_m4 29 rfl) rfl
theorem q830 : (Jvm.Cond.laysFinal "StrictProofs$Case" "StrictProofs$Expression" "token" "I") ∈ lw_all := lw_g (lw_at lw_m4 30 rfl) rfl
theorem q831 : (Jvm.Cond.lays "StrictProofs$Case" "StrictProofs$Expression" "type" "I") ∈ lw_all := lw_g (lw_at lw_m4 31 rfl) rfl
theorem q832 : (Jvm.Cond.superclass "StrictProofs$Case" "StrictProofs$Expression") ∈ lw_all := lw_g (lw_at lw_m4 32 rfl) rfl
theorem q1000 : (Jvm.Cond.selects "StrictProofs$Case" ({ cls := "StrictProofs$Expression", name := "judge", desc := "(LStrictProofs$Judge;I)I" } : Jvm.MethodName) ({ cls := "StrictProofs$Case", name := "judge", desc := "(LStrictProofs$Judge;I)I" } : Jvm.MethodName)) ∈ lw_all := lw_g (lw_at lw_m4 200 rfl) rfl
theorem q1001 : (Jvm.Cond.instanceMethod ({ cls := "StrictProofs$Case", name := "judge", desc := "(LStrictProofs$Judge;I)I" } : Jvm.MethodName)) ∈ lw_all := lw_g (lw_at lw_m4 201 rfl) rfl
theorem q1002 : (Jvm.Cond.code ({ cls := "StrictProofs$Case", name := "judge", desc := "(LStrictProofs$Judge;I)I" } : Jvm.MethodName) prog_4_method_2_code (5 : Nat) (Option.some Jvm.ClassFile.FieldType.int)) ∈ lw_all := lw_g (lw_at lw_m4 202 rfl) rfl
theorem q1003 : (Jvm.Cond.methodLink "StrictProofs$Case" (22 : Nat) ({ cls := "StrictProofs$Judge", name := "judge", desc := "(LStrictProofs$Expression;I)I" } : Jvm.MethodName)) ∈ lw_all := lw_g (lw_at lw_m4 203 rfl) rfl
theorem q1004 : (Jvm.Cond.methodLinkNest "StrictProofs$Case" (38 : Nat) ({ cls := "StrictProofs", name := "left", desc := "(I)I" } : Jvm.MethodName) "StrictProofs") ∈ lw_tbl := lw_at lw_m4 204 rfl
theorem q1007 : (Jvm.Cond.methodLinkNest "StrictProofs$Case" (42 : Nat) ({ cls := "StrictProofs", name := "right", desc := "(I)I" } : Jvm.MethodName) "StrictProofs") ∈ lw_tbl := lw_at lw_m4 207 rfl
theorem q1010 : (Jvm.Cond.methodLink "StrictProofs$Case" (45 : Nat) ({ cls := "StrictProofs$Judge", name := "open", desc := "(I)V" } : Jvm.MethodName)) ∈ lw_all := lw_g (lw_at lw_m4 210 rfl) rfl
theorem q1011 : (Jvm.Cond.methodLink "StrictProofs$Case" (48 : Nat) ({ cls := "StrictProofs$Judge", name := "close", desc := "(I)V" } : Jvm.MethodName)) ∈ lw_all := lw_g (lw_at lw_m4 211 rfl) rfl
theorem q1192 : (Jvm.Cond.instanceMethod ({ cls := "StrictProofs$Case", name := "ask", desc := "(LStrictProofs$Asker;ILStrictProofs$Row;I)V" } : Jvm.MethodName)) ∈ lw_all := lw_g (lw_at lw_m5 152 rfl) rfl
theorem q1193 : (Jvm.Cond.code ({ cls := "StrictProofs$Case", name := "ask", desc := "(LStrictProofs$Asker;ILStrictProofs$Row;I)V" } : Jvm.MethodName) prog_4_method_3_code (5 : Nat) (Option.none : Option Jvm.ClassFile.FieldType)) ∈ lw_all := lw_g (lw_at lw_m5 153 rfl) rfl
theorem q1194 : (Jvm.Cond.methodLink "StrictProofs$Case" (51 : Nat) ({ cls := "StrictProofs$Expression", name := "ask", desc := "(LStrictProofs$Asker;ILStrictProofs$Row;I)V" } : Jvm.MethodName)) ∈ lw_all := lw_g (lw_at lw_m5 154 rfl) rfl
theorem q1249 : (Jvm.Cond.methodLinkNest "StrictProofs$Case" (63 : Nat) ({ cls := "StrictProofs", name := "both", desc := "(III)I" } : Jvm.MethodName) "StrictProofs") ∈ lw_tbl := lw_at lw_m5 209 rfl
theorem q1250 : (Jvm.Cond.selects "StrictProofs$Case" ({ cls := "StrictProofs$Expression", name := "ask", desc := "(LStrictProofs$Asker;ILStrictProofs$Row;I)V" } : Jvm.MethodName) ({ cls := "StrictProofs$Case", name := "ask", desc := "(LStrictProofs$Asker;ILStrictProofs$Row;I)V" } : Jvm.MethodName)) ∈ lw_all := lw_g (lw_at lw_m5 210 rfl) rfl
theorem q1365 : (Jvm.Cond.selects "StrictProofs$Case" ({ cls := "StrictProofs$Expression", name := "alone", desc := "()I" } : Jvm.MethodName) ({ cls := "StrictProofs$Expression", name := "alone", desc := "()I" } : Jvm.MethodName)) ∈ lw_all := lw_g (lw_at lw_m6 85 rfl) rfl
theorem q1377 : (Jvm.Cond.selects "StrictProofs$Case" ({ cls := "StrictProofs$Expression", name := "work", desc := "(LStrictProofs$Machine;I)I" } : Jvm.MethodName) ({ cls := "StrictProofs$Case", name := "work", desc := "(LStrictProofs$Machine;I)I" } : Jvm.MethodName)) ∈ lw_all := lw_g (lw_at lw_m6 97 rfl) rfl
theorem q1378 : (Jvm.Cond.instanceMethod ({ cls := "StrictProofs$Case", name := "work", desc := "(LStrictProofs$Machine;I)I" } : Jvm.MethodName)) ∈ lw_all := lw_g (lw_at lw_m6 98 rfl) rfl
theorem q1379 : (Jvm.Cond.code ({ cls := "StrictProofs$Case", name := "work", desc := "(LStrictProofs$Machine;I)I" } : Jvm.MethodName) prog_4_method_4_code (4 : Nat) (Option.some Jvm.ClassFile.FieldType.int)) ∈ lw_all := lw_g (lw_at lw_m6 99 rfl) rfl
theorem q1380 : (Jvm.Cond.methodLink "StrictProofs$Case" (67 : Nat) ({ cls := "StrictProofs$Machine", name := "work", desc := "(LStrictProofs$Expression;I)I" } : Jvm.MethodName)) ∈ lw_all := lw_g (lw_at lw_m6 100 rfl) rfl
theorem q2026 : (Jvm.Cond.castable "StrictProofs$Case" "StrictProofs$Expression") ∈ lw_tbl := lw_at lw_m9 26 rfl
theorem q105 : (Jvm.Cond.initialized "StrictProofs$If") ∈ lw_all := lw_g (lw_at lw_m1 25 rfl) rfl
theorem q256 : (Jvm.Cond.fieldLinkNest "StrictProofs$If" (37 : Nat) "StrictProofs$Asker" "function" "LStrictProofs$Function;" "StrictProofs") ∈ lw_tbl := lw_at lw_m1 176 rfl
theorem q668 : (Jvm.Cond.fieldLinkNest "StrictProofs$If" (47 : Nat) "StrictProofs$Function" "names" "I" "StrictProofs") ∈ lw_tbl := lw_at lw_m3 108 rfl
theorem q685 : (Jvm.Cond.fieldLinkNest "StrictProofs$If" (41 : Nat) "StrictProofs$Function" "types" "[I" "StrictProofs") ∈ lw_tbl := lw_at lw_m3 125 rfl
theorem q838 : (Jvm.Cond.instantiable "StrictProofs$If" (5 : Nat)) ∈ lw_all := lw_g (lw_at lw_m4 38 rfl) rfl
theorem q840 : (Jvm.Cond.instanceMethod ({ cls := "StrictProofs$If", name := "<init>", desc := "(ILStrictProofs$Expression;LStrictProofs$Expression;LStrictProofs$Expression;)V" } : Jvm.MethodName)) ∈ lw_all := lw_g (lw_at lw_m4 40 rfl) rfl
theorem q841 : (Jvm.Cond.code ({ cls := "StrictProofs$If", name := "<init>", desc := "(ILStrictProofs$Expression;LStrictProofs$Expression;LStrictProofs$Expression;)V" } : Jvm.MethodName) prog_8_method_1_code (5 : Nat) (Option.none : Option Jvm.ClassFile.FieldType)) ∈ lw_all := lw_g (lw_at lw_m4 41 rfl) rfl
theorem q842 : (Jvm.Cond.methodLink "StrictProofs$If" (3 : Nat) ({ cls := "StrictProofs$Expression", name := "<init>", desc := "(I)V" } : Jvm.MethodName)) ∈ lw_all := lw_g (lw_at lw_m4 42 rfl) rfl
theorem q843 : (Jvm.Cond.fieldLink "StrictProofs$If" (9 : Nat) "StrictProofs$If" "test" "LStrictProofs$Expression;") ∈ lw_all := lw_g (lw_at lw_m4 43 rfl) rfl
theorem q844 : (Jvm.Cond.fieldLink "StrictProofs$If" (15 : Nat) "StrictProofs$If" "a" "LStrictProofs$Expression;") ∈ lw_all := lw_g (lw_at lw_m4 44 rfl) rfl
theorem q845 : (Jvm.Cond.fieldLink "StrictProofs$If" (18 : Nat) "StrictProofs$If" "b" "LStrictProofs$Expression;") ∈ lw_all := lw_g (lw_at lw_m4 45 rfl) rfl
theorem q846 : (Jvm.Cond.laysFinal "StrictProofs$If" "StrictProofs$If" "test" "LStrictProofs$Expression;") ∈ lw_all := lw_g (lw_at lw_m4 46 rfl) rfl
theorem q847 : (Jvm.Cond.soleField "StrictProofs$If" "test") ∈ lw_all := lw_g (lw_at lw_m4 47 rfl) rfl
theorem q848 : (Jvm.Cond.laysFinal "StrictProofs$If" "StrictProofs$If" "a" "LStrictProofs$Expression;") ∈ lw_all := lw_g (lw_at lw_m4 48 rfl) rfl
theorem q849 : (Jvm.Cond.soleField "StrictProofs$If" "a") ∈ lw_all := lw_g (lw_at lw_m4 49 rfl) rfl
theorem q850 : (Jvm.Cond.laysFinal "StrictProofs$If" "StrictProofs$If" "b" "LStrictProofs$Expression;") ∈ lw_all := lw_g (lw_at lw_m4 50 rfl) rfl
theorem q851 : (Jvm.Cond.soleField "StrictProofs$If" "b") ∈ lw_all := lw_g (lw_at lw_m4 51 rfl) rfl
theorem q852 : (Jvm.Cond.laysFinal "StrictProofs$If" "StrictProofs$Expression" "token" "I") ∈ lw_all := lw_g (lw_at lw_m4 52 rfl) rfl
theorem q853 : (Jvm.Cond.lays "StrictProofs$If" "StrictProofs$Expression" "type" "I") ∈ lw_all := lw_g (lw_at lw_m4 53 rfl) rfl
theorem q854 : (Jvm.Cond.superclass "StrictProofs$If" "StrictProofs$Expression") ∈ lw_all := lw_g (lw_at lw_m4 54 rfl) rfl
theorem q1018 : (Jvm.Cond.selects "StrictProofs$If" ({ cls := "StrictProofs$Expression", name := "judge", desc := "(LStrictProofs$Judge;I)I" } : Jvm.MethodName) ({ cls := "StrictProofs$If", name := "judge", desc := "(LStrictProofs$Judge;I)I" } : Jvm.MethodName)) ∈ lw_all := lw_g (lw_at lw_m4 218 rfl) rfl
theorem q1019 : (Jvm.Cond.instanceMethod ({ cls := "StrictProofs$If", name := "judge", desc := "(LStrictProofs$Judge;I)I" } : Jvm.MethodName)) ∈ lw_all := lw_g (lw_at lw_m4 219 rfl) rfl
theorem q1020 : (Jvm.Cond.code ({ cls := "StrictProofs$If", name := "judge", desc := "(LStrictProofs$Judge;I)I" } : Jvm.MethodName) prog_8_method_2_code (4 : Nat) (Option.some Jvm.ClassFile.FieldType.int)) ∈ lw_all := lw_g (lw_at lw_m4 220 rfl) rfl
theorem q1021 : (Jvm.Cond.methodLink "StrictProofs$If" (21 : Nat) ({ cls := "StrictProofs$Judge", name := "judge", desc := "(LStrictProofs$Expression;I)I" } : Jvm.MethodName)) ∈ lw_all := lw_g (lw_at lw_m4 221 rfl) rfl
theorem q1197 : (Jvm.Cond.instanceMethod ({ cls := "StrictProofs$If", name := "ask", desc := "(LStrictProofs$Asker;ILStrictProofs$Row;I)V" } : Jvm.MethodName)) ∈ lw_all := lw_g (lw_at lw_m5 157 rfl) rfl
theorem q1198 : (Jvm.Cond.code ({ cls := "StrictProofs$If", name := "ask", desc := "(LStrictProofs$Asker;ILStrictProofs$Row;I)V" } : Jvm.MethodName) prog_8_method_3_code (7 : Nat) (Option.none : Option Jvm.ClassFile.FieldType)) ∈ lw_all := lw_g (lw_at lw_m5 158 rfl) rfl
theorem q1199 : (Jvm.Cond.methodLink "StrictProofs$If" (27 : Nat) ({ cls := "StrictProofs$Expression", name := "ask", desc := "(LStrictProofs$Asker;ILStrictProofs$Row;I)V" } : Jvm.MethodName)) ∈ lw_all := lw_g (lw_at lw_m5 159 rfl) rfl
theorem q1235 : (Jvm.Cond.methodLink "StrictProofs$If" (31 : Nat) ({ cls := "StrictProofs$Asker", name := "row", desc := "(I)LStrictProofs$Row;" } : Jvm.MethodName)) ∈ lw_all := lw_g (lw_at lw_m5 195 rfl) rfl
theorem q1239 : (Jvm.Cond.methodLink "StrictProofs$If" (51 : Nat) ({ cls := "StrictProofs$Row", name := "addEither", desc := "([IILStrictProofs$Row;LStrictProofs$Row;)V" } : Jvm.MethodName)) ∈ lw_all := lw_g (lw_at lw_m5 199 rfl) rfl
theorem q1252 : (Jvm.Cond.selects "StrictProofs$If" ({ cls := "StrictProofs$Expression", name := "ask", desc := "(LStrictProofs$Asker;ILStrictProofs$Row;I)V" } : Jvm.MethodName) ({ cls := "StrictProofs$If", name := "ask", desc := "(LStrictProofs$Asker;ILStrictProofs$Row;I)V" } : Jvm.MethodName)) ∈ lw_all := lw_g (lw_at lw_m5 212 rfl) rfl
theorem q1367 : (Jvm.Cond.selects "StrictProofs$If" ({ cls := "StrictProofs$Expression", name := "alone", desc := "()I" } : Jvm.MethodName) ({ cls := "StrictProofs$Expression", name := "alone", desc := "()I" } : Jvm.MethodName)) ∈ lw_all := lw_g (lw_at lw_m6 87 rfl) rfl
theorem q1385 : (Jvm.Cond.selects "StrictProofs$If" ({ cls := "StrictProofs$Expression", name := "work", desc := "(LStrictProofs$Machine;I)I" } : Jvm.MethodName) ({ cls := "StrictProofs$If", name := "work", desc := "(LStrictProofs$Machine;I)I" } : Jvm.MethodName)) ∈ lw_all := lw_g (lw_at lw_m6 105 rfl) rfl
theorem q1386 : (Jvm.Cond.instanceMethod ({ cls := "StrictProofs$If", name := "work", desc := "(LStrictProofs$Machine;I)I" } : Jvm.MethodName)) ∈ lw_all := lw_g (lw_at lw_m6 106 rfl) rfl
theorem q1387 : (Jvm.Cond.code ({ cls := "StrictProofs$If", name := "work", desc := "(LStrictProofs$Machine;I)I" } : Jvm.MethodName) prog_8_method_4_code (4 : Nat) (Option.some Jvm.ClassFile.FieldType.int)) ∈ lw_all := lw_g (lw_at lw_m6 107 rfl) rfl
theorem q1388 : (Jvm.Cond.methodLink "StrictProofs$If" (57 : Nat) ({ cls := "StrictProofs$Machine", name := "work", desc := "(LStrictProofs$Expression;I)I" } : Jvm.MethodName)) ∈ lw_all := lw_g (lw_at lw_m6 108 rfl) rfl
theorem q2027 : (Jvm.Cond.castable "StrictProofs$If" "StrictProofs$Expression") ∈ lw_tbl := lw_at lw_m9 27 rfl
theorem q106 : (Jvm.Cond.initialized "StrictProofs$Num") ∈ lw_all := lw_g (lw_at lw_m1 26 rfl) rfl
theorem q872 : (Jvm.Cond.instantiable "StrictProofs$Num" (3 : Nat)) ∈ lw_all := lw_g (lw_at lw_m4 72 rfl) rfl
theorem q874 : (Jvm.Cond.instanceMethod ({ cls := "StrictProofs$Num", name := "<init>", desc := "(II)V" } : Jvm.MethodName)) ∈ lw_all := lw_g (lw_at lw_m4 74 rfl) rfl
theorem q875 : (Jvm.Cond.code ({ cls := "StrictProofs$Num", name := "<init>", desc := "(II)V" } : Jvm.MethodName) prog_13_method_1_code (3 : Nat) (Option.none : Option Jvm.ClassFile.FieldType)) ∈ lw_all := lw_g (lw_at lw_m4 75 rfl) rfl
theorem q876 : (Jvm.Cond.methodLink "StrictProofs$Num" (3 : Nat) ({ cls := "StrictProofs$Expression", name := "<init>", desc := "(I)V" } : Jvm.MethodName)) ∈ lw_all := lw_g (lw_at lw_m4 76 rfl) rfl
theorem q877 : (Jvm.Cond.fieldLink "StrictProofs$Num" (9 : Nat) "StrictProofs$Num" "value" "I") ∈ lw_all := lw_g (lw_at lw_m4 77 rfl) rfl
theorem q878 : (Jvm.Cond.laysFinal "StrictProofs$Num" "StrictProofs$Num" "value" "I") ∈ lw_all := lw_g (lw_at lw_m4 78 rfl) rfl
theorem q879 : (Jvm.Cond.soleField "StrictProofs$Num" "value") ∈ lw_all := lw_g (lw_at lw_m4 79 rfl) rfl
theorem q880 : (Jvm.Cond.laysFinal "StrictProofs$Num" "StrictProofs$Expression" "token" "I") ∈ lw_all := lw_g (lw_at lw_m4 80 rfl) rfl
theorem q881 : (Jvm.Cond.lays "StrictProofs$Num" "StrictProofs$Expression" "type" "I") ∈ lw_all := lw_g (lw_at lw_m4 81 rfl) rfl
theorem q882 : (Jvm.Cond.superclass "StrictProofs$Num" "StrictProofs$Expression") ∈ lw_all := lw_g (lw_at lw_m4 82 rfl) rfl
theorem q1035 : (Jvm.Cond.selects "StrictProofs$Num" ({ cls := "StrictProofs$Expression", name := "judge", desc := "(LStrictProofs$Judge;I)I" } : Jvm.MethodName) ({ cls := "StrictProofs$Num", name := "judge", desc := "(LStrictProofs$Judge;I)I" } : Jvm.MethodName)) ∈ lw_all := lw_g (lw_at lw_m4 235 rfl) rfl
theorem q1036 : (Jvm.Cond.instanceMethod ({ cls := "StrictProofs$Num", name := "judge", desc := "(LStrictProofs$Judge;I)I" } : Jvm.MethodName)) ∈ lw_all := lw_g (lw_at lw_m4 236 rfl) rfl
theorem q1037 : (Jvm.Cond.code ({ cls := "StrictProofs$Num", name := "judge", desc := "(LStrictProofs$Judge;I)I" } : Jvm.MethodName) prog_13_method_2_code (3 : Nat) (Option.some Jvm.ClassFile.FieldType.int)) ∈ lw_all := lw_g (lw_at lw_m4 237 rfl) rfl
theorem q1225 : (Jvm.Cond.instanceMethod ({ cls := "StrictProofs$Num", name := "ask", desc := "(LStrictProofs$Asker;ILStrictProofs$Row;I)V" } : Jvm.MethodName)) ∈ lw_all := lw_g (lw_at lw_m5 185 rfl) rfl
theorem q1226 : (Jvm.Cond.code ({ cls := "StrictProofs$Num", name := "ask", desc := "(LStrictProofs$Asker;ILStrictProofs$Row;I)V" } : Jvm.MethodName) prog_13_method_3_code (5 : Nat) (Option.none : Option Jvm.ClassFile.FieldType)) ∈ lw_all := lw_g (lw_at lw_m5 186 rfl) rfl
theorem q1255 : (Jvm.Cond.selects "StrictProofs$Num" ({ cls := "StrictProofs$Expression", name := "ask", desc := "(LStrictProofs$Asker;ILStrictProofs$Row;I)V" } : Jvm.MethodName) ({ cls := "StrictProofs$Num", name := "ask", desc := "(LStrictProofs$Asker;ILStrictProofs$Row;I)V" } : Jvm.MethodName)) ∈ lw_all := lw_g (lw_at lw_m5 215 rfl) rfl
theorem q1372 : (Jvm.Cond.selects "StrictProofs$Num" ({ cls := "StrictProofs$Expression", name := "alone", desc := "()I" } : Jvm.MethodName) ({ cls := "StrictProofs$Expression", name := "alone", desc := "()I" } : Jvm.MethodName)) ∈ lw_all := lw_g (lw_at lw_m6 92 rfl) rfl
theorem q1401 : (Jvm.Cond.selects "StrictProofs$Num" ({ cls := "StrictProofs$Expression", name := "work", desc := "(LStrictProofs$Machine;I)I" } : Jvm.MethodName) ({ cls := "StrictProofs$Num", name := "work", desc := "(LStrictProofs$Machine;I)I" } : Jvm.MethodName)) ∈ lw_all := lw_g (lw_at lw_m6 121 rfl) rfl
theorem q1402 : (Jvm.Cond.instanceMethod ({ cls := "StrictProofs$Num", name := "work", desc := "(LStrictProofs$Machine;I)I" } : Jvm.MethodName)) ∈ lw_all := lw_g (lw_at lw_m6 122 rfl) rfl
theorem q1403 : (Jvm.Cond.code ({ cls := "StrictProofs$Num", name := "work", desc := "(LStrictProofs$Machine;I)I" } : Jvm.MethodName) prog_13_method_4_code (3 : Nat) (Option.some Jvm.ClassFile.FieldType.int)) ∈ lw_all := lw_g (lw_at lw_m6 123 rfl) rfl
theorem q2028 : (Jvm.Cond.castable "StrictProofs$Num" "StrictProofs$Expression") ∈ lw_tbl := lw_at lw_m9 28 rfl
theorem q107 : (Jvm.Cond.initialized "StrictProofs$Fail") ∈ lw_all := lw_g (lw_at lw_m1 27 rfl) rfl
theorem q246 : (Jvm.Cond.fieldLinkNest "StrictProofs$Fail" (13 : Nat) "StrictProofs$Row" "isDead" "Z" "StrictProofs") ∈ lw_tbl := lw_at lw_m1 166 rfl
theorem q794 : (Jvm.Cond.fieldLink "StrictProofs$Fail" (7 : Nat) "StrictProofs$Fail" "type" "I") ∈ lw_all := lw_g (lw_at lw_m3 234 rfl) rfl
theorem q795 : (Jvm.Cond.sameField "StrictProofs$Fail" "StrictProofs$Expression" "type" "I") ∈ lw_all := lw_g (lw_at lw_m3 235 rfl) rfl
theorem q884 : (Jvm.Cond.instantiable "StrictProofs$Fail" (2 : Nat)) ∈ lw_all := lw_g (lw_at lw_m4 84 rfl) rfl
theorem q886 : (Jvm.Cond.instanceMethod ({ cls := "StrictProofs$Fail", name := "<init>", desc := "(II)V" } : Jvm.MethodName)) ∈ lw_all := lw_g (lw_at lw_m4 86 rfl) rfl
theorem q887 : (Jvm.Cond.code ({ cls := "StrictProofs$Fail", name := "<init>", desc := "(II)V" } : Jvm.MethodName) prog_6_method_1_code (3 : Nat) (Option.none : Option Jvm.ClassFile.FieldType)) ∈ lw_all := lw_g (lw_at lw_m4 87 rfl) rfl
theorem q888 : (Jvm.Cond.methodLink "StrictProofs$Fail" (1 : Nat) ({ cls := "StrictProofs$Expression", name := "<init>", desc := "(I)V" } : Jvm.MethodName)) ∈ lw_all := lw_g (lw_at lw_m4 88 rfl) rfl
theorem q889 : (Jvm.Cond.laysFinal "StrictProofs$Fail" "StrictProofs$Expression" "token" "I") ∈ lw_all := lw_g (lw_at lw_m4 89 rfl) rfl
theorem q890 : (Jvm.Cond.lays "StrictProofs$Fail" "StrictProofs$Expression" "type" "I") ∈ lw_all := lw_g (lw_at lw_m4 90 rfl) rfl
theorem q891 : (Jvm.Cond.superclass "StrictProofs$Fail" "StrictProofs$Expression") ∈ lw_all := lw_g (lw_at lw_m4 91 rfl) rfl
theorem q1015 : (Jvm.Cond.selects "StrictProofs$Fail" ({ cls := "StrictProofs$Expression", name := "judge", desc := "(LStrictProofs$Judge;I)I" } : Jvm.MethodName) ({ cls := "StrictProofs$Fail", name := "judge", desc := "(LStrictProofs$Judge;I)I" } : Jvm.MethodName)) ∈ lw_all := lw_g (lw_at lw_m4 215 rfl) rfl
theorem q1016 : (Jvm.Cond.instanceMethod ({ cls := "StrictProofs$Fail", name := "judge", desc := "(LStrictProofs$Judge;I)I" } : Jvm.MethodName)) ∈ lw_all := lw_g (lw_at lw_m4 216 rfl) rfl
theorem q1017 : (Jvm.Cond.code ({ cls := "StrictProofs$Fail", name := "judge", desc := "(LStrictProofs$Judge;I)I" } : Jvm.MethodName) prog_6_method_2_code (3 : Nat) (Option.some Jvm.ClassFile.FieldType.int)) ∈ lw_all := lw_g (lw_at lw_m4 217 rfl) rfl
theorem q1195 : (Jvm.Cond.instanceMethod ({ cls := "StrictProofs$Fail", name := "ask", desc := "(LStrictProofs$Asker;ILStrictProofs$Row;I)V" } : Jvm.MethodName)) ∈ lw_all := lw_g (lw_at lw_m5 155 rfl) rfl
theorem q1196 : (Jvm.Cond.code ({ cls := "StrictProofs$Fail", name := "ask", desc := "(LStrictProofs$Asker;ILStrictProofs$Row;I)V" } : Jvm.MethodName) prog_6_method_3_code (5 : Nat) (Option.none : Option Jvm.ClassFile.FieldType)) ∈ lw_all := lw_g (lw_at lw_m5 156 rfl) rfl
theorem q1251 : (Jvm.Cond.selects "StrictProofs$Fail" ({ cls := "StrictProofs$Expression", name := "ask", desc := "(LStrictProofs$Asker;ILStrictProofs$Row;I)V" } : Jvm.MethodName) ({ cls := "StrictProofs$Fail", name := "ask", desc := "(LStrictProofs$Asker;ILStrictProofs$Row;I)V" } : Jvm.MethodName)) ∈ lw_all := lw_g (lw_at lw_m5 211 rfl) rfl
theorem q1366 : (Jvm.Cond.selects "StrictProofs$Fail" ({ cls := "StrictProofs$Expression", name := "alone", desc := "()I" } : Jvm.MethodName) ({ cls := "StrictProofs$Expression", name := "alone", desc := "()I" } : Jvm.MethodName)) ∈ lw_all := lw_g (lw_at lw_m6 86 rfl) rfl
theorem q1381 : (Jvm.Cond.selects "StrictProofs$Fail" ({ cls := "StrictProofs$Expression", name := "work", desc := "(LStrictProofs$Machine;I)I" } : Jvm.MethodName) ({ cls := "StrictProofs$Fail", name := "work", desc := "(LStrictProofs$Machine;I)I" } : Jvm.MethodName)) ∈ lw_all := lw_g (lw_at lw_m6 101 rfl) rfl
theorem q1382 : (Jvm.Cond.instanceMethod ({ cls := "StrictProofs$Fail", name := "work", desc := "(LStrictProofs$Machine;I)I" } : Jvm.MethodName)) ∈ lw_all := lw_g (lw_at lw_m6 102 rfl) rfl
theorem q1383 : (Jvm.Cond.code ({ cls := "StrictProofs$Fail", name := "work", desc := "(LStrictProofs$Machine;I)I" } : Jvm.MethodName) prog_6_method_4_code (3 : Nat) (Option.some Jvm.ClassFile.FieldType.int)) ∈ lw_all := lw_g (lw_at lw_m6 103 rfl) rfl
theorem q1384 : (Jvm.Cond.methodLink "StrictProofs$Fail" (19 : Nat) ({ cls := "StrictProofs$Machine", name := "ends", desc := "(I)V" } : Jvm.MethodName)) ∈ lw_all := lw_g (lw_at lw_m6 104 rfl) rfl
theorem q2029 : (Jvm.Cond.castable "StrictProofs$Fail" "StrictProofs$Expression") ∈ lw_tbl := lw_at lw_m9 29 rfl
theorem q108 : (Jvm.Cond.initialized "StrictProofs$Pair") ∈ lw_all := lw_g (lw_at lw_m1 28 rfl) rfl
theorem q283 : (Jvm.Cond.fieldLinkNest "StrictProofs$Pair" (58 : Nat) "StrictProofs$Machine" "lefts" "[I" "StrictProofs") ∈ lw_tbl := lw_at lw_m1 203 rfl
theorem q286 : (Jvm.Cond.fieldLinkNest "StrictProofs$Pair" (65 : Nat) "StrictProofs$Machine" "rights" "[I" "StrictProofs") ∈ lw_tbl := lw_at lw_m1 206 rfl
theorem q309 : (Jvm.Cond.fieldLinkNest "StrictProofs$Pair" (55 : Nat) "StrictProofs$Machine" "ended" "I" "StrictProofs") ∈ lw_tbl := lw_at lw_m1 229 rfl
theorem q796 : (Jvm.Cond.fieldLink "StrictProofs$Pair" (35 : Nat) "StrictProofs$Pair" "type" "I") ∈ lw_all := lw_g (lw_at lw_m3 236 rfl) rfl
theorem q797 : (Jvm.Cond.sameField "StrictProofs$Pair" "StrictProofs$Expression" "type" "I") ∈ lw_all := lw_g (lw_at lw_m3 237 rfl) rfl
theorem q897 : (Jvm.Cond.instantiable "StrictProofs$Pair" (4 : Nat)) ∈ lw_all := lw_g (lw_at lw_m4 97 rfl) rfl
theorem q899 : (Jvm.Cond.instanceMethod ({ cls := "StrictProofs$Pair", name := "<init>", desc := "(ILStrictProofs$Expression;LStrictProofs$Expression;)V" } : Jvm.MethodName)) ∈ lw_all := lw_g (lw_at lw_m4 99 rfl) rfl
theorem q900 : (Jvm.Cond.code ({ cls := "StrictProofs$Pair", name := "<init>", desc := "(ILStrictProofs$Expression;LStrictProofs$Expression;)V" } : Jvm.MethodName) prog_14_method_1_code (4 : Nat) (Option.none : Option Jvm.ClassFile.FieldType)) ∈ lw_all := lw_g (lw_at lw_m4 100 rfl) rfl
theorem q901 : (Jvm.Cond.methodLink "StrictProofs$Pair" (3 : Nat) ({ cls := "StrictProofs$Expression", name := "<init>", desc := "(I)V" } : Jvm.MethodName)) ∈ lw_all := lw_g (lw_at lw_m4 101 rfl) rfl
theorem q902 : (Jvm.Cond.fieldLink "StrictProofs$Pair" (9 : Nat) "StrictProofs$Pair" "a" "LStrictProofs$Expression;") ∈ lw_all := lw_g (lw_at lw_m4 102 rfl) rfl
theorem q903 : (Jvm.Cond.fieldLink "StrictProofs$Pair" (15 : Nat) "StrictProofs$Pair" "b" "LStrictProofs$Expression;") ∈ lw_all := lw_g (lw_at lw_m4 103 rfl) rfl
theorem q904 : (Jvm.Cond.laysFinal "StrictProofs$Pair" "StrictProofs$Pair" "a" "LStrictProofs$Expression;") ∈ lw_all := lw_g (lw_at lw_m4 104 rfl) rfl
theorem q905 : (Jvm.Cond.soleField "StrictProofs$Pair" "a") ∈ lw_all := lw_g (lw_at lw_m4 105 rfl) rfl
theorem q906 : (Jvm.Cond.laysFinal "StrictProofs$Pair" "StrictProofs$Pair" "b" "LStrictProofs$Expression;") ∈ lw_all := lw_g (lw_at lw_m4 106 rfl) rfl
theorem q907 : (Jvm.Cond.soleField "StrictProofs$Pair" "b") ∈ lw_all := lw_g (lw_at lw_m4 107 rfl) rfl
theorem q908 : (Jvm.Cond.laysFinal "StrictProofs$Pair" "StrictProofs$Expression" "token" "I") ∈ lw_all := lw_g (lw_at lw_m4 108 rfl) rfl
theorem q909 : (Jvm.Cond.lays "StrictProofs$Pair" "StrictProofs$Expression" "type" "I") ∈ lw_all := lw_g (lw_at lw_m4 109 rfl) rfl
theorem q910 : (Jvm.Cond.superclass "StrictProofs$Pair" "StrictProofs$Expression") ∈ lw_all := lw_g (lw_at lw_m4 110 rfl) rfl
theorem q1038 : (Jvm.Cond.selects "StrictProofs$Pair" ({ cls := "StrictProofs$Expression", name := "judge", desc := "(LStrictProofs$Judge;I)I" } : Jvm.MethodName) ({ cls := "StrictProofs$Pair", name := "judge", desc := "(LStrictProofs$Judge;I)I" } : Jvm.MethodName)) ∈ lw_all := lw_g (lw_at lw_m4 238 rfl) rfl
theorem q1039 : (Jvm.Cond.instanceMethod ({ cls := "StrictProofs$Pair", name := "judge", desc := "(LStrictProofs$Judge;I)I" } : Jvm.MethodName)) ∈ lw_all := lw_g (lw_at lw_m4 239 rfl) rfl
theorem q1040 : (Jvm.Cond.code ({ cls := "StrictProofs$Pair", name := "judge", desc := "(LStrictProofs$Judge;I)I" } : Jvm.MethodName) prog_14_method_2_code (5 : Nat) (Option.some Jvm.ClassFile.FieldType.int)) ∈ lw_all := lw_g (lw_at lw_m5 0 rfl) rfl
theorem q1041 : (Jvm.Cond.methodLinkNest "StrictProofs$Pair" (18 : Nat) ({ cls := "StrictProofs", name := "left", desc := "(I)I" } : Jvm.MethodName) "StrictProofs") ∈ lw_tbl := lw_at lw_m5 1 rfl
theorem q1042 : (Jvm.Cond.methodLink "StrictProofs$Pair" (22 : Nat) ({ cls := "StrictProofs$Judge", name := "judge", desc := "(LStrictProofs$Expression;I)I" } : Jvm.MethodName)) ∈ lw_all := lw_g (lw_at lw_m5 2 rfl) rfl
theorem q1043 : (Jvm.Cond.methodLinkNest "StrictProofs$Pair" (28 : Nat) ({ cls := "StrictProofs", name := "right", desc := "(I)I" } : Jvm.MethodName) "StrictProofs") ∈ lw_tbl := lw_at lw_m5 3 rfl
theorem q1044 : (Jvm.Cond.methodLinkNest "StrictProofs$Pair" (31 : Nat) ({ cls := "StrictProofs", name := "pairOf", desc := "(II)I" } : Jvm.MethodName) "StrictProofs") ∈ lw_tbl := lw_at lw_m5 4 rfl
theorem q1227 : (Jvm.Cond.instanceMethod ({ cls := "StrictProofs$Pair", name := "ask", desc := "(LStrictProofs$Asker;ILStrictProofs$Row;I)V" } : Jvm.MethodName)) ∈ lw_all := lw_g (lw_at lw_m5 187 rfl) rfl
theorem q1228 : (Jvm.Cond.code ({ cls := "StrictProofs$Pair", name := "ask", desc := "(LStrictProofs$Asker;ILStrictProofs$Row;I)V" } : Jvm.MethodName) prog_14_method_3_code (5 : Nat) (Option.none : Option Jvm.ClassFile.FieldType)) ∈ lw_all := lw_g (lw_at lw_m5 188 rfl) rfl
theorem q1229 : (Jvm.Cond.methodLinkNest "StrictProofs$Pair" (39 : Nat) ({ cls := "StrictProofs", name := "first", desc := "(II)I" } : Jvm.MethodName) "StrictProofs") ∈ lw_tbl := lw_at lw_m5 189 rfl
theorem q1230 : (Jvm.Cond.methodLink "StrictProofs$Pair" (42 : Nat) ({ cls := "StrictProofs$Expression", name := "ask", desc := "(LStrictProofs$Asker;ILStrictProofs$Row;I)V" } : Jvm.MethodName)) ∈ lw_all := lw_g (lw_at lw_m5 190 rfl) rfl
theorem q1234 : (Jvm.Cond.methodLinkNest "StrictProofs$Pair" (46 : Nat) ({ cls := "StrictProofs", name := "second", desc := "(II)I" } : Jvm.MethodName) "StrictProofs") ∈ lw_tbl := lw_at lw_m5 194 rfl
theorem q1256 : (Jvm.Cond.selects "StrictProofs$Pair" ({ cls := "StrictProofs$Expression", name := "ask", desc := "(LStrictProofs$Asker;ILStrictProofs$Row;I)V" } : Jvm.MethodName) ({ cls := "StrictProofs$Pair", name := "ask", desc := "(LStrictProofs$Asker;ILStrictProofs$Row;I)V" } : Jvm.MethodName)) ∈ lw_all := lw_g (lw_at lw_m5 216 rfl) rfl
theorem q1373 : (Jvm.Cond.selects "StrictProofs$Pair" ({ cls := "StrictProofs$Expression", name := "alone", desc := "()I" } : Jvm.MethodName) ({ cls := "StrictProofs$Expression", name := "alone", desc := "()I" } : Jvm.MethodName)) ∈ lw_all := lw_g (lw_at lw_m6 93 rfl) rfl
theorem q1404 : (Jvm.Cond.selects "StrictProofs$Pair" ({ cls := "StrictProofs$Expression", name := "work", desc := "(LStrictProofs$Machine;I)I" } : Jvm.MethodName) ({ cls := "StrictProofs$Pair", name := "work", desc := "(LStrictProofs$Machine;I)I" } : Jvm.MethodName)) ∈ lw_all := lw_g (lw_at lw_m6 124 rfl) rfl
theorem q1405 : (Jvm.Cond.instanceMethod ({ cls := "StrictProofs$Pair", name := "work", desc := "(LStrictProofs$Machine;I)I" } : Jvm.MethodName)) ∈ lw_all := lw_g (lw_at lw_m6 125 rfl) rfl
theorem q1406 : (Jvm.Cond.code ({ cls := "StrictProofs$Pair", name := "work", desc := "(LStrictProofs$Machine;I)I" } : Jvm.MethodName) prog_14_method_4_code (4 : Nat) (Option.some Jvm.ClassFile.FieldType.int)) ∈ lw_all := lw_g (lw_at lw_m6 126 rfl) rfl
theorem q1407 : (Jvm.Cond.methodLink "StrictProofs$Pair" (49 : Nat) ({ cls := "StrictProofs$Machine", name := "pair", desc := "()I" } : Jvm.MethodName)) ∈ lw_all := lw_g (lw_at lw_m6 127 rfl) rfl
theorem q1411 : (Jvm.Cond.methodLink "StrictProofs$Pair" (62 : Nat) ({ cls := "StrictProofs$Machine", name := "thing", desc := "(LStrictProofs$Expression;I)I" } : Jvm.MethodName)) ∈ lw_all := lw_g (lw_at lw_m6 131 rfl) rfl
theorem q2030 : (Jvm.Cond.castable "StrictProofs$Pair" "StrictProofs$Expression") ∈ lw_tbl := lw_at lw_m9 30 rfl
theorem q109 : (Jvm.Cond.initialized "StrictProofs$Call") ∈ lw_all := lw_g (lw_at lw_m1 29 rfl) rfl
theorem q245 : (Jvm.Cond.fieldLinkNest "StrictProofs$Call" (52 : Nat) "StrictProofs$Row" "isDead" "Z" "StrictProofs") ∈ lw_tbl := lw_at lw_m1 165 rfl
theorem q294 : (Jvm.Cond.fieldLinkNest "StrictProofs$Call" (78 : Nat) "StrictProofs$Machine" "slots" "[I" "StrictProofs") ∈ lw_tbl := lw_at lw_m1 214 rfl
theorem q311 : (Jvm.Cond.fieldLinkNest "StrictProofs$Call" (75 : Nat) "StrictProofs$Machine" "ended" "I" "StrictProofs") ∈ lw_tbl := lw_at lw_m1 231 rfl
theorem q662 : (Jvm.Cond.fieldLinkNest "StrictProofs$Call" (32 : Nat) "StrictProofs$Function" "params" "I" "StrictProofs") ∈ lw_tbl := lw_at lw_m3 102 rfl
theorem q672 : (Jvm.Cond.fieldLinkNest "StrictProofs$Call" (49 : Nat) "StrictProofs$Function" "type" "I" "StrictProofs") ∈ lw_tbl := lw_at lw_m3 112 rfl
theorem q683 : (Jvm.Cond.fieldLinkNest "StrictProofs$Call" (41 : Nat) "StrictProofs$Function" "types" "[I" "StrictProofs") ∈ lw_tbl := lw_at lw_m3 123 rfl
theorem q691 : (Jvm.Cond.fieldLinkNest "StrictProofs$Call" (84 : Nat) "StrictProofs$Function" "body" "LStrictProofs$Expression;" "StrictProofs") ∈ lw_tbl := lw_at lw_m3 131 rfl
theorem q695 : (Jvm.Cond.fieldLinkNest "StrictProofs$Call" (58 : Nat) "StrictProofs$Function" "dead" "[Z" "StrictProofs") ∈ lw_tbl := lw_at lw_m3 135 rfl
theorem q698 : (Jvm.Cond.fieldLinkNest "StrictProofs$Call" (62 : Nat) "StrictProofs$Function" "asks" "[I" "StrictProofs") ∈ lw_tbl := lw_at lw_m3 138 rfl
theorem q789 : (Jvm.Cond.fieldLink "StrictProofs$Call" (15 : Nat) "StrictProofs$Call" "token" "I") ∈ lw_all := lw_g (lw_at lw_m3 229 rfl) rfl
theorem q790 : (Jvm.Cond.sameField "StrictProofs$Call" "StrictProofs$Expression" "token" "I") ∈ lw_all := lw_g (lw_at lw_m3 230 rfl) rfl
theorem q916 : (Jvm.Cond.instantiable "StrictProofs$Call" (5 : Nat)) ∈ lw_all := lw_g (lw_at lw_m4 116 rfl) rfl
theorem q918 : (Jvm.Cond.instanceMethod ({ cls := "StrictProofs$Call", name := "<init>", desc := "(I)V" } : Jvm.MethodName)) ∈ lw_all := lw_g (lw_at lw_m4 118 rfl) rfl
theorem q919 : (Jvm.Cond.code ({ cls := "StrictProofs$Call", name := "<init>", desc := "(I)V" } : Jvm.MethodName) prog_3_method_1_code (2 : Nat) (Option.none : Option Jvm.ClassFile.FieldType)) ∈ lw_all := lw_g (lw_at lw_m4 119 rfl) rfl
theorem q920 : (Jvm.Cond.methodLink "StrictProofs$Call" (3 : Nat) ({ cls := "StrictProofs$Expression", name := "<init>", desc := "(I)V" } : Jvm.MethodName)) ∈ lw_all := lw_g (lw_at lw_m4 120 rfl) rfl
theorem q921 : (Jvm.Cond.classLink "StrictProofs$Call" (4 : Nat) "StrictProofs$Expression") ∈ lw_all := lw_g (lw_at lw_m4 121 rfl) rfl
theorem q922 : (Jvm.Cond.fieldLink "StrictProofs$Call" (25 : Nat) "StrictProofs$Call" "its" "LStrictProofs$Function;") ∈ lw_all := lw_g (lw_at lw_m4 122 rfl) rfl
theorem q923 : (Jvm.Cond.fieldLink "StrictProofs$Call" (9 : Nat) "StrictProofs$Call" "with" "[LStrictProofs$Expression;") ∈ lw_all := lw_g (lw_at lw_m4 123 rfl) rfl
theorem q925 : (Jvm.Cond.fieldLink "StrictProofs$Call" (29 : Nat) "StrictProofs$Call" "many" "I") ∈ lw_all := lw_g (lw_at lw_m4 125 rfl) rfl
theorem q927 : (Jvm.Cond.lays "StrictProofs$Call" "StrictProofs$Call" "its" "LStrictProofs$Function;") ∈ lw_all := lw_g (lw_at lw_m4 127 rfl) rfl
theorem q928 : (Jvm.Cond.soleField "StrictProofs$Call" "its") ∈ lw_all := lw_g (lw_at lw_m4 128 rfl) rfl
theorem q929 : (Jvm.Cond.laysFinal "StrictProofs$Call" "StrictProofs$Call" "with" "[LStrictProofs$Expression;") ∈ lw_all := lw_g (lw_at lw_m4 129 rfl) rfl
theorem q930 : (Jvm.Cond.soleField "StrictProofs$Call" "with") ∈ lw_all := lw_g (lw_at lw_m4 130 rfl) rfl
theorem q931 : (Jvm.Cond.lays "StrictProofs$Call" "StrictProofs$Call" "many" "I") ∈ lw_all := lw_g (lw_at lw_m4 131 rfl) rfl
theorem q932 : (Jvm.Cond.soleField "StrictProofs$Call" "many") ∈ lw_all := lw_g (lw_at lw_m4 132 rfl) rfl
theorem q933 : (Jvm.Cond.laysFinal "StrictProofs$Call" "StrictProofs$Expression" "token" "I") ∈ lw_all := lw_g (lw_at lw_m4 133 rfl) rfl
theorem q934 : (Jvm.Cond.lays "StrictProofs$Call" "StrictProofs$Expression" "type" "I") ∈ lw_all := lw_g (lw_at lw_m4 134 rfl) rfl
theorem q935 : (Jvm.Cond.superclass "StrictProofs$Call" "StrictProofs$Expression") ∈ lw_all := lw_g (lw_at lw_m4 135 rfl) rfl
theorem q985 : (Jvm.Cond.selects "StrictProofs$Call" ({ cls := "StrictProofs$Expression", name := "judge", desc := "(LStrictProofs$Judge;I)I" } : Jvm.MethodName) ({ cls := "StrictProofs$Call", name := "judge", desc := "(LStrictProofs$Judge;I)I" } : Jvm.MethodName)) ∈ lw_all := lw_g (lw_at lw_m4 185 rfl) rfl
theorem q986 : (Jvm.Cond.instanceMethod ({ cls := "StrictProofs$Call", name := "judge", desc := "(LStrictProofs$Judge;I)I" } : Jvm.MethodName)) ∈ lw_all := lw_g (lw_at lw_m4 186 rfl) rfl
theorem q987 : (Jvm.Cond.code ({ cls := "StrictProofs$Call", name := "judge", desc := "(LStrictProofs$Judge;I)I" } : Jvm.MethodName) prog_3_method_2_code (4 : Nat) (Option.some Jvm.ClassFile.FieldType.int)) ∈ lw_all := lw_g (lw_at lw_m4 187 rfl) rfl
theorem q988 : (Jvm.Cond.methodLink "StrictProofs$Call" (19 : Nat) ({ cls := "StrictProofs$Judge", name := "function", desc := "(I)LStrictProofs$Function;" } : Jvm.MethodName)) ∈ lw_all := lw_g (lw_at lw_m4 188 rfl) rfl
theorem q998 : (Jvm.Cond.methodLink "StrictProofs$Call" (37 : Nat) ({ cls := "StrictProofs$Judge", name := "want", desc := "(ZII)V" } : Jvm.MethodName)) ∈ lw_all := lw_g (lw_at lw_m4 198 rfl) rfl
theorem q999 : (Jvm.Cond.methodLink "StrictProofs$Call" (45 : Nat) ({ cls := "StrictProofs$Judge", name := "judge", desc := "(LStrictProofs$Expression;I)I" } : Jvm.MethodName)) ∈ lw_all := lw_g (lw_at lw_m4 199 rfl) rfl
theorem q1188 : (Jvm.Cond.selects "StrictProofs$Call" ({ cls := "StrictProofs$Expression", name := "ask", desc := "(LStrictProofs$Asker;ILStrictProofs$Row;I)V" } : Jvm.MethodName) ({ cls := "StrictProofs$Call", name := "ask", desc := "(LStrictProofs$Asker;ILStrictProofs$Row;I)V" } : Jvm.MethodName)) ∈ lw_all := lw_g (lw_at lw_m5 148 rfl) rfl
theorem q1189 : (Jvm.Cond.instanceMethod ({ cls := "StrictProofs$Call", name := "ask", desc := "(LStrictProofs$Asker;ILStrictProofs$Row;I)V" } : Jvm.MethodName)) ∈ lw_all := lw_g (lw_at lw_m5 149 rfl) rfl
theorem q1190 : (Jvm.Cond.code ({ cls := "StrictProofs$Call", name := "ask", desc := "(LStrictProofs$Asker;ILStrictProofs$Row;I)V" } : Jvm.MethodName) prog_3_method_3_code (7 : Nat) (Option.none : Option Jvm.ClassFile.FieldType)) ∈ lw_all := lw_g (lw_at lw_m5 150 rfl) rfl
theorem q1191 : (Jvm.Cond.methodLink "StrictProofs$Call" (65 : Nat) ({ cls := "StrictProofs$Expression", name := "ask", desc := "(LStrictProofs$Asker;ILStrictProofs$Row;I)V" } : Jvm.MethodName)) ∈ lw_all := lw_g (lw_at lw_m5 151 rfl) rfl
theorem q1350 : (Jvm.Cond.selects "StrictProofs$Call" ({ cls := "StrictProofs$Expression", name := "work", desc := "(LStrictProofs$Machine;I)I" } : Jvm.MethodName) ({ cls := "StrictProofs$Call", name := "work", desc := "(LStrictProofs$Machine;I)I" } : Jvm.MethodName)) ∈ lw_all := lw_g (lw_at lw_m6 70 rfl) rfl
theorem q1351 : (Jvm.Cond.instanceMethod ({ cls := "StrictProofs$Call", name := "work", desc := "(LStrictProofs$Machine;I)I" } : Jvm.MethodName)) ∈ lw_all := lw_g (lw_at lw_m6 71 rfl) rfl
theorem q1352 : (Jvm.Cond.code ({ cls := "StrictProofs$Call", name := "work", desc := "(LStrictProofs$Machine;I)I" } : Jvm.MethodName) prog_3_method_4_code (5 : Nat) (Option.some Jvm.ClassFile.FieldType.int)) ∈ lw_all := lw_g (lw_at lw_m6 72 rfl) rfl
theorem q1353 : (Jvm.Cond.methodLink "StrictProofs$Call" (69 : Nat) ({ cls := "StrictProofs$Machine", name := "call", desc := "()I" } : Jvm.MethodName)) ∈ lw_all := lw_g (lw_at lw_m6 73 rfl) rfl
theorem q1357 : (Jvm.Cond.methodLink "StrictProofs$Call" (81 : Nat) ({ cls := "StrictProofs$Machine", name := "thing", desc := "(LStrictProofs$Expression;I)I" } : Jvm.MethodName)) ∈ lw_all := lw_g (lw_at lw_m6 77 rfl) rfl
theorem q1364 : (Jvm.Cond.selects "StrictProofs$Call" ({ cls := "StrictProofs$Expression", name := "alone", desc := "()I" } : Jvm.MethodName) ({ cls := "StrictProofs$Expression", name := "alone", desc := "()I" } : Jvm.MethodName)) ∈ lw_all := lw_g (lw_at lw_m6 84 rfl) rfl
theorem q1376 : (Jvm.Cond.methodLink "StrictProofs$Call" (88 : Nat) ({ cls := "StrictProofs$Machine", name := "work", desc := "(LStrictProofs$Expression;I)I" } : Jvm.MethodName)) ∈ lw_all := lw_g (lw_at lw_m6 96 rfl) rfl
theorem q2031 : (Jvm.Cond.castable "StrictProofs$Call" "StrictProofs$Expression") ∈ lw_tbl := lw_at lw_m9 31 rfl
theorem q110 : (Jvm.Cond.initialized "StrictProofs$Name") ∈ lw_all := lw_g (lw_at lw_m1 30 rfl) rfl
theorem q209 : (Jvm.Cond.fieldLinkNest "StrictProofs$Name" (22 : Nat) "StrictProofs$Judge" "function" "LStrictProofs$Function;" "StrictProofs") ∈ lw_tbl := lw_at lw_m1 129 rfl
theorem q255 : (Jvm.Cond.fieldLinkNest "StrictProofs$Name" (32 : Nat) "StrictProofs$Asker" "function" "LStrictProofs$Function;" "StrictProofs") ∈ lw_tbl := lw_at lw_m1 175 rfl
theorem q292 : (Jvm.Cond.fieldLinkNest "StrictProofs$Name" (41 : Nat) "StrictProofs$Machine" "slots" "[I" "StrictProofs") ∈ lw_tbl := lw_at lw_m1 212 rfl
theorem q682 : (Jvm.Cond.fieldLinkNest "StrictProofs$Name" (26 : Nat) "StrictProofs$Function" "types" "[I" "StrictProofs") ∈ lw_tbl := lw_at lw_m3 122 rfl
theorem q791 : (Jvm.Cond.fieldLink "StrictProofs$Name" (7 : Nat) "StrictProofs$Name" "token" "I") ∈ lw_all := lw_g (lw_at lw_m3 231 rfl) rfl
theorem q792 : (Jvm.Cond.sameField "StrictProofs$Name" "StrictProofs$Expression" "token" "I") ∈ lw_all := lw_g (lw_at lw_m3 232 rfl) rfl
theorem q941 : (Jvm.Cond.instantiable "StrictProofs$Name" (3 : Nat)) ∈ lw_all := lw_g (lw_at lw_m4 141 rfl) rfl
theorem q943 : (Jvm.Cond.instanceMethod ({ cls := "StrictProofs$Name", name := "<init>", desc := "(I)V" } : Jvm.MethodName)) ∈ lw_all := lw_g (lw_at lw_m4 143 rfl) rfl
theorem q944 : (Jvm.Cond.code ({ cls := "StrictProofs$Name", name := "<init>", desc := "(I)V" } : Jvm.MethodName) prog_12_method_1_code (2 : Nat) (Option.none : Option Jvm.ClassFile.FieldType)) ∈ lw_all := lw_g (lw_at lw_m4 144 rfl) rfl
theorem q945 : (Jvm.Cond.methodLink "StrictProofs$Name" (1 : Nat) ({ cls := "StrictProofs$Expression", name := "<init>", desc := "(I)V" } : Jvm.MethodName)) ∈ lw_all := lw_g (lw_at lw_m4 145 rfl) rfl
theorem q946 : (Jvm.Cond.fieldLink "StrictProofs$Name" (19 : Nat) "StrictProofs$Name" "slot" "I") ∈ lw_all := lw_g (lw_at lw_m4 146 rfl) rfl
theorem q947 : (Jvm.Cond.lays "StrictProofs$Name" "StrictProofs$Name" "slot" "I") ∈ lw_all := lw_g (lw_at lw_m4 147 rfl) rfl
theorem q948 : (Jvm.Cond.soleField "StrictProofs$Name" "slot") ∈ lw_all := lw_g (lw_at lw_m4 148 rfl) rfl
theorem q949 : (Jvm.Cond.laysFinal "StrictProofs$Name" "StrictProofs$Expression" "token" "I") ∈ lw_all := lw_g (lw_at lw_m4 149 rfl) rfl
theorem q950 : (Jvm.Cond.lays "StrictProofs$Name" "StrictProofs$Expression" "type" "I") ∈ lw_all := lw_g (lw_at lw_m4 150 rfl) rfl
theorem q951 : (Jvm.Cond.superclass "StrictProofs$Name" "StrictProofs$Expression") ∈ lw_all := lw_g (lw_at lw_m4 151 rfl) rfl
theorem q1028 : (Jvm.Cond.selects "StrictProofs$Name" ({ cls := "StrictProofs$Expression", name := "judge", desc := "(LStrictProofs$Judge;I)I" } : Jvm.MethodName) ({ cls := "StrictProofs$Name", name := "judge", desc := "(LStrictProofs$Judge;I)I" } : Jvm.MethodName)) ∈ lw_all := lw_g (lw_at lw_m4 228 rfl) rfl
theorem q1029 : (Jvm.Cond.instanceMethod ({ cls := "StrictProofs$Name", name := "judge", desc := "(LStrictProofs$Judge;I)I" } : Jvm.MethodName)) ∈ lw_all := lw_g (lw_at lw_m4 229 rfl) rfl
theorem q1030 : (Jvm.Cond.code ({ cls := "StrictProofs$Name", name := "judge", desc := "(LStrictProofs$Judge;I)I" } : Jvm.MethodName) prog_12_method_2_code (3 : Nat) (Option.some Jvm.ClassFile.FieldType.int)) ∈ lw_all := lw_g (lw_at lw_m4 230 rfl) rfl
theorem q1031 : (Jvm.Cond.methodLink "StrictProofs$Name" (13 : Nat) ({ cls := "StrictProofs$Judge", name := "find", desc := "(I)I" } : Jvm.MethodName)) ∈ lw_all := lw_g (lw_at lw_m4 231 rfl) rfl
theorem q1203 : (Jvm.Cond.instanceMethod ({ cls := "StrictProofs$Name", name := "ask", desc := "(LStrictProofs$Asker;ILStrictProofs$Row;I)V" } : Jvm.MethodName)) ∈ lw_all := lw_g (lw_at lw_m5 163 rfl) rfl
theorem q1204 : (Jvm.Cond.code ({ cls := "StrictProofs$Name", name := "ask", desc := "(LStrictProofs$Asker;ILStrictProofs$Row;I)V" } : Jvm.MethodName) prog_12_method_3_code (5 : Nat) (Option.none : Option Jvm.ClassFile.FieldType)) ∈ lw_all := lw_g (lw_at lw_m5 164 rfl) rfl
theorem q1205 : (Jvm.Cond.methodLink "StrictProofs$Name" (35 : Nat) ({ cls := "StrictProofs$Row", name := "add", desc := "([III)V" } : Jvm.MethodName)) ∈ lw_all := lw_g (lw_at lw_m5 165 rfl) rfl
theorem q1254 : (Jvm.Cond.selects "StrictProofs$Name" ({ cls := "StrictProofs$Expression", name := "ask", desc := "(LStrictProofs$Asker;ILStrictProofs$Row;I)V" } : Jvm.MethodName) ({ cls := "StrictProofs$Name", name := "ask", desc := "(LStrictProofs$Asker;ILStrictProofs$Row;I)V" } : Jvm.MethodName)) ∈ lw_all := lw_g (lw_at lw_m5 214 rfl) rfl
theorem q1369 : (Jvm.Cond.selects "StrictProofs$Name" ({ cls := "StrictProofs$Expression", name := "alone", desc := "()I" } : Jvm.MethodName) ({ cls := "StrictProofs$Name", name := "alone", desc := "()I" } : Jvm.MethodName)) ∈ lw_all := lw_g (lw_at lw_m6 89 rfl) rfl
theorem q1370 : (Jvm.Cond.instanceMethod ({ cls := "StrictProofs$Name", name := "alone", desc := "()I" } : Jvm.MethodName)) ∈ lw_all := lw_g (lw_at lw_m6 90 rfl) rfl
theorem q1371 : (Jvm.Cond.code ({ cls := "StrictProofs$Name", name := "alone", desc := "()I" } : Jvm.MethodName) prog_12_method_5_code (1 : Nat) (Option.some Jvm.ClassFile.FieldType.int)) ∈ lw_all := lw_g (lw_at lw_m6 91 rfl) rfl
theorem q1394 : (Jvm.Cond.selects "StrictProofs$Name" ({ cls := "StrictProofs$Expression", name := "work", desc := "(LStrictProofs$Machine;I)I" } : Jvm.MethodName) ({ cls := "StrictProofs$Name", name := "work", desc := "(LStrictProofs$Machine;I)I" } : Jvm.MethodName)) ∈ lw_all := lw_g (lw_at lw_m6 114 rfl) rfl
theorem q1395 : (Jvm.Cond.instanceMethod ({ cls := "StrictProofs$Name", name := "work", desc := "(LStrictProofs$Machine;I)I" } : Jvm.MethodName)) ∈ lw_all := lw_g (lw_at lw_m6 115 rfl) rfl
theorem q1396 : (Jvm.Cond.code ({ cls := "StrictProofs$Name", name := "work", desc := "(LStrictProofs$Machine;I)I" } : Jvm.MethodName) prog_12_method_4_code (3 : Nat) (Option.some Jvm.ClassFile.FieldType.int)) ∈ lw_all := lw_g (lw_at lw_m6 116 rfl) rfl
theorem q1397 : (Jvm.Cond.methodLink "StrictProofs$Name" (46 : Nat) ({ cls := "StrictProofs$Machine", name := "need", desc := "(I)I" } : Jvm.MethodName)) ∈ lw_all := lw_g (lw_at lw_m6 117 rfl) rfl
theorem q2032 : (Jvm.Cond.castable "StrictProofs$Name" "StrictProofs$Expression") ∈ lw_tbl := lw_at lw_m9 32 rfl
theorem q111 : (Jvm.Cond.initialized "StrictProofs$Sign") ∈ lw_all := lw_g (lw_at lw_m1 31 rfl) rfl
theorem q787 : (Jvm.Cond.fieldLink "StrictProofs$Sign" (3 : Nat) "StrictProofs$Expression" "token" "I") ∈ lw_all := lw_g (lw_at lw_m3 227 rfl) rfl
theorem q953 : (Jvm.Cond.instantiable "StrictProofs$Sign" (5 : Nat)) ∈ lw_all := lw_g (lw_at lw_m4 153 rfl) rfl
theorem q955 : (Jvm.Cond.instanceMethod ({ cls := "StrictProofs$Sign", name := "<init>", desc := "(ILStrictProofs$Expression;LStrictProofs$Expression;)V" } : Jvm.MethodName)) ∈ lw_all := lw_g (lw_at lw_m4 155 rfl) rfl
theorem q956 : (Jvm.Cond.code ({ cls := "StrictProofs$Sign", name := "<init>", desc := "(ILStrictProofs$Expression;LStrictProofs$Expression;)V" } : Jvm.MethodName) prog_17_method_1_code (4 : Nat) (Option.none : Option Jvm.ClassFile.FieldType)) ∈ lw_all := lw_g (lw_at lw_m4 156 rfl) rfl
theorem q957 : (Jvm.Cond.methodLink "StrictProofs$Sign" (9 : Nat) ({ cls := "StrictProofs$Expression", name := "<init>", desc := "(I)V" } : Jvm.MethodName)) ∈ lw_all := lw_g (lw_at lw_m4 157 rfl) rfl
theorem q958 : (Jvm.Cond.fieldLink "StrictProofs$Sign" (13 : Nat) "StrictProofs$Sign" "op" "I") ∈ lw_all := lw_g (lw_at lw_m4 158 rfl) rfl
theorem q959 : (Jvm.Cond.fieldLink "StrictProofs$Sign" (18 : Nat) "StrictProofs$Sign" "a" "LStrictProofs$Expression;") ∈ lw_all := lw_g (lw_at lw_m4 159 rfl) rfl
theorem q960 : (Jvm.Cond.fieldLink "StrictProofs$Sign" (22 : Nat) "StrictProofs$Sign" "b" "LStrictProofs$Expression;") ∈ lw_all := lw_g (lw_at lw_m4 160 rfl) rfl
theorem q961 : (Jvm.Cond.laysFinal "StrictProofs$Sign" "StrictProofs$Sign" "op" "I") ∈ lw_all := lw_g (lw_at lw_m4 161 rfl) rfl
theorem q962 : (Jvm.Cond.soleField "StrictProofs$Sign" "op") ∈ lw_all := lw_g (lw_at lw_m4 162 rfl) rfl
theorem q963 : (Jvm.Cond.laysFinal "StrictProofs$Sign" "StrictProofs$Sign" "a" "LStrictProofs$Expression;") ∈ lw_all := lw_g (lw_at lw_m4 163 rfl) rfl
theorem q964 : (Jvm.Cond.soleField "StrictProofs$Sign" "a") ∈ lw_all := lw_g (lw_at lw_m4 164 rfl) rfl
theorem q965 : (Jvm.Cond.laysFinal "StrictProofs$Sign" "StrictProofs$Sign" "b" "LStrictProofs$Expression;") ∈ lw_all := lw_g (lw_at lw_m4 165 rfl) rfl
theorem q966 : (Jvm.Cond.soleField "StrictProofs$Sign" "b") ∈ lw_all := lw_g (lw_at lw_m4 166 rfl) rfl
theorem q967 : (Jvm.Cond.laysFinal "StrictProofs$Sign" "StrictProofs$Expression" "token" "I") ∈ lw_all := lw_g (lw_at lw_m4 167 rfl) rfl
theorem q968 : (Jvm.Cond.lays "StrictProofs$Sign" "StrictProofs$Expression" "type" "I") ∈ lw_all := lw_g (lw_at lw_m4 168 rfl) rfl
theorem q969 : (Jvm.Cond.superclass "StrictProofs$Sign" "StrictProofs$Expression") ∈ lw_all := lw_g (lw_at lw_m4 169 rfl) rfl
theorem q1045 : (Jvm.Cond.selects "StrictProofs$Sign" ({ cls := "StrictProofs$Expression", name := "judge", desc := "(LStrictProofs$Judge;I)I" } : Jvm.MethodName) ({ cls := "StrictProofs$Sign", name := "judge", desc := "(LStrictProofs$Judge;I)I" } : Jvm.MethodName)) ∈ lw_all := lw_g (lw_at lw_m5 5 rfl) rfl
theorem q1046 : (Jvm.Cond.instanceMethod ({ cls := "StrictProofs$Sign", name := "judge", desc := "(LStrictProofs$Judge;I)I" } : Jvm.MethodName)) ∈ lw_all := lw_g (lw_at lw_m5 6 rfl) rfl
theorem q1047 : (Jvm.Cond.code ({ cls := "StrictProofs$Sign", name := "judge", desc := "(LStrictProofs$Judge;I)I" } : Jvm.MethodName) prog_17_method_2_code (3 : Nat) (Option.some Jvm.ClassFile.FieldType.int)) ∈ lw_all := lw_g (lw_at lw_m5 7 rfl) rfl
theorem q1048 : (Jvm.Cond.methodLink "StrictProofs$Sign" (25 : Nat) ({ cls := "StrictProofs$Judge", name := "judge", desc := "(LStrictProofs$Expression;I)I" } : Jvm.MethodName)) ∈ lw_all := lw_g (lw_at lw_m5 8 rfl) rfl
theorem q1231 : (Jvm.Cond.instanceMethod ({ cls := "StrictProofs$Sign", name := "ask", desc := "(LStrictProofs$Asker;ILStrictProofs$Row;I)V" } : Jvm.MethodName)) ∈ lw_all := lw_g (lw_at lw_m5 191 rfl) rfl
theorem q1232 : (Jvm.Cond.code ({ cls := "StrictProofs$Sign", name := "ask", desc := "(LStrictProofs$Asker;ILStrictProofs$Row;I)V" } : Jvm.MethodName) prog_17_method_3_code (5 : Nat) (Option.none : Option Jvm.ClassFile.FieldType)) ∈ lw_all := lw_g (lw_at lw_m5 192 rfl) rfl
theorem q1233 : (Jvm.Cond.methodLink "StrictProofs$Sign" (31 : Nat) ({ cls := "StrictProofs$Expression", name := "ask", desc := "(LStrictProofs$Asker;ILStrictProofs$Row;I)V" } : Jvm.MethodName)) ∈ lw_all := lw_g (lw_at lw_m5 193 rfl) rfl
theorem q1257 : (Jvm.Cond.selects "StrictProofs$Sign" ({ cls := "StrictProofs$Expression", name := "ask", desc := "(LStrictProofs$Asker;ILStrictProofs$Row;I)V" } : Jvm.MethodName) ({ cls := "StrictProofs$Sign", name := "ask", desc := "(LStrictProofs$Asker;ILStrictProofs$Row;I)V" } : Jvm.MethodName)) ∈ lw_all := lw_g (lw_at lw_m5 217 rfl) rfl
theorem q1374 : (Jvm.Cond.selects "StrictProofs$Sign" ({ cls := "StrictProofs$Expression", name := "alone", desc := "()I" } : Jvm.MethodName) ({ cls := "StrictProofs$Expression", name := "alone", desc := "()I" } : Jvm.MethodName)) ∈ lw_all := lw_g (lw_at lw_m6 94 rfl) rfl
theorem q1412 : (Jvm.Cond.selects "StrictProofs$Sign" ({ cls := "StrictProofs$Expression", name := "work", desc := "(LStrictProofs$Machine;I)I" } : Jvm.MethodName) ({ cls := "StrictProofs$Sign", name := "work", desc := "(LStrictProofs$Machine;I)I" } : Jvm.MethodName)) ∈ lw_all := lw_g (lw_at lw_m6 132 rfl) rfl
theorem q1413 : (Jvm.Cond.instanceMethod ({ cls := "StrictProofs$Sign", name := "work", desc := "(LStrictProofs$Machine;I)I" } : Jvm.MethodName)) ∈ lw_all := lw_g (lw_at lw_m6 133 rfl) rfl
theorem q1414 : (Jvm.Cond.code ({ cls := "StrictProofs$Sign", name := "work", desc := "(LStrictProofs$Machine;I)I" } : Jvm.MethodName) prog_17_method_4_code (5 : Nat) (Option.some Jvm.ClassFile.FieldType.int)) ∈ lw_all := lw_g (lw_at lw_m6 134 rfl) rfl
theorem q1415 : (Jvm.Cond.methodLink "StrictProofs$Sign" (35 : Nat) ({ cls := "StrictProofs$Machine", name := "work", desc := "(LStrictProofs$Expression;I)I" } : Jvm.MethodName)) ∈ lw_all := lw_g (lw_at lw_m6 135 rfl) rfl
theorem q2033 : (Jvm.Cond.castable "StrictProofs$Sign" "StrictProofs$Expression") ∈ lw_tbl := lw_at lw_m9 33 rfl
theorem q89 : (Jvm.Cond.initialized "java/lang/Throwable") ∈ lw_all := lw_g (lw_at lw_m1 9 rfl) rfl
theorem q585 : (Jvm.Cond.declares ({ cls := "java/lang/Throwable", name := "<init>", desc := "()V" } : Jvm.MethodName)) ∈ lw_tbl := lw_at lw_m3 25 rfl
theorem q586 : (Jvm.Cond.declares ({ cls := "java/lang/Throwable", name := "<init>", desc := "(Ljava/lang/String;)V" } : Jvm.MethodName)) ∈ lw_tbl := lw_at lw_m3 26 rfl
theorem q590 : (Jvm.Cond.lays "java/lang/Throwable" "java/lang/Throwable" "cause" "Ljava/lang/Throwable;") ∈ lw_all := lw_g (lw_at lw_m3 30 rfl) rfl
theorem q592 : (Jvm.Cond.lays "java/lang/Throwable" "java/lang/Throwable" "stackTrace" "[Ljava/lang/StackTraceElement;") ∈ lw_all := lw_g (lw_at lw_m3 32 rfl) rfl
theorem q594 : (Jvm.Cond.lays "java/lang/Throwable" "java/lang/Throwable" "suppressedExceptions" "Ljava/util/List;") ∈ lw_all := lw_g (lw_at lw_m3 34 rfl) rfl
theorem q596 : (Jvm.Cond.lays "java/lang/Throwable" "java/lang/Throwable" "detailMessage" "Ljava/lang/String;") ∈ lw_all := lw_g (lw_at lw_m3 36 rfl) rfl
theorem q598 : (Jvm.Cond.lays "java/lang/Throwable" "java/lang/Throwable" "backtrace" "Ljava/lang/Object;") ∈ lw_all := lw_g (lw_at lw_m3 38 rfl) rfl
theorem q599 : (Jvm.Cond.fieldLink "java/lang/Throwable" (198 : Nat) "java/lang/Throwable" "backtrace" "Ljava/lang/Object;") ∈ lw_all := lw_g (lw_at lw_m3 39 rfl) rfl
theorem q600 : (Jvm.Cond.superclass "java/lang/Throwable" "java/lang/Object") ∈ lw_all := lw_g (lw_at lw_m3 40 rfl) rfl
theorem q601 : (Jvm.Cond.instanceMethod ({ cls := "java/lang/Throwable", name := "<init>", desc := "()V" } : Jvm.MethodName)) ∈ lw_all := lw_g (lw_at lw_m3 41 rfl) rfl
theorem q602 : (Jvm.Cond.code ({ cls := "java/lang/Throwable", name := "<init>", desc := "()V" } : Jvm.MethodName) prog_33_method_1_code (1 : Nat) (Option.none : Option Jvm.ClassFile.FieldType)) ∈ lw_all := lw_g (lw_at lw_m3 42 rfl) rfl
theorem q603 : (Jvm.Cond.methodLink "java/lang/Throwable" (1 : Nat) ({ cls := "java/lang/Object", name := "<init>", desc := "()V" } : Jvm.MethodName)) ∈ lw_all := lw_g (lw_at lw_m3 43 rfl) rfl
theorem q604 : (Jvm.Cond.fieldLink "java/lang/Throwable" (13 : Nat) "java/lang/Throwable" "UNASSIGNED_STACK" "[Ljava/lang/StackTraceElement;") ∈ lw_all := lw_g (lw_at lw_m3 44 rfl) rfl
theorem q605 : (Jvm.Cond.laysStatic "java/lang/Throwable" "UNASSIGNED_STACK" "[Ljava/lang/StackTraceElement;") ∈ lw_tbl := lw_at lw_m3 45 rfl
theorem q606 : (Jvm.Cond.fieldLink "java/lang/Throwable" (20 : Nat) "java/lang/Throwable" "SUPPRESSED_SENTINEL" "Ljava/util/List;") ∈ lw_all := lw_g (lw_at lw_m3 46 rfl) rfl
theorem q607 : (Jvm.Cond.laysStatic "java/lang/Throwable" "SUPPRESSED_SENTINEL" "Ljava/util/List;") ∈ lw_tbl := lw_at lw_m3 47 rfl
theorem q608 : (Jvm.Cond.methodLink "java/lang/Throwable" (27 : Nat) ({ cls := "java/lang/Throwable", name := "fillInStackTrace", desc := "()Ljava/lang/Throwable;" } : Jvm.MethodName)) ∈ lw_all := lw_g (lw_at lw_m3 48 rfl) rfl
theorem q609 : (Jvm.Cond.instanceMethod ({ cls := "java/lang/Throwable", name := "fillInStackTrace", desc := "()Ljava/lang/Throwable;" } : Jvm.MethodName)) ∈ lw_all := lw_g (lw_at lw_m3 49 rfl) rfl
theorem q610 : (Jvm.Cond.sameMethod "java/lang/Throwable" "java/lang/Throwable" "fillInStackTrace" "()Ljava/lang/Throwable;") ∈ lw_all := lw_g (lw_at lw_m3 50 rfl) rfl
theorem q614 : (Jvm.Cond.codeSync ({ cls := "java/lang/Throwable", name := "fillInStackTrace", desc := "()Ljava/lang/Throwable;" } : Jvm.MethodName) prog_33_method_18_code (1 : Nat) (Option.some (Jvm.ClassFile.FieldType.object "java/lang/Throwable"))) ∈ lw_all := lw_g (lw_at lw_m3 54 rfl) rfl
theorem q615 : (Jvm.Cond.methodLink "java/lang/Throwable" (202 : Nat) ({ cls := "java/lang/Throwable", name := "fillInStackTrace", desc := "(I)Ljava/lang/Throwable;" } : Jvm.MethodName)) ∈ lw_all := lw_g (lw_at lw_m3 55 rfl) rfl
theorem q616 : (Jvm.Cond.privateMethod ({ cls := "java/lang/Throwable", name := "fillInStackTrace", desc := "(I)Ljava/lang/Throwable;" } : Jvm.MethodName)) ∈ lw_tbl := lw_at lw_m3 56 rfl
theorem q617 : (Jvm.Cond.instanceMethod ({ cls := "java/lang/Throwable", name := "fillInStackTrace", desc := "(I)Ljava/lang/Throwable;" } : Jvm.MethodName)) ∈ lw_all := lw_g (lw_at lw_m3 57 rfl) rfl
theorem q618 : (Jvm.Cond.instantiable "java/lang/Throwable" (6 : Nat)) ∈ lw_all := lw_g (lw_at lw_m3 58 rfl) rfl
theorem q619 : (Jvm.Cond.native ({ cls := "java/lang/Throwable", name := "fillInStackTrace", desc := "(I)Ljava/lang/Throwable;" } : Jvm.MethodName)) ∈ lw_all := lw_g (lw_at lw_m3 59 rfl) rfl
theorem q631 : (Jvm.Cond.instanceMethod ({ cls := "java/lang/Throwable", name := "<init>", desc := "(Ljava/lang/String;)V" } : Jvm.MethodName)) ∈ lw_all := lw_g (lw_at lw_m3 71 rfl) rfl
theorem q632 : (Jvm.Cond.code ({ cls := "java/lang/Throwable", name := "<init>", desc := "(Ljava/lang/String;)V" } : Jvm.MethodName) prog_33_method_2_code (2 : Nat) (Option.none : Option Jvm.ClassFile.FieldType)) ∈ lw_all := lw_g (lw_at lw_m3 72 rfl) rfl
theorem q633 : (Jvm.Cond.fieldLink "java/lang/Throwable" (198 : Nat) "java/lang/Throwable" "backtrace" "Ljava/lang/Object;") ∈ lw_all := lw_g (lw_at lw_m3 73 rfl) rfl
theorem q634 : (Jvm.Cond.fieldLink "java/lang/Throwable" (31 : Nat) "java/lang/Throwable" "detailMessage" "Ljava/lang/String;") ∈ lw_all := lw_g (lw_at lw_m3 74 rfl) rfl
theorem q635 : (Jvm.Cond.fieldLink "java/lang/Throwable" (7 : Nat) "java/lang/Throwable" "cause" "Ljava/lang/Throwable;") ∈ lw_all := lw_g (lw_at lw_m3 75 rfl) rfl
theorem q636 : (Jvm.Cond.fieldLink "java/lang/Throwable" (17 : Nat) "java/lang/Throwable" "stackTrace" "[Ljava/lang/StackTraceElement;") ∈ lw_all := lw_g (lw_at lw_m3 76 rfl) rfl
theorem q637 : (Jvm.Cond.fieldLink "java/lang/Throwable" (24 : Nat) "java/lang/Throwable" "suppressedExceptions" "Ljava/util/List;") ∈ lw_all := lw_g (lw_at lw_m3 77 rfl) rfl
theorem q638 : (Jvm.Cond.soleField "java/lang/Throwable" "backtrace") ∈ lw_all := lw_g (lw_at lw_m3 78 rfl) rfl
theorem q639 : (Jvm.Cond.soleField "java/lang/Throwable" "detailMessage") ∈ lw_all := lw_g (lw_at lw_m3 79 rfl) rfl
theorem q640 : (Jvm.Cond.soleField "java/lang/Throwable" "cause") ∈ lw_all := lw_g (lw_at lw_m3 80 rfl) rfl
theorem q641 : (Jvm.Cond.soleField "java/lang/Throwable" "stackTrace") ∈ lw_all := lw_g (lw_at lw_m3 81 rfl) rfl
theorem q643 : (Jvm.Cond.soleField "java/lang/Throwable" "depth") ∈ lw_all := lw_g (lw_at lw_m3 83 rfl) rfl
theorem q644 : (Jvm.Cond.soleField "java/lang/Throwable" "suppressedExceptions") ∈ lw_all := lw_g (lw_at lw_m3 84 rfl) rfl
theorem q2023 : (Jvm.Cond.sameMethod "java/lang/Throwable" "java/lang/Throwable" "fillInStackTrace" "(I)Ljava/lang/Throwable;") ∈ lw_all := lw_g (lw_at lw_m9 23 rfl) rfl
theorem q90 : (Jvm.Cond.initialized "java/lang/Exception") ∈ lw_all := lw_g (lw_at lw_m1 10 rfl) rfl
theorem q583 : (Jvm.Cond.declares ({ cls := "java/lang/Exception", name := "<init>", desc := "()V" } : Jvm.MethodName)) ∈ lw_tbl := lw_at lw_m3 23 rfl
theorem q584 : (Jvm.Cond.declares ({ cls := "java/lang/Exception", name := "<init>", desc := "(Ljava/lang/String;)V" } : Jvm.MethodName)) ∈ lw_tbl := lw_at lw_m3 24 rfl
theorem q628 : (Jvm.Cond.instanceMethod ({ cls := "java/lang/Exception", name := "<init>", desc := "(Ljava/lang/String;)V" } : Jvm.MethodName)) ∈ lw_all := lw_g (lw_at lw_m3 68 rfl) rfl
theorem q629 : (Jvm.Cond.code ({ cls := "java/lang/Exception", name := "<init>", desc := "(Ljava/lang/String;)V" } : Jvm.MethodName) prog_23_method_2_code (2 : Nat) (Option.none : Option Jvm.ClassFile.FieldType)) ∈ lw_all := lw_g (lw_at lw_m3 69 rfl) rfl
theorem q630 : (Jvm.Cond.methodLink "java/lang/Exception" (7 : Nat) ({ cls := "java/lang/Throwable", name := "<init>", desc := "(Ljava/lang/String;)V" } : Jvm.MethodName)) ∈ lw_all := lw_g (lw_at lw_m3 70 rfl) rfl
theorem q1075 : (Jvm.Cond.instanceMethod ({ cls := "java/lang/Exception", name := "<init>", desc := "()V" } : Jvm.MethodName)) ∈ lw_all := lw_g (lw_at lw_m5 35 rfl) rfl
theorem q1076 : (Jvm.Cond.code ({ cls := "java/lang/Exception", name := "<init>", desc := "()V" } : Jvm.MethodName) prog_23_method_1_code (1 : Nat) (Option.none : Option Jvm.ClassFile.FieldType)) ∈ lw_all := lw_g (lw_at lw_m5 36 rfl) rfl
theorem q1077 : (Jvm.Cond.methodLink "java/lang/Exception" (1 : Nat) ({ cls := "java/lang/Throwable", name := "<init>", desc := "()V" } : Jvm.MethodName)) ∈ lw_all := lw_g (lw_at lw_m5 37 rfl) rfl
theorem q91 : (Jvm.Cond.initialized "java/lang/RuntimeException") ∈ lw_all := lw_g (lw_at lw_m1 11 rfl) rfl
theorem q581 : (Jvm.Cond.declares ({ cls := "java/lang/RuntimeException", name := "<init>", desc := "()V" } : Jvm.MethodName)) ∈ lw_tbl := lw_at lw_m3 21 rfl
theorem q582 : (Jvm.Cond.declares ({ cls := "java/lang/RuntimeException", name := "<init>", desc := "(Ljava/lang/String;)V" } : Jvm.MethodName)) ∈ lw_tbl := lw_at lw_m3 22 rfl
theorem q625 : (Jvm.Cond.instanceMethod ({ cls := "java/lang/RuntimeException", name := "<init>", desc := "(Ljava/lang/String;)V" } : Jvm.MethodName)) ∈ lw_all := lw_g (lw_at lw_m3 65 rfl) rfl
theorem q626 : (Jvm.Cond.code ({ cls := "java/lang/RuntimeException", name := "<init>", desc := "(Ljava/lang/String;)V" } : Jvm.MethodName) prog_28_method_2_code (2 : Nat) (Option.none : Option Jvm.ClassFile.FieldType)) ∈ lw_all := lw_g (lw_at lw_m3 66 rfl) rfl
theorem q627 : (Jvm.Cond.methodLink "java/lang/RuntimeException" (7 : Nat) ({ cls := "java/lang/Exception", name := "<init>", desc := "(Ljava/lang/String;)V" } : Jvm.MethodName)) ∈ lw_all := lw_g (lw_at lw_m3 67 rfl) rfl
theorem q1072 : (Jvm.Cond.instanceMethod ({ cls := "java/lang/RuntimeException", name := "<init>", desc := "()V" } : Jvm.MethodName)) ∈ lw_all := lw_g (lw_at lw_m5 32 rfl) rfl
theorem q1073 : (Jvm.Cond.code ({ cls := "java/lang/RuntimeException", name := "<init>", desc := "()V" } : Jvm.MethodName) prog_28_method_1_code (1 : Nat) (Option.none : Option Jvm.ClassFile.FieldType)) ∈ lw_all := lw_g (lw_at lw_m5 33 rfl) rfl
theorem q1074 : (Jvm.Cond.methodLink "java/lang/RuntimeException" (1 : Nat) ({ cls := "java/lang/Exception", name := "<init>", desc := "()V" } : Jvm.MethodName)) ∈ lw_all := lw_g (lw_at lw_m5 34 rfl) rfl
theorem q92 : (Jvm.Cond.initialized "java/lang/IllegalStateException") ∈ lw_all := lw_g (lw_at lw_m1 12 rfl) rfl
theorem q579 : (Jvm.Cond.instantiable "java/lang/IllegalStateException" (6 : Nat)) ∈ lw_all := lw_g (lw_at lw_m3 19 rfl) rfl
theorem q580 : (Jvm.Cond.castable "java/lang/IllegalStateException" "java/lang/IllegalStateException") ∈ lw_tbl := lw_at lw_m3 20 rfl
theorem q587 : (Jvm.Cond.selects "java/lang/IllegalStateException" ({ cls := "java/lang/Throwable", name := "fillInStackTrace", desc := "(I)Ljava/lang/Throwable;" } : Jvm.MethodName) ({ cls := "java/lang/Throwable", name := "fillInStackTrace", desc := "(I)Ljava/lang/Throwable;" } : Jvm.MethodName)) ∈ lw_all := lw_g (lw_at lw_m3 27 rfl) rfl
theorem q588 : (Jvm.Cond.selects "java/lang/IllegalStateException" ({ cls := "java/lang/Throwable", name := "fillInStackTrace", desc := "()Ljava/lang/Throwable;" } : Jvm.MethodName) ({ cls := "java/lang/Throwable", name := "fillInStackTrace", desc := "()Ljava/lang/Throwable;" } : Jvm.MethodName)) ∈ lw_all := lw_g (lw_at lw_m3 28 rfl) rfl
theorem q589 : (Jvm.Cond.lays "java/lang/IllegalStateException" "java/lang/Throwable" "cause" "Ljava/lang/Throwable;") ∈ lw_all := lw_g (lw_at lw_m3 29 rfl) rfl
theorem q591 : (Jvm.Cond.lays "java/lang/IllegalStateException" "java/lang/Throwable" "stackTrace" "[Ljava/lang/StackTraceElement;") ∈ lw_all := lw_g (lw_at lw_m3 31 rfl) rfl
theorem q593 : (Jvm.Cond.lays "java/lang/IllegalStateException" "java/lang/Throwable" "suppressedExceptions" "Ljava/util/List;") ∈ lw_all := lw_g (lw_at lw_m3 33 rfl) rfl
theorem q595 : (Jvm.Cond.lays "java/lang/IllegalStateException" "java/lang/Throwable" "detailMessage" "Ljava/lang/String;") ∈ lw_all := lw_g (lw_at lw_m3 35 rfl) rfl
theorem q597 : (Jvm.Cond.lays "java/lang/IllegalStateException" "java/lang/Throwable" "backtrace" "Ljava/lang/Object;") ∈ lw_all := lw_g (lw_at lw_m3 37 rfl) rfl
theorem q622 : (Jvm.Cond.instanceMethod ({ cls := "java/lang/IllegalStateException", name := "<init>", desc := "(Ljava/lang/String;)V" } : Jvm.MethodName)) ∈ lw_all := lw_g (lw_at lw_m3 62 rfl) rfl
theorem q623 : (Jvm.Cond.code ({ cls := "java/lang/IllegalStateException", name := "<init>", desc := "(Ljava/lang/String;)V" } : Jvm.MethodName) prog_25_method_2_code (2 : Nat) (Option.none : Option Jvm.ClassFile.FieldType)) ∈ lw_all := lw_g (lw_at lw_m3 63 rfl) rfl
theorem q624 : (Jvm.Cond.methodLink "java/lang/IllegalStateException" (7 : Nat) ({ cls := "java/lang/RuntimeException", name := "<init>", desc := "(Ljava/lang/String;)V" } : Jvm.MethodName)) ∈ lw_all := lw_g (lw_at lw_m3 64 rfl) rfl
theorem q642 : (Jvm.Cond.lays "java/lang/IllegalStateException" "java/lang/Throwable" "depth" "I") ∈ lw_all := lw_g (lw_at lw_m3 82 rfl) rfl
theorem q645 : (Jvm.Cond.superclass "java/lang/IllegalStateException" "java/lang/RuntimeException") ∈ lw_all := lw_g (lw_at lw_m3 85 rfl) rfl
theorem q1069 : (Jvm.Cond.instanceMethod ({ cls := "java/lang/IllegalStateException", name := "<init>", desc := "()V" } : Jvm.MethodName)) ∈ lw_all := lw_g (lw_at lw_m5 29 rfl) rfl
theorem q1070 : (Jvm.Cond.code ({ cls := "java/lang/IllegalStateException", name := "<init>", desc := "()V" } : Jvm.MethodName) prog_25_method_1_code (1 : Nat) (Option.none : Option Jvm.ClassFile.FieldType)) ∈ lw_all := lw_g (lw_at lw_m5 30 rfl) rfl
theorem q1071 : (Jvm.Cond.methodLink "java/lang/IllegalStateException" (1 : Nat) ({ cls := "java/lang/RuntimeException", name := "<init>", desc := "()V" } : Jvm.MethodName)) ∈ lw_all := lw_g (lw_at lw_m5 31 rfl) rfl
theorem q93 : (Jvm.Cond.initialized "java/lang/IllegalArgumentException") ∈ lw_all := lw_g (lw_at lw_m1 13 rfl) rfl
theorem q612 : (Jvm.Cond.selects "java/lang/IllegalArgumentException" ({ cls := "java/lang/Throwable", name := "fillInStackTrace", desc := "()Ljava/lang/Throwable;" } : Jvm.MethodName) ({ cls := "java/lang/Throwable", name := "fillInStackTrace", desc := "()Ljava/lang/Throwable;" } : Jvm.MethodName)) ∈ lw_all := lw_g (lw_at lw_m3 52 rfl) rfl
theorem q1094 : (Jvm.Cond.instantiable "java/lang/IllegalArgumentException" (6 : Nat)) ∈ lw_all := lw_g (lw_at lw_m5 54 rfl) rfl
theorem q1095 : (Jvm.Cond.castable "java/lang/IllegalArgumentException" "java/lang/IllegalArgumentException") ∈ lw_tbl := lw_at lw_m5 55 rfl
theorem q1096 : (Jvm.Cond.selects "java/lang/IllegalArgumentException" ({ cls := "java/lang/Throwable", name := "fillInStackTrace", desc := "(I)Ljava/lang/Throwable;" } : Jvm.MethodName) ({ cls := "java/lang/Throwable", name := "fillInStackTrace", desc := "(I)Ljava/lang/Throwable;" } : Jvm.MethodName)) ∈ lw_all := lw_g (lw_at lw_m5 56 rfl) rfl
theorem q1097 : (Jvm.Cond.lays "java/lang/IllegalArgumentException" "java/lang/Throwable" "cause" "Ljava/lang/Throwable;") ∈ lw_all := lw_g (lw_at lw_m5 57 rfl) rfl
theorem q1098 : (Jvm.Cond.lays "java/lang/IllegalArgumentException" "java/lang/Throwable" "stackTrace" "[Ljava/lang/StackTraceElement;") ∈ lw_all := lw_g (lw_at lw_m5 58 rfl) rfl
theorem q1099 : (Jvm.Cond.lays "java/lang/IllegalArgumentException" "java/lang/Throwable" "suppressedExceptions" "Ljava/util/List;") ∈ lw_all := lw_g (lw_at lw_m5 59 rfl) rfl
theorem q1100 : (Jvm.Cond.lays "java/lang/IllegalArgumentException" "java/lang/Throwable" "detailMessage" "Ljava/lang/String;") ∈ lw_all := lw_g (lw_at lw_m5 60 rfl) rfl
theorem q1101 : (Jvm.Cond.lays "java/lang/IllegalArgumentException" "java/lang/Throwable" "backtrace" "Ljava/lang/Object;") ∈ lw_all := lw_g (lw_at lw_m5 61 rfl) rfl
theorem q1103 : (Jvm.Cond.instanceMethod ({ cls := "java/lang/IllegalArgumentException", name := "<init>", desc := "()V" } : Jvm.MethodName)) ∈ lw_all := lw_g (lw_at lw_m5 63 rfl) rfl
theorem q1104 : (Jvm.Cond.code ({ cls := "java/lang/IllegalArgumentException", name := "<init>", desc := "()V" } : Jvm.MethodName) prog_24_method_1_code (1 : Nat) (Option.none : Option Jvm.ClassFile.FieldType)) ∈ lw_all := lw_g (lw_at lw_m5 64 rfl) rfl
theorem q1105 : (Jvm.Cond.methodLink "java/lang/IllegalArgumentException" (1 : Nat) ({ cls := "java/lang/RuntimeException", name := "<init>", desc := "()V" } : Jvm.MethodName)) ∈ lw_all := lw_g (lw_at lw_m5 65 rfl) rfl
theorem q1106 : (Jvm.Cond.lays "java/lang/IllegalArgumentException" "java/lang/Throwable" "depth" "I") ∈ lw_all := lw_g (lw_at lw_m5 66 rfl) rfl
theorem q1107 : (Jvm.Cond.superclass "java/lang/IllegalArgumentException" "java/lang/RuntimeException") ∈ lw_all := lw_g (lw_at lw_m5 67 rfl) rfl
theorem q95 : (Jvm.Cond.initialized "java/lang/String") ∈ lw_all := lw_g (lw_at lw_m1 15 rfl) rfl
theorem q459 : (Jvm.Cond.instanceMethod ({ cls := "java/lang/String", name := "length", desc := "()I" } : Jvm.MethodName)) ∈ lw_all := lw_g (lw_at lw_m2 139 rfl) rfl
theorem q460 : (Jvm.Cond.selects "java/lang/String" ({ cls := "java/lang/String", name := "length", desc := "()I" } : Jvm.MethodName) ({ cls := "java/lang/String", name := "length", desc := "()I" } : Jvm.MethodName)) ∈ lw_all := lw_g (lw_at lw_m2 140 rfl) rfl
theorem q461 : (Jvm.Cond.code ({ cls := "java/lang/String", name := "length", desc := "()I" } : Jvm.MethodName) prog_29_method_54_code (1 : Nat) (Option.some Jvm.ClassFile.FieldType.int)) ∈ lw_all := lw_g (lw_at lw_m2 141 rfl) rfl
theorem q462 : (Jvm.Cond.methodLink "java/lang/String" (335 : Nat) ({ cls := "java/lang/String", name := "coder", desc := "()B" } : Jvm.MethodName)) ∈ lw_all := lw_g (lw_at lw_m2 142 rfl) rfl
theorem q463 : (Jvm.Cond.instanceMethod ({ cls := "java/lang/String", name := "coder", desc := "()B" } : Jvm.MethodName)) ∈ lw_all := lw_g (lw_at lw_m2 143 rfl) rfl
theorem q464 : (Jvm.Cond.selects "java/lang/String" ({ cls := "java/lang/String", name := "coder", desc := "()B" } : Jvm.MethodName) ({ cls := "java/lang/String", name := "coder", desc := "()B" } : Jvm.MethodName)) ∈ lw_all := lw_g (lw_at lw_m2 144 rfl) rfl
theorem q465 : (Jvm.Cond.code ({ cls := "java/lang/String", name := "coder", desc := "()B" } : Jvm.MethodName) prog_29_method_152_code (1 : Nat) (Option.some Jvm.ClassFile.FieldType.byte)) ∈ lw_all := lw_g (lw_at lw_m2 145 rfl) rfl
theorem q466 : (Jvm.Cond.fieldLink "java/lang/String" (38 : Nat) "java/lang/String" "COMPACT_STRINGS" "Z") ∈ lw_all := lw_g (lw_at lw_m2 146 rfl) rfl
theorem q467 : (Jvm.Cond.laysStatic "java/lang/String" "COMPACT_STRINGS" "Z") ∈ lw_tbl := lw_at lw_m2 147 rfl
theorem q469 : (Jvm.Cond.instanceMethod ({ cls := "java/lang/String", name := "charAt", desc := "(I)C" } : Jvm.MethodName)) ∈ lw_all := lw_g (lw_at lw_m2 149 rfl) rfl
theorem q470 : (Jvm.Cond.selects "java/lang/String" ({ cls := "java/lang/String", name := "charAt", desc := "(I)C" } : Jvm.MethodName) ({ cls := "java/lang/String", name := "charAt", desc := "(I)C" } : Jvm.MethodName)) ∈ lw_all := lw_g (lw_at lw_m2 150 rfl) rfl
theorem q471 : (Jvm.Cond.code ({ cls := "java/lang/String", name := "charAt", desc := "(I)C" } : Jvm.MethodName) prog_29_method_56_code (2 : Nat) (Option.some Jvm.ClassFile.FieldType.char)) ∈ lw_all := lw_g (lw_at lw_m2 151 rfl) rfl
theorem q472 : (Jvm.Cond.methodLink "java/lang/String" (492 : Nat) ({ cls := "java/lang/String", name := "isLatin1", desc := "()Z" } : Jvm.MethodName)) ∈ lw_all := lw_g (lw_at lw_m2 152 rfl) rfl
theorem q473 : (Jvm.Cond.instanceMethod ({ cls := "java/lang/String", name := "isLatin1", desc := "()Z" } : Jvm.MethodName)) ∈ lw_all := lw_g (lw_at lw_m2 153 rfl) rfl
theorem q474 : (Jvm.Cond.selects "java/lang/String" ({ cls := "java/lang/String", name := "isLatin1", desc := "()Z" } : Jvm.MethodName) ({ cls := "java/lang/String", name := "isLatin1", desc := "()Z" } : Jvm.MethodName)) ∈ lw_all := lw_g (lw_at lw_m2 154 rfl) rfl
theorem q475 : (Jvm.Cond.code ({ cls := "java/lang/String", name := "isLatin1", desc := "()Z" } : Jvm.MethodName) prog_29_method_154_code (1 : Nat) (Option.some Jvm.ClassFile.FieldType.boolean)) ∈ lw_all := lw_g (lw_at lw_m2 155 rfl) rfl
theorem q476 : (Jvm.Cond.methodLink "java/lang/String" (495 : Nat) ({ cls := "java/lang/StringLatin1", name := "charAt", desc := "([BI)C" } : Jvm.MethodName)) ∈ lw_all := lw_g (lw_at lw_m2 156 rfl) rfl
theorem q480 : (Jvm.Cond.static ({ cls := "java/lang/String", name := "checkIndex", desc := "(II)V" } : Jvm.MethodName)) ∈ lw_all := lw_g (lw_at lw_m2 160 rfl) rfl
theorem q481 : (Jvm.Cond.code ({ cls := "java/lang/String", name := "checkIndex", desc := "(II)V" } : Jvm.MethodName) prog_29_method_155_code (2 : Nat) (Option.none : Option Jvm.ClassFile.FieldType)) ∈ lw_all := lw_g (lw_at lw_m2 161 rfl) rfl
theorem q482 : (Jvm.Cond.fieldLink "java/lang/String" (1053 : Nat) "jdk/internal/util/Preconditions" "SIOOBE_FORMATTER" "Ljava/util/function/BiFunction;") ∈ lw_all := lw_g (lw_at lw_m2 162 rfl) rfl
theorem q484 : (Jvm.Cond.methodLink "java/lang/String" (1059 : Nat) ({ cls := "jdk/internal/util/Preconditions", name := "checkIndex", desc := "(IILjava/util/function/BiFunction;)I" } : Jvm.MethodName)) ∈ lw_all := lw_g (lw_at lw_m2 164 rfl) rfl
theorem q487 : (Jvm.Cond.methodLink "java/lang/String" (498 : Nat) ({ cls := "java/lang/StringUTF16", name := "charAt", desc := "([BI)C" } : Jvm.MethodName)) ∈ lw_all := lw_g (lw_at lw_m2 167 rfl) rfl
theorem q508 : (Jvm.Cond.instanceMethod ({ cls := "java/lang/String", name := "indexOf", desc := "(I)I" } : Jvm.MethodName)) ∈ lw_all := lw_g (lw_at lw_m2 188 rfl) rfl
theorem q509 : (Jvm.Cond.selects "java/lang/String" ({ cls := "java/lang/String", name := "indexOf", desc := "(I)I" } : Jvm.MethodName) ({ cls := "java/lang/String", name := "indexOf", desc := "(I)I" } : Jvm.MethodName)) ∈ lw_all := lw_g (lw_at lw_m2 189 rfl) rfl
theorem q510 : (Jvm.Cond.code ({ cls := "java/lang/String", name := "indexOf", desc := "(I)I" } : Jvm.MethodName) prog_29_method_79_code (2 : Nat) (Option.some Jvm.ClassFile.FieldType.int)) ∈ lw_all := lw_g (lw_at lw_m2 190 rfl) rfl
theorem q511 : (Jvm.Cond.methodLink "java/lang/String" (633 : Nat) ({ cls := "java/lang/String", name := "indexOf", desc := "(II)I" } : Jvm.MethodName)) ∈ lw_all := lw_g (lw_at lw_m2 191 rfl) rfl
theorem q512 : (Jvm.Cond.instanceMethod ({ cls := "java/lang/String", name := "indexOf", desc := "(II)I" } : Jvm.MethodName)) ∈ lw_all := lw_g (lw_at lw_m2 192 rfl) rfl
theorem q513 : (Jvm.Cond.selects "java/lang/String" ({ cls := "java/lang/String", name := "indexOf", desc := "(II)I" } : Jvm.MethodName) ({ cls := "java/lang/String", name := "indexOf", desc := "(II)I" } : Jvm.MethodName)) ∈ lw_all := lw_g (lw_at lw_m2 193 rfl) rfl
theorem q514 : (Jvm.Cond.code ({ cls := "java/lang/String", name := "indexOf", desc := "(II)I" } : Jvm.MethodName) prog_29_method_80_code (3 : Nat) (Option.some Jvm.ClassFile.FieldType.int)) ∈ lw_all := lw_g (lw_at lw_m2 194 rfl) rfl
theorem q515 : (Jvm.Cond.methodLink "java/lang/String" (505 : Nat) ({ cls := "java/lang/String", name := "length", desc := "()I" } : Jvm.MethodName)) ∈ lw_all := lw_g (lw_at lw_m2 195 rfl) rfl
theorem q516 : (Jvm.Cond.methodLink "java/lang/String" (637 : Nat) ({ cls := "java/lang/StringLatin1", name := "indexOf", desc := "([BIII)I" } : Jvm.MethodName)) ∈ lw_all := lw_g (lw_at lw_m2 196 rfl) rfl
theorem q531 : (Jvm.Cond.methodLink "java/lang/String" (640 : Nat) ({ cls := "java/lang/StringUTF16", name := "indexOf", desc := "([BIII)I" } : Jvm.MethodName)) ∈ lw_all := lw_g (lw_at lw_m2 211 rfl) rfl
theorem q544 : (Jvm.Cond.static ({ cls := "java/lang/String", name := "checkBoundsBeginEnd", desc := "(III)V" } : Jvm.MethodName)) ∈ lw_all := lw_g (lw_at lw_m2 224 rfl) rfl
theorem q545 : (Jvm.Cond.code ({ cls := "java/lang/String", name := "checkBoundsBeginEnd", desc := "(III)V" } : Jvm.MethodName) prog_29_method_158_code (3 : Nat) (Option.none : Option Jvm.ClassFile.FieldType)) ∈ lw_all := lw_g (lw_at lw_m2 225 rfl) rfl
theorem q546 : (Jvm.Cond.methodLink "java/lang/String" (1062 : Nat) ({ cls := "jdk/internal/util/Preconditions", name := "checkFromToIndex", desc := "(IIILjava/util/function/BiFunction;)I" } : Jvm.MethodName)) ∈ lw_all := lw_g (lw_at lw_m2 226 rfl) rfl
theorem q1130 : (Jvm.Cond.instantiable "java/lang/String" (4 : Nat)) ∈ lw_all := lw_g (lw_at lw_m5 90 rfl) rfl
theorem q1131 : (Jvm.Cond.laysFinal "java/lang/String" "java/lang/String" "value" "[B") ∈ lw_all := lw_g (lw_at lw_m5 91 rfl) rfl
theorem q1132 : (Jvm.Cond.soleField "java/lang/String" "value") ∈ lw_all := lw_g (lw_at lw_m5 92 rfl) rfl
theorem q1133 : (Jvm.Cond.laysFinal "java/lang/String" "java/lang/String" "coder" "B") ∈ lw_all := lw_g (lw_at lw_m5 93 rfl) rfl
theorem q1134 : (Jvm.Cond.soleField "java/lang/String" "coder") ∈ lw_all := lw_g (lw_at lw_m5 94 rfl) rfl
theorem q2034 : (Jvm.Cond.fieldLink "java/lang/String" (9 : Nat) "java/lang/String" "value" "[B") ∈ lw_all := lw_g (lw_at lw_m9 34 rfl) rfl
theorem q2035 : (Jvm.Cond.fieldLink "java/lang/String" (15 : Nat) "java/lang/String" "coder" "B") ∈ lw_all := lw_g (lw_at lw_m9 35 rfl) rfl
theorem q96 : (Jvm.Cond.initialized "java/lang/StringLatin1") ∈ lw_all := lw_g (lw_at lw_m1 16 rfl) rfl
theorem q477 : (Jvm.Cond.static ({ cls := "java/lang/StringLatin1", name := "charAt", desc := "([BI)C" } : Jvm.MethodName)) ∈ lw_all := lw_g (lw_at lw_m2 157 rfl) rfl
theorem q478 : (Jvm.Cond.code ({ cls := "java/lang/StringLatin1", name := "charAt", desc := "([BI)C" } : Jvm.MethodName) prog_30_method_2_code (2 : Nat) (Option.some Jvm.ClassFile.FieldType.char)) ∈ lw_all := lw_g (lw_at lw_m2 158 rfl) rfl
theorem q479 : (Jvm.Cond.methodLink "java/lang/StringLatin1" (9 : Nat) ({ cls := "java/lang/String", name := "checkIndex", desc := "(II)V" } : Jvm.MethodName)) ∈ lw_all := lw_g (lw_at lw_m2 159 rfl) rfl
theorem q517 : (Jvm.Cond.static ({ cls := "java/lang/StringLatin1", name := "indexOf", desc := "([BIII)I" } : Jvm.MethodName)) ∈ lw_all := lw_g (lw_at lw_m2 197 rfl) rfl
theorem q518 : (Jvm.Cond.code ({ cls := "java/lang/StringLatin1", name := "indexOf", desc := "([BIII)I" } : Jvm.MethodName) prog_30_method_22_code (4 : Nat) (Option.some Jvm.ClassFile.FieldType.int)) ∈ lw_all := lw_g (lw_at lw_m2 198 rfl) rfl
theorem q519 : (Jvm.Cond.methodLink "java/lang/StringLatin1" (88 : Nat) ({ cls := "java/lang/StringLatin1", name := "canEncode", desc := "(I)Z" } : Jvm.MethodName)) ∈ lw_all := lw_g (lw_at lw_m2 199 rfl) rfl
theorem q520 : (Jvm.Cond.static ({ cls := "java/lang/StringLatin1", name := "canEncode", desc := "(I)Z" } : Jvm.MethodName)) ∈ lw_all := lw_g (lw_at lw_m2 200 rfl) rfl
theorem q521 : (Jvm.Cond.code ({ cls := "java/lang/StringLatin1", name := "canEncode", desc := "(I)Z" } : Jvm.MethodName) prog_30_method_4_code (1 : Nat) (Option.some Jvm.ClassFile.FieldType.boolean)) ∈ lw_all := lw_g (lw_at lw_m2 201 rfl) rfl
theorem q522 : (Jvm.Cond.methodLink "java/lang/StringLatin1" (92 : Nat) ({ cls := "java/lang/Math", name := "max", desc := "(II)I" } : Jvm.MethodName)) ∈ lw_all := lw_g (lw_at lw_m2 202 rfl) rfl
theorem q525 : (Jvm.Cond.methodLink "java/lang/StringLatin1" (38 : Nat) ({ cls := "java/lang/Math", name := "min", desc := "(II)I" } : Jvm.MethodName)) ∈ lw_all := lw_g (lw_at lw_m2 205 rfl) rfl
theorem q528 : (Jvm.Cond.methodLink "java/lang/StringLatin1" (95 : Nat) ({ cls := "java/lang/StringLatin1", name := "indexOfChar", desc := "([BIII)I" } : Jvm.MethodName)) ∈ lw_all := lw_g (lw_at lw_m2 208 rfl) rfl
theorem q529 : (Jvm.Cond.static ({ cls := "java/lang/StringLatin1", name := "indexOfChar", desc := "([BIII)I" } : Jvm.MethodName)) ∈ lw_all := lw_g (lw_at lw_m2 209 rfl) rfl
theorem q530 : (Jvm.Cond.code ({ cls := "java/lang/StringLatin1", name := "indexOfChar", desc := "([BIII)I" } : Jvm.MethodName) prog_30_method_23_code (6 : Nat) (Option.some Jvm.ClassFile.FieldType.int)) ∈ lw_all := lw_g (lw_at lw_m2 210 rfl) rfl
theorem q97 : (Jvm.Cond.initialized "jdk/internal/util/Preconditions") ∈ lw_all := lw_g (lw_at lw_m1 17 rfl) rfl
theorem q483 : (Jvm.Cond.laysStatic "jdk/internal/util/Preconditions" "SIOOBE_FORMATTER" "Ljava/util/function/BiFunction;") ∈ lw_tbl := lw_at lw_m2 163 rfl
theorem q485 : (Jvm.Cond.static ({ cls := "jdk/internal/util/Preconditions", name := "checkIndex", desc := "(IILjava/util/function/BiFunction;)I" } : Jvm.MethodName)) ∈ lw_all := lw_g (lw_at lw_m2 165 rfl) rfl
theorem q486 : (Jvm.Cond.code ({ cls := "jdk/internal/util/Preconditions", name := "checkIndex", desc := "(IILjava/util/function/BiFunction;)I" } : Jvm.MethodName) prog_34_method_11_code (3 : Nat) (Option.some Jvm.ClassFile.FieldType.int)) ∈ lw_all := lw_g (lw_at lw_m2 166 rfl) rfl
theorem q547 : (Jvm.Cond.static ({ cls := "jdk/internal/util/Preconditions", name := "checkFromToIndex", desc := "(IIILjava/util/function/BiFunction;)I" } : Jvm.MethodName)) ∈ lw_all := lw_g (lw_at lw_m2 227 rfl) rfl
theorem q548 : (Jvm.Cond.code ({ cls := "jdk/internal/util/Preconditions", name := "checkFromToIndex", desc := "(IIILjava/util/function/BiFunction;)I" } : Jvm.MethodName) prog_34_method_12_code (4 : Nat) (Option.some Jvm.ClassFile.FieldType.int)) ∈ lw_all := lw_g (lw_at lw_m2 228 rfl) rfl
theorem q98 : (Jvm.Cond.initialized "java/lang/StringUTF16") ∈ lw_all := lw_g (lw_at lw_m1 18 rfl) rfl
theorem q488 : (Jvm.Cond.static ({ cls := "java/lang/StringUTF16", name := "charAt", desc := "([BI)C" } : Jvm.MethodName)) ∈ lw_all := lw_g (lw_at lw_m2 168 rfl) rfl
theorem q489 : (Jvm.Cond.code ({ cls := "java/lang/StringUTF16", name := "charAt", desc := "([BI)C" } : Jvm.MethodName) prog_31_method_83_code (2 : Nat) (Option.some Jvm.ClassFile.FieldType.char)) ∈ lw_all := lw_g (lw_at lw_m2 169 rfl) rfl
theorem q490 : (Jvm.Cond.methodLink "java/lang/StringUTF16" (67 : Nat) ({ cls := "java/lang/StringUTF16", name := "checkIndex", desc := "(I[B)V" } : Jvm.MethodName)) ∈ lw_all := lw_g (lw_at lw_m2 170 rfl) rfl
theorem q491 : (Jvm.Cond.static ({ cls := "java/lang/StringUTF16", name := "checkIndex", desc := "(I[B)V" } : Jvm.MethodName)) ∈ lw_all := lw_g (lw_at lw_m2 171 rfl) rfl
theorem q492 : (Jvm.Cond.code ({ cls := "java/lang/StringUTF16", name := "checkIndex", desc := "(I[B)V" } : Jvm.MethodName) prog_31_method_91_code (2 : Nat) (Option.none : Option Jvm.ClassFile.FieldType)) ∈ lw_all := lw_g (lw_at lw_m2 172 rfl) rfl
theorem q493 : (Jvm.Cond.methodLink "java/lang/StringUTF16" (48 : Nat) ({ cls := "java/lang/StringUTF16", name := "length", desc := "([B)I" } : Jvm.MethodName)) ∈ lw_all := lw_g (lw_at lw_m2 173 rfl) rfl
theorem q494 : (Jvm.Cond.static ({ cls := "java/lang/StringUTF16", name := "length", desc := "([B)I" } : Jvm.MethodName)) ∈ lw_all := lw_g (lw_at lw_m2 174 rfl) rfl
theorem q495 : (Jvm.Cond.code ({ cls := "java/lang/StringUTF16", name := "length", desc := "([B)I" } : Jvm.MethodName) prog_31_method_6_code (1 : Nat) (Option.some Jvm.ClassFile.FieldType.int)) ∈ lw_all := lw_g (lw_at lw_m2 175 rfl) rfl
theorem q496 : (Jvm.Cond.methodLink "java/lang/StringUTF16" (414 : Nat) ({ cls := "java/lang/String", name := "checkIndex", desc := "(II)V" } : Jvm.MethodName)) ∈ lw_all := lw_g (lw_at lw_m2 176 rfl) rfl
theorem q497 : (Jvm.Cond.methodLink "java/lang/StringUTF16" (71 : Nat) ({ cls := "java/lang/StringUTF16", name := "getChar", desc := "([BI)C" } : Jvm.MethodName)) ∈ lw_all := lw_g (lw_at lw_m2 177 rfl) rfl
theorem q498 : (Jvm.Cond.static ({ cls := "java/lang/StringUTF16", name := "getChar", desc := "([BI)C" } : Jvm.MethodName)) ∈ lw_all := lw_g (lw_at lw_m2 178 rfl) rfl
theorem q499 : (Jvm.Cond.code ({ cls := "java/lang/StringUTF16", name := "getChar", desc := "([BI)C" } : Jvm.MethodName) prog_31_method_5_code (2 : Nat) (Option.some Jvm.ClassFile.FieldType.char)) ∈ lw_all := lw_g (lw_at lw_m2 179 rfl) rfl
theorem q500 : (Jvm.Cond.fieldLink "java/lang/StringUTF16" (44 : Nat) "java/lang/StringUTF16" "$assertionsDisabled" "Z") ∈ lw_all := lw_g (lw_at lw_m2 180 rfl) rfl
theorem q501 : (Jvm.Cond.laysStatic "java/lang/StringUTF16" "$assertionsDisabled" "Z") ∈ lw_tbl := lw_at lw_m2 181 rfl
theorem q502 : (Jvm.Cond.fieldLink "java/lang/StringUTF16" (59 : Nat) "java/lang/StringUTF16" "HI_BYTE_SHIFT" "I") ∈ lw_all := lw_g (lw_at lw_m2 182 rfl) rfl
theorem q503 : (Jvm.Cond.laysStatic "java/lang/StringUTF16" "HI_BYTE_SHIFT" "I") ∈ lw_tbl := lw_at lw_m2 183 rfl
theorem q504 : (Jvm.Cond.fieldLink "java/lang/StringUTF16" (63 : Nat) "java/lang/StringUTF16" "LO_BYTE_SHIFT" "I") ∈ lw_all := lw_g (lw_at lw_m2 184 rfl) rfl
theorem q505 : (Jvm.Cond.laysStatic "java/lang/StringUTF16" "LO_BYTE_SHIFT" "I") ∈ lw_tbl := lw_at lw_m2 185 rfl
theorem q532 : (Jvm.Cond.static ({ cls := "java/lang/StringUTF16", name := "indexOf", desc := "([BIII)I" } : Jvm.MethodName)) ∈ lw_all := lw_g (lw_at lw_m2 212 rfl) rfl
theorem q533 : (Jvm.Cond.code ({ cls := "java/lang/StringUTF16", name := "indexOf", desc := "([BIII)I" } : Jvm.MethodName) prog_31_method_40_code (4 : Nat) (Option.some Jvm.ClassFile.FieldType.int)) ∈ lw_all := lw_g (lw_at lw_m2 213 rfl) rfl
theorem q534 : (Jvm.Cond.methodLink "java/lang/StringUTF16" (224 : Nat) ({ cls := "java/lang/Math", name := "max", desc := "(II)I" } : Jvm.MethodName)) ∈ lw_all := lw_g (lw_at lw_m2 214 rfl) rfl
theorem q535 : (Jvm.Cond.methodLink "java/lang/StringUTF16" (183 : Nat) ({ cls := "java/lang/Math", name := "min", desc := "(II)I" } : Jvm.MethodName)) ∈ lw_all := lw_g (lw_at lw_m2 215 rfl) rfl
theorem q536 : (Jvm.Cond.constant "java/lang/StringUTF16" (227 : Nat) (65536 : Int32)) ∈ lw_all := lw_g (lw_at lw_m2 216 rfl) rfl
theorem q537 : (Jvm.Cond.methodLink "java/lang/StringUTF16" (228 : Nat) ({ cls := "java/lang/StringUTF16", name := "indexOfChar", desc := "([BIII)I" } : Jvm.MethodName)) ∈ lw_all := lw_g (lw_at lw_m2 217 rfl) rfl
theorem q538 : (Jvm.Cond.static ({ cls := "java/lang/StringUTF16", name := "indexOfChar", desc := "([BIII)I" } : Jvm.MethodName)) ∈ lw_all := lw_g (lw_at lw_m2 218 rfl) rfl
theorem q539 : (Jvm.Cond.code ({ cls := "java/lang/StringUTF16", name := "indexOfChar", desc := "([BIII)I" } : Jvm.MethodName) prog_31_method_47_code (4 : Nat) (Option.some Jvm.ClassFile.FieldType.int)) ∈ lw_all := lw_g (lw_at lw_m2 219 rfl) rfl
theorem q540 : (Jvm.Cond.methodLink "java/lang/StringUTF16" (96 : Nat) ({ cls := "java/lang/StringUTF16", name := "checkBoundsBeginEnd", desc := "(II[B)V" } : Jvm.MethodName)) ∈ lw_all := lw_g (lw_at lw_m2 220 rfl) rfl
theorem q541 : (Jvm.Cond.static ({ cls := "java/lang/StringUTF16", name := "checkBoundsBeginEnd", desc := "(II[B)V" } : Jvm.MethodName)) ∈ lw_all := lw_g (lw_at lw_m2 221 rfl) rfl
theorem q542 : (Jvm.Cond.code ({ cls := "java/lang/StringUTF16", name := "checkBoundsBeginEnd", desc := "(II[B)V" } : Jvm.MethodName) prog_31_method_93_code (3 : Nat) (Option.none : Option Jvm.ClassFile.FieldType)) ∈ lw_all := lw_g (lw_at lw_m2 222 rfl) rfl
theorem q543 : (Jvm.Cond.methodLink "java/lang/StringUTF16" (241 : Nat) ({ cls := "java/lang/String", name := "checkBoundsBeginEnd", desc := "(III)V" } : Jvm.MethodName)) ∈ lw_all := lw_g (lw_at lw_m2 223 rfl) rfl
theorem q549 : (Jvm.Cond.methodLink "java/lang/StringUTF16" (244 : Nat) ({ cls := "java/lang/StringUTF16", name := "indexOfCharUnsafe", desc := "([BIII)I" } : Jvm.MethodName)) ∈ lw_all := lw_g (lw_at lw_m2 229 rfl) rfl
theorem q550 : (Jvm.Cond.static ({ cls := "java/lang/StringUTF16", name := "indexOfCharUnsafe", desc := "([BIII)I" } : Jvm.MethodName)) ∈ lw_all := lw_g (lw_at lw_m2 230 rfl) rfl
theorem q551 : (Jvm.Cond.code ({ cls := "java/lang/StringUTF16", name := "indexOfCharUnsafe", desc := "([BIII)I" } : Jvm.MethodName) prog_31_method_48_code (5 : Nat) (Option.some Jvm.ClassFile.FieldType.int)) ∈ lw_all := lw_g (lw_at lw_m2 231 rfl) rfl
theorem q552 : (Jvm.Cond.methodLink "java/lang/StringUTF16" (232 : Nat) ({ cls := "java/lang/StringUTF16", name := "indexOfSupplementary", desc := "([BIII)I" } : Jvm.MethodName)) ∈ lw_all := lw_g (lw_at lw_m2 232 rfl) rfl
theorem q553 : (Jvm.Cond.static ({ cls := "java/lang/StringUTF16", name := "indexOfSupplementary", desc := "([BIII)I" } : Jvm.MethodName)) ∈ lw_all := lw_g (lw_at lw_m2 233 rfl) rfl
theorem q554 : (Jvm.Cond.code ({ cls := "java/lang/StringUTF16", name := "indexOfSupplementary", desc := "([BIII)I" } : Jvm.MethodName) prog_31_method_49_code (7 : Nat) (Option.some Jvm.ClassFile.FieldType.int)) ∈ lw_all := lw_g (lw_at lw_m2 234 rfl) rfl
theorem q555 : (Jvm.Cond.methodLink "java/lang/StringUTF16" (164 : Nat) ({ cls := "java/lang/Character", name := "isValidCodePoint", desc := "(I)Z" } : Jvm.MethodName)) ∈ lw_all := lw_g (lw_at lw_m2 235 rfl) rfl
theorem q558 : (Jvm.Cond.methodLink "java/lang/StringUTF16" (157 : Nat) ({ cls := "java/lang/Character", name := "highSurrogate", desc := "(I)C" } : Jvm.MethodName)) ∈ lw_all := lw_g (lw_at lw_m2 238 rfl) rfl
theorem q562 : (Jvm.Cond.methodLink "java/lang/StringUTF16" (161 : Nat) ({ cls := "java/lang/Character", name := "lowSurrogate", desc := "(I)C" } : Jvm.MethodName)) ∈ lw_all := lw_g (lw_at lw_m3 2 rfl) rfl
theorem q99 : (Jvm.Cond.initialized "java/lang/Math") ∈ lw_all := lw_g (lw_at lw_m1 19 rfl) rfl
theorem q523 : (Jvm.Cond.static ({ cls := "java/lang/Math", name := "max", desc := "(II)I" } : Jvm.MethodName)) ∈ lw_all := lw_g (lw_at lw_m2 203 rfl) rfl
theorem q524 : (Jvm.Cond.code ({ cls := "java/lang/Math", name := "max", desc := "(II)I" } : Jvm.MethodName) prog_27_method_65_code (2 : Nat) (Option.some Jvm.ClassFile.FieldType.int)) ∈ lw_all := lw_g (lw_at lw_m2 204 rfl) rfl
theorem q526 : (Jvm.Cond.static ({ cls := "java/lang/Math", name := "min", desc := "(II)I" } : Jvm.MethodName)) ∈ lw_all := lw_g (lw_at lw_m2 206 rfl) rfl
theorem q527 : (Jvm.Cond.code ({ cls := "java/lang/Math", name := "min", desc := "(II)I" } : Jvm.MethodName) prog_27_method_69_code (2 : Nat) (Option.some Jvm.ClassFile.FieldType.int)) ∈ lw_all := lw_g (lw_at lw_m2 207 rfl) rfl
theorem q100 : (Jvm.Cond.initialized "java/lang/Character") ∈ lw_all := lw_g (lw_at lw_m1 20 rfl) rfl
theorem q556 : (Jvm.Cond.static ({ cls := "java/lang/Character", name := "isValidCodePoint", desc := "(I)Z" } : Jvm.MethodName)) ∈ lw_all := lw_g (lw_at lw_m2 236 rfl) rfl
theorem q557 : (Jvm.Cond.code ({ cls := "java/lang/Character", name := "isValidCodePoint", desc := "(I)Z" } : Jvm.MethodName) prog_22_method_11_code (2 : Nat) (Option.some Jvm.ClassFile.FieldType.boolean)) ∈ lw_all := lw_g (lw_at lw_m2 237 rfl) rfl
theorem q559 : (Jvm.Cond.static ({ cls := "java/lang/Character", name := "highSurrogate", desc := "(I)C" } : Jvm.MethodName)) ∈ lw_all := lw_g (lw_at lw_m2 239 rfl) rfl
theorem q560 : (Jvm.Cond.code ({ cls := "java/lang/Character", name := "highSurrogate", desc := "(I)C" } : Jvm.MethodName) prog_22_method_28_code (1 : Nat) (Option.some Jvm.ClassFile.FieldType.char)) ∈ lw_all := lw_g (lw_at lw_m3 0 rfl) rfl
theorem q561 : (Jvm.Cond.constant "java/lang/Character" (110 : Nat) (55232 : Int32)) ∈ lw_all := lw_g (lw_at lw_m3 1 rfl) rfl
theorem q563 : (Jvm.Cond.static ({ cls := "java/lang/Character", name := "lowSurrogate", desc := "(I)C" } : Jvm.MethodName)) ∈ lw_all := lw_g (lw_at lw_m3 3 rfl) rfl
theorem q564 : (Jvm.Cond.code ({ cls := "java/lang/Character", name := "lowSurrogate", desc := "(I)C" } : Jvm.MethodName) prog_22_method_29_code (1 : Nat) (Option.some Jvm.ClassFile.FieldType.char)) ∈ lw_all := lw_g (lw_at lw_m3 4 rfl) rfl
theorem q565 : (Jvm.Cond.constant "java/lang/Character" (76 : Nat) (56320 : Int32)) ∈ lw_all := lw_g (lw_at lw_m3 5 rfl) rfl
theorem q112 : (Jvm.Cond.initialized "java/lang/IndexOutOfBoundsException") ∈ lw_all := lw_g (lw_at lw_m1 32 rfl) rfl
theorem q613 : (Jvm.Cond.selects "java/lang/IndexOutOfBoundsException" ({ cls := "java/lang/Throwable", name := "fillInStackTrace", desc := "()Ljava/lang/Throwable;" } : Jvm.MethodName) ({ cls := "java/lang/Throwable", name := "fillInStackTrace", desc := "()Ljava/lang/Throwable;" } : Jvm.MethodName)) ∈ lw_all := lw_g (lw_at lw_m3 53 rfl) rfl
theorem q1116 : (Jvm.Cond.instanceMethod ({ cls := "java/lang/IndexOutOfBoundsException", name := "<init>", desc := "(Ljava/lang/String;)V" } : Jvm.MethodName)) ∈ lw_all := lw_g (lw_at lw_m5 76 rfl) rfl
theorem q1117 : (Jvm.Cond.code ({ cls := "java/lang/IndexOutOfBoundsException", name := "<init>", desc := "(Ljava/lang/String;)V" } : Jvm.MethodName) prog_26_method_2_code (2 : Nat) (Option.none : Option Jvm.ClassFile.FieldType)) ∈ lw_all := lw_g (lw_at lw_m5 77 rfl) rfl
theorem q1118 : (Jvm.Cond.methodLink "java/lang/IndexOutOfBoundsException" (7 : Nat) ({ cls := "java/lang/RuntimeException", name := "<init>", desc := "(Ljava/lang/String;)V" } : Jvm.MethodName)) ∈ lw_all := lw_g (lw_at lw_m5 78 rfl) rfl
theorem q1127 : (Jvm.Cond.declares ({ cls := "java/lang/IndexOutOfBoundsException", name := "<init>", desc := "()V" } : Jvm.MethodName)) ∈ lw_tbl := lw_at lw_m5 87 rfl
theorem q1128 : (Jvm.Cond.declares ({ cls := "java/lang/IndexOutOfBoundsException", name := "<init>", desc := "(Ljava/lang/String;)V" } : Jvm.MethodName)) ∈ lw_tbl := lw_at lw_m5 88 rfl
theorem q1147 : (Jvm.Cond.instantiable "java/lang/IndexOutOfBoundsException" (6 : Nat)) ∈ lw_all := lw_g (lw_at lw_m5 107 rfl) rfl
theorem q1148 : (Jvm.Cond.castable "java/lang/IndexOutOfBoundsException" "java/lang/IndexOutOfBoundsException") ∈ lw_tbl := lw_at lw_m5 108 rfl
theorem q1149 : (Jvm.Cond.selects "java/lang/IndexOutOfBoundsException" ({ cls := "java/lang/Throwable", name := "fillInStackTrace", desc := "(I)Ljava/lang/Throwable;" } : Jvm.MethodName) ({ cls := "java/lang/Throwable", name := "fillInStackTrace", desc := "(I)Ljava/lang/Throwable;" } : Jvm.MethodName)) ∈ lw_all := lw_g (lw_at lw_m5 109 rfl) rfl
theorem q1150 : (Jvm.Cond.lays "java/lang/IndexOutOfBoundsException" "java/lang/Throwable" "cause" "Ljava/lang/Throwable;") ∈ lw_all := lw_g (lw_at lw_m5 110 rfl) rfl
theorem q1151 : (Jvm.Cond.lays "java/lang/IndexOutOfBoundsException" "java/lang/Throwable" "stackTrace" "[Ljava/lang/StackTraceElement;") ∈ lw_all := lw_g (lw_at lw_m5 111 rfl) rfl
theorem q1152 : (Jvm.Cond.lays "java/lang/IndexOutOfBoundsException" "java/lang/Throwable" "suppressedExceptions" "Ljava/util/List;") ∈ lw_all := lw_g (lw_at lw_m5 112 rfl) rfl
theorem q1153 : (Jvm.Cond.lays "java/lang/IndexOutOfBoundsException" "java/lang/Throwable" "detailMessage" "Ljava/lang/String;") ∈ lw_all := lw_g (lw_at lw_m5 113 rfl) rfl
theorem q1154 : (Jvm.Cond.lays "java/lang/IndexOutOfBoundsException" "java/lang/Throwable" "backtrace" "Ljava/lang/Object;") ∈ lw_all := lw_g (lw_at lw_m5 114 rfl) rfl
theorem q1156 : (Jvm.Cond.instanceMethod ({ cls := "java/lang/IndexOutOfBoundsException", name := "<init>", desc := "()V" } : Jvm.MethodName)) ∈ lw_all := lw_g (lw_at lw_m5 116 rfl) rfl
theorem q1157 : (Jvm.Cond.code ({ cls := "java/lang/IndexOutOfBoundsException", name := "<init>", desc := "()V" } : Jvm.MethodName) prog_26_method_1_code (1 : Nat) (Option.none : Option Jvm.ClassFile.FieldType)) ∈ lw_all := lw_g (lw_at lw_m5 117 rfl) rfl
theorem q1158 : (Jvm.Cond.methodLink "java/lang/IndexOutOfBoundsException" (1 : Nat) ({ cls := "java/lang/RuntimeException", name := "<init>", desc := "()V" } : Jvm.MethodName)) ∈ lw_all := lw_g (lw_at lw_m5 118 rfl) rfl
theorem q1159 : (Jvm.Cond.lays "java/lang/IndexOutOfBoundsException" "java/lang/Throwable" "depth" "I") ∈ lw_all := lw_g (lw_at lw_m5 119 rfl) rfl
theorem q1160 : (Jvm.Cond.superclass "java/lang/IndexOutOfBoundsException" "java/lang/RuntimeException") ∈ lw_all := lw_g (lw_at lw_m5 120 rfl) rfl
theorem q113 : (Jvm.Cond.initialized "java/lang/ArrayIndexOutOfBoundsException") ∈ lw_all := lw_g (lw_at lw_m1 33 rfl) rfl
theorem q611 : (Jvm.Cond.selects "java/lang/ArrayIndexOutOfBoundsException" ({ cls := "java/lang/Throwable", name := "fillInStackTrace", desc := "()Ljava/lang/Throwable;" } : Jvm.MethodName) ({ cls := "java/lang/Throwable", name := "fillInStackTrace", desc := "()Ljava/lang/Throwable;" } : Jvm.MethodName)) ∈ lw_all := lw_g (lw_at lw_m3 51 rfl) rfl
theorem q1112 : (Jvm.Cond.instantiable "java/lang/ArrayIndexOutOfBoundsException" (6 : Nat)) ∈ lw_all := lw_g (lw_at lw_m5 72 rfl) rfl
theorem q1113 : (Jvm.Cond.instanceMethod ({ cls := "java/lang/ArrayIndexOutOfBoundsException", name := "<init>", desc := "(Ljava/lang/String;)V" } : Jvm.MethodName)) ∈ lw_all := lw_g (lw_at lw_m5 73 rfl) rfl
theorem q1114 : (Jvm.Cond.code ({ cls := "java/lang/ArrayIndexOutOfBoundsException", name := "<init>", desc := "(Ljava/lang/String;)V" } : Jvm.MethodName) prog_21_method_2_code (2 : Nat) (Option.none : Option Jvm.ClassFile.FieldType)) ∈ lw_all := lw_g (lw_at lw_m5 74 rfl) rfl
theorem q1115 : (Jvm.Cond.methodLink "java/lang/ArrayIndexOutOfBoundsException" (7 : Nat) ({ cls := "java/lang/IndexOutOfBoundsException", name := "<init>", desc := "(Ljava/lang/String;)V" } : Jvm.MethodName)) ∈ lw_all := lw_g (lw_at lw_m5 75 rfl) rfl
theorem q1119 : (Jvm.Cond.lays "java/lang/ArrayIndexOutOfBoundsException" "java/lang/Throwable" "backtrace" "Ljava/lang/Object;") ∈ lw_all := lw_g (lw_at lw_m5 79 rfl) rfl
theorem q1120 : (Jvm.Cond.lays "java/lang/ArrayIndexOutOfBoundsException" "java/lang/Throwable" "detailMessage" "Ljava/lang/String;") ∈ lw_all := lw_g (lw_at lw_m5 80 rfl) rfl
theorem q1121 : (Jvm.Cond.lays "java/lang/ArrayIndexOutOfBoundsException" "java/lang/Throwable" "cause" "Ljava/lang/Throwable;") ∈ lw_all := lw_g (lw_at lw_m5 81 rfl) rfl
theorem q1122 : (Jvm.Cond.lays "java/lang/ArrayIndexOutOfBoundsException" "java/lang/Throwable" "stackTrace" "[Ljava/lang/StackTraceElement;") ∈ lw_all := lw_g (lw_at lw_m5 82 rfl) rfl
theorem q1123 : (Jvm.Cond.lays "java/lang/ArrayIndexOutOfBoundsException" "java/lang/Throwable" "depth" "I") ∈ lw_all := lw_g (lw_at lw_m5 83 rfl) rfl
theorem q1124 : (Jvm.Cond.lays "java/lang/ArrayIndexOutOfBoundsException" "java/lang/Throwable" "suppressedExceptions" "Ljava/util/List;") ∈ lw_all := lw_g (lw_at lw_m5 84 rfl) rfl
theorem q1125 : (Jvm.Cond.superclass "java/lang/ArrayIndexOutOfBoundsException" "java/lang/IndexOutOfBoundsException") ∈ lw_all := lw_g (lw_at lw_m5 85 rfl) rfl
theorem q1126 : (Jvm.Cond.castable "java/lang/ArrayIndexOutOfBoundsException" "java/lang/ArrayIndexOutOfBoundsException") ∈ lw_tbl := lw_at lw_m5 86 rfl
theorem q1129 : (Jvm.Cond.selects "java/lang/ArrayIndexOutOfBoundsException" ({ cls := "java/lang/Throwable", name := "fillInStackTrace", desc := "(I)Ljava/lang/Throwable;" } : Jvm.MethodName) ({ cls := "java/lang/Throwable", name := "fillInStackTrace", desc := "(I)Ljava/lang/Throwable;" } : Jvm.MethodName)) ∈ lw_all := lw_g (lw_at lw_m5 89 rfl) rfl
theorem q2024 : (Jvm.Cond.castable "java/lang/ArrayIndexOutOfBoundsException" "java/lang/IndexOutOfBoundsException") ∈ lw_tbl := lw_at lw_m9 24 rfl
theorem q120 : (Jvm.Cond.instanceMethod ({ cls := "java/lang/Object", name := "<init>", desc := "()V" } : Jvm.MethodName)) ∈ lw_all := lw_g (lw_at lw_m1 40 rfl) rfl
theorem q121 : (Jvm.Cond.code ({ cls := "java/lang/Object", name := "<init>", desc := "()V" } : Jvm.MethodName) object_method_1_code (1 : Nat) (Option.none : Option Jvm.ClassFile.FieldType)) ∈ lw_all := lw_g (lw_at lw_m1 41 rfl) rfl
theorem q170 : (Jvm.Cond.arrayClass Jvm.ClassFile.FieldType.byte) ∈ lw_all := lw_g (lw_at lw_m1 90 rfl) rfl
theorem q171 : (Jvm.Cond.arrayClass Jvm.ClassFile.FieldType.int) ∈ lw_all := lw_g (lw_at lw_m1 91 rfl) rfl
theorem q179 : (Jvm.Cond.arrayOver (Jvm.ClassFile.FieldType.object "StrictProofs$Function")) ∈ lw_tbl := lw_at lw_m1 99 rfl
theorem q233 : (Jvm.Cond.arrayOver (Jvm.ClassFile.FieldType.object "StrictProofs$Row")) ∈ lw_tbl := lw_at lw_m1 153 rfl
theorem q273 : (Jvm.Cond.arrayOver (Jvm.ClassFile.FieldType.object "StrictProofs$Expression")) ∈ lw_tbl := lw_at lw_m1 193 rfl
theorem q370 : (Jvm.Cond.arrayClass Jvm.ClassFile.FieldType.boolean) ∈ lw_all := lw_g (lw_at lw_m2 50 rfl) rfl
theorem q1708 : (Jvm.Cond.arrayClass Jvm.ClassFile.FieldType.long) ∈ lw_all := lw_g (lw_at lw_m7 188 rfl) rfl
theorem q94 : (Jvm.Cond.initialized "java/lang/System") ∈ lw_all := lw_g (lw_at lw_m1 14 rfl) rfl
theorem q420 : (Jvm.Cond.static ({ cls := "java/lang/System", name := "arraycopy", desc := "(Ljava/lang/Object;ILjava/lang/Object;II)V" } : Jvm.MethodName)) ∈ lw_all := lw_g (lw_at lw_m2 100 rfl) rfl
theorem q421 : (Jvm.Cond.native ({ cls := "java/lang/System", name := "arraycopy", desc := "(Ljava/lang/Object;ILjava/lang/Object;II)V" } : Jvm.MethodName)) ∈ lw_all := lw_g (lw_at lw_m2 101 rfl) rfl
