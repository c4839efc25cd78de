/-! THE LIGHT WALK, 3: a row an instruction (plain ones) -/
section VR
variable {D : DE} {M : MI} {f : Nat} {Q : Out → Mem → Prop} {pc : Nat} {l : List (Nat × Value)} {st : List Value} {μ : Mem}
theorem V_iconst {n : Int} {v : Int32} (d : decode (mC M) pc = .ok (.iconst n, 1)) (hv : Int32.ofInt n = v) (k : V D M f Q (pc + 1) l (.int v :: st) μ) : V D M f Q pc l (st) μ :=
  V.go k fun _ _ _ _ _ _ _ _ _ _ _ _ _ _ _ _ C hl k => lv_iconst C.1 C.2.1 d hv k
theorem V_bipush {n : Int} {v : Int32} (d : decode (mC M) pc = .ok (.bipush n, 2)) (hv : (Int8.ofInt n).toInt32 = v) (k : V D M f Q (pc + 2) l (.int v :: st) μ) : V D M f Q pc l (st) μ :=
  V.go k fun _ _ _ _ _ _ _ _ _ _ _ _ _ _ _ _ C hl k => lv_bipush C.1 C.2.1 d hv k
theorem V_sipush {n : Int} {v : Int32} (d : decode (mC M) pc = .ok (.sipush n, 3)) (hv : (Int16.ofInt n).toInt32 = v) (k : V D M f Q (pc + 3) l (.int v :: st) μ) : V D M f Q pc l (st) μ :=
  V.go k fun _ _ _ _ _ _ _ _ _ _ _ _ _ _ _ _ C hl k => lv_sipush C.1 C.2.1 d hv k
theorem V_lconst {n : Fin 2} {v : Int64} (d : decode (mC M) pc = .ok (.lconst n, 1)) (hv : Int64.ofNat (n : Nat) = v) (k : V D M f Q (pc + 1) l (.long v :: st) μ) : V D M f Q pc l (st) μ :=
  V.go k fun _ _ _ _ _ _ _ _ _ _ _ _ _ _ _ _ C hl k => lv_lconst C.1 C.2.1 d hv k
theorem V_null  (d : decode (mC M) pc = .ok (.aconst_null, 1)) (k : V D M f Q (pc + 1) l (.null :: st) μ) : V D M f Q pc l (st) μ :=
  V.go k fun _ _ _ _ _ _ _ _ _ _ _ _ _ _ _ _ C hl k => lv_null C.1 C.2.1 d k
theorem V_iload_n {k : Fin 4} {i : Nat} {x : Int32} (d : decode (mC M) pc = .ok (.iload_n k, 1)) (hi : (k : Nat) = i) (j : Nat) (hj : l[j]? = some (i, .int x)) (k : V D M f Q (pc + 1) l (.int x :: st) μ) : V D M f Q pc l (st) μ :=
  V.go k fun _ _ _ _ _ _ _ _ _ _ _ _ _ _ _ _ C hl k => lv_iload_n C.1 C.2.1 d hi (lv_at hl j hj) k
theorem V_iload {i : Nat} {x : Int32} (d : decode (mC M) pc = .ok (.iload i, 2)) (j : Nat) (hj : l[j]? = some (i, .int x)) (k : V D M f Q (pc + 2) l (.int x :: st) μ) : V D M f Q pc l (st) μ :=
  V.go k fun _ _ _ _ _ _ _ _ _ _ _ _ _ _ _ _ C hl k => lv_iload C.1 C.2.1 d (lv_at hl j hj) k
theorem V_istore_n {k : Fin 4} {i : Nat} {x : Int32} {l1 : List (Nat × Value)} (d : decode (mC M) pc = .ok (.istore_n k, 1)) (hi : (k : Nat) = i) (hn : i < mL M) (hl1 : (i, Value.int x) :: l.filter (fun q => !(q.1 == i) && !(q.1 + 1 == i && q.2.category == 2)) = l1) (k : V D M f Q (pc + 1) l1 st μ) : V D M f Q pc l (.int x :: st) μ :=
  V.step (Nat.le_refl _) (Nat.le_refl _) k fun _ p la e R s m args below meth c H locs cells slots ls Qf _ _ C P hl kk => lv_istore_n C.1 C.2.1 d hi hl hn hl1 (fun ls' h' => kk H locs cells slots ls' P h')
theorem V_istore {i : Nat} {x : Int32} {l1 : List (Nat × Value)} (d : decode (mC M) pc = .ok (.istore i, 2)) (hn : i < mL M) (hl1 : (i, Value.int x) :: l.filter (fun q => !(q.1 == i) && !(q.1 + 1 == i && q.2.category == 2)) = l1) (k : V D M f Q (pc + 2) l1 st μ) : V D M f Q pc l (.int x :: st) μ :=
  V.step (Nat.le_refl _) (Nat.le_refl _) k fun _ p la e R s m args below meth c H locs cells slots ls Qf _ _ C P hl kk => lv_istore C.1 C.2.1 d hl hn hl1 (fun ls' h' => kk H locs cells slots ls' P h')
theorem V_lload_n {k : Fin 4} {i : Nat} {x : Int64} (d : decode (mC M) pc = .ok (.lload_n k, 1)) (hi : (k : Nat) = i) (j : Nat) (hj : l[j]? = some (i, .long x)) (k : V D M f Q (pc + 1) l (.long x :: st) μ) : V D M f Q pc l (st) μ :=
  V.go k fun _ _ _ _ _ _ _ _ _ _ _ _ _ _ _ _ C hl k => lv_lload_n C.1 C.2.1 d hi (lv_at hl j hj) k
theorem V_lload {i : Nat} {x : Int64} (d : decode (mC M) pc = .ok (.lload i, 2)) (j : Nat) (hj : l[j]? = some (i, .long x)) (k : V D M f Q (pc + 2) l (.long x :: st) μ) : V D M f Q pc l (st) μ :=
  V.go k fun _ _ _ _ _ _ _ _ _ _ _ _ _ _ _ _ C hl k => lv_lload C.1 C.2.1 d (lv_at hl j hj) k
theorem V_lstore_n {k : Fin 4} {i : Nat} {x : Int64} {l1 : List (Nat × Value)} (d : decode (mC M) pc = .ok (.lstore_n k, 1)) (hi : (k : Nat) = i) (hn : i + 1 < mL M) (hl1 : (i, Value.long x) :: l.filter (fun q => !(q.1 == i) && (!(q.1 == i + 1) && !(q.1 + 1 == i && q.2.category == 2))) = l1) (k : V D M f Q (pc + 1) l1 st μ) : V D M f Q pc l (.long x :: st) μ :=
  V.step (Nat.le_refl _) (Nat.le_refl _) k fun _ p la e R s m args below meth c H locs cells slots ls Qf _ _ C P hl kk => lv_lstore_n C.1 C.2.1 d hi hl hn hl1 (fun ls' h' => kk H locs cells slots ls' P h')
theorem V_lstore {i : Nat} {x : Int64} {l1 : List (Nat × Value)} (d : decode (mC M) pc = .ok (.lstore i, 2)) (hn : i + 1 < mL M) (hl1 : (i, Value.long x) :: l.filter (fun q => !(q.1 == i) && (!(q.1 == i + 1) && !(q.1 + 1 == i && q.2.category == 2))) = l1) (k : V D M f Q (pc + 2) l1 st μ) : V D M f Q pc l (.long x :: st) μ :=
  V.step (Nat.le_refl _) (Nat.le_refl _) k fun _ p la e R s m args below meth c H locs cells slots ls Qf _ _ C P hl kk => lv_lstore C.1 C.2.1 d hl hn hl1 (fun ls' h' => kk H locs cells slots ls' P h')
theorem V_aload_n {k : Fin 4} {i : Nat} {x : Nat} (d : decode (mC M) pc = .ok (.aload_n k, 1)) (hi : (k : Nat) = i) (j : Nat) (hj : l[j]? = some (i, .ref x)) (k : V D M f Q (pc + 1) l (.ref x :: st) μ) : V D M f Q pc l (st) μ :=
  V.go k fun _ _ _ _ _ _ _ _ _ _ _ _ _ _ _ _ C hl k => lv_aload_n C.1 C.2.1 d hi (lv_at hl j hj) k
theorem V_aload {i : Nat} {x : Nat} (d : decode (mC M) pc = .ok (.aload i, 2)) (j : Nat) (hj : l[j]? = some (i, .ref x)) (k : V D M f Q (pc + 2) l (.ref x :: st) μ) : V D M f Q pc l (st) μ :=
  V.go k fun _ _ _ _ _ _ _ _ _ _ _ _ _ _ _ _ C hl k => lv_aload C.1 C.2.1 d (lv_at hl j hj) k
theorem V_astore_n {k : Fin 4} {i : Nat} {x : Nat} {l1 : List (Nat × Value)} (d : decode (mC M) pc = .ok (.astore_n k, 1)) (hi : (k : Nat) = i) (hn : i < mL M) (hl1 : (i, Value.ref x) :: l.filter (fun q => !(q.1 == i) && !(q.1 + 1 == i && q.2.category == 2)) = l1) (k : V D M f Q (pc + 1) l1 st μ) : V D M f Q pc l (.ref x :: st) μ :=
  V.step (Nat.le_refl _) (Nat.le_refl _) k fun _ p la e R s m args below meth c H locs cells slots ls Qf _ _ C P hl kk => lv_astore_n C.1 C.2.1 d hi hl hn hl1 (fun ls' h' => kk H locs cells slots ls' P h')
theorem V_astore {i : Nat} {x : Nat} {l1 : List (Nat × Value)} (d : decode (mC M) pc = .ok (.astore i, 2)) (hn : i < mL M) (hl1 : (i, Value.ref x) :: l.filter (fun q => !(q.1 == i) && !(q.1 + 1 == i && q.2.category == 2)) = l1) (k : V D M f Q (pc + 2) l1 st μ) : V D M f Q pc l (.ref x :: st) μ :=
  V.step (Nat.le_refl _) (Nat.le_refl _) k fun _ p la e R s m args below meth c H locs cells slots ls Qf _ _ C P hl kk => lv_astore C.1 C.2.1 d hl hn hl1 (fun ls' h' => kk H locs cells slots ls' P h')
theorem V_iinc {i j : Nat} {n : Int} {x v : Int32} {l1 : List (Nat × Value)} (d : decode (mC M) pc = .ok (.iinc i n, 3)) (hj : l[j]? = some (i, .int x)) (hv : x + Int32.ofInt n = v) (hn : i < mL M) (hl1 : (i, Value.int v) :: l.filter (fun q => !(q.1 == i) && !(q.1 + 1 == i && q.2.category == 2)) = l1) (k : V D M f Q (pc + 3) l1 st μ) : V D M f Q pc l st μ :=
  V.step (Nat.le_refl _) (Nat.le_refl _) k fun _ p la e R s m args below meth c H locs cells slots ls Qf _ _ C P hl kk => lv_iinc C.1 C.2.1 d hl hj hv hn hl1 (fun ls' h' => kk H locs cells slots ls' P h')
theorem V_iadd {x y : Int32} (d : decode (mC M) pc = .ok (.iadd, 1)) (k : V D M f Q (pc + 1) l (.int (x + y) :: st) μ) : V D M f Q pc l (.int y :: .int x :: st) μ :=
  V.go k fun _ _ _ _ _ _ _ _ _ _ _ _ _ _ _ _ C hl k => lv_iadd C.1 C.2.1 d k
theorem V_isub {x y : Int32} (d : decode (mC M) pc = .ok (.isub, 1)) (k : V D M f Q (pc + 1) l (.int (x - y) :: st) μ) : V D M f Q pc l (.int y :: .int x :: st) μ :=
  V.go k fun _ _ _ _ _ _ _ _ _ _ _ _ _ _ _ _ C hl k => lv_isub C.1 C.2.1 d k
theorem V_imul {x y : Int32} (d : decode (mC M) pc = .ok (.imul, 1)) (k : V D M f Q (pc + 1) l (.int (x * y) :: st) μ) : V D M f Q pc l (.int y :: .int x :: st) μ :=
  V.go k fun _ _ _ _ _ _ _ _ _ _ _ _ _ _ _ _ C hl k => lv_imul C.1 C.2.1 d k
theorem V_iand {x y : Int32} (d : decode (mC M) pc = .ok (.iand, 1)) (k : V D M f Q (pc + 1) l (.int (x &&& y) :: st) μ) : V D M f Q pc l (.int y :: .int x :: st) μ :=
  V.go k fun _ _ _ _ _ _ _ _ _ _ _ _ _ _ _ _ C hl k => lv_iand C.1 C.2.1 d k
theorem V_ior {x y : Int32} (d : decode (mC M) pc = .ok (.ior, 1)) (k : V D M f Q (pc + 1) l (.int (x ||| y) :: st) μ) : V D M f Q pc l (.int y :: .int x :: st) μ :=
  V.go k fun _ _ _ _ _ _ _ _ _ _ _ _ _ _ _ _ C hl k => lv_ior C.1 C.2.1 d k
theorem V_ixor {x y : Int32} (d : decode (mC M) pc = .ok (.ixor, 1)) (k : V D M f Q (pc + 1) l (.int (x ^^^ y) :: st) μ) : V D M f Q pc l (.int y :: .int x :: st) μ :=
  V.go k fun _ _ _ _ _ _ _ _ _ _ _ _ _ _ _ _ C hl k => lv_ixor C.1 C.2.1 d k
theorem V_ishl {x y : Int32} (d : decode (mC M) pc = .ok (.ishl, 1)) (k : V D M f Q (pc + 1) l (.int (x <<< (y &&& 31)) :: st) μ) : V D M f Q pc l (.int y :: .int x :: st) μ :=
  V.go k fun _ _ _ _ _ _ _ _ _ _ _ _ _ _ _ _ C hl k => lv_ishl C.1 C.2.1 d k
theorem V_ishr {x y : Int32} (d : decode (mC M) pc = .ok (.ishr, 1)) (k : V D M f Q (pc + 1) l (.int (x >>> (y &&& 31)) :: st) μ) : V D M f Q pc l (.int y :: .int x :: st) μ :=
  V.go k fun _ _ _ _ _ _ _ _ _ _ _ _ _ _ _ _ C hl k => lv_ishr C.1 C.2.1 d k
theorem V_idiv {x y : Int32} (d : decode (mC M) pc = .ok (.idiv, 1)) (hy : ¬ y = 0) (k : V D M f Q (pc + 1) l (.int (x / y) :: st) μ) : V D M f Q pc l (.int y :: .int x :: st) μ :=
  V.go k fun _ _ _ _ _ _ _ _ _ _ _ _ _ _ _ _ C hl k => lv_idiv C.1 C.2.1 d hy k
theorem V_irem {x y : Int32} (d : decode (mC M) pc = .ok (.irem, 1)) (hy : ¬ y = 0) (k : V D M f Q (pc + 1) l (.int (x - x / y * y) :: st) μ) : V D M f Q pc l (.int y :: .int x :: st) μ :=
  V.go k fun _ _ _ _ _ _ _ _ _ _ _ _ _ _ _ _ C hl k => lv_irem C.1 C.2.1 d hy k
theorem V_ineg {x : Int32} (d : decode (mC M) pc = .ok (.ineg, 1)) (k : V D M f Q (pc + 1) l (.int (-x) :: st) μ) : V D M f Q pc l (.int x :: st) μ :=
  V.go k fun _ _ _ _ _ _ _ _ _ _ _ _ _ _ _ _ C hl k => lv_ineg C.1 C.2.1 d k
theorem V_ladd {x y : Int64} (d : decode (mC M) pc = .ok (.ladd, 1)) (k : V D M f Q (pc + 1) l (.long (x + y) :: st) μ) : V D M f Q pc l (.long y :: .long x :: st) μ :=
  V.go k fun _ _ _ _ _ _ _ _ _ _ _ _ _ _ _ _ C hl k => lv_ladd C.1 C.2.1 d k
theorem V_lsub {x y : Int64} (d : decode (mC M) pc = .ok (.lsub, 1)) (k : V D M f Q (pc + 1) l (.long (x - y) :: st) μ) : V D M f Q pc l (.long y :: .long x :: st) μ :=
  V.go k fun _ _ _ _ _ _ _ _ _ _ _ _ _ _ _ _ C hl k => lv_lsub C.1 C.2.1 d k
theorem V_lmul {x y : Int64} (d : decode (mC M) pc = .ok (.lmul, 1)) (k : V D M f Q (pc + 1) l (.long (x * y) :: st) μ) : V D M f Q pc l (.long y :: .long x :: st) μ :=
  V.go k fun _ _ _ _ _ _ _ _ _ _ _ _ _ _ _ _ C hl k => lv_lmul C.1 C.2.1 d k
theorem V_land {x y : Int64} (d : decode (mC M) pc = .ok (.land, 1)) (k : V D M f Q (pc + 1) l (.long (x &&& y) :: st) μ) : V D M f Q pc l (.long y :: .long x :: st) μ :=
  V.go k fun _ _ _ _ _ _ _ _ _ _ _ _ _ _ _ _ C hl k => lv_land C.1 C.2.1 d k
theorem V_lor {x y : Int64} (d : decode (mC M) pc = .ok (.lor, 1)) (k : V D M f Q (pc + 1) l (.long (x ||| y) :: st) μ) : V D M f Q pc l (.long y :: .long x :: st) μ :=
  V.go k fun _ _ _ _ _ _ _ _ _ _ _ _ _ _ _ _ C hl k => lv_lor C.1 C.2.1 d k
theorem V_lxor {x y : Int64} (d : decode (mC M) pc = .ok (.lxor, 1)) (k : V D M f Q (pc + 1) l (.long (x ^^^ y) :: st) μ) : V D M f Q pc l (.long y :: .long x :: st) μ :=
  V.go k fun _ _ _ _ _ _ _ _ _ _ _ _ _ _ _ _ C hl k => lv_lxor C.1 C.2.1 d k
theorem V_lshl {x : Int64} {y : Int32} (d : decode (mC M) pc = .ok (.lshl, 1)) (k : V D M f Q (pc + 1) l (.long (x <<< (y.toInt64 &&& 63)) :: st) μ) : V D M f Q pc l (.int y :: .long x :: st) μ :=
  V.go k fun _ _ _ _ _ _ _ _ _ _ _ _ _ _ _ _ C hl k => lv_lshl C.1 C.2.1 d rfl k
theorem V_i2l {x : Int32} (d : decode (mC M) pc = .ok (.i2l, 1)) (k : V D M f Q (pc + 1) l (.long x.toInt64 :: st) μ) : V D M f Q pc l (.int x :: st) μ :=
  V.go k fun _ _ _ _ _ _ _ _ _ _ _ _ _ _ _ _ C hl k => lv_i2l C.1 C.2.1 d rfl k
theorem V_l2i {x : Int64} (d : decode (mC M) pc = .ok (.l2i, 1)) (k : V D M f Q (pc + 1) l (.int x.toInt32 :: st) μ) : V D M f Q pc l (.long x :: st) μ :=
  V.go k fun _ _ _ _ _ _ _ _ _ _ _ _ _ _ _ _ C hl k => lv_l2i C.1 C.2.1 d rfl k
theorem V_i2b {x : Int32} (d : decode (mC M) pc = .ok (.i2b, 1)) (k : V D M f Q (pc + 1) l (.int x.toInt8.toInt32 :: st) μ) : V D M f Q pc l (.int x :: st) μ :=
  V.go k fun _ _ _ _ _ _ _ _ _ _ _ _ _ _ _ _ C hl k => lv_i2b C.1 C.2.1 d rfl k
theorem V_i2c {x : Int32} (d : decode (mC M) pc = .ok (.i2c, 1)) (k : V D M f Q (pc + 1) l (.int (x.toUInt32 % 65536).toInt32 :: st) μ) : V D M f Q pc l (.int x :: st) μ :=
  V.go k fun _ _ _ _ _ _ _ _ _ _ _ _ _ _ _ _ C hl k => lv_i2c C.1 C.2.1 d rfl k
theorem V_lcmp {x y : Int64} (d : decode (mC M) pc = .ok (.lcmp, 1)) (k : V D M f Q (pc + 1) l (.int (lg_cmp x y) :: st) μ) : V D M f Q pc l (.long y :: .long x :: st) μ :=
  V.go k fun _ _ _ _ _ _ _ _ _ _ _ _ _ _ _ _ C hl k => W.lcmp C.1 C.2.1 d k
theorem V_dup {v : Value} (d : decode (mC M) pc = .ok (.dup, 1)) (hv : v.category = 1) (k : V D M f Q (pc + 1) l (v :: v :: st) μ) : V D M f Q pc l (v :: st) μ :=
  V.go k fun _ _ _ _ _ _ _ _ _ _ _ _ _ _ _ _ C hl k => lv_dup C.1 C.2.1 d hv k
theorem V_pop {v : Value} (d : decode (mC M) pc = .ok (.pop, 1)) (hv : v.category = 1) (k : V D M f Q (pc + 1) l (st) μ) : V D M f Q pc l (v :: st) μ :=
  V.go k fun _ _ _ _ _ _ _ _ _ _ _ _ _ _ _ _ C hl k => lv_pop C.1 C.2.1 d hv k
theorem V_dup_x1 {v w : Value} (d : decode (mC M) pc = .ok (.dup_x1, 1)) (hv : v.category = 1) (hw : w.category = 1) (k : V D M f Q (pc + 1) l (v :: w :: v :: st) μ) : V D M f Q pc l (v :: w :: st) μ :=
  V.go k fun _ _ _ _ _ _ _ _ _ _ _ _ _ _ _ _ C hl k => lv_dup_x1 C.1 C.2.1 d hv hw k
theorem V_dup2 {v w : Value} (d : decode (mC M) pc = .ok (.dup2, 1)) (hv : v.category = 1) (hw : w.category = 1) (k : V D M f Q (pc + 1) l (v :: w :: v :: w :: st) μ) : V D M f Q pc l (v :: w :: st) μ :=
  V.go k fun _ _ _ _ _ _ _ _ _ _ _ _ _ _ _ _ C hl k => lv_dup2_11 C.1 C.2.1 d hv hw k
theorem V_ldc {index : Nat} {v : Int32} (d : decode (mC M) pc = .ok (.ldc index, 2)) (q : Cond.constant (mN M).cls index v ∈ lw_all) (k : V D M f Q (pc + 2) l (.int v :: st) μ) : V D M f Q pc l (st) μ :=
  V.go k fun _ _ _ _ _ _ _ _ _ _ _ _ _ _ _ _ C hl k => lv_ldc C.1 C.2.1 C.2.2.2.2.1 (C.2.2.2.2.2.1 _ q) d k
theorem V_ldc2 {index : Nat} {v : Int64} (d : decode (mC M) pc = .ok (.ldc2_w index, 3)) (q : Cond.constantLong (mN M).cls index v ∈ lw_all) (k : V D M f Q (pc + 3) l (.long v :: st) μ) : V D M f Q pc l (st) μ :=
  V.go k fun _ _ _ _ _ _ _ _ _ _ _ _ _ _ _ _ C hl k => lv_ldc2 C.1 C.2.1 C.2.2.2.2.1 (C.2.2.2.2.2.1 _ q) d k
theorem V_goto {off : Int} {tgt : Nat} (d : decode (mC M) pc = .ok (.goto off, 3)) (ht : (pc : Int) + off = (tgt : Int)) (k : V D M f Q tgt l st μ) : V D M f Q pc l st μ :=
  V.go k fun _ _ _ _ _ _ _ _ _ _ _ _ _ _ _ _ C hl k => lv_goto C.1 C.2.1 d ht k
theorem V_if_eq {x : Int32} {off : Int} {tgt : Nat} (d : decode (mC M) pc = .ok (.ifCond .eq off, 3)) (ht : (pc : Int) + off = (tgt : Int)) (kt : x = 0 → V D M f Q tgt l st μ) (kf : ¬ x = 0 → V D M f Q (pc + 3) l st μ) : V D M f Q pc l (.int x :: st) μ := by
  by_cases h : x = 0
  · exact V.go (kt h) fun _ _ _ _ _ _ _ _ _ _ _ _ _ _ _ _ C hl k => lv_if_eq C.1 C.2.1 d ht (fun _ => k) (fun h' => absurd h (by simpa using h'))
  · exact V.go (kf (by simpa using h)) fun _ _ _ _ _ _ _ _ _ _ _ _ _ _ _ _ C hl k => lv_if_eq C.1 C.2.1 d ht (fun h' => absurd h' h) (fun _ => k)
theorem V_if_ne {x : Int32} {off : Int} {tgt : Nat} (d : decode (mC M) pc = .ok (.ifCond .ne off, 3)) (ht : (pc : Int) + off = (tgt : Int)) (kt : ¬ x = 0 → V D M f Q tgt l st μ) (kf : x = 0 → V D M f Q (pc + 3) l st μ) : V D M f Q pc l (.int x :: st) μ := by
  by_cases h : ¬ x = 0
  · exact V.go (kt h) fun _ _ _ _ _ _ _ _ _ _ _ _ _ _ _ _ C hl k => lv_if_ne C.1 C.2.1 d ht (fun _ => k) (fun h' => absurd h (by simpa using h'))
  · exact V.go (kf (by simpa using h)) fun _ _ _ _ _ _ _ _ _ _ _ _ _ _ _ _ C hl k => lv_if_ne C.1 C.2.1 d ht (fun h' => absurd h' h) (fun _ => k)
theorem V_if_lt {x : Int32} {off : Int} {tgt : Nat} (d : decode (mC M) pc = .ok (.ifCond .lt off, 3)) (ht : (pc : Int) + off = (tgt : Int)) (kt : x < 0 → V D M f Q tgt l st μ) (kf : ¬ x < 0 → V D M f Q (pc + 3) l st μ) : V D M f Q pc l (.int x :: st) μ := by
  by_cases h : x < 0
  · exact V.go (kt h) fun _ _ _ _ _ _ _ _ _ _ _ _ _ _ _ _ C hl k => lv_if_lt C.1 C.2.1 d ht (fun _ => k) (fun h' => absurd h (by simpa using h'))
  · exact V.go (kf (by simpa using h)) fun _ _ _ _ _ _ _ _ _ _ _ _ _ _ _ _ C hl k => lv_if_lt C.1 C.2.1 d ht (fun h' => absurd h' h) (fun _ => k)
theorem V_if_ge {x : Int32} {off : Int} {tgt : Nat} (d : decode (mC M) pc = .ok (.ifCond .ge off, 3)) (ht : (pc : Int) + off = (tgt : Int)) (kt : 0 ≤ x → V D M f Q tgt l st μ) (kf : ¬ 0 ≤ x → V D M f Q (pc + 3) l st μ) : V D M f Q pc l (.int x :: st) μ := by
  by_cases h : 0 ≤ x
  · exact V.go (kt h) fun _ _ _ _ _ _ _ _ _ _ _ _ _ _ _ _ C hl k => lv_if_ge C.1 C.2.1 d ht (fun _ => k) (fun h' => absurd h (by simpa using h'))
  · exact V.go (kf (by simpa using h)) fun _ _ _ _ _ _ _ _ _ _ _ _ _ _ _ _ C hl k => lv_if_ge C.1 C.2.1 d ht (fun h' => absurd h' h) (fun _ => k)
theorem V_if_gt {x : Int32} {off : Int} {tgt : Nat} (d : decode (mC M) pc = .ok (.ifCond .gt off, 3)) (ht : (pc : Int) + off = (tgt : Int)) (kt : 0 < x → V D M f Q tgt l st μ) (kf : ¬ 0 < x → V D M f Q (pc + 3) l st μ) : V D M f Q pc l (.int x :: st) μ := by
  by_cases h : 0 < x
  · exact V.go (kt h) fun _ _ _ _ _ _ _ _ _ _ _ _ _ _ _ _ C hl k => lv_if_gt C.1 C.2.1 d ht (fun _ => k) (fun h' => absurd h (by simpa using h'))
  · exact V.go (kf (by simpa using h)) fun _ _ _ _ _ _ _ _ _ _ _ _ _ _ _ _ C hl k => lv_if_gt C.1 C.2.1 d ht (fun h' => absurd h' h) (fun _ => k)
theorem V_if_le {x : Int32} {off : Int} {tgt : Nat} (d : decode (mC M) pc = .ok (.ifCond .le off, 3)) (ht : (pc : Int) + off = (tgt : Int)) (kt : x ≤ 0 → V D M f Q tgt l st μ) (kf : ¬ x ≤ 0 → V D M f Q (pc + 3) l st μ) : V D M f Q pc l (.int x :: st) μ := by
  by_cases h : x ≤ 0
  · exact V.go (kt h) fun _ _ _ _ _ _ _ _ _ _ _ _ _ _ _ _ C hl k => lv_if_le C.1 C.2.1 d ht (fun _ => k) (fun h' => absurd h (by simpa using h'))
  · exact V.go (kf (by simpa using h)) fun _ _ _ _ _ _ _ _ _ _ _ _ _ _ _ _ C hl k => lv_if_le C.1 C.2.1 d ht (fun h' => absurd h' h) (fun _ => k)
theorem V_icmp_eq {x y : Int32} {off : Int} {tgt : Nat} (d : decode (mC M) pc = .ok (.if_icmp .eq off, 3)) (ht : (pc : Int) + off = (tgt : Int)) (kt : x = y → V D M f Q tgt l st μ) (kf : ¬ x = y → V D M f Q (pc + 3) l st μ) : V D M f Q pc l (.int y :: .int x :: st) μ := by
  by_cases h : x = y
  · exact V.go (kt h) fun _ _ _ _ _ _ _ _ _ _ _ _ _ _ _ _ C hl k => lv_icmp_eq C.1 C.2.1 d ht (fun _ => k) (fun h' => absurd h (by simpa using h'))
  · exact V.go (kf (by simpa using h)) fun _ _ _ _ _ _ _ _ _ _ _ _ _ _ _ _ C hl k => lv_icmp_eq C.1 C.2.1 d ht (fun h' => absurd h' h) (fun _ => k)
theorem V_icmp_ne {x y : Int32} {off : Int} {tgt : Nat} (d : decode (mC M) pc = .ok (.if_icmp .ne off, 3)) (ht : (pc : Int) + off = (tgt : Int)) (kt : ¬ x = y → V D M f Q tgt l st μ) (kf : x = y → V D M f Q (pc + 3) l st μ) : V D M f Q pc l (.int y :: .int x :: st) μ := by
  by_cases h : ¬ x = y
  · exact V.go (kt h) fun _ _ _ _ _ _ _ _ _ _ _ _ _ _ _ _ C hl k => lv_icmp_ne C.1 C.2.1 d ht (fun _ => k) (fun h' => absurd h (by simpa using h'))
  · exact V.go (kf (by simpa using h)) fun _ _ _ _ _ _ _ _ _ _ _ _ _ _ _ _ C hl k => lv_icmp_ne C.1 C.2.1 d ht (fun h' => absurd h' h) (fun _ => k)
theorem V_icmp_lt {x y : Int32} {off : Int} {tgt : Nat} (d : decode (mC M) pc = .ok (.if_icmp .lt off, 3)) (ht : (pc : Int) + off = (tgt : Int)) (kt : x < y → V D M f Q tgt l st μ) (kf : ¬ x < y → V D M f Q (pc + 3) l st μ) : V D M f Q pc l (.int y :: .int x :: st) μ := by
  by_cases h : x < y
  · exact V.go (kt h) fun _ _ _ _ _ _ _ _ _ _ _ _ _ _ _ _ C hl k => lv_icmp_lt C.1 C.2.1 d ht (fun _ => k) (fun h' => absurd h (by simpa using h'))
  · exact V.go (kf (by simpa using h)) fun _ _ _ _ _ _ _ _ _ _ _ _ _ _ _ _ C hl k => lv_icmp_lt C.1 C.2.1 d ht (fun h' => absurd h' h) (fun _ => k)
theorem V_icmp_ge {x y : Int32} {off : Int} {tgt : Nat} (d : decode (mC M) pc = .ok (.if_icmp .ge off, 3)) (ht : (pc : Int) + off = (tgt : Int)) (kt : y ≤ x → V D M f Q tgt l st μ) (kf : ¬ y ≤ x → V D M f Q (pc + 3) l st μ) : V D M f Q pc l (.int y :: .int x :: st) μ := by
  by_cases h : y ≤ x
  · exact V.go (kt h) fun _ _ _ _ _ _ _ _ _ _ _ _ _ _ _ _ C hl k => lv_icmp_ge C.1 C.2.1 d ht (fun _ => k) (fun h' => absurd h (by simpa using h'))
  · exact V.go (kf (by simpa using h)) fun _ _ _ _ _ _ _ _ _ _ _ _ _ _ _ _ C hl k => lv_icmp_ge C.1 C.2.1 d ht (fun h' => absurd h' h) (fun _ => k)
theorem V_icmp_gt {x y : Int32} {off : Int} {tgt : Nat} (d : decode (mC M) pc = .ok (.if_icmp .gt off, 3)) (ht : (pc : Int) + off = (tgt : Int)) (kt : y < x → V D M f Q tgt l st μ) (kf : ¬ y < x → V D M f Q (pc + 3) l st μ) : V D M f Q pc l (.int y :: .int x :: st) μ := by
  by_cases h : y < x
  · exact V.go (kt h) fun _ _ _ _ _ _ _ _ _ _ _ _ _ _ _ _ C hl k => lv_icmp_gt C.1 C.2.1 d ht (fun _ => k) (fun h' => absurd h (by simpa using h'))
  · exact V.go (kf (by simpa using h)) fun _ _ _ _ _ _ _ _ _ _ _ _ _ _ _ _ C hl k => lv_icmp_gt C.1 C.2.1 d ht (fun h' => absurd h' h) (fun _ => k)
theorem V_icmp_le {x y : Int32} {off : Int} {tgt : Nat} (d : decode (mC M) pc = .ok (.if_icmp .le off, 3)) (ht : (pc : Int) + off = (tgt : Int)) (kt : x ≤ y → V D M f Q tgt l st μ) (kf : ¬ x ≤ y → V D M f Q (pc + 3) l st μ) : V D M f Q pc l (.int y :: .int x :: st) μ := by
  by_cases h : x ≤ y
  · exact V.go (kt h) fun _ _ _ _ _ _ _ _ _ _ _ _ _ _ _ _ C hl k => lv_icmp_le C.1 C.2.1 d ht (fun _ => k) (fun h' => absurd h (by simpa using h'))
  · exact V.go (kf (by simpa using h)) fun _ _ _ _ _ _ _ _ _ _ _ _ _ _ _ _ C hl k => lv_icmp_le C.1 C.2.1 d ht (fun h' => absurd h' h) (fun _ => k)
theorem V_tableOut {dflt lo hi : Int} {offs : Array Int} {len : Nat} {x : Int32} {tgt : Nat} (d : decode (mC M) pc = .ok (.tableswitch dflt lo hi offs, len)) (h : x.toInt < lo ∨ hi < x.toInt) (ht : (pc : Int) + dflt = (tgt : Int)) (k : V D M f Q tgt l st μ) : V D M f Q pc l (.int x :: st) μ :=
  V.go k fun _ _ _ _ _ _ _ _ _ _ _ _ _ _ _ _ C hl k => lv_tableOut C.1 C.2.1 d h ht k
theorem V_tableIn {dflt lo hi : Int} {offs : Array Int} {len : Nat} {x : Int32} {off : Int} {tgt : Nat} (d : decode (mC M) pc = .ok (.tableswitch dflt lo hi offs, len)) (h1 : ¬ x.toInt < lo) (h2 : ¬ hi < x.toInt) (ho : offs[(x.toInt - lo).toNat]? = some off) (ht : (pc : Int) + off = (tgt : Int)) (k : V D M f Q tgt l st μ) : V D M f Q pc l (.int x :: st) μ :=
  V.go k fun _ _ _ _ _ _ _ _ _ _ _ _ _ _ _ _ C hl k => lv_tableIn C.1 C.2.1 d h1 h2 ho ht k
/-- a computed number on the stack gets a name -/
theorem V_topi {x : Int32} (k : ∀ y, y = x → V D M f Q pc l (.int y :: st) μ) : V D M f Q pc l (.int x :: st) μ := k x rfl
theorem V_topl {x : Int64} (k : ∀ y, y = x → V D M f Q pc l (.long y :: st) μ) : V D M f Q pc l (.long x :: st) μ := k x rfl
end VR
