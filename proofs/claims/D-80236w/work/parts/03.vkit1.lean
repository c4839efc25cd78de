/-! THE LIGHT WALK, 1: memory by planes, its cells in the heap, what holds at a point of a method's walk -/
/-- what a run fixes: class numbers and slots; array classes; the base (the heap's size at the law's start); the heap then; old addresses (0 SIZES, 1..3 the three Strings, 4..6 their bytes, 7 the script); the script's length and ints -/
abbrev DE : Type := va_G × (Nat → ClassId) × Nat × Heap × (Nat → Nat) × Nat × (Nat → Int32)
/-- memory: how many cells, how many slots; shapes (tag, length) by address; references by address and place; then ints, longs -/
abbrev Frm : Type := (Nat × Nat) × (Nat → Nat × Nat) × (Nat → Nat → Option Nat)
abbrev Mem : Type := Frm × (Nat → Nat → Int32) × (Nat → Nat → Int64)
def zn (μ : Mem) : Nat := μ.1.1.1
def zc (μ : Mem) : Nat := μ.1.1.2
def zs (μ : Mem) (a : Nat) : Nat × Nat := μ.1.2.1 a
def zr (μ : Mem) (a i : Nat) : Option Nat := μ.1.2.2 a i
def zi (μ : Mem) (a i : Nat) : Int32 := μ.2.1 a i
def zl (μ : Mem) (a i : Nat) : Int64 := μ.2.2 a i
def up2 {α : Type} (f : Nat → Nat → α) (a i : Nat) (x : α) : Nat → Nat → α := fun b j => if b = a then (if j = i then x else f b j) else f b j
def up1 {α : Type} (f : Nat → Nat → α) (a : Nat) (g : Nat → α) : Nat → Nat → α := fun b => if b = a then g else f b
def up0 {α : Type} (f : Nat → α) (a : Nat) (x : α) : Nat → α := fun b => if b = a then x else f b
def wi (μ : Mem) (a i : Nat) (x : Int32) : Mem := (μ.1, up2 μ.2.1 a i x, μ.2.2)
def wl (μ : Mem) (a i : Nat) (x : Int64) : Mem := (μ.1, μ.2.1, up2 μ.2.2 a i x)
def wr (μ : Mem) (a i : Nat) (x : Option Nat) : Mem := ((μ.1.1, μ.1.2.1, up2 μ.1.2.2 a i x), μ.2)
/-- a new cell of shape t, of n slots, with zeros -/
def wn (μ : Mem) (t : Nat × Nat) (n : Nat) : Mem := (((zn μ + 1, zc μ + n), up0 μ.1.2.1 (zn μ) t, up1 μ.1.2.2 (zn μ) (fun _ => none)), up1 μ.2.1 (zn μ) (fun _ => 0), up1 μ.2.2 (zn μ) (fun _ => 0))
abbrev dG (D : DE) : va_G := D.1
abbrev dA (D : DE) : Nat → ClassId := D.2.1
abbrev dB (D : DE) : Nat := D.2.2.1
abbrev dH (D : DE) : Heap := D.2.2.2.1
abbrev dO (D : DE) : Nat → Nat := D.2.2.2.2.1
abbrev dL (D : DE) : Nat := D.2.2.2.2.2.1
abbrev dX (D : DE) : Nat → Int32 := D.2.2.2.2.2.2
abbrev k_A (D : DE) : Nat → Prop := fun q => dB D ≤ q
def ad (D : DE) (a : Nat) : Nat := dB D + a
def rv (D : DE) (o : Option Nat) : Value := va_rf (o.map (ad D))
/-- the system's classes by number -/
abbrev k_cl : List vw_C := [(RX1, TX1, 14), (RX2, TX2, 11), (RX3, TX3, 5), (RX4, TX4, 6), (RX5, TX5, 3), (RX6, TX6, 2), (RX7, TX7, 23), (RX8, TX8, 83), (RX9, TX9, 9), (RX11, TX11, 5), (RX12, TX12, 5), (RX13, TX13, 5), (RX14, TX14, 3), (RX15, TX15, 2), (RX16, TX16, 4), (RX17, TX17, 5), (RX18, TX18, 3), (RX19, TX19, 5), (RJ3, TJ3, 0), (RJ4, TJ4, 0), (RJ11, TJ11, 0)]
abbrev k_ty (ci : Nat) : Nat → FieldType := match ci with
  | 0 => tyX1 | 1 => tyX2 | 2 => tyX3 | 3 => tyX4 | 4 => tyX5 | 5 => tyX6 | 6 => tyX7 | 7 => tyX8 | 8 => tyX9 | 9 => tyX11 | 10 => tyX12 | 11 => tyX13 | 12 => tyX14 | 13 => tyX15 | 14 => tyX16 | 15 => tyX17 | 16 => tyX18 | _ => tyX19
abbrev k_tys (D : DE) : List (ClassId × FieldType) := [(dA D 0, .int), (dA D 1, .byte), (dA D 2, .boolean), (dA D 3, .long), (dA D 4, .object RX9), (dA D 5, .object RX10), (dA D 6, .object RX6)]
/-- what kind of value a field of a type holds: 1 a long, 2 a reference, 0 a number of one word -/
def k_kd (t : FieldType) : Nat := match t with
  | .long => 1
  | .object _ => 2
  | .array _ => 2
  | _ => 0
def k_fv (D : DE) (μ : Mem) (a : Nat) (t : FieldType) (k : Nat) : Value := match k_kd t with
  | 0 => .int (zi μ a k)
  | 1 => .long (zl μ a k)
  | _ => rv D (zr μ a k)
def k_nf (ci : Nat) : Nat := (k_cl.getD ci (RJ3, TJ3, 0)).2.2
def k_fs (D : DE) (μ : Mem) (a ci : Nat) : List Value := (List.range (k_nf ci)).map (fun k => k_fv D μ a (k_ty ci k) k)
/-- the cell at an address: tags 0 int, 1 byte, 2 boolean, 3 long arrays; 4..6 arrays of references; 10 + ci an object; 99 none -/
def k_ent (D : DE) (μ : Mem) (a : Nat) : va_E :=
  if (zs μ a).1 < 3 then .inl (dA D (zs μ a).1, (zs μ a).2, .inl (zi μ a))
  else if (zs μ a).1 = 3 then .inl (dA D 3, (zs μ a).2, .inr (.inl (zl μ a)))
  else if (zs μ a).1 < 10 then .inl (dA D (zs μ a).1, (zs μ a).2, .inr (.inr (.inr (.inr (fun i => (zr μ a i).map (ad D))))))
  else .inr ((zs μ a).1 - 10, k_fs D μ a ((zs μ a).1 - 10))
def k_Rep (D : DE) (μ : Mem) (H : Heap) : Prop := H.size = dB D + zn μ ∧ (∀ q, q < dB D → H[q]? = (dH D)[q]?) ∧ (∀ a, zn μ ≤ a → (zs μ a).1 = 99) ∧ ∀ a, a < zn μ → va_at (dG D) k_cl (ad D a, k_ent D μ a) H
/-- words of the tables that don't ride in lw_all, as they are carried -/
def k_nwOK : Cond → Bool
  | .fieldLinkNest .. => true
  | .methodLinkNest .. => true
  | .castable .. => true
  | .declares .. => true
  | _ => false
def k_slen : List Nat := [37, 10, 7]
def k_sbyt : List (List Int32) := [[110, 117, 109, 32, 105, 102, 32, 116, 104, 101, 110, 32, 101, 108, 115, 101, 32, 108, 101, 116, 32, 105, 110, 32, 99, 97, 115, 101, 32, 111, 102, 32, 102, 97, 105, 108, 32], [40, 41, 44, 59, 58, 61, 43, 45, 42, 60], [97, 32, 102, 97, 117, 108, 116]]
def k_sizes (j : Nat) : Int32 := [2, 5, 11, 11, 26].getD j 0
def k_tN : String := "java/lang/Throwable"
def k_isRef (v : Value) : Prop := v = .null ∨ ∃ a, v = .ref a
/-- a static of a reference type, in a cell that was there before -/
def k_LS (C n d : String) (D : DE) (U : State) : Prop := ∃ (c : ClassId) (k : Class) (i : Nat) (f : Field) (a : Nat) (cell : Cell), U.vm.findClass C = some c ∧ U.fieldFound? C n d = some (c, k, i, f) ∧ f.isStatic = true ∧ k.statics = some a ∧ (dH D)[a]? = some cell ∧ a < dB D ∧ cell.vm.isStatics = true ∧ cell.cls = c ∧ f.slot < cell.slots.size ∧ k.staticTypes[f.slot]? = some f.type ∧ ∃ v, k_isRef v ∧ cell.slots[f.slot]? = some v
theorem k_LS.moved {C n d : String} {D : DE} {u U : State} (hvm : u.vm.Alike U.vm) (h : k_LS C n d D u) : k_LS C n d D U := by
  obtain ⟨c, k, i, f, a, cell, h1, h2, h3, h4, h5, h6, h7, h8, h9, h10, h11⟩ := h
  obtain ⟨k', hi', he⟩ := State.fieldFound?_setVm hvm h2
  exact ⟨c, k', i, f, a, cell, by rw [hvm.findClass]; exact h1, hi', h3, by rw [he]; exact h4, h5, h6, h7, h8, h9, by rw [he]; exact h10, h11⟩
theorem k_LS.lays {C n d : String} {D : DE} {s : State} {args : Array Value} (hH : ∀ q, q < dB D → s.heap[q]? = (dH D)[q]?) (h : k_LS C n d D s) : (Cond.laysStatic C n d).before args s = true := by
  obtain ⟨c, k, i, f, a, cell, h1, h2, h3, h4, h5, h6, h7, h8, h9, h10, h11⟩ := h
  have e : s.heap[a]? = some cell := by rw [hH a h6]; exact h5
  simp [Cond.before, Cond.holds, Cond.value, h1, h2, h3, h4, e, h7, h8, h9, h10]
theorem k_LS.isRef {C n d : String} {D : DE} {s : State} {args : Array Value} (hH : ∀ q, q < dB D → s.heap[q]? = (dH D)[q]?) (h : k_LS C n d D s) : (Cond.isRef (.static C n d)).before args s = true := by
  obtain ⟨c, k, i, f, a, cell, h1, h2, h3, h4, h5, h6, h7, h8, h9, h10, v, hv, h11⟩ := h
  have e : s.heap[a]? = some cell := by rw [hH a h6]; exact h5
  rcases hv with rfl | ⟨z, rfl⟩ <;> simp [Cond.before, Cond.holds, Cond.value, Term.eval, State.fieldNamed?, h2, h3, h4, e, h7, h11]
/-- the value of a static reference: 0 null, k + 1 the object at k -/
def k_sio (D : DE) : Value := match dO D 8 with
  | 0 => .null
  | k + 1 => .ref k
/-- what holds of cells that were there before the law began -/
def k_Ext (D : DE) (U : State) : Prop := dB D = (dH D).size ∧
  va_Z "StrictProofs" "SIZES" "[I" (.ref (dO D 0)) (k_A D) U (dH D) ∧ va_T .int (dO D 0) 5 (fun j => .int (k_sizes j)) (k_A D) U (dH D) ∧
  vk_S 3 k_slen k_sbyt (fun i => dO D (1 + i)) (fun i => dO D (4 + i)) (k_A D) U (dH D) ∧
  vk_R "StrictProofs$Text" 81 "num if then else let in case of fail " (dO D 1) U ∧ vk_R "StrictProofs$Text" 68 "(),;:=+-*<" (dO D 2) U ∧ vk_R "StrictProofs$Text" 31 "a fault" (dO D 3) U ∧
  va_Z "java/lang/String" "COMPACT_STRINGS" "Z" (.int 1) (k_A D) U (dH D) ∧
  k_LS k_tN "UNASSIGNED_STACK" "[Ljava/lang/StackTraceElement;" D U ∧ k_LS k_tN "SUPPRESSED_SENTINEL" "Ljava/util/List;" D U ∧
  va_X (dO D 7) (dL D) (dX D) U (dH D) ∧ dO D 7 < dB D ∧
  va_Nc RJ3 RJ4 U ∧ va_Nc RJ3 RJ11 U ∧ va_Nc RJ4 RJ3 U ∧ va_Nc RJ4 RJ11 U ∧ va_Nc RJ11 RJ3 U ∧ va_Nc RJ11 RJ4 U ∧
  va_Z "jdk/internal/util/Preconditions" "SIOOBE_FORMATTER" "Ljava/util/function/BiFunction;" (k_sio D) (k_A D) U (dH D)
theorem k_Ext.moved {D : DE} {u U : State} (hvm : u.vm.Alike U.vm) (hR : ∀ own k tx a, vk_R own k tx a u → vk_R own k tx a U) (h : k_Ext D u) : k_Ext D U := by
  obtain ⟨h0, h1, h2, h3, h4, h5, h6, h7, h8, h9, h10, h11, n1, n2, n3, n4, n5, n6, n7⟩ := h
  exact ⟨h0, h1.moved hvm, h2.moved hvm, h3.moved hvm, hR _ _ _ _ h4, hR _ _ _ _ h5, hR _ _ _ _ h6, h7.moved hvm, h8.moved hvm, h9.moved hvm, h10.moved hvm, h11, n1.moved hvm, n2.moved hvm, n3.moved hvm, n4.moved hvm, n5.moved hvm, n6.moved hvm, n7.moved hvm⟩
def k_Env (D : DE) (U : State) : Prop := va_K (dG D) k_cl (k_tys D) U ∧ (∀ w ∈ lw_tbl, k_nwOK w = true → va_Nw w U) ∧ va_AO RX9 U ∧ va_AO RX10 U ∧ va_AO RX6 U ∧ k_Ext D U
theorem k_Env.warm {D : DE} {s U : State} (hW : s.WarmedH U.vm) (h : k_Env D s) : k_Env D U := by
  obtain ⟨h1, h2, h3, h4, h5, h6⟩ := h
  refine ⟨va_K.moved hW.alike h1, fun w hw hk => ?_, va_AO.moved hW.alike h3, va_AO.moved hW.alike h4, va_AO.moved hW.alike h5, h6.moved hW.alike (fun _ _ _ _ z => vk_R.warm hW z)⟩
  have h := h2 w hw hk
  cases w <;> first | (simp [k_nwOK] at hk; done) | exact va_Nw.warmF hW h | exact va_Nw.warmM hW h | exact va_Nw.warmC hW h | exact va_Nw.warmD hW h
theorem k_Env.same {D : DE} {s U : State} (hv : s.vm = U.vm) (h : k_Env D s) : k_Env D U := by
  obtain ⟨h1, h2, h3, h4, h5, h6⟩ := h
  have ha : s.vm.Alike U.vm := by rw [hv]; exact Vm.Alike.refl _
  refine ⟨va_K.moved ha h1, fun w hw hk => ?_, va_AO.moved ha h3, va_AO.moved ha h4, va_AO.moved ha h5, h6.moved ha (fun _ _ _ _ z => vk_R.same hv.symm z)⟩
  have h := h2 w hw hk
  cases w <;> first | (simp [k_nwOK] at hk; done) | exact va_Nw.same rfl hv h
