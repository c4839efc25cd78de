/-! THE CLAIM OUT OF ONE WALK OF THE LAW (the end of kit/laws/SKELETON.whole, turned by gen/mkend.py: the launch's flags are passed on, the walk is V) -/
set_option maxRecDepth 100000
def R_law : String := "StrictProofsLaw"
def lw_P (b : Addr) (xs : List Int32) (args : Array Value) (s : State) : Prop := args = #[.ref b] ∧ s.IntsAt b xs ∧ xs.length ≤ 384 ∧ (Jvm.Cond.and given_1 narrow_1).before args s = true
def lw_Q (_ : Array Value) (s : State) (o : Outcome) (t : State) : Prop := o = .returned (some (.int 1)) ∧ Framed s o t [] 600384 7288810
def lw_Z (below : List Frame) (a : Array Value) (s : State) : State → Prop := fun t => ∃ o, t.status = .running ∧ Ended t below o ∧ lw_Q a s o t
/-- the law's own end, with 1 on the stack, nothing written that was there before, its room as the claim has it -/
theorem lw_ret {p : Program} {l : Launch} {e : Env} {s : State} {m : MethodId} {below : List Frame} {meth : Method} {c : Code} {b : Nat} (hx : p.tables.exec = Jvm.exec) (hb : c.code = code) (hr : meth.sig.returnType = ret) (hlocks : meth.locks = false) {pc : Nat} {H : Heap} {ls : Array Slot} (hdg : decode code pc = .ok (.ireturn, 1)) : W p l e room_1 s m #[Value.ref b] below meth c H [] 600384 7288810 (lw_Z below #[Value.ref b] s) (F0 m pc ls [.int 1]) := by
  intro T hT X
  obtain ⟨fs, hret, hrun, hended, hW, hframe⟩ := X.leave (v := some (.int 1)) (hlocks := hlocks) (fun h => by rw [hr] at h; cases h)
  have hmeth' : T.vm.method? m = some meth := X.method'
  refine ⟨T.setFrames fs, ?_, .returned (some (.int 1)), hrun, hended, rfl, ⟨_, rfl⟩, hW, hframe⟩
  jvm_step X.here [X.here.top, hx, hb, hdg, hmeth', hr, ret, narrow_b1]
  (try refine ⟨rfl, ?_⟩); (try refine ⟨rfl, ?_⟩)
  first | (intro acts; rw [hret _ acts rfl rfl rfl]) | rw [hret _ _ rfl rfl rfl]
  exact Steps.refl _
/-- what holds at the law's entry: the machine, the code, the tables' words (any of lw_tbl by 'hts w (by decide +kernel)'), the script of L ints xs at the cell b, what the Statement gives of the start (any of its parts by flat_of_before) -/
def lw_At (p : Program) (s : State) (m : MethodId) (meth : Method) (c : Code) (b L : Nat) (xs : Nat → Int32) : Prop :=
  p.tables.exec = Jvm.exec ∧ c.code = code ∧ meth.sig.returnType = ret ∧ c.maxLocals = 7 ∧ s.vm.findClass R_law = some m.cls ∧ (∀ w ∈ lw_tbl, w.before #[Value.ref b] s = true) ∧ va_X b L xs s s.heap ∧ b < s.heap.size ∧ meth.locks = false ∧ (Jvm.Cond.and given_1 narrow_1).before #[Value.ref b] s = true
def lawQ : Int32 → Frm → HI → HL → Prop := fun z F _ _ => z = 1 ∧ F.1.1 ≤ 600384 ∧ F.1.2 ≤ 7288810
def lawT : Nat → Frm → HI → HL → Prop := fun _ _ _ _ => False
/-- what is asked of the law's walk: from its loop's head on, with all that the constructors made -/
def law_ask (D : DE) : Prop := V D mL_law 2048 (gi lawQ lawT) 23 [(0, .ref (dO D 7)), (1, .ref (ad D 0)), (2, .ref (ad D 115)), (3, .ref (ad D 159)), (4, .int 0)] [] cEnd
theorem law_pre {D : DE} (H : law_ask D) : V D mL_law 2048 (gi lawQ lawT) 0 [(0, .ref (dO D 7))] [] (cM 0 0 0 0) := by
  refine G_new ck0 (by decide) k_df0 q114 q115 q81 dL_law_0 (fun F1 h1 g1 e1 e2 e3 => ?_)
  obtain rfl : F1 = cF 1 0 14 := e1.trans (cF_new 0 0 0 14 (t := (10, 0)) rfl (by decide +kernel))
  obtain rfl : h1 = cH 0 := e2.trans (cH_new 0 0 (by decide +kernel))
  obtain rfl : g1 = cG := e3.trans (cG_new 0)
  refine V_dup dL_law_3 rfl ?_
  refine C_call (av := [.ref (ad D 0)]) (rest := [.ref (ad D 0)]) (ctX1_init (f := 2044)) mqX1_init q81 (by decide) (Nat.le_of_ble_eq_true rfl) (k_resI (av := []) (rest := [.ref (ad D 0)]) rfl q116 q117 q118 mhX1_init mnX1_init dL_law_4) ?_
  refine V_astore_n (l1 := [(1, .ref (ad D 0)), (0, .ref (dO D 7))]) dL_law_7 rfl (by decide) rfl ?_
  refine G_new ck7 (by decide) k_df7 q1452 q1453 q88 dL_law_8 (fun F1 h1 g1 e1 e2 e3 => ?_)
  obtain rfl : F1 = cF 116 117 44434 := e1.trans (cF_new 115 117 44351 83 (t := (17, 0)) rfl (by decide +kernel))
  obtain rfl : h1 = cH 1 := e2.trans (cH_new 1 115 (by decide +kernel))
  obtain rfl : g1 = cG := e3.trans (cG_new 115)
  refine V_dup dL_law_11 rfl ?_
  refine C_call (av := [.ref (ad D 115)]) (rest := [.ref (ad D 115)]) (ctX8_init (f := 2046)) mqX8_init q88 (by decide) (Nat.le_of_ble_eq_true rfl) (k_resI (av := []) (rest := [.ref (ad D 115)]) rfl q1454 q1455 q1456 mhX8_init mnX8_init dL_law_12) ?_
  refine V_astore_n (l1 := [(2, .ref (ad D 115)), (1, .ref (ad D 0)), (0, .ref (dO D 7))]) dL_law_15 rfl (by decide) rfl ?_
  refine V_iconst (v := 1) dL_law_16 (by decide) ?_
  refine G_newa (t := 3) (N := 1) rfl (by decide) rfl (fun _ h => h) q1708 (by decide) (by decide) (by decide) rfl dL_law_17 (fun F1 h1 g1 e1 e2 e3 => ?_)
  obtain rfl : F1 = cF 160 160 129077 := e1.trans (cF_new 159 160 129076 1 (t := (3, 1)) rfl (by decide +kernel))
  obtain rfl : h1 = cH 3 := e2.trans (cH_new 3 159 (by decide +kernel))
  obtain rfl : g1 = cG := e3.trans (cG_new 159)
  refine V_astore_n (l1 := [(3, .ref (ad D 159)), (2, .ref (ad D 115)), (1, .ref (ad D 0)), (0, .ref (dO D 7))]) dL_law_19 rfl (by decide) rfl ?_
  refine V_iconst (v := 0) dL_law_20 (by decide) ?_
  refine V_istore (l1 := [(4, .int 0), (3, .ref (ad D 159)), (2, .ref (ad D 115)), (1, .ref (ad D 0)), (0, .ref (dO D 7))]) dL_law_21 (by decide) rfl ?_
  exact V.sub [4, 3, 2, 1, 0] rfl H
theorem whole_start {p : Program} {e : Env} {s : State} {m : MethodId} {below : List Frame} {meth : Method} {c : Code} (l : Launch) (hlf : l.flags = flags0) (hV : ∀ D : DE, dL D ≤ 384 → law_ask D) {b L : Nat} {xs : Nat → Int32} (hL : L ≤ 384) (C0 : lw_At p s m meth c b L xs) (htab : c.exceptionTable.toList = []) (hname : meth.name = x.name) : W p l e room_1 s m #[Value.ref b] below meth c s.heap [] 0 0 (lw_Z below #[Value.ref b] s) (entryFrame m ([Value.ref b] : List Value).toArray 7) := by
  obtain ⟨c1, c2, c3, c4, c5, hts, hX, hbl, hlk, hgv⟩ := C0
  obtain ⟨D, eB, eH, e7, eL, -, hE⟩ := k_start hts hX hbl hgv
  have hall : ∀ w ∈ lw_all, w.before #[Value.ref b] s = true := fun w hw => hts w (List.mem_filter.mp hw).1
  obtain ⟨o, μ', hq, -, -, hw⟩ := law_pre (hV D (by rw [eL]; exact hL))
  have hend : o = .inl (some (.int 1)) ∧ zn μ' ≤ 600384 ∧ zc μ' ≤ 7288810 := by
    rcases hq with ⟨z, F1, h1, g1, e1, e2, -, e3, e4, e5⟩ | ⟨a, e, F1, h1, g1, -, -, -, -, hf⟩
    · subst e1 e2 e3
      exact ⟨rfl, e4, e5⟩
    · exact hf.elim
  obtain ⟨rfl, hn, hc⟩ := hend
  have hC : k_Cx D mL_law 2048 p l room_1 s m #[Value.ref b] meth c :=
    ⟨c1, c2, c3, c4, c5, hall, hE, hlk, by rw [htab]; rfl, hname, Nat.le_refl _, by decide, hlf, by rw [eB]; exact Nat.le_refl _, fun q _ => by rw [eH], fun q hq cell hcell => absurd (Array.getElem?_eq_some_iff.mp hcell).1 (by rw [eB] at hq; omega)⟩
  have hPt : k_Pt D (cM 0 0 0 0) μ' room_1 s s.heap [] 0 0 := by
    refine ⟨⟨by rw [eB]; rfl, fun q _ => by rw [eH], fun a _ => by show ((fx_sh.take 0).getD a (99, 0)).1 = 99; rfl, fun a ha => absurd ha (Nat.not_lt_zero _)⟩, va_S.rf, 0, by rw [eB]; rfl, rfl, ?_, ?_⟩
    · rw [eB]
      exact Nat.add_le_add_left hn _
    · rw [Nat.zero_add]
      exact hc
  have hl := lv_entry [Value.ref b] (n := 7) (Nat.le_of_ble_eq_true rfl)
  have hW := hw p l e room_1 s m #[Value.ref b] below meth c s.heap [] 0 0 _ hC hPt (by rw [e7]; exact hl)
  rw [← lg_entry_eq] at hW
  refine W.mono hW (fun t ht => ?_)
  obtain ⟨b1, b2, -, b4, Lc, b5, b6⟩ := ht
  exact ⟨_, b1, b2, rfl, ⟨_, rfl⟩, b4, State.sameButNew.drop_fresh (L := []) (J := Lc) b5 (fun q hq => by rw [← eB]; exact b6 q hq)⟩

set_option maxHeartbeats 4000000 in
theorem lw_walk (l : Launch) (hlf : l.flags = flags0) (hV : ∀ D : DE, dL D ≤ 384 → law_ask D) (b : Addr) (xs : List Int32) : MetFree l x (headSpec (Jvm.Cond.code x code maxLocals ret :: tables_1) room_1) (lw_P b xs) (fun _ _ _ _ _ => True) lw_Q := by
  refine MetFree.of_bodyS (code := code) (maxLocals := maxLocals) (ret := ret) (by decide) ?_ ?_
  · intro args s m h hn
    obtain ⟨meth, c, h1, h2, h3, h4, h5, h6, -, -⟩ := Cond.code_spec hn (atoms_spec (ws := Jvm.Cond.code x code maxLocals ret :: tables_1) h _ List.mem_cons_self)
    exact ⟨meth, c, h1, h2, h3, h4, h5, h6⟩
  · intro p e s m args below meth c s₁ B hml0 hP _
    obtain ⟨rfl, hx, hbd, hgv⟩ := hP
    obtain ⟨scr, harrAt, hlist, hof, hsmall⟩ := hx
    obtain ⟨hcb, hkn, -, -⟩ := State.arrayAt?_spec harrAt
    have hown : s.vm.findClass R_law = some m.cls := findClass_of_methodNamed B.named
    have hts0 : ∀ c ∈ (Jvm.Cond.code x code maxLocals ret :: tables_1), c.before #[Value.ref b] s = true := atoms_spec (ws := Jvm.Cond.code x code maxLocals ret :: tables_1) B.pre
    have hts : ∀ w ∈ lw_tbl, w.before #[Value.ref b] s = true := k2_hts_sels lw_privs (fun w hw => hts0 w (List.mem_cons_of_mem _ hw)) lw_privs_ok
    have hml : c.maxLocals = 7 := B.maxLocals_eq (hts0 _ List.mem_cons_self)
    obtain ⟨meth', c', hm', hc', -, -, -, -, hemp, -⟩ := Cond.code_spec B.named (hts0 _ List.mem_cons_self)
    have htab : c.exceptionTable.toList = [] := by
      cases (Stand.of_body B).method.symm.trans hm'
      cases (Stand.of_body B).code.symm.trans hc'
      simpa using hemp
    have hname : meth.name = x.name := (name_of_methodNamed B.named B.method).1
    have X₀ : Stand p l e room_1 s m #[Value.ref b] below meth c s₁ [] 0 0 := Stand.of_body B
    have hh0 : s₁.heap = s.heap := by rw [B.state]; rfl
    have hsz : scr.slots.size = xs.length := by rw [← Array.length_toList, hlist, List.length_map]
    have hval : ∀ j : Nat, j < xs.length → scr.slots[j]? = some (.int (xs.getD j 0)) := fun j hj => by
      rw [← Array.getElem?_toList, hlist]
      simp [hj]
    have hbl : b < s.heap.size := (Array.getElem?_eq_some_iff.mp hcb).1
    have hX : va_X b xs.length (fun j => xs.getD j 0) s s.heap := ⟨scr, hcb, hof, hkn, hsz, hval⟩
    have K : W p l e room_1 s m #[Value.ref b] below meth c s₁.heap [] 0 0 (lw_Z below #[Value.ref b] s) (entryFrame m ([Value.ref b] : List Value).toArray 7) := by
      rw [hh0]
      exact whole_start l hlf hV hbd ⟨B.exec, B.bytes, B.returns, hml, hown, hts, hX, hbl, B.notSynchronized, hgv⟩ htab hname
    obtain ⟨t, a1, o, b1, b2, b3⟩ := K s₁ rfl X₀
    exact ⟨t, o, a1, b1, b2, b3⟩
theorem lw_pre_spec {args : Array Value} {s : State} (h : (Jvm.Cond.and given_1 narrow_1).before args s = true) (hr : rest_1_c.before args s = true) : ∃ (b : Addr) (xs : List Int32), lw_P b xs args s := by
  have hs := flat_of_before _ h
  have hq := flat_of_before _ hr
  have hc : (Cond.count 1).before args s = true := hs _ (by decide +kernel)
  have harr : (Cond.arrayOf (.arg 0) .int).before args s = true := hs _ (by decide +kernel)
  have hle : (Cond.le (.length (.arg 0)) (.int 384)).before args s = true := hs _ (by decide +kernel)
  have hlen : (Cond.isInt (.length (.arg 0))).before args s = true := hq _ (by decide +kernel)
  have hall : (Cond.all (.arg 0) (.isInt (.elem (.arg 0) (.index 0)))).before args s = true := hq _ (by decide +kernel)
  obtain ⟨b, xs, hb, hx⟩ := State.ints_of_pre rfl harr hlen hall
  have hsm : xs.length < 2 ^ 31 := hx.choose_spec.2.2.2
  have hev : (Term.length (.arg 0)).eval args s none [] s = some (.int xs.length.toInt32) := hx.length_eval hb
  have hv := Cond.le_ints hev (show (Term.int 384).eval args s none [] s = some (.int 384) from rfl)
  have hd : xs.length.toInt32 ≤ 384 := by
    simpa [Cond.before, Cond.holds, hv] using hle
  have hN : xs.length ≤ 384 := (Int32.ofNat_le_ofNat hsm (by decide)).mp (show Int32.ofNat xs.length ≤ Int32.ofNat 384 from hd)
  exact ⟨b, xs, Cond.one_arg hc (show args[0]? = some (.ref b) from hb), hx, hN, h⟩
theorem lw_comes (l : Launch) (hlf : l.flags = flags0) (hV : ∀ D : DE, dL D ≤ 384 → law_ask D) : Comes l x (Jvm.Cond.code x code maxLocals ret :: tables_1) room_1 (fun tb e args s => Calls_1 tb e args s ∧ rest_1 tb e args s ∧ Pre_1 tb e args s)
    (fun _ _ args s o t => lw_Q args s o t) := by
  intro p e ha hc hk s m args below hf hfit hheap happ hpre
  obtain ⟨b, xs, hP⟩ := lw_pre_spec hpre.2.2 hpre.2.1
  obtain ⟨k, o, h1, h2, h3, hQ⟩ := lw_walk l hlf hV b xs p e ha hc hk s m args below hf ((Spec.applies_iff_loose hf).mp happ).1 hP trivial
  exact ⟨k, o, h1, h2, h3, hQ⟩
theorem lw_frame {s t : State} {o : Outcome} {args : Array Value} (h : Framed s o t [] 600384 7288810) :
    Framed s o t (fieldLocs frame_1_writes args s ++ arrayLocs frame_1_arrays args s ++ staticLocs frame_1_statics s) 600384 7288810 := h
theorem lw_limb (hV : ∀ D : DE, dL D ≤ 384 → law_ask D) (L : Cond) (hL : ∀ (args : Array Value) (s t : State), L.after args s (.returned (some (.int 1))) t = true) :
    ArmFor flags0 classFile x code maxLocals ret World_1 tables_1 room_1 Calls_1 rest_1 Pre_1
      (fun tb e a s o t => postC L tb e a s o t ∧ Framed s o t (fieldLocs frame_1_writes a s ++ arrayLocs frame_1_arrays a s ++ staticLocs frame_1_statics s) 600384 7288810) := by
  intro l w1 w2 w3 p e ha hc hk s m args below hf hfit hheap happ hpre
  obtain ⟨k, o, h1, h2, h3, rfl, hF⟩ := lw_comes l (by assumption) hV p e ha hc hk s m args below hf hfit hheap happ hpre
  exact ⟨k, _, h1, h2, h3, hL args s _, lw_frame hF⟩
theorem i_vc_of (hV : ∀ D : DE, dL D ≤ 384 → law_ask D) : Claimed_1_1 ∧ Claimed_1_2 := ⟨lw_limb hV limb_1_1 (fun args s t => by simp [limb_1_1, Cond.after, Cond.holds, Cond.value]), lw_limb hV limb_1_2 (fun args s t => Cond.after_iff.mpr (by
  first | (rw [show limb_1_2 = Cond.eq .result (.int 1) from rfl, Cond.eq_ints (x := 1) (y := 1) rfl rfl]; simp; done) | (simp [limb_1_2, Cond.value, Term.eval]; done)))⟩

