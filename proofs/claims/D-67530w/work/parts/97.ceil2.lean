/-! MATH.CEIL in a walk -/
set_option maxRecDepth 100000
theorem ovr {tb : Tables} {e : Env} {s : State} {f : JFrame} {k : Class} {y : Method} {row : NativeRow} (hpc : f.pc = 0) (hk : s.vm.classes[f.method.cls]? = some k) (hin : k.name ∈ overriddenIn) (hb : k.loader = none) (hx : k.methods[f.method.idx]? = some y) (hr : NativeRow.find? tb.natives k.name y.name y.desc = some row) : overridden tb e s f = some row := by
  unfold overridden
  simp [hpc, hk, hb, hx, hr]
  exact fun z => absurd hin z
theorem step_back {tb : Tables} {e : Env} {s : State} {f : NFrame} {rest : List Frame} {k : Class} {y : Method} {row : NativeRow} {o : Outcome} (hf : s.frames = .native f :: rest) (hk : s.vm.classes[f.method.cls]? = some k) (hb : k.loader = none) (hx : k.methods[f.method.idx]? = some y) (hr : NativeRow.find? tb.natives k.name y.name y.desc = some row) (ha : f.answer = some o) : stepThread tb e s = afterNative e f rest ((row.resume f.stage f.saved o).run e s) := by
  unfold stepThread
  simp only [hf, hk, hx, hr, ha, hb, Option.bind_eq_bind, Option.bind_some, Option.pure_def, Option.isNone_none, if_true]
theorem sb_setF (s : State) (F : List Frame) : (s.setFrames F).me.stackBytes = s.me.stackBytes := by
  unfold State.me State.setFrames
  simp only [Array.getElem?_modify]
  cases s.threads[s.cur]? <;> simp
/-- room above the entry's own frame -/
theorem room_nat {s : State} {pl : Platform} {m : MethodId} {a : Array Value} {nf : NFrame} {g : JFrame} {r : List Frame} {F L C Sl : Nat} (hcur : s.cur < s.threads.size) (hw : nf.words ≤ 1024) (h : (s.setFrames (.invoking m a :: .java g :: r)).hasRoom pl { frames := F + 1, locals := L + 1024, cells := C, slots := Sl } = true) : (s.setFrames (.invoking m a :: .native nf :: .java g :: r)).hasRoom pl { frames := F, locals := L, cells := C, slots := Sl } = true := by
  have w1 : Frame.weight (.native nf) = 1024 := by show max nf.words vmFrameWords = 1024; unfold vmFrameWords; omega
  have w2 : (s.setFrames (.invoking m a :: .native nf :: .java g :: r)).vm = (s.setFrames (.invoking m a :: .java g :: r)).vm := rfl
  simp only [State.hasRoom, Bool.and_eq_true, decide_eq_true_eq, State.frames_setFrames _ hcur, State.stackLimits_setFrames, sb_setF, State.localsInUse, stackWeight, List.map_cons, List.sum_cons, List.length_cons, w1] at h ⊢
  obtain ⟨⟨⟨⟨a0, a1, a2, a3, a4, a5⟩, b1⟩, c1⟩, d1⟩ := h
  refine ⟨⟨⟨⟨?_, by omega, by omega, ?_, ?_, a5⟩, b1⟩, c1⟩, d1⟩ <;> rw [w2] <;> omega
/-- the entry's frame, before its callee answers and behind -/
abbrev nfr (m : MethodId) (b : UInt64) (o : Option Outcome) : NFrame := { method := m, args := #[.double b], stage := 1, saved := #[], awaiting := o.isNone, answer := o, words := 0 }
theorem ceil_walk {l : Launch} {ws : List Cond} {rm : Room} {Pc : Array Value → State → Prop} {Qc : Array Value → State → Outcome → State → Prop} {mc ms : Nat} {free : Addr → Prop} (hM : Met l yJ21_ceil ws rm Pc Qc mc ms free) (p : Program) {e : Env} (hadm : l.admits e) (hcas : FairCas e.choices) (hclk : FairClock e.choices) {below : List Frame} {s : State} {g : JFrame} {c : Code} (h : At s g.method c below)
    {m : MethodId} {meth : Method} {k : Class} {cm : Code} {b : UInt64} (hk : s.vm.classes[m.cls]? = some k) (hx : k.methods[m.idx]? = some meth) (hb : k.loader = none) (hkn : k.name = "java/lang/Math") (hmn : meth.name = "ceil") (hmd : meth.desc = "(D)D") (hsig : parseMethodDescriptor "(D)D" = some meth.sig) (hc : meth.code = some cm) (hml : cm.maxLocals = 2) (hl : meth.locks = false)
    (hfull : e.platform.stackFull (((s.setTop g).threads[(s.setTop g).cur]?).getD { frames := [] }) (s.setTop g).frames cm.maxLocals = false)
    {cS : ClassId} {kS : Class} {i : Nat} (hfS : s.vm.findClass "java/lang/StrictMath" = some cS) (hkS : s.vm.classes[cS]? = some kS) (hiS : kS.init = .initialized) (hmS : kS.findMethod "ceil" "(D)D" = some i)
    (happ : (headSpec ws rm).appliesLoose yJ21_ceil e.platform ((s.setFrames (.native (nfr m b none) :: .java g :: s.frames.tail)).pushFrame (.invoking ⟨cS, i⟩ #[.double b])) = true)
    (hP : Pc #[.double b] ((s.setFrames (.native (nfr m b none) :: .java g :: s.frames.tail)).pushFrame (.invoking ⟨cS, i⟩ #[.double b])))
    (hQ : ∀ st o t, Qc #[.double b] st o t → ∃ r, o = .returned (some (.double r)) ∧ vf_n64 r) {ig : Instr} {len : Nat} (hdg : decode c.code g.pc = .ok (ig, len)) :
    ∃ (r : UInt64) (s2 : State) (L : List Loc), FrameEnd ((s.setFrames (.native (nfr m b none) :: .java g :: s.frames.tail)).pushFrame (.invoking ⟨cS, i⟩ #[.double b])) (.returned (some (.double r))) s2 L mc ms ∧ (∀ q ∈ L, free q.base) ∧ Qc #[.double b] ((s.setFrames (.native (nfr m b none) :: .java g :: s.frames.tail)).pushFrame (.invoking ⟨cS, i⟩ #[.double b])) (.returned (some (.double r))) s2 ∧
      Steps p.tables e below (doInvoke e (s.setTop g) [] m #[.double b]).1 (s2.setFrames (.java { g with pc := g.pc + len, stack := .double r :: g.stack } :: s.frames.tail)) := by
  obtain ⟨g0, hg⟩ := Option.isSome_iff_exists.mp h.top
  obtain ⟨r, hr⟩ := State.topJava?_eq_some.mp hg
  obtain ⟨mid, hmid⟩ := h.above
  have hcur : s.cur < s.threads.size := State.cur_lt_of_frames hr
  have hm : s.vm.method? m = some meth := by simp [Vm.method?, hk, hx]
  have htop : s.setTop g = s.setFrames (.java g :: r) := State.setTop_of_frames _ hr
  have htail : s.frames.tail = r := by rw [hr]; rfl
  rw [htail] at happ hP hmid ⊢
  rw [(doInvoke_java (s := s.setTop g) (e := e) (acts := []) (args := #[.double b]) (meth := meth) (code := cm) hm hc hl hfull).1, hml]
  have hU : (s.setTop g).pushFrame (.java { method := m, pc := 0, locals := argsToLocals #[.double b] 2, stack := [], locked := none }) = s.setFrames (.java (entryFrame m #[.double b] 2) :: .java g :: r) := by
    rw [State.pushFrame, State.frames_setTop _ hr, htop, State.setFrames_setFrames]
    rfl
  rw [hU]
  have hf1 : (s.setFrames (.java (entryFrame m #[.double b] 2) :: .java g :: r)).frames = .java (entryFrame m #[.double b] 2) :: .java g :: r := State.frames_setFrames _ hcur
  have hov : overridden p.tables e (s.setFrames (.java (entryFrame m #[.double b] 2) :: .java g :: r)) (entryFrame m #[.double b] 2) = some crow := ovr (k := k) (y := meth) rfl hk (by rw [hkn]; decide) hb hx (by rw [hkn, hmn, hmd]; exact crow_in p)
  have hb2 : ∀ F : List Frame, ((s.setFrames F).vm.classes[m.cls]?.bind fun y => y.methods[m.idx]?) = some meth := fun F => by
    show (s.vm.classes[m.cls]?.bind fun y => y.methods[m.idx]?) = some meth
    simp [hk, hx]
  have hb3 : (s.vm.classes[m.cls]?.bind fun y => y.methods[m.idx]?) = some meth := by simp [hk, hx]
  have hpar : meth.sig.parameters.length = 1 := by
    have h2 : parseMethodDescriptor "(D)D" = some { parameters := [.double], returnType := some .double } := by decide +kernel
    rw [h2] at hsig
    rw [← Option.some.inj hsig]
    rfl
  have htk : ∀ n : Nat, List.take (1 + n) [Value.double b] = [Value.double b] := fun n => List.take_of_length_le (Nat.le_add_right 1 n)
  obtain ⟨acts2, hr2⟩ := crow_goes b e (s.setFrames (.native { method := m, args := #[.double b] } :: .java g :: r)) (cS := cS) (kS := kS) (i := i) hfS hkS hiS hmS
  have hw3 : ((s.vm.classes[m.cls]?).bind fun k => Option.map (fun n => upcallWords k.name n.name) k.methods[m.idx]?).getD 0 = 0 := by simp [hk, hx, hkn, hmn, upcallWords]
  have hw4 : ∀ F : List Frame, (((s.setFrames F).vm.classes[m.cls]?).bind fun k => (k.methods[m.idx]?).map fun n => upcallWords k.name n.name).getD 0 = 0 := fun F => hw3
  have hst : (stepThread p.tables e (s.setFrames (.java (entryFrame m #[.double b] 2) :: .java g :: r))).1 = (doInvoke e (s.setFrames (.native (nfr m b none) :: .java g :: r)) acts2 ⟨cS, i⟩ #[.double b]).1 := by
    unfold stepThread
    simp only [hf1, hov]
    simp [entryFrame, argsToLocals, Value.category, argCount, hb2, hb3, hpar, htk, hr2, afterNative, hw4, hw3, State.setFrames_setFrames, nfr]
  have hfN : (s.setFrames (.native (nfr m b none) :: .java g :: r)).frames = (.native (nfr m b none) :: .java g :: mid) ++ below := by rw [State.frames_setFrames _ hcur, hmid]; rfl
  obtain ⟨o, s2, hsteps, hrun2, hend, hq, L, hfe, hL⟩ := Steps.callFree hM p hadm hcas hclk (s := s.setFrames (.native (nfr m b none) :: .java g :: r)) (m := ⟨cS, i⟩) (args := #[.double b]) (acts := acts2) hfN happ hP trivial
  obtain ⟨rr, rfl, hn⟩ := hQ _ _ _ hq
  rw [State.frames_setFrames _ hcur] at hend
  replace hend : s2.frames = .native (nfr m b (some (.returned (some (.double rr))))) :: .java g :: r := hend
  refine ⟨rr, s2, L, hfe, hL, hq, ?_⟩
  refine Steps.head ⟨h.running, by simpa using h.runnable, by simpa using h.alone⟩ ⟨.java (entryFrame m #[.double b] 2) :: .java g :: mid, by rw [hf1, hmid]; rfl, by simp, by simp⟩ ?_
  rw [hst]
  refine hsteps.trans ?_
  obtain ⟨-, hW2, e2, -⟩ := id hfe
  have hal : s.vm.Alike s2.vm := hW2.alike
  obtain ⟨k', hk', ek⟩ := hal.2.2 _ _ hk
  obtain ⟨acts3, hr3⟩ := crow_ends hn e s2
  have hcode2 : s2.code? g.method = some c := by
    have h1 : s2.code? g.method = s.code? g.method := by rw [State.code?_eq, State.code?_eq, hal.method?]
    rw [h1]; exact h.code
  have hfs : handOver s2 (some (.double rr)) (.java g :: r) = some (.java { g with pc := g.pc + len, stack := .double rr :: g.stack } :: r) := by
    simp [handOver, hcode2, hdg, Except.toOption]
  have hs4 : (stepThread p.tables e s2).1 = s2.setFrames (.java { g with pc := g.pc + len, stack := .double rr :: g.stack } :: r) := by
    rw [step_back (f := nfr m b (some (.returned (some (.double rr))))) (k := k') (y := meth) (row := crow) (o := .returned (some (.double rr))) hend hk' (by rw [ek]; exact hb) (by rw [ek]; exact hx) (by rw [show k'.name = "java/lang/Math" by rw [ek]; exact hkn, hmn, hmd]; exact crow_in p) rfl]
    show (afterNative e _ _ ((crow.resume 1 #[] (.returned (some (.double rr)))).run e s2)).1 = _
    rw [hr3]
    exact doReturn_native (f := nfr m b (some (.returned (some (.double rr))))) hend rfl hfs
  have hcs : s2.curStatus? = some .runnable := by
    have h1 : s2.curStatus? = ({ s2 with vm := ((s.setFrames (.native (nfr m b none) :: .java g :: r)).pushFrame (.invoking ⟨cS, i⟩ #[.double b])).vm } : State).curStatus? := rfl
    rw [h1, e2]
    show (((s.setFrames (.native (nfr m b none) :: .java g :: r)).pushFrame (.invoking ⟨cS, i⟩ #[.double b])).setFrames _).curStatus? = _
    simpa [State.pushFrame] using h.runnable
  have hal2 : s2.alone = true := by
    have h1 : s2.alone = ({ s2 with vm := ((s.setFrames (.native (nfr m b none) :: .java g :: r)).pushFrame (.invoking ⟨cS, i⟩ #[.double b])).vm } : State).alone := rfl
    rw [h1, e2]
    show (((s.setFrames (.native (nfr m b none) :: .java g :: r)).pushFrame (.invoking ⟨cS, i⟩ #[.double b])).setFrames _).alone = _
    simpa [State.pushFrame] using h.alone
  refine Steps.head ⟨hrun2, hcs, hal2⟩ ⟨.native (nfr m b (some (.returned (some (.double rr))))) :: .java g :: mid, by rw [hend, hmid]; rfl, by simp, by simp⟩ ?_
  rw [hs4]
  exact Steps.refl _
theorem back_ceil {E : Gx} {h : Hp} {x0 : UInt64} {K : UInt64 → Hp → Prop} {R : Room} {p : Program} {e : Env} {below : List Frame} {s : State} {sargs : Array Value} (hts : ∀ w ∈ lw_all, w.before sargs s = true) (ct : Ct E yJ21_ceil cJ21_ceil 2 (Option.some Jvm.ClassFile.FieldType.double) 4 [vD x0] h (pD K)) (hK : ∀ r h', K r h' → vf_n64 r) (hfr : 7 ≤ R.frames) (hlo : 1400 ≤ R.locals) :
    Back E.2.2.2.1 R p e below s sargs yJ10_ceil 3 8 (PreOf R (679679 - nc h) (7063211 - ns h) (va_Pc [Value.double x0] (fun U => World E h U))) (PostOf (QcP E h (pD K)) (679679 - nc h) (7063211 - ns h) (oldA E)) := by
  intro m meth c A g ig mk a X hg hsize hdg hW hnamed ⟨hc, hs, ha, hWd⟩
  subst ha
  obtain ⟨U, Ls, c0, s0⟩ := A
  dsimp only [Pt.U, Pt.locs, Pt.cells, Pt.slots] at hc hs hWd X hnamed ⊢
  have tbl := pay_in hts (lw_meth q875)
  have hcodeU : (Cond.code yJ10_ceil cJ10_ceil 2 (Option.some Jvm.ClassFile.FieldType.double)).before #[.double x0] U = true := pay_in hts (lw_meth q872) _ List.mem_cons_self _ U X.warmed
  have hCS : (Cond.code yJ21_ceil cJ21_ceil 2 (Option.some Jvm.ClassFile.FieldType.double)).before #[.double x0] U = true := tbl _ List.mem_cons_self _ U X.warmed
  have hiniS : (Cond.initialized "java/lang/StrictMath").before #[.double x0] U = true := word_at X.warmed (Or.inl (by first | rfl | simp [Cond.onTables, Cond.keeps, Cond.steady])) (hts _ q35)
  obtain ⟨methM, cM, hmethM, hcodeM, -, hlocM, -, hlocksM, -, hsigM⟩ := Cond.code_spec hnamed hcodeU
  obtain ⟨kP, hkP, hkname⟩ := className_of_methodNamed hnamed
  obtain ⟨hmnM, hmdM⟩ := name_of_methodNamed hnamed hmethM
  have hxP : kP.methods[mk.idx]? = some methM := by simpa [Vm.method?, hkP] using hmethM
  have hbootP : kP.loader = none := Vm.bootOf_findClass (findClass_of_methodNamed hnamed) hkP
  obtain ⟨mS, hnS⟩ := Cond.code_named hCS
  obtain ⟨methS, cSd, hmethS, hcodeS, -, hlocS, -, -, -, -⟩ := Cond.code_spec hnS hCS
  obtain ⟨kS, hkS, -⟩ := className_of_methodNamed hnS
  have hfS : U.vm.findClass "java/lang/StrictMath" = some mS.cls := findClass_of_methodNamed hnS
  have hiS : kS.init = .initialized := Cond.initialized_spec hfS hkS hiniS
  have hmS : kS.findMethod "ceil" "(D)D" = some mS.idx := by
    have h := hnS
    simp only [State.methodNamed?, Option.bind_eq_bind, Option.pure_def] at h
    rw [show yJ21_ceil.cls = "java/lang/StrictMath" from rfl, hfS] at h
    simp only [Option.bind_some, hkS] at h
    cases hfm : kS.findMethod yJ21_ceil.name yJ21_ceil.desc with
    | none => rw [hfm] at h; cases h
    | some j => rw [hfm] at h; simp at h; rw [← h]; exact hfm
  have hA : At U g.method c below := by rw [hg]; exact X.here
  obtain ⟨g0, hg0⟩ := Option.isSome_iff_exists.mp hA.top
  obtain ⟨r, hr⟩ := State.topJava?_eq_some.mp hg0
  have hcur : U.cur < U.threads.size := State.cur_lt_of_frames hr
  have htail : U.frames.tail = r := by rw [hr]; rfl
  have eF : (U.setFrames (.native (nfr mk x0 none) :: .java g :: U.frames.tail)).pushFrame (.invoking ⟨mS.cls, mS.idx⟩ #[.double x0]) = U.setFrames (.invoking mS #[.double x0] :: .native (nfr mk x0 none) :: .java g :: r) := by
    rw [State.pushFrame, State.frames_setFrames _ hcur, State.setFrames_setFrames, htail]
  have hroomS : (U.calling g mS #[.double x0]).hasRoom e.platform { frames := 4 + 1, locals := 60 * 4 + 1024, cells := 679679 - nc h, slots := 7063211 - ns h } = true :=
    X.room_calling hsize hmethS hcodeS (R' := { frames := 4 + 1, locals := 60 * 4 + 1024, cells := 679679 - nc h, slots := 7063211 - ns h }) (by show 4 + 1 + 1 ≤ R.frames; omega) (by rw [hlocS]; show _ + (2 + 11) + (60 * 4 + 1024) ≤ R.locals; omega) hc hs
  rw [State.calling_eq hA.top, htail] at hroomS
  have happ : (headSpec (ws_ yJ21_ceil cJ21_ceil 2 (Option.some Jvm.ClassFile.FieldType.double)) (rmL 4 h)).appliesLoose yJ21_ceil e.platform ((U.setFrames (.native (nfr mk x0 none) :: .java g :: U.frames.tail)).pushFrame (.invoking ⟨mS.cls, mS.idx⟩ #[.double x0])) = true := by
    rw [eF]
    refine (Spec.appliesLoose_iff (State.frames_setFrames _ hcur)).mpr ⟨hA.running, by simpa using hA.runnable, by simpa using hA.alone, hnS, rfl, State.classRipe_of (s := U.setFrames _) hkS hiS, room_nat (F := 4) (L := 60 * 4) (C := 679679 - nc h) (Sl := 7063211 - ns h) hcur (Nat.zero_le _) hroomS, ?_⟩
    exact atoms_intro (fun w hw => tbl w hw _ _ X.warmed)
  obtain ⟨rr, s2, L, hfe, hL, hq, hsteps⟩ := ceil_walk ct p X.admits X.cas X.clock (below := below) (g := g) (c := c) hA hkP hxP hbootP hkname hmnM hmdM hsigM hcodeM hlocM hlocksM (X.notFull hsize (by omega) (by rw [hlocM]; omega)) hfS hkS hiS hmS happ ⟨rfl, (fun t ht => by rw [List.mem_singleton.mp ht]; exact trivial), hWd⟩ (fun st o t q => by
    obtain ⟨v, h', ev, ⟨r', er, hk⟩, -⟩ := q
    subst er
    exact ⟨r', ev, hK _ _ hk⟩) hdg
  obtain ⟨-, hW2, e2, q2, q3, q4, q5, q6⟩ := id hfe
  have hW' : U.WarmedH s2.vm := hW2
  have e3 : s2 = ({ U.setFrames s2.frames with heap := s2.heap, slotsUsed := s2.slotsUsed } : State).setVm s2.vm := by
    have h1 : s2 = ({ s2 with vm := ((U.setFrames (.native (nfr mk x0 none) :: .java g :: U.frames.tail)).pushFrame (.invoking ⟨mS.cls, mS.idx⟩ #[.double x0])).vm } : State).setVm s2.vm := rfl
    rw [e2, eF, State.setFrames_setFrames] at h1
    exact h1
  have hs2 : s2.setFrames (.java { g with pc := g.pc + 3, stack := .double rr :: g.stack } :: U.frames.tail) = (({ U with heap := s2.heap, slotsUsed := s2.slotsUsed } : State).setVm s2.vm).setTop { g with pc := g.pc + 3, stack := .double rr :: g.stack } := by
    have hr' : (({ U with heap := s2.heap, slotsUsed := s2.slotsUsed } : State).setVm s2.vm).frames = .java g0 :: r := hr
    rw [State.setTop_of_frames _ hr', htail]
    conv => lhs; rw [e3]
    show ({ (U.setFrames s2.frames).setFrames _ with heap := s2.heap, slotsUsed := s2.slotsUsed } : State).setVm s2.vm = _
    rw [State.setFrames_setFrames]; rfl
  have hsame : U.sameButNew ({ U with heap := s2.heap, slotsUsed := s2.slotsUsed } : State) L (679679 - nc h) (7063211 - ns h) := by
    refine ⟨?_, q2, q3, q4, q5, q6⟩
    obtain ⟨t, ht, -⟩ := State.frames_cons hr
    show ({ U with heap := s2.heap, slotsUsed := s2.slotsUsed } : State) = { U.setFrames U.frames with heap := s2.heap, slotsUsed := s2.slotsUsed }
    rw [State.setFrames_self ht]
  subst hg
  refine ⟨some (.double rr), ⟨({ U with heap := s2.heap, slotsUsed := s2.slotsUsed } : State).setVm s2.vm, Ls ++ L, c0 + (679679 - nc h), s0 + (7063211 - ns h)⟩, ⟨X.admits, X.cas, X.clock, X.frames, X.room, X.hears, X.method, X.code, (X.here.setHeapUsed s2.heap s2.slotsUsed).setVm hW'.alike, X.tail, State.WarmedH.trans X.warmed hW', X.limits, X.bytes, X.same.trans (hsame.setVm s.vm)⟩, ⟨g, mk, s2, L, rfl, rfl, hq, rfl, hL, rfl, rfl⟩, ?_⟩
  show Steps p.tables e below _ ((({ U with heap := s2.heap, slotsUsed := s2.slotsUsed } : State).setVm s2.vm).setTop { g with pc := g.pc + 3, stack := .double rr :: g.stack })
  rw [← hs2]
  exact hsteps
def wp_J10_ceil (h : Hp) (x0 : UInt64) (K : UInt64 → Hp → Prop) : Prop := wp_J21_ceil h x0 (fun r h' => vf_n64 r ∧ K r h')
section CEIL
variable {X : Fx} {cc : ByteArray} {own : String} {nL lev : Nat} {h : Hp} {pc : Nat} {lv : List (Option TV)} {st : List TV}
/-- Math.ceil -/
theorem g_ceil {idx : Nat} {x0 : UInt64} {K : UInt64 → Hp → Prop} (n : Nat) (hn : pc + 3 = n) (C : Cx X cc own nL lev) (hd : decode cc pc = .ok (.invokestatic idx, 3)) (q1 : Cond.methodLink own idx yJ10_ceil ∈ lw_all) (hlev : 25 ≤ lev) (h8 : cat8 st ≤ 8) (w : wp_J10_ceil h x0 K) (k : ∀ r h', K r h' → Ex h h' → Gd X h' n lv (vD r :: st)) : Gd X h pc lv (vD x0 :: st) := by
  obtain ⟨E, h0, p, e, R, s, m, args, below, meth, c, Q⟩ := X
  obtain ⟨hx, hb, hml, ho, hts, hlk, hG, hwm, hfr, hlo, hrc, hrs, hsz, hss⟩ := C
  subst hn
  intro H locs ls hV hLo hl hE hT hS
  refine run_on (n := pc + 3) (post := pD (fun r h' => vf_n64 r ∧ K r h')) (a := #[Value.double x0]) ?_ hsz hss hLo hl hE hT hS.t (fun v h' pv ex ty => ?_)
  · have hK := back_ceil (R := R) (p := p) (e := e) (below := below) hts (ct_J21_ceil hG w) (fun r h' q => q.1) (by omega) (by omega)
    obtain ⟨r1, r2⟩ := rooms hV hE hrc hrs
    intro T hT0 XX
    obtain ⟨v, vm1, ⟨U', l2, c2, s2⟩, hW1, X', ⟨g', mk, t, L, e1, e2, hq, h1, hL, h2, h3⟩, stp⟩ := callS XX hx (bytes := cJ10_ceil) (maxL := 2) (ret := Option.some Jvm.ClassFile.FieldType.double) ho (hts _ q1) (hts _ q871) (hts _ q23) (hts _ q872) (by decide) hK (g := F0 m pc ls (tv (vD x0) :: st.map tv)) rfl hl.1 (argsL := [Value.double x0]) (rest := st.map tv) (fun sig hq => by
        have h2 : parseMethodDescriptor yJ10_ceil.desc = some { parameters := [.double], returnType := some .double } := by decide +kernel
        rw [h2] at hq
        rw [← Option.some.inj hq]
        rfl) rfl (lv_room (by rw [cat8_ok]; exact h8)) (by rw [hb]; exact hd) (fun vm1 hW1 => ⟨r1, r2, rfl, hwm.trans hW1, by show VH E h T.heap; rw [hT0]; exact hV⟩)
    dsimp only [Pt.U, Pt.locs, Pt.cells, Pt.slots] at X' e1 e2 h1 h2 h3 stp
    subst h1; subst h2; subst h3
    exact ⟨v, (T.setVm vm1).calling g' mk #[Value.double x0], t, U', L, hT0, X', hL, e1, e2, hq, stp⟩
  · obtain ⟨r, rfl, hr⟩ := pv
    exact k r h' hr.2 ex
end CEIL
