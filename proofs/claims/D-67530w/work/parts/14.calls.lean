/-! CALL ROWS over Gd -/
section CLR
variable {X : Fx} {cc : ByteArray} {own : String} {nL lev : Nat} {h : Hp} {pc : Nat} {lv : List (Option TV)} {st : List TV}
variable {p : Program} {e : Env} {R : Room} {s : State} {m : MethodId} {args : Array Value} {below : List Frame} {meth : Method} {c : Code} {Q : State → Prop} {E : Gx} {h0 : Hp}
/-- behind a call -/
theorem run_on {H : Heap} {locs : List Loc} {ls : Array Slot} {a : Array Value} {post : Option TV → Hp → Prop} {n : Nat} {g0 : JFrame}
    (hr : ∀ T : State, T.heap = H → Stand p E.2.2.2.1 e R s m args below meth c T locs (nc h - nc h0) (ns h - ns h0) → ∃ (v : Option Value) (st₀ t T' : State) (L : List Loc), st₀.heap = H ∧ Stand p E.2.2.2.1 e R s m args below meth c T' (locs ++ L) (nc h - nc h0 + (679679 - nc h)) (ns h - ns h0 + (7063211 - ns h)) ∧ (∀ q ∈ L, oldA E q.base) ∧ T'.heap = t.heap ∧ T'.vm = t.vm ∧ QcP E h post a st₀ (.returned v) t ∧ Goes p e below T g0 T' (F0 m n ls (v.toList ++ st.map tv)))
    (hsz : s.heap.size = E.1.heap.size + nc h0) (hss : hs s.heap E.1.heap.size = ns h0)
    (hLo : ∀ q ∈ locs, E.1.heap.size ≤ q.base) (hl : LVok ls c.maxLocals lv) (hE : Ex h0 h) (hT : TL h lv) (hS : TS h st)
    (k : ∀ v h', post v h' → Ex h h' → (∀ t, v = some t → TyOK h' t) → Gd (E, h0, p, e, R, s, m, args, below, meth, c, Q) h' n lv (v.toList ++ st)) :
    W p E.2.2.2.1 e R s m args below meth c H locs (nc h - nc h0) (ns h - ns h0) Q g0 := by
  intro T hT0 XX
  obtain ⟨v, st₀, t, T', L, e0, X', hL, e1, e2, ⟨v', h', ev, hp, hEx, hTy, hal', hV'⟩, stp⟩ := hr T hT0 XX
  have ev : v = v'.map tv := by injection ev
  subst ev
  obtain ⟨X'', -, -⟩ := stand_shrink (n1 := nc h') (k1 := ns h') X' hsz (by rw [e1]; exact hV'.2.2.2.2.2.1) hss (by rw [e1]; exact hV'.2.2.2.2.2.2.1)
  have hst : TS h' (v'.toList ++ st) := by
    intro u hu
    rcases List.mem_append.mp hu with hu | hu
    · cases v' with
      | none => cases hu
      | some w => rw [List.mem_singleton.mp hu]; exact hTy w rfl
    · exact (hS u hu).ext hEx
  have kk := k v' h' hp hEx hTy T'.heap (locs ++ L) ls (by rw [e1]; exact hV') (fun q hq => by
    rcases List.mem_append.mp hq with hq | hq
    · exact hLo q hq
    · exact hL q hq) hl (hE.trans hEx) (hT.ext hEx) hst
  obtain ⟨t2, a1, b1⟩ := kk T' rfl X''
  refine ⟨t2, stp t2 ?_, b1⟩
  have : ((v'.map tv).toList ++ st.map tv) = (v'.toList ++ st).map tv := by cases v' <;> simp
  rw [this]
  exact a1
theorem blind_W {As : List TV} : FrameBlind (va_Pc (As.map tv) (fun U => TS h As ∧ World E h U)) := fun a U g mk q => q
theorem TS.rev {As : List TV} (k : TS h (As.reverse ++ st)) : TS h As ∧ TS h st := ⟨fun t ht => k t (List.mem_append_left _ (List.mem_reverse.mpr ht)), fun t ht => k t (List.mem_append_right _ ht)⟩
theorem rooms {H : Heap} (hV : VH E h H) (hE : Ex h0 h) (hrc : R.cells = 679679 - nc h0) (hrs : R.slots = 7063211 - ns h0) : nc h - nc h0 + (679679 - nc h) ≤ R.cells ∧ ns h - ns h0 + (7063211 - ns h) ≤ R.slots := by
  have h1 := hV.2.2.2.2.2.2.2.1
  have h2 := hV.2.2.2.2.2.2.2.2
  have h3 := hE.2
  omega
/-- a name that may be called -/
abbrev okN (x : MethodName) (n : Nat) : Prop := x.cls ≠ "java/lang/invoke/MethodHandle" ∧ x.cls ≠ "java/lang/invoke/VarHandle" ∧ (parseMethodDescriptor x.desc).map (fun d => d.parameters.length) = some n
def cat8 (st : List TV) : Nat := (st.map fun t => if t2 t then 2 else 1).sum
theorem cat8_ok (st : List TV) : ((st.map tv).map fun v => v.category).sum = cat8 st := by
  unfold cat8
  rw [List.map_map]
  congr 1
  apply List.map_congr_left
  intro t _
  exact tv_cat t
theorem lvl {n lev' maxL : Nat} (hlev : lev' + 1 ≤ lev) (hm : maxL ≤ 41) (hfr : lev ≤ R.frames) (hlo : 60 * lev ≤ R.locals) : (rmL lev' h).frames + 1 ≤ R.frames ∧ 8 + (maxL + 11) + (rmL lev' h).locals ≤ R.locals := by
  show lev' + 1 ≤ _ ∧ 8 + (maxL + 11) + 60 * lev' ≤ _
  omega
/-- a static call -/
theorem g_callS {y : MethodName} {b : ByteArray} {mL lev' idx : Nat} {rt : Option FieldType} {As : List TV} {post : Option TV → Hp → Prop} {st0 : List TV} (n : Nat) (hn : pc + 3 = n) (C : Cx X cc own nL lev) (hd : decode cc pc = .ok (.invokestatic idx, 3)) (q1 : Cond.methodLink own idx y ∈ lw_all) (q2 : Cond.static y ∈ lw_all) (q3 : Cond.initialized y.cls ∈ lw_all) (q4 : Cond.code y b mL rt ∈ lw_all) (hN : okN y As.length) (hlev : lev' + 1 ≤ lev) (hmL : mL ≤ 41) (h8 : cat8 st ≤ 8) (hst : st0 = As.reverse ++ st)
    (ct : Ct X.1 y b mL rt lev' As h post) (k : ∀ v h', post v h' → Ex h h' → (∀ t, v = some t → TyOK h' t) → Gd X h' n lv (v.toList ++ st)) : Gd X h pc lv st0 := by
  obtain ⟨E, h0, p, e, R, s, m, args, below, meth, c, Q⟩ := X
  obtain ⟨hx, hb, hml, ho, hts, hlk, hG, hwm, hfr, hlo, hrc, hrs, hsz, hss⟩ := C
  have hal := hwm.alike
  subst hn; subst hst
  intro H locs ls hV hLo hl hE hT hS
  obtain ⟨hA, hS⟩ := hS.rev
  refine run_on (post := post) (a := (As.map tv).toArray) ?_ hsz hss hLo hl hE hT hS k
  exact va_runS (As := As.map tv) (rest := st.map tv) (Ts := lw_all) ⟨hx, hb, hml, ho, hts⟩ ct (va_cwS As.length hts (lw_S q1 q2 q3 q4) rfl rfl rfl hN (lvl (n := 0) hlev hmL hfr hlo)) ⟨blind_W, fun U hU hW => ⟨rfl, hA, hwm.trans hW, by rw [hU]; exact hV⟩⟩ rfl (by simp) (by rw [← hml]; exact hl.1) (by simp [F0]) (lv_room (by rw [cat8_ok]; exact h8)) hd (rooms hV hE hrc hrs)
/-- a constructor's call -/
theorem g_callI {y : MethodName} {b : ByteArray} {mL lev' idx r : Nat} {T : List Nat} {o : Option Nat} {As : List TV} {post : Option TV → Hp → Prop} {st0 : List TV} (n : Nat) (hn : pc + 3 = n) (C : Cx X cc own nL lev) (hd : decode cc pc = .ok (.invokespecial idx, 3)) (q1 : Cond.methodLink own idx y ∈ lw_all) (q2 : Cond.instanceMethod y ∈ lw_all) (q3 : Cond.initialized y.cls ∈ lw_all) (q4 : Cond.code y b mL none ∈ lw_all) (hi : y.name = "<init>") (hN : okN y As.length) (hlev : lev' + 1 ≤ lev) (hmL : mL ≤ 41) (h8 : cat8 st ≤ 8) (ho : o = some r) (hst : st0 = As.reverse ++ vR T o :: st)
    (ct : Ct X.1 y b mL none lev' (vR T o :: As) h post) (k : ∀ v h', post v h' → Ex h h' → (∀ t, v = some t → TyOK h' t) → Gd X h' n lv (v.toList ++ st)) : Gd X h pc lv st0 := by
  obtain ⟨E, h0, p, e, R, s, m, args, below, meth, c, Q⟩ := X
  obtain ⟨hx, hb, hml, how, hts, hlk, hG, hwm, hfr, hlo, hrc, hrs, hsz, hss⟩ := C
  have hal := hwm.alike
  subst hn; subst hst; subst ho
  intro H locs ls hV hLo hl hE hT hS
  obtain ⟨hA, hS⟩ := hS.rev
  refine run_on (post := post) (a := ((vR T (some r) :: As).map tv).toArray) ?_ hsz hss hLo hl hE hT hS.t k
  refine va_runI (b := r) (As := As.map tv) (rest := st.map tv) (Ts := lw_all) (n := As.length) ⟨hx, hb, hml, how, hts⟩ ct ⟨callB_of As.length hts (lw_meth q4) rfl rfl rfl (hts _ q3) (hts _ q1) hN (lvl (n := 0) hlev hmL hfr hlo), hi, hts _ q2⟩ ⟨blind_W, fun U hU hW => ⟨rfl, TS.c hS.h hA, hwm.trans hW, by rw [hU]; exact hV⟩⟩ rfl (by simp) (by rw [← hml]; exact hl.1) (by simp [F0, tv, va_rf]) (lv_room (by rw [cat8_ok]; exact h8)) hd (rooms hV hE hrc hrs)
/-- a nest mate's private constructor -/
theorem rcvK {H : Heap} {r : Nat} {Cn : String} (hG : Glob E) (hal : E.1.vm.Alike s.vm) (hV : VH E h H) (hk : kOb (kd h r) = true ∧ cN (kd h r) = Cn) : ∃ cell : Cell, H[r]? = some cell ∧ cell.vm.isStatics = false ∧ s.vm.findClass Cn = some cell.cls := by
  obtain ⟨h1, h2⟩ := hk
  rw [← h2]
  exact rcv_of hG hal hV h1
theorem atK {r : Nat} {Cn : String} (hG : Glob E) (hal : E.1.vm.Alike s.vm) (hk : kOb (kd h r) = true ∧ cN (kd h r) = Cn) : ClassAt s Cn (E.2.1 (kd h r)) := by
  obtain ⟨h1, h2⟩ := hk
  rw [← h2]
  exact classAt_moved hal (hG.2.1 _ h1)
theorem tC {T : List Nat} {Cn : String} {K : Nat} (hT : (T.all fun K => kOb K && decide (cN K = Cn)) = true) (hk : K ∈ T) : kOb K = true ∧ cN K = Cn := by
  have := inL hk hT
  simpa only [Bool.and_eq_true, decide_eq_true_eq] using this
theorem kC {K K' : Nat} {Cn : String} (hK : (kOb K && decide (cN K = Cn)) = true) (hk : K' = K) : kOb K' = true ∧ cN K' = Cn := by
  subst hk
  simpa only [Bool.and_eq_true, decide_eq_true_eq] using hK
theorem Cx.glob (C : Cx X cc own nL lev) : Glob X.1 := by
  obtain ⟨E, h0, p, e, R, s, m, args, below, meth, c, Q⟩ := X
  exact C.2.2.2.2.2.2.1
/-- a call through an object of the kind K, of a method of its own class -/
theorem g_callV {y : MethodName} {b : ByteArray} {mL lev' idx r : Nat} {rt : Option FieldType} {T : List Nat} {o : Option Nat} {As : List TV} {post : Option TV → Hp → Prop} {st0 : List TV} (Cn : String) (n : Nat) (hn : pc + 3 = n) (C : Cx X cc own nL lev) (hd : decode cc pc = .ok (.invokevirtual idx, 3)) (q1 : Cond.methodLink own idx y ∈ lw_all) (q2 : Cond.instanceMethod y ∈ lw_all) (q3 : Cond.selects Cn y y ∈ lw_all) (q4 : Cond.initialized Cn ∈ lw_all) (q5 : Cond.code y b mL rt ∈ lw_all) (hy : y.cls = Cn) (hN : okN y As.length) (hlev : lev' + 1 ≤ lev) (hmL : mL ≤ 41) (h8 : cat8 st ≤ 8) (ho : o = some r) (hk : kd h r ∈ T → kOb (kd h r) = true ∧ cN (kd h r) = Cn) (hst : st0 = As.reverse ++ vR T o :: st)
    (ct : Ct X.1 y b mL rt lev' (vR T o :: As) h post) (k : ∀ v h', post v h' → Ex h h' → (∀ t, v = some t → TyOK h' t) → Gd X h' n lv (v.toList ++ st)) : Gd X h pc lv st0 := by
  obtain ⟨E, h0, p, e, R, s, m, args, below, meth, c, Q⟩ := X
  obtain ⟨hx, hb, hml, how, hts, hlk, hG, hwm, hfr, hlo, hrc, hrs, hsz, hss⟩ := C
  have hal := hwm.alike
  subst hn; subst hst; subst ho
  intro H locs ls hV hLo hl hE hT hS
  obtain ⟨hA, hS⟩ := hS.rev
  refine run_on (post := post) (a := ((vR T (some r) :: As).map tv).toArray) ?_ hsz hss hLo hl hE hT hS.t k
  exact va_runV (C := Cn) (b := r) (As := As.map tv) (rest := st.map tv) (Ts := lw_all) ⟨hx, hb, hml, how, hts⟩ ct (cwV As.length hts (lw_V q1 q2 q3 q4 q5) rfl rfl rfl ⟨hy, hN⟩ (lvl (n := 0) hlev hmL hfr hlo)) ⟨blind_W, rcvK hG hal hV (hk hS.h.1), fun U hU hW => ⟨rfl, TS.c hS.h hA, hwm.trans hW, by rw [hU]; exact hV⟩⟩ rfl (by simp) (by rw [← hml]; exact hl.1) (by simp [F0, tv, va_rf]) (lv_room (by rw [cat8_ok]; exact h8)) hd (rooms hV hE hrc hrs)
/-- where the named method is declared: it has code, or the tables say so -/
def Dc (x : MethodName) : Prop := (Cond.instanceMethod x ∈ lw_all ∧ ∃ b mL r, Cond.code x b mL r ∈ lw_all) ∨ Cond.declares x ∈ lw_tbl
theorem Dc.ok {x : MethodName} (k : Dc x) (hG : Glob E) (hal : E.1.vm.Alike s.vm) (hts : ∀ w ∈ lw_all, w.before args s = true) : va_Decl s x := by
  rcases k with ⟨h1, b, mL, r, h2⟩ | h1
  · exact va_Decl.of (hts _ h1) (hts _ h2)
  · have hz : va_Nw (.declares x) E.1 := va_Nw.of rfl (hG.1 _ h1)
    exact va_Decl.abs (va_tabs rfl (rfl : (E.1.setVm s.vm).vm = s.vm) (by rw [Cond.declares_setVm hal]; exact hz))
/-- a call through an object of the kind K: x is named, found in 'owner', y is run -/
theorem g_callU {x y : MethodName} {owner : String} {b : ByteArray} {mL lev' idx r : Nat} {rt : Option FieldType} {T : List Nat} {o : Option Nat} {As : List TV} {post : Option TV → Hp → Prop} {st0 : List TV} (Cn : String) (n : Nat) (hn : pc + 3 = n) (C : Cx X cc own nL lev) (hd : decode cc pc = .ok (.invokevirtual idx, 3)) (q1 : Cond.methodLink own idx x ∈ lw_all) (q2 : Cond.sameMethod x.cls owner x.name x.desc ∈ lw_all) (qd : Dc ⟨owner, x.name, x.desc⟩) (q3 : Cond.selects Cn x y ∈ lw_all) (q4 : Cond.instanceMethod y ∈ lw_all) (q5 : Cond.initialized y.cls ∈ lw_all) (q6 : Cond.code y b mL rt ∈ lw_all) (hN : okN ⟨owner, x.name, x.desc⟩ As.length) (hlev : lev' + 1 ≤ lev) (hmL : mL ≤ 41) (h8 : cat8 st ≤ 8) (ho : o = some r) (hk : kd h r ∈ T → kOb (kd h r) = true ∧ cN (kd h r) = Cn) (hst : st0 = As.reverse ++ vR T o :: st)
    (ct : Ct X.1 y b mL rt lev' (vR T o :: As) h post) (k : ∀ v h', post v h' → Ex h h' → (∀ t, v = some t → TyOK h' t) → Gd X h' n lv (v.toList ++ st)) : Gd X h pc lv st0 := by
  obtain ⟨E, h0, p, e, R, s, m, args, below, meth, c, Q⟩ := X
  obtain ⟨hx, hb, hml, how, hts, hlk, hG, hwm, hfr, hlo, hrc, hrs, hsz, hss⟩ := C
  have hal := hwm.alike
  subst hn; subst hst; subst ho
  intro H locs ls hV hLo hl hE hT hS
  obtain ⟨hA, hS⟩ := hS.rev
  refine run_on (post := post) (a := ((vR T (some r) :: As).map tv).toArray) ?_ hsz hss hLo hl hE hT hS.t k
  obtain ⟨r1, r2⟩ := lvl (h := h) (n := 0) hlev hmL hfr hlo
  exact va_runU (C := Cn) (owner := owner) (x := x) (b := r) (bytes := b) (maxL := mL) (ret := rt) (n := As.length) (As := As.map tv) (rest := st.map tv) (Ts := lw_all) ⟨hx, hb, hml, how, hts⟩ ct
    ⟨⟨rfl, rfl, r1, r2, pay_in hts (lw_meth q6), List.mem_cons_self⟩, hts _ q6, hts _ q5, ⟨hN.1, hN.2.1⟩, fun sig hq => by have h2 := hN.2.2; rw [hq] at h2; exact (Option.some.inj h2).symm, hts _ q1, hts _ q2, qd.ok hG hal hts, hts _ q3, hts _ q4⟩
    ⟨blind_W, rcvK hG hal hV (hk hS.h.1), fun U hU hW => ⟨rfl, TS.c hS.h hA, hwm.trans hW, by rw [hU]; exact hV⟩⟩ rfl (by simp) (by rw [← hml]; exact hl.1) (by simp [F0, tv, va_rf]) (lv_room (by rw [cat8_ok]; exact h8)) hd (rooms hV hE hrc hrs)
/-- super.m(..) -/
theorem g_callSU {y : MethodName} {b : ByteArray} {mL lev' idx r : Nat} {rt : Option FieldType} {T : List Nat} {o : Option Nat} {As : List TV} {post : Option TV → Hp → Prop} {st0 : List TV} (Cn : String) (n : Nat) (hn : pc + 3 = n) (C : Cx X cc own nL lev) (hd : decode cc pc = .ok (.invokespecial idx, 3)) (q1 : Cond.methodLink own idx y ∈ lw_all) (q2 : Cond.sameMethod y.cls y.cls y.name y.desc ∈ lw_all) (q3 : Cond.superclass own y.cls ∈ lw_all) (q4 : Cond.instanceMethod y ∈ lw_all) (q5 : Cond.initialized y.cls ∈ lw_all) (q6 : Cond.code y b mL rt ∈ lw_all) (hi : y.name ≠ "<init>") (hN : okN y As.length) (hlev : lev' + 1 ≤ lev) (hmL : mL ≤ 41) (h8 : cat8 st ≤ 8) (ho : o = some r) (hk : kd h r ∈ T → kOb (kd h r) = true ∧ cN (kd h r) = Cn) (hst : st0 = As.reverse ++ vR T o :: st)
    (ct : Ct X.1 y b mL rt lev' (vR T o :: As) h post) (k : ∀ v h', post v h' → Ex h h' → (∀ t, v = some t → TyOK h' t) → Gd X h' n lv (v.toList ++ st)) : Gd X h pc lv st0 := by
  obtain ⟨E, h0, p, e, R, s, m, args, below, meth, c, Q⟩ := X
  obtain ⟨hx, hb, hml, how, hts, hlk, hG, hwm, hfr, hlo, hrc, hrs, hsz, hss⟩ := C
  have hal := hwm.alike
  subst hn; subst hst; subst ho
  intro H locs ls hV hLo hl hE hT hS
  obtain ⟨hA, hS⟩ := hS.rev
  refine run_on (post := post) (a := ((vR T (some r) :: As).map tv).toArray) ?_ hsz hss hLo hl hE hT hS.t k
  obtain ⟨r1, r2⟩ := lvl (h := h) (n := 0) hlev hmL hfr hlo
  exact va_runSU (atK hG hal (hk hS.h.1)) (b := r) (bytes := b) (maxL := mL) (ret := rt) (n := As.length) (As := As.map tv) (rest := st.map tv) (Ts := lw_all) ⟨hx, hb, hml, how, hts⟩ ct
    ⟨⟨rfl, rfl, r1, r2, pay_in hts (lw_meth q6), List.mem_cons_self⟩, hts _ q1, hts _ q2, hts _ q3, hts _ q4, hts _ q5, hts _ q6, hi, fun sig hq => by have h2 := hN.2.2; rw [hq] at h2; exact (Option.some.inj h2).symm⟩
    ⟨blind_W, rcvK hG hal hV (hk hS.h.1), fun U hU hW => ⟨rfl, TS.c hS.h hA, hwm.trans hW, by rw [hU]; exact hV⟩⟩ rfl (by simp) (by rw [← hml]; exact hl.1) (by simp [F0, tv, va_rf]) (lv_room (by rw [cat8_ok]; exact h8)) hd (rooms hV hE hrc hrs)
/-- a call through an interface -/
theorem g_callF {x y : MethodName} {b : ByteArray} {mL lev' idx cnt r : Nat} {rt : Option FieldType} {T : List Nat} {o : Option Nat} {As : List TV} {post : Option TV → Hp → Prop} {st0 : List TV} (Cn : String) (n : Nat) (hn : pc + 5 = n) (C : Cx X cc own nL lev) (hd : decode cc pc = .ok (.invokeinterface idx cnt, 5)) (q1 : Cond.methodLink own idx x ∈ lw_all) (q2 : Cond.selects Cn x y ∈ lw_all) (q3 : Cond.instanceMethod y ∈ lw_all) (q4 : Cond.initialized y.cls ∈ lw_all) (q5 : Cond.code y b mL rt ∈ lw_all) (f1 : Cond.declares x ∈ lw_tbl) (f2 : Cond.interfaceMethod x.cls x.cls x.name x.desc ∈ lw_tbl) (f3 : Cond.publicMethod y ∈ lw_tbl) (f4 : Cond.unhidden Cn x.name x.desc ∈ lw_tbl) (f5 : Cond.castable Cn x.cls ∈ lw_tbl) (hN : okN x As.length) (hlev : lev' + 1 ≤ lev) (hmL : mL ≤ 41) (h8 : cat8 st ≤ 8) (ho : o = some r) (hk : kd h r ∈ T → kOb (kd h r) = true ∧ cN (kd h r) = Cn) (hst : st0 = As.reverse ++ vR T o :: st)
    (ct : Ct X.1 y b mL rt lev' (vR T o :: As) h post) (k : ∀ v h', post v h' → Ex h h' → (∀ t, v = some t → TyOK h' t) → Gd X h' n lv (v.toList ++ st)) : Gd X h pc lv st0 := by
  obtain ⟨E, h0, p, e, R, s, m, args, below, meth, c, Q⟩ := X
  obtain ⟨hx, hb, hml, how, hts, hlk, hG, hwm, hfr, hlo, hrc, hrs, hsz, hss⟩ := C
  have hal := hwm.alike
  subst hn; subst hst; subst ho
  intro H locs ls hV hLo hl hE hT hS
  obtain ⟨hA, hS⟩ := hS.rev
  refine run_on (post := post) (a := ((vR T (some r) :: As).map tv).toArray) ?_ hsz hss hLo hl hE hT hS.t k
  have hF : va_Fw Cn x y s := va_Fw.moved ⟨hN.1, hN.2.1⟩ hal (va_Fw.of (hG.1 _ f1) (hG.1 _ f2) (hG.1 _ f3) (hG.1 _ f4) (hG.1 _ f5))
  exact va_runF (atK hG hal (hk hS.h.1)) (x := x) (b := r) (bytes := b) (maxL := mL) (ret := rt) (n := As.length) (As := As.map tv) (rest := st.map tv) (Ts := lw_all) ⟨hx, hb, hml, how, hts⟩ ct
    (va_cwF As.length hts (lw_app (fun w hw => by
      simp only [List.mem_cons, List.not_mem_nil, or_false] at hw
      rcases hw with e | e | e | e
      · rw [e]; exact q1
      · rw [e]; exact q2
      · rw [e]; exact q3
      · rw [e]; exact q4) (lw_meth q5)) rfl rfl rfl hF hN (lvl (n := 0) hlev hmL hfr hlo))
    ⟨blind_W, rcvK hG hal hV (hk hS.h.1), fun U hU hW => ⟨rfl, TS.c hS.h hA, hwm.trans hW, by rw [hU]; exact hV⟩⟩ rfl (by simp) (by rw [← hml]; exact hl.1) (by simp [F0, tv, va_rf]) (lv_room (by rw [cat8_ok]; exact h8)) hd (rooms hV hE hrc hrs)
/-- Object's constructor -/
theorem g_objInit {idx r : Nat} {T : List Nat} {o : Option Nat} (n : Nat) (hn : pc + 3 = n) (C : Cx X cc own nL lev) (hd : decode cc pc = .ok (.invokespecial idx, 3)) (q1 : Cond.methodLink own idx Lib.objectInit ∈ lw_all) (q2 : Cond.instanceMethod Lib.objectInit ∈ lw_all) (q3 : Cond.code Lib.objectInit ⟨#[0xb1]⟩ 1 none ∈ lw_all) (hlev : 1 ≤ lev) (h8 : cat8 st ≤ 8) (ho : o = some r)
    (k : Gd X h n lv st) : Gd X h pc lv (vR T o :: st) := by
  obtain ⟨E, h0, p, e, R, s, m, args, below, meth, c, Q⟩ := X
  obtain ⟨hx, hb, hml, how, hts, hlk, hG, hwm, hfr, hlo, hrc, hrs, hsz, hss⟩ := C
  have hal := hwm.alike
  subst hn; subst ho
  intro H locs ls hV hLo hl hE hT hS
  refine W.objInit hx hb how (hts _ q1) (hts _ q2) (hts _ q3) rfl hl.1 (rest := st.map tv) rfl hd (by omega) ?_ (k H locs ls hV hLo hl hE hT hS.t)
  have := lv_room (m := m) (pc := pc) (ls := ls) (rest := ([] : List Value)) (st := st.map tv) (by rw [cat8_ok]; exact h8)
  show 2 * 0 + _ + 12 ≤ _
  rw [cat8_ok]
  omega
end CLR
