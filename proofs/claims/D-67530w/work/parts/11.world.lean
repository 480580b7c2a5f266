/-! WORLD: what holds at the law's start; the heap as its typed view says; the judgement Gd -/
set_option maxRecDepth 100000
abbrev Gx : Type := State × (Nat → ClassId) × (Nat → Nat) × Launch × Array Value × (Nat → Nat)
/-- old cells: nobody writes them -/
abbrev oldA (E : Gx) : Nat → Prop := fun q => E.1.heap.size ≤ q
/-- the cache of small Integers at the start -/
def IntC (E : Gx) : Prop := vb_C E.2.2.2.2.2 (oldA E) E.1 E.1.heap ∧ va_Z "java/lang/Integer$IntegerCache" "high" "I" (.int 127) (oldA E) E.1 E.1.heap ∧ ∃ t : Nat, va_Z "java/lang/Integer$IntegerCache" "cache" "[Ljava/lang/Integer;" (.ref t) (oldA E) E.1 E.1.heap ∧ va_T (.object "java/lang/Integer") t 256 (fun j => .ref (E.2.2.2.2.2 j)) (oldA E) E.1 E.1.heap
/-- what holds at the law's start -/
def Glob (E : Gx) : Prop :=
  (∀ w ∈ lw_tbl, w.before E.2.2.2.2.1 E.1 = true) ∧
  (∀ K, kOb K = true → ClassAt E.1 (cN K) (E.2.1 K)) ∧
  (∀ g, g < 52 → SlotIs E.1 (gD g).1 (gD g).2.1 (gD g).2.2.1 (E.2.2.1 g)) ∧
  (∀ K, K = 50 ∨ K = 51 ∨ K = 52 → ArrOfT E.1 (E.2.1 K) (aT K) ∧ va_RA E.1 (E.2.1 K) (aT K)) ∧
  (Jvm.Cond.and given_1 narrow_1).before E.2.2.2.2.1 E.1 = true ∧ IntC E
def fv (h : Hp) (g a : Nat) : Value := match tg g with
  | 0 => va_rf (rf h g a)
  | 2 => .float (it h g a).toUInt32
  | _ => .int (it h g a)
/-- an object's cell -/
def ObjOk (E : Gx) (h : Hp) (H : Heap) (a : Nat) : Prop := ∃ cell : Cell, H[a]? = some cell ∧ cell.cls = E.2.1 (kd h a) ∧ cell.vm ≠ .unknown ∧ cell.vm.isStatics = false ∧ (kNw (kd h a) = true → cell.vm = .none) ∧ ∀ g ∈ cG (kd h a), cell.slots[E.2.2.1 g]? = some (fv h g a) ∧ (tg g = 3 → it h g a = 0 ∨ it h g a = 1)
def CellOk (E : Gx) (h : Hp) (H : Heap) (a : Nat) : Prop :=
  a < H.size ∧ (kd h a < 60 → E.1.heap.size ≤ a) ∧ (kOb (kd h a) = true → ObjOk E h H a) ∧
  (kd h a = 50 → H[a]? = some (arrV (E.2.1 50) (ln h a) (fun j => .int (it h (100 + j) a)))) ∧
  (kd h a = 51 ∨ kd h a = 52 → H[a]? = some (arrV (E.2.1 (kd h a)) (ln h a) (fun j => va_rf (rf h (100 + j) a)))) ∧
  (50 ≤ kd h a ∧ kd h a ≤ 52 → ln h a < 2 ^ 26) ∧
  (kd h a = 61 → a < E.1.heap.size ∧ va_X a (ln h a) (fun j => it h (100 + j) a) E.1 E.1.heap ∧ ln h a < 2 ^ 26)
/-- the slots of the cells from b on -/
def hs (H : Heap) (b : Nat) : Nat := ((H.toList.drop b).map (·.slots.size)).sum
def VH (E : Gx) (h : Hp) (H : Heap) : Prop :=
  E.1.heap.size ≤ H.size ∧ (∀ q, q < E.1.heap.size → H[q]? = E.1.heap[q]?) ∧ (∀ a, kd h a ≠ 0 → CellOk E h H a) ∧ (∀ k, k < 256 → kd h (E.2.2.2.2.2 k) = 60 ∧ it h 23 (E.2.2.2.2.2 k) = vb_c k) ∧ WT h ∧ H.size = E.1.heap.size + nc h ∧ hs H E.1.heap.size = ns h ∧ nc h ≤ 679679 ∧ ns h ≤ 7063211
def World (E : Gx) (h : Hp) (U : State) : Prop := E.1.WarmedH U.vm ∧ VH E h U.heap
abbrev Fx : Type := Gx × Hp × Program × Env × Room × State × MethodId × Array Value × List Frame × Method × Code × (State → Prop)
/-- the machine, at pc with these locals and this stack, over a heap that the view h says, comes to Q; h0: the view at the method's entry -/
def Gd (X : Fx) (h : Hp) (pc : Nat) (lv : List (Option TV)) (st : List TV) : Prop := match X with
  | (E, h0, p, e, R, s, m, args, below, meth, c, Q) => ∀ (H : Heap) (locs : List Loc) (ls : Array Slot), VH E h H → (∀ q ∈ locs, E.1.heap.size ≤ q.base) → LVok ls c.maxLocals lv → Ex h0 h → TL h lv → TS h st → W p E.2.2.2.1 e R s m args below meth c H locs (nc h - nc h0) (ns h - ns h0) Q (F0 m pc ls (st.map tv))
/-- what is fixed in a method's walk -/
def Cx (X : Fx) (cc : ByteArray) (own : String) (nL lev : Nat) : Prop := match X with
  | (E, h0, p, _, R, s, m, args, _, meth, c, _) => p.tables.exec = Jvm.exec ∧ c.code = cc ∧ c.maxLocals = nL ∧ s.vm.findClass own = some m.cls ∧ (∀ w ∈ lw_all, w.before args s = true) ∧ meth.locks = false ∧ Glob E ∧ E.1.WarmedH s.vm ∧ lev ≤ R.frames ∧ 60 * lev ≤ R.locals ∧ R.cells = 679679 - nc h0 ∧ R.slots = 7063211 - ns h0 ∧ s.heap.size = E.1.heap.size + nc h0 ∧ hs s.heap E.1.heap.size = ns h0
def rmL (lev : Nat) (h : Hp) : Room := { frames := lev, cells := 679679 - nc h, slots := 7063211 - ns h, locals := 60 * lev }
/-- a contract's end -/
def QcP (E : Gx) (h0 : Hp) (post : Option TV → Hp → Prop) : Array Value → State → Outcome → State → Prop := fun _ _ o t => ∃ (v : Option TV) (h' : Hp), o = .returned (v.map tv) ∧ post v h' ∧ Ex h0 h' ∧ (∀ t, v = some t → TyOK h' t) ∧ World E h' t
/-- a contract: at the view h, with these arguments, the method returns, the answer and the view behind it are as post says -/
def Ct (E : Gx) (y : MethodName) (cc : ByteArray) (nL : Nat) (ret : Option FieldType) (lev : Nat) (As : List TV) (h : Hp) (post : Option TV → Hp → Prop) : Prop :=
  Met E.2.2.2.1 y (ws_ y cc nL ret) (rmL lev h) (va_Pc (As.map tv) (fun U => TS h As ∧ World E h U)) (QcP E h post) (679679 - nc h) (7063211 - ns h) (oldA E)
/-- the end of the walk of a contract -/
def Rx (X : Fx) (ret : Option FieldType) (post : Option TV → Hp → Prop) : Prop := match X with
  | (E, h0, _, _, _, s, _, args, below, meth, _, Q) => meth.sig.returnType = ret ∧ Q = MQ below (QcP E h0 post) args s (679679 - nc h0) (7063211 - ns h0) (oldA E)
def Nm (X : Fx) (n : String) : Prop := match X with
  | (_, _, _, _, _, _, _, _, _, meth, _, _) => meth.name = n
theorem lvA_in {t : TV} : ∀ (As : List TV), some t ∈ lvA As → t ∈ As
  | [], ht => by cases ht
  | u :: l, ht => by
    unfold lvA at ht
    cases hu : t2 u with
    | true =>
      simp only [hu, cond_true, List.mem_cons, Option.some.injEq, reduceCtorEq, false_or] at ht
      rcases ht with e | e
      · rw [e]; exact List.mem_cons_self
      · exact List.mem_cons_of_mem _ (lvA_in l e)
    | false =>
      simp only [hu, cond_false, List.mem_cons, Option.some.injEq] at ht
      rcases ht with e | e
      · rw [e]; exact List.mem_cons_self
      · exact List.mem_cons_of_mem _ (lvA_in l e)
theorem TL_lvA {h : Hp} {As : List TV} {n : Nat} (k : TS h As) : TL h (lvA As ++ List.replicate n none) := by
  intro t ht
  rcases List.mem_append.mp ht with ht | ht
  · exact k t (lvA_in As ht)
  · have := List.eq_of_mem_replicate ht
    cases this
theorem Ct.of {E : Gx} {y : MethodName} {cc : ByteArray} {nL : Nat} {ret : Option FieldType} {lev : Nat} {As : List TV} {h : Hp} {post : Option TV → Hp → Prop} {lv : List (Option TV)} (GE : Glob E) (hy : plainName y.cls = true) (hlen : (lvA As).length ≤ nL) (hlv : lvI As nL = lv)
    (body : ∀ X : Fx, X.1 = E → Cx X cc y.cls nL lev → Rx X ret post → Nm X y.name → Gd X h 0 lv []) : Ct E y cc nL ret lev As h post := by
  refine Met.ofW (cc := cc) (maxL := nL) (ret := ret) hy rfl ?_
  intro p e s m args below meth c s₁ B hml hv
  obtain ⟨rfl, hTS, hal, hV⟩ := hv
  have hts := atoms_spec (ws := ws_ y cc nL ret) B.pre
  have hts : ∀ w ∈ lw_all, w.before _ s = true := fun w h => hts w (List.mem_cons_of_mem _ h)
  have b := body (E, h, p, e, (headSpec (ws_ y cc nL ret) (rmL lev h)).room, s, m, (As.map tv).toArray, below, meth, c, MQ below (QcP E h post) (As.map tv).toArray s (679679 - nc h) (7063211 - ns h) (oldA E)) rfl
    ⟨B.exec, B.bytes, hml, findClass_of_methodNamed B.named, hts, B.notSynchronized, GE, hal, Nat.le_refl _, Nat.le_refl _, rfl, rfl, hV.2.2.2.2.2.1, hV.2.2.2.2.2.2.1⟩ ⟨B.returns, rfl⟩ (name_of_methodNamed B.named B.method).1
  rw [lg_entry_eq]
  have hl := lv_entry (As.map tv) (n := nL) (by rw [← lvA_len]; exact hlen)
  have b := b s.heap [] ((lg_sl (As.map tv) ++ List.replicate (nL - (lg_sl (As.map tv)).length) Slot.unset).toArray) hV (fun q hq => by cases hq) (by
    rw [hml, ← hlv]
    exact ⟨hl.1, hl.2.1, fun q hq => hl.2.2 q (lvA_mem As _ 0 q hq)⟩) (Ex.refl h) (by rw [← hlv]; exact TL_lvA hTS) (TS.nil h)
  rw [Nat.sub_self, Nat.sub_self] at b
  exact b
/-- of a class that has entries, a method that has none -/
theorem Ct.ofF {E : Gx} {y : MethodName} {cc : ByteArray} {nL : Nat} {ret : Option FieldType} {lev : Nat} {As : List TV} {h : Hp} {post : Option TV → Hp → Prop} {lv : List (Option TV)} (GE : Glob E) (hy : plainFor y = true) (hlen : (lvA As).length ≤ nL) (hlv : lvI As nL = lv)
    (body : ∀ X : Fx, X.1 = E → Cx X cc y.cls nL lev → Rx X ret post → Nm X y.name → Gd X h 0 lv []) : Ct E y cc nL ret lev As h post := by
  refine va_MetF (cc := cc) (maxL := nL) (ret := ret) hy rfl ?_
  intro p e s m args below meth c s₁ B hml hv
  obtain ⟨rfl, hTS, hal, hV⟩ := hv
  have hts := atoms_spec (ws := ws_ y cc nL ret) B.pre
  have hts : ∀ w ∈ lw_all, w.before _ s = true := fun w h => hts w (List.mem_cons_of_mem _ h)
  have b := body (E, h, p, e, (headSpec (ws_ y cc nL ret) (rmL lev h)).room, s, m, (As.map tv).toArray, below, meth, c, MQ below (QcP E h post) (As.map tv).toArray s (679679 - nc h) (7063211 - ns h) (oldA E)) rfl
    ⟨B.exec, B.bytes, hml, findClass_of_methodNamed B.named, hts, B.notSynchronized, GE, hal, Nat.le_refl _, Nat.le_refl _, rfl, rfl, hV.2.2.2.2.2.1, hV.2.2.2.2.2.2.1⟩ ⟨B.returns, rfl⟩ (name_of_methodNamed B.named B.method).1
  rw [lg_entry_eq]
  have hl := lv_entry (As.map tv) (n := nL) (by rw [← lvA_len]; exact hlen)
  have b := b s.heap [] ((lg_sl (As.map tv) ++ List.replicate (nL - (lg_sl (As.map tv)).length) Slot.unset).toArray) hV (fun q hq => by cases hq) (by
    rw [hml, ← hlv]
    exact ⟨hl.1, hl.2.1, fun q hq => hl.2.2 q (lvA_mem As _ 0 q hq)⟩) (Ex.refl h) (by rw [← hlv]; exact TL_lvA hTS) (TS.nil h)
  rw [Nat.sub_self, Nat.sub_self] at b
  exact b
theorem Ct.mono {E : Gx} {y : MethodName} {cc : ByteArray} {nL : Nat} {ret : Option FieldType} {lev : Nat} {As : List TV} {h : Hp} {post post' : Option TV → Hp → Prop} (k : Ct E y cc nL ret lev As h post) (hp : post = post') : Ct E y cc nL ret lev As h post' := hp ▸ k
theorem g_sub {X : Fx} {h : Hp} {pc : Nat} {lv : List (Option TV)} {st : List TV} (Ls : List (Option (Option (List Nat)))) (Ss : List (Option (List Nat))) (h1 : reLok lv Ls = true) (h2 : reSok st Ss = true) (k : Gd X h pc (reL lv Ls) (reS st Ss)) : Gd X h pc lv st := by
  obtain ⟨E, h0, p, e, R, s, m, args, below, meth, c, Q⟩ := X
  intro H locs ls hV hL hl hE hT hS
  have := k H locs ls hV hL (reL_lv hl) hE (reL_ok h1 hT) (reS_ok st Ss h2 hS)
  rw [reS_tv] at this
  exact this
/-! sizes -/
theorem hs_same {H H' : Heap} (b : Nat) (h : ∀ q : Nat, (H'[q]?).map (·.slots.size) = (H[q]?).map (·.slots.size)) : hs H' b = hs H b := by
  have e : H'.toList.map (·.slots.size) = H.toList.map (·.slots.size) := by
    apply List.ext_getElem?
    intro q
    simp only [List.getElem?_map, Array.getElem?_toList]
    exact h q
  unfold hs
  rw [List.map_drop, List.map_drop, e]
theorem hs_new {H H' : Heap} {b n : Nat} {cell : Cell} (hb : b ≤ H.size) (h1 : H'[H.size]? = some cell) (hn : cell.slots.size = n) (h2 : H'.size = H.size + 1) (h3 : ∀ q, q < H.size → H'[q]? = H[q]?) : hs H' b = hs H b + n := by
  have e : H'.toList.map (·.slots.size) = H.toList.map (·.slots.size) ++ [n] := by
    apply List.ext_getElem?
    intro q
    rcases Nat.lt_trichotomy q H.size with hq | hq | hq
    · rw [List.getElem?_append_left (by simpa using hq)]
      simp only [List.getElem?_map, Array.getElem?_toList, h3 q hq]
    · subst hq
      rw [List.getElem?_append_right (by simp)]
      simp only [List.getElem?_map, Array.getElem?_toList, h1, List.length_map, Array.length_toList, Nat.sub_self, List.getElem?_cons_zero, Option.map_some, hn]
    · rw [List.getElem?_append_right (by simp; omega)]
      rw [List.getElem?_eq_none (by simp; omega), List.getElem?_eq_none (by simp; omega)]
  unfold hs
  rw [List.map_drop, e, List.drop_append_of_le_length (by simpa using hb), List.sum_append, List.map_drop]
  simp
theorem stand_shrink {p : Program} {l : Launch} {e : Env} {R : Room} {s : State} {m : MethodId} {args : Array Value} {below : List Frame} {meth : Method} {c : Code} {T : State} {locs : List Loc} {cells slots b n0 n1 k0 k1 : Nat}
    (X : Stand p l e R s m args below meth c T locs cells slots) (h0 : s.heap.size = b + n0) (h1 : T.heap.size = b + n1) (g0 : hs s.heap b = k0) (g1 : hs T.heap b = k1) : Stand p l e R s m args below meth c T locs (n1 - n0) (k1 - k0) ∧ n0 ≤ n1 ∧ k0 ≤ k1 := by
  have hh : (T.setVm s.vm).heap = T.heap := rfl
  obtain ⟨q1, q2, q3, q4, q5, q6⟩ := X.same
  rw [hh] at q2 q3 q4 q5 q6
  have e : (T.heap.toList.map (·.slots.size)).take s.heap.size = s.heap.toList.map (·.slots.size) := by
    apply List.ext_getElem?
    intro q
    rcases Nat.lt_or_ge q s.heap.size with hq | hq
    · rw [List.getElem?_take_of_lt hq]
      simp only [List.getElem?_map, Array.getElem?_toList]
      obtain ⟨c', d1, -, d3, -⟩ := q6 q _ (Array.getElem?_eq_getElem hq)
      rw [d1, Array.getElem?_eq_getElem hq, Option.map_some, Option.map_some, d3]
    · rw [List.getElem?_eq_none (by simp; omega), List.getElem?_eq_none (by simp; omega)]
  have hsum : hs T.heap b = hs s.heap b + ((T.heap.toList.drop s.heap.size).map (·.slots.size)).sum := by
    unfold hs
    rw [List.map_drop, List.map_drop, List.map_drop, ← e]
    have hLl : s.heap.size ≤ (T.heap.toList.map (·.slots.size)).length := by simp; exact q2
    revert hLl
    generalize T.heap.toList.map (·.slots.size) = L
    intro hL
    have hle : b ≤ s.heap.size := by omega
    calc (L.drop b).sum = ((L.take s.heap.size ++ L.drop s.heap.size).drop b).sum := by rw [List.take_append_drop]
      _ = _ := by
        rw [List.drop_append_of_le_length (by rw [List.length_take]; omega), List.sum_append]
  refine ⟨{ X with same := ⟨q1, q2, ?_, q4, ?_, q6⟩ }, by omega, by omega⟩
  · show T.heap.size ≤ _
    omega
  · show ((T.heap.toList.drop s.heap.size).map (·.slots.size)).sum ≤ _
    omega
/-! the classes' words -/
theorem kOb_cases {K : Nat} (h : kOb K = true) : K = 1 ∨ K = 2 ∨ K = 3 ∨ K = 4 ∨ K = 5 ∨ K = 6 ∨ K = 7 ∨ K = 8 ∨ K = 9 ∨ K = 10 ∨ K = 11 ∨ K = 12 ∨ K = 13 ∨ K = 14 ∨ K = 15 ∨ K = 60 := by
  simp only [kOb, Bool.or_eq_true, Bool.and_eq_true, decide_eq_true_eq] at h
  omega
theorem kNw_Ob {K : Nat} (h : kNw K = true) : kOb K = true := by
  simp only [kOb, kNw, Bool.or_eq_true, Bool.and_eq_true, decide_eq_true_eq] at h ⊢
  omega
theorem lay_in {K : Nat} (hK : kOb K = true) : ∀ w ∈ u_ws (cN K) (cT K) (cG K).length, w ∈ lw_all := by
  rcases kOb_cases hK with rfl | rfl | rfl | rfl | rfl | rfl | rfl | rfl | rfl | rfl | rfl | rfl | rfl | rfl | rfl | rfl
  · exact (rfl : u_ws (cN 1) (cT 1) (cG 1).length = wsX00) ▸ in_X0
  · exact (rfl : u_ws (cN 2) (cT 2) (cG 2).length = wsJ10) ▸ in_J1
  · exact (rfl : u_ws (cN 3) (cT 3) (cG 3).length = wsJ20) ▸ in_J2
  · exact (rfl : u_ws (cN 4) (cT 4) (cG 4).length = wsJ50) ▸ in_J5
  · exact (rfl : u_ws (cN 5) (cT 5) (cG 5).length = wsJ60) ▸ in_J6
  · exact (rfl : u_ws (cN 6) (cT 6) (cG 6).length = wsJ70) ▸ in_J7
  · exact (rfl : u_ws (cN 7) (cT 7) (cG 7).length = wsJ80) ▸ in_J8
  · exact (rfl : u_ws (cN 8) (cT 8) (cG 8).length = wsJ130) ▸ in_J13
  · exact (rfl : u_ws (cN 9) (cT 9) (cG 9).length = wsJ220) ▸ in_J22
  · exact (rfl : u_ws (cN 10) (cT 10) (cG 10).length = wsJ230) ▸ in_J23
  · exact (rfl : u_ws (cN 11) (cT 11) (cG 11).length = wsJ170) ▸ in_J17
  · exact (rfl : u_ws (cN 12) (cT 12) (cG 12).length = wsJ160) ▸ in_J16
  · exact (rfl : u_ws (cN 13) (cT 13) (cG 13).length = wsJ190) ▸ in_J19
  · exact (rfl : u_ws (cN 14) (cT 14) (cG 14).length = wsX10) ▸ in_X1
  · exact (rfl : u_ws (cN 15) (cT 15) (cG 15).length = wsX20) ▸ in_X2
  · exact (rfl : u_ws (cN 60) (cT 60) (cG 60).length = wsJ50) ▸ in_J5
theorem cG_idx {K g : Nat} (h : g ∈ cG K) : ∃ k, k < (cG K).length ∧ (cG K).getD k 0 = g := by
  obtain ⟨k, hk⟩ := List.getElem?_of_mem h
  refine ⟨k, (List.getElem?_eq_some_iff.mp hk).1, ?_⟩
  rw [List.getD_eq_getElem?_getD, hk]; rfl
theorem cG_lt {K g : Nat} (hK : kOb K = true) (h : g ∈ cG K) : g < 52 := by
  rcases kOb_cases hK with rfl | rfl | rfl | rfl | rfl | rfl | rfl | rfl | rfl | rfl | rfl | rfl | rfl | rfl | rfl | rfl <;>
    (simp only [cG, List.mem_cons, List.not_mem_nil, or_false] at h; omega)
theorem cG_names {K : Nat} (hK : kOb K = true) : ∀ g ∈ cG K, ∀ g' ∈ cG K, g ≠ g' → (gD g).2.1 ≠ (gD g').2.1 := by
  rcases kOb_cases hK with rfl | rfl | rfl | rfl | rfl | rfl | rfl | rfl | rfl | rfl | rfl | rfl | rfl | rfl | rfl | rfl <;> decide +kernel
theorem gTy_ok : ∀ g, g < 52 → parseFieldDescriptor (gD g).2.2.1 = some (gTy g) := by decide +kernel
def refTy (t : FieldType) : Bool := match t with
  | .object _ => true
  | .array _ => true
  | _ => false
theorem gTy_0 : ∀ g, g < 52 → tg g = 0 → refTy (gTy g) = true := by decide +kernel
theorem gTy_1 : ∀ g, g < 52 → tg g = 1 → gTy g = .int := by decide +kernel
theorem gTy_2 : ∀ g, g < 52 → tg g = 2 → gTy g = .float := by decide +kernel
theorem gTy_3 : ∀ g, g < 52 → tg g = 3 → gTy g = .boolean := by decide +kernel
theorem tg_le : ∀ g, g < 52 → tg g = 0 ∨ tg g = 1 ∨ tg g = 2 ∨ tg g = 3 := by decide +kernel
theorem lay_of {args : Array Value} {s : State} {K g : Nat} (hts : ∀ w ∈ lw_all, w.before args s = true) (hK : kOb K = true) (hg : g ∈ cG K) : (Cond.lays (cN K) (gD g).1 (gD g).2.1 (gD g).2.2.1).before args s = true ∨ (Cond.laysFinal (cN K) (gD g).1 (gD g).2.1 (gD g).2.2.1).before args s = true := by
  obtain ⟨k, hk, he⟩ := cG_idx hg
  have h := u_lays hts (lay_in hK) hk
  simp only [cT, he] at h
  exact h
theorem lay_n {args : Array Value} {s : State} {K g : Nat} (hts : ∀ w ∈ lw_all, w.before args s = true) (hK : kOb K = true) (hg : g ∈ cG K) (hf : (gD g).2.2.2.1 = false) : (Cond.lays (cN K) (gD g).1 (gD g).2.1 (gD g).2.2.1).before args s = true := by
  obtain ⟨k, hk, he⟩ := cG_idx hg
  have h := hts _ (lay_in hK _ (u_in_lay hk))
  unfold u_lay at h
  simp only [cT, he, hf] at h
  rwa [if_neg (by decide)] at h
theorem lay_f {args : Array Value} {s : State} {K g : Nat} (hts : ∀ w ∈ lw_all, w.before args s = true) (hK : kOb K = true) (hg : g ∈ cG K) (hf : (gD g).2.2.2.1 = true) : (Cond.laysFinal (cN K) (gD g).1 (gD g).2.1 (gD g).2.2.1).before args s = true := by
  obtain ⟨k, hk, he⟩ := cG_idx hg
  have h := hts _ (lay_in hK _ (u_in_lay hk))
  unfold u_lay at h
  simp only [cT, he, hf] at h
  rwa [if_pos trivial] at h
theorem slot_apart {args : Array Value} {s : State} {dS : Nat → Nat} {K g g' : Nat} (hts : ∀ w ∈ lw_all, w.before args s = true) (hS : ∀ g, g < 52 → SlotIs s (gD g).1 (gD g).2.1 (gD g).2.2.1 (dS g)) (hK : kOb K = true) (hg : g ∈ cG K) (hg' : g' ∈ cG K) (hne : g ≠ g') : dS g ≠ dS g' := by
  obtain ⟨_, _, _, fa, hia, ea⟩ := hS g (cG_lt hK hg)
  obtain ⟨_, _, _, fb, hib, eb⟩ := hS g' (cG_lt hK hg')
  rw [← ea, ← eb]
  refine u_apart (lay_of hts hK hg) (lay_of hts hK hg') hia hib ?_
  rw [(State.fieldFound?_type hia (gTy_ok g (cG_lt hK hg))).1, (State.fieldFound?_type hib (gTy_ok g' (cG_lt hK hg'))).1]
  exact cG_names hK g hg g' hg' hne
/-- a value fits a field: by the field's tag -/
def fitT (g : Nat) (t : TV) : Prop := match t with
  | .inl x => tg g = 1 ∨ (tg g = 3 ∧ (x = 0 ∨ x = 1))
  | .inr (.inl (L, _)) => tg g = 0 ∧ (L.all fun K => (fT g).contains K) = true
  | .inr (.inr (.inr (.inl _))) => tg g = 2
  | _ => False
theorem fitT_ok {g : Nat} {t : TV} (hg : g < 52) (h : fitT g t) : narrow (gTy g) (tv t) = tv t ∧ fits (gTy g) (tv t) = true := by
  rcases t with x | ⟨L, o⟩ | x | x | x
  · rcases h with h | ⟨h, h2⟩
    · rw [gTy_1 g hg h]; exact ⟨rfl, rfl⟩
    · rw [gTy_3 g hg h]
      rcases h2 with rfl | rfl
      · exact ⟨rfl, rfl⟩
      · exact ⟨rfl, rfl⟩
  · have h1 := gTy_0 g hg h.1
    revert h1
    cases gTy g <;> intro h1 <;> first | (cases o <;> exact ⟨rfl, rfl⟩) | cases h1
  · cases h
  · have h : tg g = 2 := h
    rw [gTy_2 g hg h]; exact ⟨rfl, rfl⟩
  · cases h
/-- the view with field g of a written -/
def wT (h : Hp) (g a : Nat) (t : TV) : Hp := match t with
  | .inl x => wI h g a x
  | .inr (.inl (_, o)) => wR h g a o
  | .inr (.inr (.inr (.inl x))) => wI h g a x.toInt32
  | _ => h
theorem wT_kd (h : Hp) (g a : Nat) (t : TV) (b : Nat) : kd (wT h g a t) b = kd h b := by
  rcases t with x | ⟨L, o⟩ | x | x | x <;> rfl
theorem wT_ln (h : Hp) (g a : Nat) (t : TV) (b : Nat) : ln (wT h g a t) b = ln h b := by
  rcases t with x | ⟨L, o⟩ | x | x | x <;> rfl
theorem wT_off (h : Hp) {g a : Nat} (t : TV) {j b : Nat} (hne : ¬ (j = g ∧ b = a)) : rf (wT h g a t) j b = rf h j b ∧ it (wT h g a t) j b = it h j b := by
  rcases t with x | ⟨L, o⟩ | x | x | x
  · exact ⟨rfl, by show it (wI h g a x) j b = _; rw [it_wI, if_neg hne]⟩
  · exact ⟨by show rf (wR h g a o) j b = _; rw [rf_wR, if_neg hne], rfl⟩
  · exact ⟨rfl, rfl⟩
  · exact ⟨rfl, by show it (wI h g a _) j b = _; rw [it_wI, if_neg hne]⟩
  · exact ⟨rfl, rfl⟩
theorem wT_at {h : Hp} {g a : Nat} {t : TV} (hf : fitT g t) : fv (wT h g a t) g a = tv t ∧ (tg g = 3 → it (wT h g a t) g a = 0 ∨ it (wT h g a t) g a = 1) := by
  rcases t with x | ⟨L, o⟩ | x | x | x
  · have e : it (wT h g a (.inl x)) g a = x := by show it (wI h g a x) g a = x; rw [it_wI, if_pos ⟨rfl, rfl⟩]
    rcases hf with hf | ⟨hf, h2⟩
    · refine ⟨by unfold fv; rw [hf]; simp only [e]; rfl, fun q => by rw [hf] at q; cases q⟩
    · refine ⟨by unfold fv; rw [hf]; simp only [e]; rfl, fun _ => by rw [e]; exact h2⟩
  · have hf : tg g = 0 := hf.1
    have e : rf (wT h g a (.inr (.inl (L, o)))) g a = o := by show rf (wR h g a o) g a = o; rw [rf_wR, if_pos ⟨rfl, rfl⟩]
    refine ⟨by unfold fv; rw [hf]; simp only [e]; rfl, fun q => by rw [hf] at q; cases q⟩
  · cases hf
  · have hf : tg g = 2 := hf
    have e : it (wT h g a (.inr (.inr (.inr (.inl x))))) g a = x.toInt32 := by show it (wI h g a x.toInt32) g a = _; rw [it_wI, if_pos ⟨rfl, rfl⟩]
    refine ⟨by unfold fv; rw [hf]; simp only [e]; rfl, fun q => by rw [hf] at q; cases q⟩
  · cases hf
theorem fv_off (h : Hp) {g a : Nat} (t : TV) {j b : Nat} (hne : ¬ (j = g ∧ b = a)) : fv (wT h g a t) j b = fv h j b := by
  unfold fv
  rw [(wT_off h t hne).1, (wT_off h t hne).2]
theorem wT_nc (h : Hp) (g a : Nat) (t : TV) : nc (wT h g a t) = nc h ∧ ns (wT h g a t) = ns h := by
  rcases t with x | ⟨L, o⟩ | x | x | x <;> exact ⟨rfl, rfl⟩
theorem TyOK_kd {h h' : Hp} (e : ∀ a, kd h' a = kd h a) (t : TV) : TyOK h' t ↔ TyOK h t := by
  rcases t with x | ⟨L, _ | a⟩ | x | x | x
  · exact Iff.rfl
  · exact Iff.rfl
  · show (_ ∧ _) ↔ (_ ∧ _)
    rw [e]
  · exact Iff.rfl
  · exact Iff.rfl
  · exact Iff.rfl
theorem WT.put {h : Hp} {a g : Nat} {t : TV} (k : WT h) (hg : g < 100) (hf : fitT g t) (ht : TyOK h t) : WT (wT h g a t) := by
  refine ⟨fun b g' hb hg' => ?_, fun b j hb => ?_⟩
  · rw [wT_kd] at hb hg'
    rw [TyOK_kd (wT_kd h g a t)]
    by_cases e : g' = g ∧ b = a
    · obtain ⟨rfl, rfl⟩ := e
      rcases t with x | ⟨L, o⟩ | x | x | x
      · exact k.1 b g' hb hg'
      · show TyOK h (vR _ (rf (wR h g' b o) g' b))
        rw [rf_wR, if_pos ⟨rfl, rfl⟩]
        exact ht.up hf.2
      · exact k.1 b g' hb hg'
      · exact k.1 b g' hb hg'
      · exact k.1 b g' hb hg'
    · rw [(wT_off h t e).1]
      exact k.1 b g' hb hg'
  · rw [wT_kd] at hb ⊢
    rw [TyOK_kd (wT_kd h g a t), (wT_off h t (fun e => by omega)).1]
    exact k.2 b j hb
/-- a field of a new object is written -/
theorem VH.put {E : Gx} {h : Hp} {H H' : Heap} {a g : Nat} {t : TV} {cell : Cell} (hV : VH E h H) (hK : kNw (kd h a) = true) (hg : g ∈ cG (kd h a)) (hap : ∀ g', g' ∈ cG (kd h a) → g ≠ g' → E.2.2.1 g ≠ E.2.2.1 g') (hf : fitT g t) (hty : TyOK h t)
    (h0 : H[a]? = some cell) (h1 : H'[a]? = some (cell.setSlot (E.2.2.1 g) (tv t))) (h2 : H'.size = H.size) (h3 : ∀ q, q ≠ a → H'[q]? = H[q]?) : VH E (wT h g a t) H' := by
  have hKO := kNw_Ob hK
  have hne0 : kd h a ≠ 0 := fun q => by rw [q] at hK; cases hK
  have hle : E.1.heap.size ≤ a := (hV.2.2.1 a hne0).2.1 (by simp only [kNw, Bool.and_eq_true, decide_eq_true_eq] at hK; omega)
  obtain ⟨v1, v2, v3, v4, v5, v6, v7, v8, v9⟩ := hV
  refine ⟨by rw [h2]; exact v1, fun q hq => by rw [h3 q (by omega)]; exact v2 q hq, fun b hb => ?_, fun k hk => ?_, v5.put (by have := cG_lt hKO hg; omega) hf hty, by rw [h2, (wT_nc h g a t).1]; exact v6, ?_, by rw [(wT_nc h g a t).1]; exact v8, by rw [(wT_nc h g a t).2]; exact v9⟩
  · rw [wT_kd] at hb
    obtain ⟨c1, c2, c3, c4, c5, c6, c7⟩ := v3 b hb
    by_cases hba : b = a
    · subst hba
      refine ⟨by rw [h2]; exact c1, by rw [wT_kd]; exact c2, fun _ => ?_, fun q => ?_, fun q => ?_, fun q => ?_, fun q => ?_⟩
      · obtain ⟨cell', d1, d2, d3, d4, d5, d6⟩ := c3 hKO
        cases h0.symm.trans d1
        refine ⟨_, h1, by rw [wT_kd]; exact d2, d3, d4, by rw [wT_kd]; exact d5, ?_⟩
        rw [wT_kd]
        intro g' hg'
        by_cases hgg : g' = g
        · subst hgg
          have hlt := k2_hasslot (d6 g' hg').1
          obtain ⟨e1, e2⟩ := wT_at (h := h) (a := b) hf
          exact ⟨by rw [e1]; simp [Cell.setSlot, hlt], e2⟩
        · obtain ⟨e1, e2⟩ := d6 g' hg'
          rw [fv_off h t (fun q => hgg q.1), (wT_off h t (fun q => hgg q.1)).2]
          refine ⟨?_, e2⟩
          rw [← e1]
          have := hap g' hg' (Ne.symm hgg)
          simp [Cell.setSlot, this]
      · rw [wT_kd] at q; rw [q] at hK; cases hK
      · rw [wT_kd] at q; rcases q with q | q <;> (rw [q] at hK; cases hK)
      · rw [wT_kd] at q; simp only [kNw, Bool.and_eq_true, decide_eq_true_eq] at hK; omega
      · rw [wT_kd] at q; rw [q] at hK; cases hK
    · refine ⟨by rw [h2]; exact c1, by rw [wT_kd]; exact c2, fun q => ?_, fun q => ?_, fun q => ?_, fun q => ?_, fun q => ?_⟩
      · rw [wT_kd] at q
        obtain ⟨cell', d1, d2, d3, d4, d5, d6⟩ := c3 q
        refine ⟨cell', by rw [h3 b hba]; exact d1, by rw [wT_kd]; exact d2, d3, d4, by rw [wT_kd]; exact d5, ?_⟩
        rw [wT_kd]
        intro g' hg'
        rw [fv_off h t (fun q => hba q.2), (wT_off h t (fun q => hba q.2)).2]
        exact d6 g' hg'
      · rw [wT_kd] at q
        rw [h3 b hba, c4 q, wT_ln]
        congr 2
        funext j
        rw [(wT_off h t (fun q => hba q.2)).2]
      · rw [wT_kd] at q
        rw [h3 b hba, c5 q, wT_ln, wT_kd]
        congr 2
        funext j
        rw [(wT_off h t (fun q => hba q.2)).1]
      · rw [wT_kd] at q; rw [wT_ln]; exact c6 q
      · rw [wT_kd] at q
        rw [wT_ln]
        obtain ⟨d1, d2, d3⟩ := c7 q
        refine ⟨d1, ?_, d3⟩
        have e : (fun j => it (wT h g a t) (100 + j) b) = fun j => it h (100 + j) b := by
          funext j
          rw [(wT_off h t (fun q => hba q.2)).2]
        rw [e]; exact d2
  · obtain ⟨e1, e2⟩ := v4 k hk
    have hne : E.2.2.2.2.2 k ≠ a := fun q => by rw [q] at e1; rw [e1] at hK; cases hK
    rw [wT_kd, (wT_off h t (fun q => hne q.2)).2]
    exact ⟨e1, e2⟩
  · rw [(wT_nc h g a t).2, ← v7]
    refine hs_same _ (fun q => ?_)
    by_cases hq : q = a
    · subst hq
      rw [h0, h1]
      simp [Cell.setSlot]
    · rw [h3 q hq]
/-- an array's place is written -/
theorem VH.ast {E : Gx} {h h' : Hp} {H H' : Heap} {a : Nat} (hV : VH E h H) (hk : ∀ b, kd h' b = kd h b) (hl : ∀ b, ln h' b = ln h b) (hn : nc h' = nc h ∧ ns h' = ns h) (hw : WT h') (ho : ∀ b j, b ≠ a → rf h' j b = rf h j b ∧ it h' j b = it h j b) (hK : kd h a = 50 ∨ kd h a = 51 ∨ kd h a = 52)
    (h1 : kd h a = 50 → H'[a]? = some (arrV (E.2.1 50) (ln h a) (fun j => .int (it h' (100 + j) a)))) (h1' : kd h a = 51 ∨ kd h a = 52 → H'[a]? = some (arrV (E.2.1 (kd h a)) (ln h a) (fun j => va_rf (rf h' (100 + j) a)))) (h2 : H'.size = H.size) (h3 : ∀ q, q ≠ a → H'[q]? = H[q]?) : VH E h' H' := by
  have hne0 : kd h a ≠ 0 := by omega
  have hle : E.1.heap.size ≤ a := (hV.2.2.1 a hne0).2.1 (by omega)
  have hno : ¬ kOb (kd h a) = true := by
    simp only [kOb, Bool.or_eq_true, Bool.and_eq_true, decide_eq_true_eq]
    omega
  obtain ⟨v1, v2, v3, v4, v5, v6, v7, v8, v9⟩ := hV
  refine ⟨by rw [h2]; exact v1, fun q hq => by rw [h3 q (by omega)]; exact v2 q hq, fun b hb => ?_, fun k hk' => ?_, hw, by rw [h2, hn.1]; exact v6, ?_, by rw [hn.1]; exact v8, by rw [hn.2]; exact v9⟩
  · rw [hk] at hb
    obtain ⟨c1, c2, c3, c4, c5, c6, c7⟩ := v3 b hb
    by_cases hba : b = a
    · subst hba
      exact ⟨by rw [h2]; exact c1, by rw [hk]; exact c2, fun q => by rw [hk] at q; exact absurd q hno, fun q => by rw [hk] at q; rw [hl]; exact h1 q, fun q => by rw [hk] at q ⊢; rw [hl]; exact h1' q, fun q => by rw [hl]; rw [hk] at q; exact c6 q, fun q => by rw [hk] at q; omega⟩
    · refine ⟨by rw [h2]; exact c1, by rw [hk]; exact c2, fun q => ?_, fun q => ?_, fun q => ?_, fun q => by rw [hl]; rw [hk] at q; exact c6 q, fun q => ?_⟩
      · rw [hk] at q
        obtain ⟨cell', d1, d2, d3, d4, d5, d6⟩ := c3 q
        refine ⟨cell', by rw [h3 b hba]; exact d1, by rw [hk]; exact d2, d3, d4, by rw [hk]; exact d5, ?_⟩
        rw [hk]
        intro g' hg'
        unfold fv
        rw [(ho b g' hba).1, (ho b g' hba).2]
        exact d6 g' hg'
      · rw [hk] at q
        rw [h3 b hba, c4 q, hl]
        congr 2
        funext j
        rw [(ho b _ hba).2]
      · rw [hk] at q
        rw [h3 b hba, c5 q, hl, hk]
        congr 2
        funext j
        rw [(ho b _ hba).1]
      · rw [hk] at q
        rw [hl]
        obtain ⟨d1, d2, d3⟩ := c7 q
        refine ⟨d1, ?_, d3⟩
        have e : (fun j => it h' (100 + j) b) = fun j => it h (100 + j) b := by
          funext j
          rw [(ho b _ hba).2]
        rw [e]; exact d2
  · obtain ⟨e1, e2⟩ := v4 k hk'
    have hne : E.2.2.2.2.2 k ≠ a := fun q => by rw [q] at e1; omega
    rw [hk, (ho _ 23 hne).2]
    exact ⟨e1, e2⟩
  · rw [hn.2, ← v7]
    refine hs_same _ (fun q => ?_)
    by_cases hq : q = a
    · subst hq
      obtain ⟨c1, c2, c3, c4, c5, c6, c7⟩ := v3 q hne0
      by_cases e50 : kd h q = 50
      · rw [h1 e50, c4 e50]; simp [arrV_size]
      · rw [h1' (by omega), c5 (by omega)]; simp [arrV_size]
    · rw [h3 q hq]
theorem WT.new {h : Hp} {a K n : Nat} (k : WT h) (ha : kd h a = 0) : WT (nw h a K n) := by
  have hx : Ex h (nw h a K n) := (Ex.refl h).nw K n ha
  refine ⟨fun b g hb hg => ?_, fun b j hb => ?_⟩
  · by_cases e : b = a
    · rw [rf_nw, if_pos e]; exact trivial
    · rw [kd_nw, if_neg e] at hb hg
      rw [rf_nw, if_neg e]
      exact (k.1 b g hb hg).ext hx
  · by_cases e : b = a
    · rw [rf_nw, if_pos e]; exact trivial
    · rw [kd_nw, if_neg e] at hb ⊢
      rw [rf_nw, if_neg e]
      exact (k.2 b j hb).ext hx
/-- a new cell -/
theorem VH.new {E : Gx} {h : Hp} {H H' : Heap} {K n : Nat} (hV : VH E h H) (hK : K ≠ 0 ∧ K < 60) (h2 : H'.size = H.size + 1) (h3 : ∀ q, q < H.size → H'[q]? = H[q]?) {cell : Cell} (h4 : H'[H.size]? = some cell) (h5 : cell.slots.size = szK K n) (h6 : nc h + 1 ≤ 679679) (h7 : ns h + szK K n ≤ 7063211) (h8 : 50 ≤ K → n < 2 ^ 26)
    (ho : kOb K = true → ObjOk E (nw h H.size K n) H' H.size) (h1 : K = 50 → H'[H.size]? = some (arrV (E.2.1 50) n (fun _ => .int 0))) (h1' : K = 51 ∨ K = 52 → H'[H.size]? = some (arrV (E.2.1 K) n (fun _ => .null))) : VH E (nw h H.size K n) H' ∧ kd h H.size = 0 ∧ E.1.heap.size ≤ H.size := by
  have hfr : kd h H.size = 0 := by
    by_cases hz : kd h H.size = 0
    · exact hz
    · exact absurd (hV.2.2.1 _ hz).1 (Nat.lt_irrefl _)
  obtain ⟨v1, v2, v3, v4, v5, v6, v7, v8, v9⟩ := hV
  refine ⟨⟨by rw [h2]; exact Nat.le_succ_of_le v1, fun q hq => by rw [h3 q (Nat.lt_of_lt_of_le hq v1)]; exact v2 q hq, fun b hb => ?_, fun k hk' => ?_, v5.new hfr, by rw [h2, nc_nw, v6, Nat.add_assoc], by rw [hs_new v1 h4 h5 h2 h3, v7, ns_nw], by rw [nc_nw]; exact h6, by rw [ns_nw]; exact h7⟩, hfr, v1⟩
  · by_cases hba : b = H.size
    · subst hba
      have e1 : kd (nw h H.size K n) H.size = K := by rw [kd_nw, if_pos rfl]
      have e2 : ln (nw h H.size K n) H.size = n := by rw [ln_nw, if_pos rfl]
      refine ⟨by omega, fun _ => v1, fun q => ho (by rw [e1] at q; exact q), fun q => ?_, fun q => ?_, fun q => ?_, fun q => ?_⟩
      · rw [e1] at q
        rw [h1 q, e2]
        congr 2
        funext j
        rw [it_nw, if_pos rfl]
      · rw [e1] at q ⊢
        rw [h1' q, e2]
        congr 2
        funext j
        rw [rf_nw, if_pos rfl]; rfl
      · rw [e1] at q; rw [e2]; exact h8 q.1
      · rw [e1] at q; omega
    · have e1 : kd (nw h H.size K n) b = kd h b := by rw [kd_nw, if_neg hba]
      have e2 : ln (nw h H.size K n) b = ln h b := by rw [ln_nw, if_neg hba]
      have e3 : ∀ j, rf (nw h H.size K n) j b = rf h j b := fun j => by rw [rf_nw, if_neg hba]
      have e4 : ∀ j, it (nw h H.size K n) j b = it h j b := fun j => by rw [it_nw, if_neg hba]
      rw [e1] at hb
      obtain ⟨c1, c2, c3, c4, c5, c6, c7⟩ := v3 b hb
      refine ⟨by omega, by rw [e1]; exact c2, fun q => ?_, fun q => ?_, fun q => ?_, fun q => by rw [e2]; rw [e1] at q; exact c6 q, fun q => ?_⟩
      · rw [e1] at q
        obtain ⟨cell', d1, d2, d3, d4, d5, d6⟩ := c3 q
        refine ⟨cell', by rw [h3 b c1]; exact d1, by rw [e1]; exact d2, d3, d4, by rw [e1]; exact d5, ?_⟩
        rw [e1]
        intro g' hg'
        unfold fv
        rw [e3, e4]
        exact d6 g' hg'
      · rw [e1] at q
        rw [h3 b c1, c4 q, e2]
        congr 2
        funext j
        rw [e4]
      · rw [e1] at q ⊢
        rw [h3 b c1, c5 q, e2]
        congr 2
        funext j
        rw [e3]
      · rw [e1] at q
        rw [e2]
        obtain ⟨d1, d2, d3⟩ := c7 q
        refine ⟨d1, ?_, d3⟩
        have e : (fun j => it (nw h H.size K n) (100 + j) b) = fun j => it h (100 + j) b := by
          funext j
          rw [e4]
        rw [e]; exact d2
  · obtain ⟨e1, e2⟩ := v4 k hk'
    have hne : E.2.2.2.2.2 k ≠ H.size := fun q => by rw [q, hfr] at e1; cases e1
    rw [kd_nw, if_neg hne, it_nw, if_neg hne]
    exact ⟨e1, e2⟩
