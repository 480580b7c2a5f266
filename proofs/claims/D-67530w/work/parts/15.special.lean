/-! SPECIAL ROWS: contracts' ends by type, statics, natives, a nest mate's constructor, switches -/
set_option maxRecDepth 100000
def pV (K : Hp → Prop) : Option TV → Hp → Prop := fun v h => v = none ∧ K h
def pI (K : Int32 → Hp → Prop) : Option TV → Hp → Prop := fun v h => ∃ x, v = some (vI x) ∧ K x h
def pJ (K : Int64 → Hp → Prop) : Option TV → Hp → Prop := fun v h => ∃ x, v = some (vL x) ∧ K x h
def pF (K : UInt32 → Hp → Prop) : Option TV → Hp → Prop := fun v h => ∃ x, v = some (vF x) ∧ K x h
def pD (K : UInt64 → Hp → Prop) : Option TV → Hp → Prop := fun v h => ∃ x, v = some (vD x) ∧ K x h
def pR (T : List Nat) (K : Option Nat → Hp → Prop) : Option TV → Hp → Prop := fun v h => ∃ x, v = some (vR T x) ∧ K x h
section SPR
variable {X : Fx} {cc : ByteArray} {own : String} {nL lev : Nat} {h : Hp} {pc : Nat} {lv : List (Option TV)} {st : List TV}
/-- a reference's kind, by its type -/
theorem g_known {T : List Nat} {o : Option Nat} {r : Nat} (i : Nat) (hg : st[i]? = some (vR T o)) (ho : o = some r) (k : kd h r ∈ T → Gd X h pc lv st) : Gd X h pc lv st := by
  obtain ⟨E, h0, p, e, R, s, m, args, below, meth, c, Q⟩ := X
  subst ho
  intro H locs ls hV hL hl hE hT hS
  exact k (hS _ (List.mem_of_getElem? hg)).1 H locs ls hV hL hl hE hT hS
/-- a reference seen with fewer kinds -/
theorem g_nar {T : List Nat} {o : Option Nat} {r : Nat} (i : Nat) (L : List Nat) (hg : st[i]? = some (vR T o)) (ho : o = some r) (hk : kd h r ∈ L) (k : Gd X h pc lv (st.set i (vR L o))) : Gd X h pc lv st := by
  obtain ⟨E, h0, p, e, R, s, m, args, below, meth, c, Q⟩ := X
  subst ho
  intro H locs ls hV hL hl hE hT hS
  have k := k H locs ls hV hL hl hE hT (fun t ht => by
    rcases List.mem_or_eq_of_mem_set ht with h1 | h1
    · exact hS t h1
    · rw [h1]; exact ⟨hk, (hS _ (List.mem_of_getElem? hg)).2⟩)
  have e : (st.set i (vR L (some r))).map tv = st.map tv := by
    apply List.ext_getElem?
    intro j
    simp only [List.getElem?_map, List.getElem?_set]
    by_cases hij : i = j
    · subst hij
      obtain ⟨hlt, he⟩ := List.getElem?_eq_some_iff.mp hg
      simp only [hlt, if_true, hg, Option.map_some]
      rfl
    · simp only [hij, if_false]
  rw [e] at k
  exact k
theorem inSub {L L' : List Nat} {K : Nat} (hL : (L.all fun K => L'.contains K) = true) (hk : K ∈ L) : K ∈ L' := by
  have := List.all_eq_true.mp hL _ hk
  simpa using this
theorem g_ldcw {i : Nat} {v : Int32} (n : Nat) (hn : pc + 3 = n) (C : Cx X cc own nL lev) (hd : decode cc pc = .ok (.ldc_w i, 3)) (q : Cond.constant own i v ∈ lw_all) (k : Gd X h n lv (vI v :: st)) : Gd X h pc lv st := by
  obtain ⟨E, h0, p, e, R, s, m, args, below, meth, c, Q⟩ := X
  obtain ⟨hx, hb, hml, ho, hts, hlk, hG, hwm, hfr, hlo, hrc, hrs, hsz, hss⟩ := C
  subst hn
  intro H locs ls hV hL hl hE hT hS
  exact lv_ldcw hx hb ho (hts _ q) hd (k H locs ls hV hL hl hE hT (TS.c trivial hS))
theorem Z_kept {E : Gx} {s : State} {H : Heap} {C n d : String} {v : Value} (hZ : va_Z C n d v (oldA E) E.1 E.1.heap) (hal : E.1.vm.Alike s.vm) (hV : VH E h H) : va_Z C n d v (oldA E) s H :=
  (va_Z.moved hal hZ).kept (fun a h1 _ => hV.2.1 a h1)
/-- a static int that nobody writes -/
theorem g_gets {idx : Nat} {C n d : String} {v : Int32} (hZ : ∀ E, Glob E → va_Z C n d (.int v) (oldA E) E.1 E.1.heap) (q : Nat) (hn : pc + 3 = q) (Cc : Cx X cc own nL lev) (hd : decode cc pc = .ok (.getstatic idx, 3)) (hl : Cond.fieldLink own idx C n d ∈ lw_all) (k : Gd X h q lv (vI v :: st)) : Gd X h pc lv st := by
  obtain ⟨E, h0, p, e, R, s, m, args, below, meth, c, Q⟩ := X
  obtain ⟨hx, hb, hml, ho, hts, hlk, hG, hwm, hfr, hlo, hrc, hrs, hsz, hss⟩ := Cc
  subst hn
  intro H locs ls hV hL hl' hE hT hS
  obtain ⟨cf, kf, fi, f, a, cell, h1, h2, h3, h4, h5, h6, h7, h8⟩ := Z_kept (hZ E hG) hwm.alike hV
  exact W.gets hx hb ho (hts _ hl) h1 h2 h3 h4 h5 (fun e => by rw [e] at h6; cases h6) h7 rfl hd (k H locs ls hV hL hl' hE hT (TS.c trivial hS))
theorem eq_eval {args : Array Value} {s : State} {t u : Term} {v : Value} (h : (Cond.eq t u).before args s = true) (hu : u.eval args s none [] s = some v) : t.eval args s none [] s = some v := by
  refine va_eqI (u := u) ?_ hu
  simpa [Cond.before, Cond.holds] using h
theorem Z_assert {E : Gx} (hG : Glob E) : va_Z "java/util/HashMap$TreeNode" "$assertionsDisabled" "Z" (.int 1) (oldA E) E.1 E.1.heap :=
  va_Zof (hG.1 (Cond.laysStatic "java/util/HashMap$TreeNode" "$assertionsDisabled" "Z") q368) (hG.1 _ (lw_all_tbl q21)) (eq_eval (u := .int 1) (flat_of_before _ hG.2.2.2.2.1 _ (by decide +kernel)) rfl) (fun a h1 h2 => absurd h2 (by show ¬ _ ≤ _; omega))
theorem Z_assertM {E : Gx} (hG : Glob E) : va_Z "java/lang/StrictMath" "$assertionsDisabled" "Z" (.int 1) (oldA E) E.1 E.1.heap :=
  va_Zof (hG.1 (Cond.laysStatic "java/lang/StrictMath" "$assertionsDisabled" "Z") q889) (hG.1 _ (lw_all_tbl q35)) (eq_eval (u := .int 1) (flat_of_before _ hG.2.2.2.2.1 _ (by decide +kernel)) rfl) (fun a h1 h2 => absurd h2 (by show ¬ _ ≤ _; omega))
theorem g_assert {idx : Nat} (n : Nat) (hn : pc + 3 = n) (C : Cx X cc own nL lev) (hd : decode cc pc = .ok (.getstatic idx, 3)) (hl : Cond.fieldLink own idx "java/util/HashMap$TreeNode" "$assertionsDisabled" "Z" ∈ lw_all) (k : Gd X h n lv (vI 1 :: st)) : Gd X h pc lv st := g_gets (fun _ hG => Z_assert hG) n hn C hd hl k
theorem g_assertM {idx : Nat} (n : Nat) (hn : pc + 3 = n) (C : Cx X cc own nL lev) (hd : decode cc pc = .ok (.getstatic idx, 3)) (hl : Cond.fieldLink own idx "java/lang/StrictMath" "$assertionsDisabled" "Z" ∈ lw_all) (k : Gd X h n lv (vI 1 :: st)) : Gd X h pc lv st := g_gets (fun _ hG => Z_assertM hG) n hn C hd hl k
def vbD (x : UInt64) : Int64 := x.toInt64
def vbL (x : Int64) : UInt64 := x.toUInt64
def vbN (x : Int64) : Prop := vn_snl2d x = false
theorem g_d2l {idx : Nat} {x : UInt64} (n : Nat) (hn : pc + 3 = n) (C : Cx X cc own nL lev) (hd : decode cc pc = .ok (.invokestatic idx, 3)) (q1 : Cond.methodLink own idx ⟨"java/lang/Double", "doubleToRawLongBits", "(D)J"⟩ ∈ lw_all) (hlev : 1 ≤ lev) (h8 : cat8 st ≤ 8) (k : Gd X h n lv (vL (vbD x) :: st)) : Gd X h pc lv (vD x :: st) := by
  obtain ⟨E, h0, p, e, R, s, m, args, below, meth, c, Q⟩ := X
  obtain ⟨hx, hb, hml, ho, hts, hlk, hG, hwm, hfr, hlo, hrc, hrs, hsz, hss⟩ := C
  subst hn
  intro H locs ls hV hL hl hE hT hS
  exact vn_d2l hx hb hl.1.symm ho (hts _ q1) (hts _ q885) (hts _ q884) (hts _ q36) (by omega) (by rw [cat8_ok]; omega) hd (k H locs ls hV hL hl hE hT (TS.c trivial hS.t))
theorem g_l2d {idx : Nat} {x : Int64} (n : Nat) (hn : pc + 3 = n) (C : Cx X cc own nL lev) (hd : decode cc pc = .ok (.invokestatic idx, 3)) (q1 : Cond.methodLink own idx ⟨"java/lang/Double", "longBitsToDouble", "(J)D"⟩ ∈ lw_all) (hlev : 1 ≤ lev) (hv : vbN x) (h8 : cat8 st ≤ 8) (k : Gd X h n lv (vD (vbL x) :: st)) : Gd X h pc lv (vL x :: st) := by
  obtain ⟨E, h0, p, e, R, s, m, args, below, meth, c, Q⟩ := X
  obtain ⟨hx, hb, hml, ho, hts, hlk, hG, hwm, hfr, hlo, hrc, hrs, hsz, hss⟩ := C
  subst hn
  intro H locs ls hV hL hl hE hT hS
  exact vn_l2d hx hb hl.1.symm ho (hts _ q1) (hts _ q895) (hts _ q894) (hts _ q36) hv (by omega) (by rw [cat8_ok]; omega) hd (k H locs ls hV hL hl hE hT (TS.c trivial hS.t))
/-- System.arraycopy between int arrays -/
def cpI (h : Hp) (a i b j n : Nat) : Hp := (h.1, h.2.1, fun k x => if x = b ∧ 100 + j ≤ k ∧ k < 100 + j + n then h.2.2.1 (k - j + i) a else h.2.2.1 k x, h.2.2.2)
theorem it_cpI (h : Hp) (a i b j n k x : Nat) : it (cpI h a i b j n) k x = if x = b ∧ 100 + j ≤ k ∧ k < 100 + j + n then it h (k - j + i) a else it h k x := rfl
theorem kd_cpI (h : Hp) (a i b j n x : Nat) : kd (cpI h a i b j n) x = kd h x := rfl
theorem rf_cpI (h : Hp) (a i b j n k x : Nat) : rf (cpI h a i b j n) k x = rf h k x := rfl
theorem ln_cpI (h : Hp) (a i b j n x : Nat) : ln (cpI h a i b j n) x = ln h x := rfl
theorem nI_int {n : Nat} (h : n < 2 ^ 31) : (nI n).toInt = (n : Int) := nI_toInt h
theorem g_acopy {idx : Nat} {o1 o2 : Option Nat} {sp dp cn : Int32} {a b i j q : Nat} (n : Nat) (hn : pc + 3 = n) (C : Cx X cc own nL lev) (hd : decode cc pc = .ok (.invokestatic idx, 3)) (q1 : Cond.methodLink own idx arraycopyName ∈ lw_all) (hlev : 1 ≤ lev) (h8 : cat8 st ≤ 8) (e1 : o1 = some a) (e2 : o2 = some b) (e3 : sp = nI i) (e4 : dp = nI j) (e5 : cn = nI q) (l1 : i + q ≤ ln h a) (l2 : j + q ≤ ln h b) (k : Gd X (cpI h a i b j q) n lv st) : Gd X h pc lv (vI cn :: vI dp :: vR [50] o2 :: vI sp :: vR [50] o1 :: st) := by
  obtain ⟨E, h0, p, e, R, s, m, args, below, meth, c, Q⟩ := X
  obtain ⟨hx, hb, hml, ho, hts, hlk, hG, hwm, hfr, hlo, hrc, hrs, hsz, hss⟩ := C
  have hal := hwm.alike
  subst hn; subst e1; subst e2; subst e3; subst e4; subst e5
  intro H locs ls hV hLo hl hE hT hS
  have ka : kd h a = 50 := by simpa using hS.t.t.t.t.h.1
  have kb : kd h b = 50 := by simpa using hS.t.t.h.1
  obtain ⟨c1, c2, c3, c4, c5, c6, c7⟩ := hV.2.2.1 a (by omega)
  obtain ⟨d1, d2, d3, d4, d5, d6, d7⟩ := hV.2.2.1 b (by omega)
  have sa := c6 (by omega)
  have sb := d6 (by omega)
  intro T hT0 XX
  obtain ⟨-, k0, hk0, cm0, hkk0⟩ := (arrOfT_moved hal (hG.2.2.2.1 50 (Or.inl rfl)).1) (ln h a) (fun z => .int (it h (100 + z) a))
  obtain ⟨-, k1, hk1, cm1, hkk1⟩ := (arrOfT_moved hal (hG.2.2.2.1 50 (Or.inl rfl)).1) (ln h b) (fun z => .int (it h (100 + z) b))
  have i1 := nI_clamp (n := i) (by omega)
  have i2 := nI_clamp (n := j) (by omega)
  have i3 := nI_clamp (n := q) (by omega)
  obtain ⟨vm', X', step⟩ := XX.arraycopy hx ho (hts _ q1) (hts _ q1192) (hts _ q1191) (hts _ q24) (src := a) (dst := b) (cs := arrV (E.2.1 50) (ln h a) (fun z => .int (it h (100 + z) a))) (cd := arrV (E.2.1 50) (ln h b) (fun z => .int (it h (100 + z) b))) (srcPos := nI i) (destPos := nI j) (n := nI q) (by rw [hT0]; exact c4 ka) (by rw [hT0]; exact d4 kb)
    (fun _ h => by cases h) (fun _ h => by cases h) (fun h => by cases h) (fun h => by cases h) hk0 hk1 hkk0 hkk1 (by simp [aT]) (nI_pos (by omega)) (nI_pos (by omega)) (nI_pos (by omega))
    (by rw [nI_toInt (by omega), nI_toInt (by omega), arrV_size]; omega)
    (by rw [nI_toInt (by omega), nI_toInt (by omega), arrV_size]; omega)
    (fun vm₁ _ z hz => by
      rw [i3] at hz
      have e : (arrV (E.2.1 50) (ln h a) (fun z => Value.int (it h (100 + z) a))).slots.getD ((nI i).toNatClampNeg + z) .null = .int (it h (100 + (i + z)) a) := by
        rw [i1, Array.getD_eq_getD_getElem?, arrV_read _ _ (by omega)]
        rfl
      refine ⟨?_, ?_⟩
      · rw [e]; rfl
      · rw [e]; exact trivial)
    (g := F0 m pc ls (.int (nI q) :: .int (nI j) :: .ref b :: .int (nI i) :: .ref a :: st.map tv)) rfl hl.1 (rest := st.map tv) rfl (by rw [hb]; exact hd) (by omega) (by
      have hw : nativeFrameWords "java/lang/System" "arraycopy" 5 ≤ 20 := (by decide)
      show 2 * 0 + _ + _ ≤ _
      rw [cat8_ok]; omega)
  have ee : copied (arrV (E.2.1 50) (ln h a) (fun z => .int (it h (100 + z) a))) (arrV (E.2.1 50) (ln h b) (fun z => .int (it h (100 + z) b))) (nI i) (nI j) (nI q) = arrV (E.2.1 50) (ln h b) (fun z => .int (va_cpy (fun z => it h (100 + z) a) (fun z => it h (100 + z) b) (nI i).toNatClampNeg (nI j).toNatClampNeg (nI q).toNatClampNeg z)) := va_copied (fun z => Value.int z) _ _ _ _ (by rw [i1, i3]; exact l1)
  rw [ee, i1, i2, i3] at X' step
  generalize hcell : arrV (E.2.1 50) (ln h b) (fun z => Value.int (va_cpy (fun z => it h (100 + z) a) (fun z => it h (100 + z) b) i j q z)) = cell at X' step
  have hheap : ((T.setVm vm').setCell b cell).heap = H.setIfInBounds b cell := by rw [← hT0]; rfl
  have oq : ∀ z : Nat, z ≠ b → (H.setIfInBounds b cell)[z]? = H[z]? := fun z hz => by simp [Array.getElem?_setIfInBounds, Ne.symm hz]
  have hV' : VH E (cpI h a i b j q) (H.setIfInBounds b cell) := by
    refine VH.ast (a := b) hV (fun _ => rfl) (fun _ => rfl) ⟨rfl, rfl⟩ hV.2.2.2.2.1 (fun z g hz => ⟨rfl, by rw [it_cpI, if_neg (fun w => hz w.1)]⟩) (by omega) (fun _ => ?_) (fun w => by omega) (by simp) oq
    rw [show (H.setIfInBounds b cell)[b]? = some cell by simp [Array.getElem?_setIfInBounds, d1], ← hcell]
    congr 2
    funext z
    rw [it_cpI]
    unfold va_cpy
    by_cases hz : j ≤ z ∧ z < j + q
    · rw [if_pos hz, if_pos ⟨rfl, by omega, by omega⟩, show 100 + z - j + i = 100 + (i + (z - j)) by omega]
    · rw [if_neg hz, if_neg (fun w => hz ⟨by omega, by omega⟩)]
  obtain ⟨L, hL, X'⟩ : ∃ L : List Loc, (∀ z ∈ L, z.base = b) ∧ Stand p E.2.2.2.1 e R s m args below meth c ((T.setVm vm').setCell b cell) (locs ++ L) (nc h - nc h0) (ns h - ns h0) := ⟨_, fun z hz => by
    obtain ⟨z', -, hz'⟩ := List.mem_map.mp hz
    rw [← hz'], X'⟩
  obtain ⟨t, a1, b1⟩ := k (H.setIfInBounds b cell) (locs ++ L) ls hV' (fun z hz => by
    rcases List.mem_append.mp hz with hz | hz
    · exact hLo z hz
    · rw [hL z hz]
      exact d2 (by omega)) hl hE hT hS.t.t.t.t.t _ hheap X'
  exact ⟨t, step t a1, b1⟩
/-- a nest mate's private constructor -/
theorem g_callIN {y : MethodName} {host : String} {b : ByteArray} {mL lev' idx r : Nat} {T : List Nat} {o : Option Nat} {As : List TV} {post : Option TV → Hp → Prop} {st0 : List TV} (n : Nat) (hn : pc + 3 = n) (C : Cx X cc own nL lev) (hd : decode cc pc = .ok (.invokespecial idx, 3)) (q1 : Cond.methodLinkNest own idx y host ∈ lw_tbl) (q2 : Cond.instanceMethod y ∈ lw_all) (q3 : Cond.initialized y.cls ∈ lw_all) (q4 : Cond.code y b mL none ∈ lw_all) (hi : y.name = "<init>") (hN : okN y As.length) (hlev : lev' + 1 ≤ lev) (hmL : mL ≤ 41) (h8 : cat8 st ≤ 8) (ho : o = some r) (hst : st0 = As.reverse ++ vR T o :: st)
    (ct : Ct X.1 y b mL none lev' (vR T o :: As) h post) (k : ∀ v h', post v h' → Ex h h' → (∀ t, v = some t → TyOK h' t) → Gd X h' n lv (v.toList ++ st)) : Gd X h pc lv st0 := by
  obtain ⟨E, h0, p, e, R, s, m, args, below, meth, c, Q⟩ := X
  obtain ⟨hx, hb, hml, how, hts, hlk, hG, hwm, hfr, hlo, hrc, hrs, hsz, hss⟩ := C
  subst hn; subst hst; subst ho
  intro H locs ls hV hLo hl hE hT hS
  obtain ⟨hA, hS⟩ := hS.rev
  refine run_on (post := post) (a := ((vR T (some r) :: As).map tv).toArray) ?_ hsz hss hLo hl hE hT hS.t k
  refine va_runIN (b := r) (As := As.map tv) (rest := st.map tv) (Ts := lw_all) (n := As.length) ⟨hx, hb, hml, how, hts⟩ ct ⟨va_cnB (Ts := lw_all) As.length hts (lw_meth q4) rfl rfl rfl (va_Nw.warmM hwm (va_Nw.of rfl (hG.1 _ q1))) (hts _ q3) hN (lvl (n := 0) hlev hmL hfr hlo), hi, hts _ q2⟩ ⟨blind_W, fun U hU hW => ⟨rfl, TS.c hS.h hA, hwm.trans hW, by rw [hU]; exact hV⟩⟩ rfl (by simp) (by rw [← hml]; exact hl.1) (by simp [F0, tv, va_rf]) (lv_room (by rw [cat8_ok]; exact h8)) hd (rooms hV hE hrc hrs)
end SPR
theorem tbl_out3 {x : Int32} (q0 : ¬ x = 0) (q1 : ¬ x = 1) (q2 : ¬ x = 2) : x.toInt < 0 ∨ 2 < x.toInt := by
  have e : ∀ k : Int32, ¬ x = k → x.toInt ≠ k.toInt := fun k hk h => hk (Int32.toInt_inj.mp h)
  have a0 := e 0 q0
  have a1 := e 1 q1
  have a2 := e 2 q2
  have b0 : (0 : Int32).toInt = 0 := rfl
  have b1 : (1 : Int32).toInt = 1 := rfl
  have b2 : (2 : Int32).toInt = 2 := rfl
  omega
