/-! A METHOD WITH HANDLERS (AbstractMap.equals): its contract, and its call through an object -/
set_option maxRecDepth 100000
def CtW (E : Gx) (y : MethodName) (cc : ByteArray) (nL : Nat) (ret : Option FieldType) (hh : List (Nat × Nat × Nat × Nat)) (lev : Nat) (As : List TV) (h : Hp) (post : Option TV → Hp → Prop) : Prop :=
  Met E.2.2.2.1 y (wsW_ y cc nL ret hh) (rmL lev h) (va_Pc (As.map tv) (fun U => TS h As ∧ World E h U)) (QcP E h post) (679679 - nc h) (7063211 - ns h) (oldA E)
theorem CtW.of {E : Gx} {y : MethodName} {cc : ByteArray} {nL : Nat} {ret : Option FieldType} {hh : List (Nat × Nat × Nat × Nat)} {lev : Nat} {As : List TV} {h : Hp} {post : Option TV → Hp → Prop} {lv : List (Option TV)} (GE : Glob E) (hy : plainName y.cls = true) (hlen : (lvA As).length ≤ nL) (hlv : lvI As nL = lv)
    (body : ∀ X : Fx, X.1 = E → Cx X cc y.cls nL lev → Rx X ret post → Nm X y.name → Gd X h 0 lv []) : CtW E y cc nL ret hh lev As h post := by
  refine va_MetW (cc := cc) (maxL := nL) (ret := ret) (hh := hh) hy rfl ?_
  intro p e s m args below meth c s₁ B hml hv
  obtain ⟨rfl, hTS, hal, hV⟩ := hv
  have hts := atoms_spec (ws := wsW_ y cc nL ret hh) B.pre
  have hts : ∀ w ∈ lw_all, w.before _ s = true := fun w h => hts w (List.mem_cons_of_mem _ h)
  have b := body (E, h, p, e, (headSpec (wsW_ y cc nL ret hh) (rmL lev h)).room, s, m, (As.map tv).toArray, below, meth, c, MQ below (QcP E h post) (As.map tv).toArray s (679679 - nc h) (7063211 - ns h) (oldA E)) rfl
    ⟨B.exec, B.bytes, hml, findClass_of_methodNamed B.named, hts, B.notSynchronized, GE, hal, Nat.le_refl _, Nat.le_refl _, rfl, rfl, hV.2.2.2.2.2.1, hV.2.2.2.2.2.2.1⟩ ⟨B.returns, rfl⟩ (name_of_methodNamed B.named B.method).1
  rw [lg_entry_eq]
  have hl := lv_entry (As.map tv) (n := nL) (by rw [← lvA_len]; exact hlen)
  have b := b s.heap [] ((lg_sl (As.map tv) ++ List.replicate (nL - (lg_sl (As.map tv)).length) Slot.unset).toArray) hV (fun q hq => by cases hq) (by
    rw [hml, ← hlv]
    exact ⟨hl.1, hl.2.1, fun q hq => hl.2.2 q (lvA_mem As _ 0 q hq)⟩) (Ex.refl h) (by rw [← hlv]; exact TL_lvA hTS) (TS.nil h)
  rw [Nat.sub_self, Nat.sub_self] at b
  exact b
section HWR
variable {X : Fx} {cc : ByteArray} {own : String} {nL lev : Nat} {h : Hp} {pc : Nat} {lv : List (Option TV)} {st : List TV}
theorem g_callUW {x y : MethodName} {owner : String} {b : ByteArray} {hh : List (Nat × Nat × Nat × Nat)} {mL lev' idx r : Nat} {rt : Option FieldType} {T : List Nat} {o : Option Nat} {As : List TV} {post : Option TV → Hp → Prop} {st0 : List TV} (Cn : String) (n : Nat) (hn : pc + 3 = n) (C : Cx X cc own nL lev) (hd : decode cc pc = .ok (.invokevirtual idx, 3)) (q1 : Cond.methodLink own idx x ∈ lw_all) (q2 : Cond.sameMethod x.cls owner x.name x.desc ∈ lw_all) (qd : Dc ⟨owner, x.name, x.desc⟩) (q3 : Cond.selects Cn x y ∈ lw_all) (q4 : Cond.instanceMethod y ∈ lw_all) (q5 : Cond.initialized y.cls ∈ lw_all) (q6 : Cond.codeWith y b mL rt hh ∈ lw_all) (hN : okN ⟨owner, x.name, x.desc⟩ As.length) (hlev : lev' + 1 ≤ lev) (hmL : mL ≤ 41) (h8 : cat8 st ≤ 8) (ho : o = some r) (hk : kd h r ∈ T → kOb (kd h r) = true ∧ cN (kd h r) = Cn) (hst : st0 = As.reverse ++ vR T o :: st)
    (ct : CtW X.1 y b mL rt hh lev' (vR T o :: As) h post) (k : ∀ v h', post v h' → Ex h h' → (∀ t, v = some t → TyOK h' t) → Gd X h' n lv (v.toList ++ st)) : Gd X h pc lv st0 := by
  obtain ⟨E, h0, p, e, R, s, m, args, below, meth, c, Q⟩ := X
  obtain ⟨hx, hb, hml, how, hts, hlk, hG, hwm, hfr, hlo, hrc, hrs, hsz, hss⟩ := C
  have hal := hwm.alike
  subst hn; subst hst; subst ho
  intro H locs ls hV hLo hl hE hT hS
  obtain ⟨hA, hS⟩ := hS.rev
  refine run_on (post := post) (a := ((vR T (some r) :: As).map tv).toArray) ?_ hsz hss hLo hl hE hT hS.t k
  obtain ⟨r1, r2⟩ := lvl (h := h) (n := 0) hlev hmL hfr hlo
  have hini := hts _ q5
  have hK : Back E.2.2.2.1 R p e below s args y 3 8 (PreOf R (679679 - nc h) (7063211 - ns h) (va_Pc ((vR T (some r) :: As).map tv) (fun U => TS h (vR T (some r) :: As) ∧ World E h U))) (PostOf (QcP E h post) (679679 - nc h) (7063211 - ns h) (oldA E)) :=
    va_backW (hh := hh) (bytes := b) (maxL := mL) (ret := rt) ct blind_W rfl rfl r1 r2 (pay_in hts (lw_methW q6)) List.mem_cons_self (fun a' U hW => word_at hW (Or.inl (by first | rfl | simp [Cond.onTables, Cond.keeps, Cond.steady])) hini)
  intro T0 hT0 XX
  obtain ⟨r0, rr, hnr, hrm, hstR, hsigR⟩ := qd.ok hG hal hts
  obtain ⟨cn, ck, r1', hcn, hck, hni, hf, hn1⟩ := Cond.sameMethod_found (hts _ q2)
  cases hnr.symm.trans hn1
  obtain ⟨mk, methM, hnamed, hmethM, -, habM⟩ := Cond.instanceMethod_spec (hts _ q4)
  obtain ⟨c2, r2', m2, g1, g2, g3, g4, kP, hkP, hkPi⟩ := Cond.selects_spec (hts _ q3)
  obtain ⟨cellB, hcB, hoB, hclB⟩ := rcvK hG hal hV (hk hS.h.1)
  cases hclB.symm.trans g1
  cases hf.symm.trans g2
  cases hnamed.symm.trans g3
  have hselP : selectMethod e.platform s.vm cellB.cls r0 = .method mk := by rw [Launch.admits_selectMethod XX.admits]; exact g4
  have hlen : As.length = rr.sig.parameters.length := by
    have h2 := hN.2.2
    rw [hsigR] at h2
    exact (Option.some.inj h2).symm
  obtain ⟨vm₁, X₁, hstep₁⟩ := XX.invokevirtualUp hx how (hts _ q1) (hts _ q2) ⟨hN.1, hN.2.1⟩ hnr hrm hstR (a := r) (cell := cellB) (by rw [hT0]; exact hcB)
    (fun z h => by rw [h] at hoB; cases hoB) hselP hmethM habM hkP hkPi (g := F0 m pc ls ((As.reverse ++ vR T (some r) :: st).map tv)) rfl (argsL := As.map tv) (rest := st.map tv) (by rw [List.length_map]; exact hlen) (by simp [F0, tv, va_rf]) (by rw [hb]; exact hd)
  obtain ⟨v, ⟨U', l2, cc2, ss2⟩, X', ⟨g', mk', t, L, e1, e2, hq, w1, hL, w2, w3⟩, hsteps⟩ := hK m meth c ⟨T0.setVm vm₁, locs, nc h - nc h0, ns h - ns h0⟩ { (F0 m pc ls ((As.reverse ++ vR T (some r) :: st).map tv)) with stack := st.map tv } (.invokevirtual idx) mk (Value.ref r :: As.map tv).toArray X₁ rfl hl.1 (by rw [hb]; exact hd) (lv_room (by rw [cat8_ok]; exact h8)) (X₁.named hnamed) ⟨(rooms hV hE hrc hrs).1, (rooms hV hE hrc hrs).2, rfl, TS.c hS.h hA, hwm.trans X₁.warmed, by show VH E h T0.heap; rw [hT0]; exact hV⟩
  dsimp only [Pt.U, Pt.locs, Pt.cells, Pt.slots] at X' e1 e2 w1 w2 w3 hsteps
  subst w1; subst w2; subst w3
  exact ⟨v, _, t, U', L, hT0, X', hL, e1, e2, hq, fun target hh => hstep₁ _ fun acts => by rw [doInvoke_state]; exact hsteps.trans hh⟩
end HWR
