/-! ROWS: one an instruction, over Gd (printed by mkrows.py) -/
section RWS
variable {X : Fx} {cc : ByteArray} {own : String} {nL lev : Nat} {h : Hp} {pc : Nat} {lv : List (Option TV)} {st : List TV}
theorem g_iconst {z : Int} (n : Nat) (hn : pc + 1 = n) (C : Cx X cc own nL lev) (hd : decode cc pc = .ok (.iconst z, 1)) (v : Int32) (hv : Int32.ofInt z = v) (k : Gd X h n lv (vI v :: st)) : Gd X h pc lv (st) := by
  obtain ⟨E, h0, p, e, R, s, m, args, below, meth, c, Q⟩ := X
  obtain ⟨hx, hb, hml, ho, hts, hlk, hG, hwm, hfr, hlo, hrc, hrs, hsz, hss⟩ := C
  have hal := hwm.alike
  subst hn
  intro H locs ls hV hL hl hE hT hS
  exact lv_iconst hx hb hd hv (k H locs ls hV hL hl hE hT (TS.c trivial hS))
theorem g_bipush {z : Int} (n : Nat) (hn : pc + 2 = n) (C : Cx X cc own nL lev) (hd : decode cc pc = .ok (.bipush z, 2)) (v : Int32) (hv : (Int8.ofInt z).toInt32 = v) (k : Gd X h n lv (vI v :: st)) : Gd X h pc lv (st) := by
  obtain ⟨E, h0, p, e, R, s, m, args, below, meth, c, Q⟩ := X
  obtain ⟨hx, hb, hml, ho, hts, hlk, hG, hwm, hfr, hlo, hrc, hrs, hsz, hss⟩ := C
  have hal := hwm.alike
  subst hn
  intro H locs ls hV hL hl hE hT hS
  exact lv_bipush hx hb hd hv (k H locs ls hV hL hl hE hT (TS.c trivial hS))
theorem g_sipush {z : Int} (n : Nat) (hn : pc + 3 = n) (C : Cx X cc own nL lev) (hd : decode cc pc = .ok (.sipush z, 3)) (v : Int32) (hv : (Int16.ofInt z).toInt32 = v) (k : Gd X h n lv (vI v :: st)) : Gd X h pc lv (st) := by
  obtain ⟨E, h0, p, e, R, s, m, args, below, meth, c, Q⟩ := X
  obtain ⟨hx, hb, hml, ho, hts, hlk, hG, hwm, hfr, hlo, hrc, hrs, hsz, hss⟩ := C
  have hal := hwm.alike
  subst hn
  intro H locs ls hV hL hl hE hT hS
  exact lv_sipush hx hb hd hv (k H locs ls hV hL hl hE hT (TS.c trivial hS))
theorem g_lconst {z : Fin 2} (n : Nat) (hn : pc + 1 = n) (C : Cx X cc own nL lev) (hd : decode cc pc = .ok (.lconst z, 1)) (v : Int64) (hv : Int64.ofNat (z : Nat) = v) (k : Gd X h n lv (vL v :: st)) : Gd X h pc lv (st) := by
  obtain ⟨E, h0, p, e, R, s, m, args, below, meth, c, Q⟩ := X
  obtain ⟨hx, hb, hml, ho, hts, hlk, hG, hwm, hfr, hlo, hrc, hrs, hsz, hss⟩ := C
  have hal := hwm.alike
  subst hn
  intro H locs ls hV hL hl hE hT hS
  exact lv_lconst hx hb hd hv (k H locs ls hV hL hl hE hT (TS.c trivial hS))
theorem g_null  (n : Nat) (hn : pc + 1 = n) (C : Cx X cc own nL lev) (hd : decode cc pc = .ok (.aconst_null, 1))  (k : Gd X h n lv (vR [] none :: st)) : Gd X h pc lv (st) := by
  obtain ⟨E, h0, p, e, R, s, m, args, below, meth, c, Q⟩ := X
  obtain ⟨hx, hb, hml, ho, hts, hlk, hG, hwm, hfr, hlo, hrc, hrs, hsz, hss⟩ := C
  have hal := hwm.alike
  subst hn
  intro H locs ls hV hL hl hE hT hS
  exact lv_null hx hb hd (k H locs ls hV hL hl hE hT (TS.c trivial hS))
theorem g_fconst0  (n : Nat) (hn : pc + 1 = n) (C : Cx X cc own nL lev) (hd : decode cc pc = .ok (.fconst 0, 1))  (k : Gd X h n lv (vF FP.fconst0 :: st)) : Gd X h pc lv (st) := by
  obtain ⟨E, h0, p, e, R, s, m, args, below, meth, c, Q⟩ := X
  obtain ⟨hx, hb, hml, ho, hts, hlk, hG, hwm, hfr, hlo, hrc, hrs, hsz, hss⟩ := C
  have hal := hwm.alike
  subst hn
  intro H locs ls hV hL hl hE hT hS
  exact lv_fconst0 hx hb hd (k H locs ls hV hL hl hE hT (TS.c trivial hS))
theorem g_dconst0  (n : Nat) (hn : pc + 1 = n) (C : Cx X cc own nL lev) (hd : decode cc pc = .ok (.dconst 0, 1))  (k : Gd X h n lv (vD FP.dconst0 :: st)) : Gd X h pc lv (st) := by
  obtain ⟨E, h0, p, e, R, s, m, args, below, meth, c, Q⟩ := X
  obtain ⟨hx, hb, hml, ho, hts, hlk, hG, hwm, hfr, hlo, hrc, hrs, hsz, hss⟩ := C
  have hal := hwm.alike
  subst hn
  intro H locs ls hV hL hl hE hT hS
  exact lv_dconst0 hx hb hd (k H locs ls hV hL hl hE hT (TS.c trivial hS))
theorem g_dconst1  (n : Nat) (hn : pc + 1 = n) (C : Cx X cc own nL lev) (hd : decode cc pc = .ok (.dconst 1, 1))  (k : Gd X h n lv (vD FP.dconst1 :: st)) : Gd X h pc lv (st) := by
  obtain ⟨E, h0, p, e, R, s, m, args, below, meth, c, Q⟩ := X
  obtain ⟨hx, hb, hml, ho, hts, hlk, hG, hwm, hfr, hlo, hrc, hrs, hsz, hss⟩ := C
  have hal := hwm.alike
  subst hn
  intro H locs ls hV hL hl hE hT hS
  exact lv_dconst1 hx hb hd (k H locs ls hV hL hl hE hT (TS.c trivial hS))
theorem g_ldc {i : Nat} {v : Int32} (n : Nat) (hn : pc + 2 = n) (C : Cx X cc own nL lev) (hd : decode cc pc = .ok (.ldc i, 2)) (q : Cond.constant own i v ∈ lw_all) (k : Gd X h n lv (vI v :: st)) : Gd X h pc lv (st) := by
  obtain ⟨E, h0, p, e, R, s, m, args, below, meth, c, Q⟩ := X
  obtain ⟨hx, hb, hml, ho, hts, hlk, hG, hwm, hfr, hlo, hrc, hrs, hsz, hss⟩ := C
  have hal := hwm.alike
  subst hn
  intro H locs ls hV hL hl hE hT hS
  exact lv_ldc hx hb ho (hts _ q) hd (k H locs ls hV hL hl hE hT (TS.c trivial hS))
theorem g_ldcf {i : Nat} {v : UInt32} (n : Nat) (hn : pc + 2 = n) (C : Cx X cc own nL lev) (hd : decode cc pc = .ok (.ldc i, 2)) (q : Cond.constantFloat own i v ∈ lw_all) (k : Gd X h n lv (vF v :: st)) : Gd X h pc lv (st) := by
  obtain ⟨E, h0, p, e, R, s, m, args, below, meth, c, Q⟩ := X
  obtain ⟨hx, hb, hml, ho, hts, hlk, hG, hwm, hfr, hlo, hrc, hrs, hsz, hss⟩ := C
  have hal := hwm.alike
  subst hn
  intro H locs ls hV hL hl hE hT hS
  exact lv_ldcf hx hb ho (hts _ q) hd (k H locs ls hV hL hl hE hT (TS.c trivial hS))
theorem g_ldc2 {i : Nat} {v : Int64} (n : Nat) (hn : pc + 3 = n) (C : Cx X cc own nL lev) (hd : decode cc pc = .ok (.ldc2_w i, 3)) (q : Cond.constantLong own i v ∈ lw_all) (k : Gd X h n lv (vL v :: st)) : Gd X h pc lv (st) := by
  obtain ⟨E, h0, p, e, R, s, m, args, below, meth, c, Q⟩ := X
  obtain ⟨hx, hb, hml, ho, hts, hlk, hG, hwm, hfr, hlo, hrc, hrs, hsz, hss⟩ := C
  have hal := hwm.alike
  subst hn
  intro H locs ls hV hL hl hE hT hS
  exact lv_ldc2 hx hb ho (hts _ q) hd (k H locs ls hV hL hl hE hT (TS.c trivial hS))
theorem g_ldc2d {i : Nat} {v : UInt64} (n : Nat) (hn : pc + 3 = n) (C : Cx X cc own nL lev) (hd : decode cc pc = .ok (.ldc2_w i, 3)) (q : Cond.constantDouble own i v ∈ lw_all) (k : Gd X h n lv (vD v :: st)) : Gd X h pc lv (st) := by
  obtain ⟨E, h0, p, e, R, s, m, args, below, meth, c, Q⟩ := X
  obtain ⟨hx, hb, hml, ho, hts, hlk, hG, hwm, hfr, hlo, hrc, hrs, hsz, hss⟩ := C
  have hal := hwm.alike
  subst hn
  intro H locs ls hV hL hl hE hT hS
  exact lv_ldc2d hx hb ho (hts _ q) hd (k H locs ls hV hL hl hE hT (TS.c trivial hS))
theorem g_iload_n {i : Fin 4} {x : Int32} (n : Nat) (hn : pc + 1 = n) (C : Cx X cc own nL lev) (hd : decode cc pc = .ok (.iload_n i, 1)) (hg : lv[(i : Nat)]? = some (some (vI x))) (k : Gd X h n lv (vI x :: st)) : Gd X h pc lv (st) := by
  obtain ⟨E, h0, p, e, R, s, m, args, below, meth, c, Q⟩ := X
  obtain ⟨hx, hb, hml, ho, hts, hlk, hG, hwm, hfr, hlo, hrc, hrs, hsz, hss⟩ := C
  have hal := hwm.alike
  subst hn
  intro H locs ls hV hL hl hE hT hS
  exact lv_iload_n hx hb hd rfl (hl.get hg) (k H locs ls hV hL hl hE hT (TS.c trivial hS))
theorem g_iload {i : Nat} {x : Int32} (n : Nat) (hn : pc + 2 = n) (C : Cx X cc own nL lev) (hd : decode cc pc = .ok (.iload i, 2)) (hg : lv[i]? = some (some (vI x))) (k : Gd X h n lv (vI x :: st)) : Gd X h pc lv (st) := by
  obtain ⟨E, h0, p, e, R, s, m, args, below, meth, c, Q⟩ := X
  obtain ⟨hx, hb, hml, ho, hts, hlk, hG, hwm, hfr, hlo, hrc, hrs, hsz, hss⟩ := C
  have hal := hwm.alike
  subst hn
  intro H locs ls hV hL hl hE hT hS
  exact lv_iload hx hb hd (hl.get hg) (k H locs ls hV hL hl hE hT (TS.c trivial hS))
theorem g_lload_n {i : Fin 4} {x : Int64} (n : Nat) (hn : pc + 1 = n) (C : Cx X cc own nL lev) (hd : decode cc pc = .ok (.lload_n i, 1)) (hg : lv[(i : Nat)]? = some (some (vL x))) (k : Gd X h n lv (vL x :: st)) : Gd X h pc lv (st) := by
  obtain ⟨E, h0, p, e, R, s, m, args, below, meth, c, Q⟩ := X
  obtain ⟨hx, hb, hml, ho, hts, hlk, hG, hwm, hfr, hlo, hrc, hrs, hsz, hss⟩ := C
  have hal := hwm.alike
  subst hn
  intro H locs ls hV hL hl hE hT hS
  exact lv_lload_n hx hb hd rfl (hl.get hg) (k H locs ls hV hL hl hE hT (TS.c trivial hS))
theorem g_lload {i : Nat} {x : Int64} (n : Nat) (hn : pc + 2 = n) (C : Cx X cc own nL lev) (hd : decode cc pc = .ok (.lload i, 2)) (hg : lv[i]? = some (some (vL x))) (k : Gd X h n lv (vL x :: st)) : Gd X h pc lv (st) := by
  obtain ⟨E, h0, p, e, R, s, m, args, below, meth, c, Q⟩ := X
  obtain ⟨hx, hb, hml, ho, hts, hlk, hG, hwm, hfr, hlo, hrc, hrs, hsz, hss⟩ := C
  have hal := hwm.alike
  subst hn
  intro H locs ls hV hL hl hE hT hS
  exact lv_lload hx hb hd (hl.get hg) (k H locs ls hV hL hl hE hT (TS.c trivial hS))
theorem g_fload_n {i : Fin 4} {x : UInt32} (n : Nat) (hn : pc + 1 = n) (C : Cx X cc own nL lev) (hd : decode cc pc = .ok (.fload_n i, 1)) (hg : lv[(i : Nat)]? = some (some (vF x))) (k : Gd X h n lv (vF x :: st)) : Gd X h pc lv (st) := by
  obtain ⟨E, h0, p, e, R, s, m, args, below, meth, c, Q⟩ := X
  obtain ⟨hx, hb, hml, ho, hts, hlk, hG, hwm, hfr, hlo, hrc, hrs, hsz, hss⟩ := C
  have hal := hwm.alike
  subst hn
  intro H locs ls hV hL hl hE hT hS
  exact lv_fload_n hx hb hd rfl (hl.get hg) (k H locs ls hV hL hl hE hT (TS.c trivial hS))
theorem g_fload {i : Nat} {x : UInt32} (n : Nat) (hn : pc + 2 = n) (C : Cx X cc own nL lev) (hd : decode cc pc = .ok (.fload i, 2)) (hg : lv[i]? = some (some (vF x))) (k : Gd X h n lv (vF x :: st)) : Gd X h pc lv (st) := by
  obtain ⟨E, h0, p, e, R, s, m, args, below, meth, c, Q⟩ := X
  obtain ⟨hx, hb, hml, ho, hts, hlk, hG, hwm, hfr, hlo, hrc, hrs, hsz, hss⟩ := C
  have hal := hwm.alike
  subst hn
  intro H locs ls hV hL hl hE hT hS
  exact lv_fload hx hb hd (hl.get hg) (k H locs ls hV hL hl hE hT (TS.c trivial hS))
theorem g_dload_n {i : Fin 4} {x : UInt64} (n : Nat) (hn : pc + 1 = n) (C : Cx X cc own nL lev) (hd : decode cc pc = .ok (.dload_n i, 1)) (hg : lv[(i : Nat)]? = some (some (vD x))) (k : Gd X h n lv (vD x :: st)) : Gd X h pc lv (st) := by
  obtain ⟨E, h0, p, e, R, s, m, args, below, meth, c, Q⟩ := X
  obtain ⟨hx, hb, hml, ho, hts, hlk, hG, hwm, hfr, hlo, hrc, hrs, hsz, hss⟩ := C
  have hal := hwm.alike
  subst hn
  intro H locs ls hV hL hl hE hT hS
  exact lv_dload_n hx hb hd rfl (hl.get hg) (k H locs ls hV hL hl hE hT (TS.c trivial hS))
theorem g_dload {i : Nat} {x : UInt64} (n : Nat) (hn : pc + 2 = n) (C : Cx X cc own nL lev) (hd : decode cc pc = .ok (.dload i, 2)) (hg : lv[i]? = some (some (vD x))) (k : Gd X h n lv (vD x :: st)) : Gd X h pc lv (st) := by
  obtain ⟨E, h0, p, e, R, s, m, args, below, meth, c, Q⟩ := X
  obtain ⟨hx, hb, hml, ho, hts, hlk, hG, hwm, hfr, hlo, hrc, hrs, hsz, hss⟩ := C
  have hal := hwm.alike
  subst hn
  intro H locs ls hV hL hl hE hT hS
  exact lv_dload hx hb hd (hl.get hg) (k H locs ls hV hL hl hE hT (TS.c trivial hS))
theorem g_aload_n {i : Fin 4} {T : List Nat} {o : Option Nat} (n : Nat) (hn : pc + 1 = n) (C : Cx X cc own nL lev) (hd : decode cc pc = .ok (.aload_n i, 1)) (hg : lv[(i : Nat)]? = some (some (vR T o))) (k : Gd X h n lv (vR T o :: st)) : Gd X h pc lv st := by
  obtain ⟨E, h0, p, e, R, s, m, args, below, meth, c, Q⟩ := X
  obtain ⟨hx, hb, hml, ho, hts, hlk, hG, hwm, hfr, hlo, hrc, hrs, hsz, hss⟩ := C
  have hal := hwm.alike
  subst hn
  intro H locs ls hV hL hl hE hT hS
  cases o with
  | none => exact lv_aload_nN hx hb hd rfl (hl.get hg) (k H locs ls hV hL hl hE hT (TS.c (hT.get hg) hS))
  | some a => exact lv_aload_n hx hb hd rfl (hl.get hg) (k H locs ls hV hL hl hE hT (TS.c (hT.get hg) hS))
theorem g_aload {i : Nat} {T : List Nat} {o : Option Nat} (n : Nat) (hn : pc + 2 = n) (C : Cx X cc own nL lev) (hd : decode cc pc = .ok (.aload i, 2)) (hg : lv[i]? = some (some (vR T o))) (k : Gd X h n lv (vR T o :: st)) : Gd X h pc lv st := by
  obtain ⟨E, h0, p, e, R, s, m, args, below, meth, c, Q⟩ := X
  obtain ⟨hx, hb, hml, ho, hts, hlk, hG, hwm, hfr, hlo, hrc, hrs, hsz, hss⟩ := C
  have hal := hwm.alike
  subst hn
  intro H locs ls hV hL hl hE hT hS
  cases o with
  | none => exact lv_aloadN hx hb hd (hl.get hg) (k H locs ls hV hL hl hE hT (TS.c (hT.get hg) hS))
  | some a => exact lv_aload hx hb hd (hl.get hg) (k H locs ls hV hL hl hE hT (TS.c (hT.get hg) hS))
theorem g_istore_n {i : Fin 4} {x : Int32} {lv' : List (Option TV)} (n : Nat) (hn : pc + 1 = n) (C : Cx X cc own nL lev) (hd : decode cc pc = .ok (.istore_n i, 1)) (hi : (i : Nat) < nL) (hs : lset lv (i : Nat) (vI x) = lv') (k : Gd X h n lv' st) : Gd X h pc lv (vI x :: st) := by
  obtain ⟨E, h0, p, e, R, s, m, args, below, meth, c, Q⟩ := X
  obtain ⟨hx, hb, hml, ho, hts, hlk, hG, hwm, hfr, hlo, hrc, hrs, hsz, hss⟩ := C
  have hal := hwm.alike
  subst hn
  intro H locs ls hV hL hl hE hT hS
  exact lv_istore_n hx hb hd rfl hl (by rw [hml]; exact hi) rfl (fun ls' h' => k H locs ls' hV hL (hs ▸ LVok.st1 (t := vI x) h') hE (hs ▸ TL.st1 hT hS.h) hS.t)
theorem g_istore {i : Nat} {x : Int32} {lv' : List (Option TV)} (n : Nat) (hn : pc + 2 = n) (C : Cx X cc own nL lev) (hd : decode cc pc = .ok (.istore i, 2)) (hi : i < nL) (hs : lset lv i (vI x) = lv') (k : Gd X h n lv' st) : Gd X h pc lv (vI x :: st) := by
  obtain ⟨E, h0, p, e, R, s, m, args, below, meth, c, Q⟩ := X
  obtain ⟨hx, hb, hml, ho, hts, hlk, hG, hwm, hfr, hlo, hrc, hrs, hsz, hss⟩ := C
  have hal := hwm.alike
  subst hn
  intro H locs ls hV hL hl hE hT hS
  exact lv_istore hx hb hd hl (by rw [hml]; exact hi) rfl (fun ls' h' => k H locs ls' hV hL (hs ▸ LVok.st1 (t := vI x) h') hE (hs ▸ TL.st1 hT hS.h) hS.t)
theorem g_lstore_n {i : Fin 4} {x : Int64} {lv' : List (Option TV)} (n : Nat) (hn : pc + 1 = n) (C : Cx X cc own nL lev) (hd : decode cc pc = .ok (.lstore_n i, 1)) (hi : (i : Nat) + 1 < nL) (hs : lset2 lv (i : Nat) (vL x) = lv') (k : Gd X h n lv' st) : Gd X h pc lv (vL x :: st) := by
  obtain ⟨E, h0, p, e, R, s, m, args, below, meth, c, Q⟩ := X
  obtain ⟨hx, hb, hml, ho, hts, hlk, hG, hwm, hfr, hlo, hrc, hrs, hsz, hss⟩ := C
  have hal := hwm.alike
  subst hn
  intro H locs ls hV hL hl hE hT hS
  exact lv_lstore_n hx hb hd rfl hl (by rw [hml]; exact hi) rfl (fun ls' h' => k H locs ls' hV hL (hs ▸ LVok.st2 (t := vL x) h') hE (hs ▸ TL.st2 hT hS.h) hS.t)
theorem g_lstore {i : Nat} {x : Int64} {lv' : List (Option TV)} (n : Nat) (hn : pc + 2 = n) (C : Cx X cc own nL lev) (hd : decode cc pc = .ok (.lstore i, 2)) (hi : i + 1 < nL) (hs : lset2 lv i (vL x) = lv') (k : Gd X h n lv' st) : Gd X h pc lv (vL x :: st) := by
  obtain ⟨E, h0, p, e, R, s, m, args, below, meth, c, Q⟩ := X
  obtain ⟨hx, hb, hml, ho, hts, hlk, hG, hwm, hfr, hlo, hrc, hrs, hsz, hss⟩ := C
  have hal := hwm.alike
  subst hn
  intro H locs ls hV hL hl hE hT hS
  exact lv_lstore hx hb hd hl (by rw [hml]; exact hi) rfl (fun ls' h' => k H locs ls' hV hL (hs ▸ LVok.st2 (t := vL x) h') hE (hs ▸ TL.st2 hT hS.h) hS.t)
theorem g_fstore_n {i : Fin 4} {x : UInt32} {lv' : List (Option TV)} (n : Nat) (hn : pc + 1 = n) (C : Cx X cc own nL lev) (hd : decode cc pc = .ok (.fstore_n i, 1)) (hi : (i : Nat) < nL) (hs : lset lv (i : Nat) (vF x) = lv') (k : Gd X h n lv' st) : Gd X h pc lv (vF x :: st) := by
  obtain ⟨E, h0, p, e, R, s, m, args, below, meth, c, Q⟩ := X
  obtain ⟨hx, hb, hml, ho, hts, hlk, hG, hwm, hfr, hlo, hrc, hrs, hsz, hss⟩ := C
  have hal := hwm.alike
  subst hn
  intro H locs ls hV hL hl hE hT hS
  exact lv_fstore_n hx hb hd rfl hl (by rw [hml]; exact hi) rfl (fun ls' h' => k H locs ls' hV hL (hs ▸ LVok.st1 (t := vF x) h') hE (hs ▸ TL.st1 hT hS.h) hS.t)
theorem g_fstore {i : Nat} {x : UInt32} {lv' : List (Option TV)} (n : Nat) (hn : pc + 2 = n) (C : Cx X cc own nL lev) (hd : decode cc pc = .ok (.fstore i, 2)) (hi : i < nL) (hs : lset lv i (vF x) = lv') (k : Gd X h n lv' st) : Gd X h pc lv (vF x :: st) := by
  obtain ⟨E, h0, p, e, R, s, m, args, below, meth, c, Q⟩ := X
  obtain ⟨hx, hb, hml, ho, hts, hlk, hG, hwm, hfr, hlo, hrc, hrs, hsz, hss⟩ := C
  have hal := hwm.alike
  subst hn
  intro H locs ls hV hL hl hE hT hS
  exact lv_fstore hx hb hd hl (by rw [hml]; exact hi) rfl (fun ls' h' => k H locs ls' hV hL (hs ▸ LVok.st1 (t := vF x) h') hE (hs ▸ TL.st1 hT hS.h) hS.t)
theorem g_dstore_n {i : Fin 4} {x : UInt64} {lv' : List (Option TV)} (n : Nat) (hn : pc + 1 = n) (C : Cx X cc own nL lev) (hd : decode cc pc = .ok (.dstore_n i, 1)) (hi : (i : Nat) + 1 < nL) (hs : lset2 lv (i : Nat) (vD x) = lv') (k : Gd X h n lv' st) : Gd X h pc lv (vD x :: st) := by
  obtain ⟨E, h0, p, e, R, s, m, args, below, meth, c, Q⟩ := X
  obtain ⟨hx, hb, hml, ho, hts, hlk, hG, hwm, hfr, hlo, hrc, hrs, hsz, hss⟩ := C
  have hal := hwm.alike
  subst hn
  intro H locs ls hV hL hl hE hT hS
  exact lv_dstore_n hx hb hd rfl hl (by rw [hml]; exact hi) rfl (fun ls' h' => k H locs ls' hV hL (hs ▸ LVok.st2 (t := vD x) h') hE (hs ▸ TL.st2 hT hS.h) hS.t)
theorem g_dstore {i : Nat} {x : UInt64} {lv' : List (Option TV)} (n : Nat) (hn : pc + 2 = n) (C : Cx X cc own nL lev) (hd : decode cc pc = .ok (.dstore i, 2)) (hi : i + 1 < nL) (hs : lset2 lv i (vD x) = lv') (k : Gd X h n lv' st) : Gd X h pc lv (vD x :: st) := by
  obtain ⟨E, h0, p, e, R, s, m, args, below, meth, c, Q⟩ := X
  obtain ⟨hx, hb, hml, ho, hts, hlk, hG, hwm, hfr, hlo, hrc, hrs, hsz, hss⟩ := C
  have hal := hwm.alike
  subst hn
  intro H locs ls hV hL hl hE hT hS
  exact lv_dstore hx hb hd hl (by rw [hml]; exact hi) rfl (fun ls' h' => k H locs ls' hV hL (hs ▸ LVok.st2 (t := vD x) h') hE (hs ▸ TL.st2 hT hS.h) hS.t)
theorem g_astore_n {i : Fin 4} {T : List Nat} {o : Option Nat} {lv' : List (Option TV)} (n : Nat) (hn : pc + 1 = n) (C : Cx X cc own nL lev) (hd : decode cc pc = .ok (.astore_n i, 1)) (hi : (i : Nat) < nL) (hs : lset lv (i : Nat) (vR T o) = lv') (k : Gd X h n lv' st) : Gd X h pc lv (vR T o :: st) := by
  obtain ⟨E, h0, p, e, R, s, m, args, below, meth, c, Q⟩ := X
  obtain ⟨hx, hb, hml, ho, hts, hlk, hG, hwm, hfr, hlo, hrc, hrs, hsz, hss⟩ := C
  have hal := hwm.alike
  subst hn
  intro H locs ls hV hL hl hE hT hS
  cases o with
  | none => exact lv_astore_nN hx hb hd rfl hl (by rw [hml]; exact hi) rfl (fun ls' h' => k H locs ls' hV hL (hs ▸ LVok.st1 (t := vR T none) h') hE (hs ▸ TL.st1 hT hS.h) hS.t)
  | some a => exact lv_astore_n hx hb hd rfl hl (by rw [hml]; exact hi) rfl (fun ls' h' => k H locs ls' hV hL (hs ▸ LVok.st1 (t := vR T (some a)) h') hE (hs ▸ TL.st1 hT hS.h) hS.t)
theorem g_astore {i : Nat} {T : List Nat} {o : Option Nat} {lv' : List (Option TV)} (n : Nat) (hn : pc + 2 = n) (C : Cx X cc own nL lev) (hd : decode cc pc = .ok (.astore i, 2)) (hi : i < nL) (hs : lset lv i (vR T o) = lv') (k : Gd X h n lv' st) : Gd X h pc lv (vR T o :: st) := by
  obtain ⟨E, h0, p, e, R, s, m, args, below, meth, c, Q⟩ := X
  obtain ⟨hx, hb, hml, ho, hts, hlk, hG, hwm, hfr, hlo, hrc, hrs, hsz, hss⟩ := C
  have hal := hwm.alike
  subst hn
  intro H locs ls hV hL hl hE hT hS
  cases o with
  | none => exact lv_astoreN hx hb hd hl (by rw [hml]; exact hi) rfl (fun ls' h' => k H locs ls' hV hL (hs ▸ LVok.st1 (t := vR T none) h') hE (hs ▸ TL.st1 hT hS.h) hS.t)
  | some a => exact lv_astore hx hb hd hl (by rw [hml]; exact hi) rfl (fun ls' h' => k H locs ls' hV hL (hs ▸ LVok.st1 (t := vR T (some a)) h') hE (hs ▸ TL.st1 hT hS.h) hS.t)
theorem g_iinc {i : Nat} {z : Int} {x : Int32} {lv' : List (Option TV)} (n : Nat) (hn : pc + 3 = n) (C : Cx X cc own nL lev) (hd : decode cc pc = .ok (.iinc i z, 3)) (hg : lv[i]? = some (some (vI x))) (v : Int32) (hv : x + Int32.ofInt z = v) (hi : i < nL) (hs : lset lv i (vI v) = lv') (k : Gd X h n lv' st) : Gd X h pc lv st := by
  obtain ⟨E, h0, p, e, R, s, m, args, below, meth, c, Q⟩ := X
  obtain ⟨hx, hb, hml, ho, hts, hlk, hG, hwm, hfr, hlo, hrc, hrs, hsz, hss⟩ := C
  have hal := hwm.alike
  subst hn
  intro H locs ls hV hL hl hE hT hS
  have hm := mem_prs lv 0 i _ hg
  rw [Nat.zero_add] at hm
  obtain ⟨k0, hk0⟩ := List.getElem?_of_mem hm
  exact lv_iinc hx hb hd hl hk0 hv (by rw [hml]; exact hi) rfl (fun ls' h' => k H locs ls' hV hL (hs ▸ LVok.st1 (t := vI v) h') hE (hs ▸ TL.st1 (t := vI v) hT trivial) hS)
theorem g_iadd {x y : Int32} (n : Nat) (hn : pc + 1 = n) (C : Cx X cc own nL lev) (hd : decode cc pc = .ok (.iadd, 1))  (k : Gd X h n lv (vI (x + y) :: st)) : Gd X h pc lv (vI y :: vI x :: st) := by
  obtain ⟨E, h0, p, e, R, s, m, args, below, meth, c, Q⟩ := X
  obtain ⟨hx, hb, hml, ho, hts, hlk, hG, hwm, hfr, hlo, hrc, hrs, hsz, hss⟩ := C
  have hal := hwm.alike
  subst hn
  intro H locs ls hV hL hl hE hT hS
  exact lv_iadd hx hb hd (k H locs ls hV hL hl hE hT (TS.c trivial hS.t.t))
theorem g_isub {x y : Int32} (n : Nat) (hn : pc + 1 = n) (C : Cx X cc own nL lev) (hd : decode cc pc = .ok (.isub, 1))  (k : Gd X h n lv (vI (x - y) :: st)) : Gd X h pc lv (vI y :: vI x :: st) := by
  obtain ⟨E, h0, p, e, R, s, m, args, below, meth, c, Q⟩ := X
  obtain ⟨hx, hb, hml, ho, hts, hlk, hG, hwm, hfr, hlo, hrc, hrs, hsz, hss⟩ := C
  have hal := hwm.alike
  subst hn
  intro H locs ls hV hL hl hE hT hS
  exact lv_isub hx hb hd (k H locs ls hV hL hl hE hT (TS.c trivial hS.t.t))
theorem g_imul {x y : Int32} (n : Nat) (hn : pc + 1 = n) (C : Cx X cc own nL lev) (hd : decode cc pc = .ok (.imul, 1))  (k : Gd X h n lv (vI (x * y) :: st)) : Gd X h pc lv (vI y :: vI x :: st) := by
  obtain ⟨E, h0, p, e, R, s, m, args, below, meth, c, Q⟩ := X
  obtain ⟨hx, hb, hml, ho, hts, hlk, hG, hwm, hfr, hlo, hrc, hrs, hsz, hss⟩ := C
  have hal := hwm.alike
  subst hn
  intro H locs ls hV hL hl hE hT hS
  exact lv_imul hx hb hd (k H locs ls hV hL hl hE hT (TS.c trivial hS.t.t))
theorem g_iand {x y : Int32} (n : Nat) (hn : pc + 1 = n) (C : Cx X cc own nL lev) (hd : decode cc pc = .ok (.iand, 1))  (k : Gd X h n lv (vI (x &&& y) :: st)) : Gd X h pc lv (vI y :: vI x :: st) := by
  obtain ⟨E, h0, p, e, R, s, m, args, below, meth, c, Q⟩ := X
  obtain ⟨hx, hb, hml, ho, hts, hlk, hG, hwm, hfr, hlo, hrc, hrs, hsz, hss⟩ := C
  have hal := hwm.alike
  subst hn
  intro H locs ls hV hL hl hE hT hS
  exact lv_iand hx hb hd (k H locs ls hV hL hl hE hT (TS.c trivial hS.t.t))
theorem g_ior {x y : Int32} (n : Nat) (hn : pc + 1 = n) (C : Cx X cc own nL lev) (hd : decode cc pc = .ok (.ior, 1))  (k : Gd X h n lv (vI (x ||| y) :: st)) : Gd X h pc lv (vI y :: vI x :: st) := by
  obtain ⟨E, h0, p, e, R, s, m, args, below, meth, c, Q⟩ := X
  obtain ⟨hx, hb, hml, ho, hts, hlk, hG, hwm, hfr, hlo, hrc, hrs, hsz, hss⟩ := C
  have hal := hwm.alike
  subst hn
  intro H locs ls hV hL hl hE hT hS
  exact lv_ior hx hb hd (k H locs ls hV hL hl hE hT (TS.c trivial hS.t.t))
theorem g_ixor {x y : Int32} (n : Nat) (hn : pc + 1 = n) (C : Cx X cc own nL lev) (hd : decode cc pc = .ok (.ixor, 1))  (k : Gd X h n lv (vI (x ^^^ y) :: st)) : Gd X h pc lv (vI y :: vI x :: st) := by
  obtain ⟨E, h0, p, e, R, s, m, args, below, meth, c, Q⟩ := X
  obtain ⟨hx, hb, hml, ho, hts, hlk, hG, hwm, hfr, hlo, hrc, hrs, hsz, hss⟩ := C
  have hal := hwm.alike
  subst hn
  intro H locs ls hV hL hl hE hT hS
  exact lv_ixor hx hb hd (k H locs ls hV hL hl hE hT (TS.c trivial hS.t.t))
theorem g_ishl {x y : Int32} (n : Nat) (hn : pc + 1 = n) (C : Cx X cc own nL lev) (hd : decode cc pc = .ok (.ishl, 1))  (k : Gd X h n lv (vI (x <<< (y &&& 31)) :: st)) : Gd X h pc lv (vI y :: vI x :: st) := by
  obtain ⟨E, h0, p, e, R, s, m, args, below, meth, c, Q⟩ := X
  obtain ⟨hx, hb, hml, ho, hts, hlk, hG, hwm, hfr, hlo, hrc, hrs, hsz, hss⟩ := C
  have hal := hwm.alike
  subst hn
  intro H locs ls hV hL hl hE hT hS
  exact lv_ishl hx hb hd (k H locs ls hV hL hl hE hT (TS.c trivial hS.t.t))
theorem g_ishr {x y : Int32} (n : Nat) (hn : pc + 1 = n) (C : Cx X cc own nL lev) (hd : decode cc pc = .ok (.ishr, 1))  (k : Gd X h n lv (vI (x >>> (y &&& 31)) :: st)) : Gd X h pc lv (vI y :: vI x :: st) := by
  obtain ⟨E, h0, p, e, R, s, m, args, below, meth, c, Q⟩ := X
  obtain ⟨hx, hb, hml, ho, hts, hlk, hG, hwm, hfr, hlo, hrc, hrs, hsz, hss⟩ := C
  have hal := hwm.alike
  subst hn
  intro H locs ls hV hL hl hE hT hS
  exact lv_ishr hx hb hd (k H locs ls hV hL hl hE hT (TS.c trivial hS.t.t))
theorem g_idiv {x y : Int32} (n : Nat) (hn : pc + 1 = n) (C : Cx X cc own nL lev) (hd : decode cc pc = .ok (.idiv, 1)) (hne : ¬ y = 0) (k : Gd X h n lv (vI (x / y) :: st)) : Gd X h pc lv (vI y :: vI x :: st) := by
  obtain ⟨E, h0, p, e, R, s, m, args, below, meth, c, Q⟩ := X
  obtain ⟨hx, hb, hml, ho, hts, hlk, hG, hwm, hfr, hlo, hrc, hrs, hsz, hss⟩ := C
  have hal := hwm.alike
  subst hn
  intro H locs ls hV hL hl hE hT hS
  exact lv_idiv hx hb hd hne (k H locs ls hV hL hl hE hT (TS.c trivial hS.t.t))
theorem g_irem {x y : Int32} (n : Nat) (hn : pc + 1 = n) (C : Cx X cc own nL lev) (hd : decode cc pc = .ok (.irem, 1)) (hne : ¬ y = 0) (k : Gd X h n lv (vI (x - x / y * y) :: st)) : Gd X h pc lv (vI y :: vI x :: st) := by
  obtain ⟨E, h0, p, e, R, s, m, args, below, meth, c, Q⟩ := X
  obtain ⟨hx, hb, hml, ho, hts, hlk, hG, hwm, hfr, hlo, hrc, hrs, hsz, hss⟩ := C
  have hal := hwm.alike
  subst hn
  intro H locs ls hV hL hl hE hT hS
  exact lv_irem hx hb hd hne (k H locs ls hV hL hl hE hT (TS.c trivial hS.t.t))
theorem g_iushr {x y : Int32} (n : Nat) (hn : pc + 1 = n) (C : Cx X cc own nL lev) (hd : decode cc pc = .ok (.iushr, 1))  (k : Gd X h n lv (vI (x.toUInt32 >>> (y.toUInt32 &&& Int32.toUInt32 31)).toInt32 :: st)) : Gd X h pc lv (vI y :: vI x :: st) := by
  obtain ⟨E, h0, p, e, R, s, m, args, below, meth, c, Q⟩ := X
  obtain ⟨hx, hb, hml, ho, hts, hlk, hG, hwm, hfr, hlo, hrc, hrs, hsz, hss⟩ := C
  have hal := hwm.alike
  subst hn
  intro H locs ls hV hL hl hE hT hS
  exact lv_iushr hx hb hd rfl (k H locs ls hV hL hl hE hT (TS.c trivial hS.t.t))
theorem g_ladd {x y : Int64} (n : Nat) (hn : pc + 1 = n) (C : Cx X cc own nL lev) (hd : decode cc pc = .ok (.ladd, 1))  (k : Gd X h n lv (vL (x + y) :: st)) : Gd X h pc lv (vL y :: vL x :: st) := by
  obtain ⟨E, h0, p, e, R, s, m, args, below, meth, c, Q⟩ := X
  obtain ⟨hx, hb, hml, ho, hts, hlk, hG, hwm, hfr, hlo, hrc, hrs, hsz, hss⟩ := C
  have hal := hwm.alike
  subst hn
  intro H locs ls hV hL hl hE hT hS
  exact lv_ladd hx hb hd (k H locs ls hV hL hl hE hT (TS.c trivial hS.t.t))
theorem g_lsub {x y : Int64} (n : Nat) (hn : pc + 1 = n) (C : Cx X cc own nL lev) (hd : decode cc pc = .ok (.lsub, 1))  (k : Gd X h n lv (vL (x - y) :: st)) : Gd X h pc lv (vL y :: vL x :: st) := by
  obtain ⟨E, h0, p, e, R, s, m, args, below, meth, c, Q⟩ := X
  obtain ⟨hx, hb, hml, ho, hts, hlk, hG, hwm, hfr, hlo, hrc, hrs, hsz, hss⟩ := C
  have hal := hwm.alike
  subst hn
  intro H locs ls hV hL hl hE hT hS
  exact lv_lsub hx hb hd (k H locs ls hV hL hl hE hT (TS.c trivial hS.t.t))
theorem g_lmul {x y : Int64} (n : Nat) (hn : pc + 1 = n) (C : Cx X cc own nL lev) (hd : decode cc pc = .ok (.lmul, 1))  (k : Gd X h n lv (vL (x * y) :: st)) : Gd X h pc lv (vL y :: vL x :: st) := by
  obtain ⟨E, h0, p, e, R, s, m, args, below, meth, c, Q⟩ := X
  obtain ⟨hx, hb, hml, ho, hts, hlk, hG, hwm, hfr, hlo, hrc, hrs, hsz, hss⟩ := C
  have hal := hwm.alike
  subst hn
  intro H locs ls hV hL hl hE hT hS
  exact lv_lmul hx hb hd (k H locs ls hV hL hl hE hT (TS.c trivial hS.t.t))
theorem g_land {x y : Int64} (n : Nat) (hn : pc + 1 = n) (C : Cx X cc own nL lev) (hd : decode cc pc = .ok (.land, 1))  (k : Gd X h n lv (vL (x &&& y) :: st)) : Gd X h pc lv (vL y :: vL x :: st) := by
  obtain ⟨E, h0, p, e, R, s, m, args, below, meth, c, Q⟩ := X
  obtain ⟨hx, hb, hml, ho, hts, hlk, hG, hwm, hfr, hlo, hrc, hrs, hsz, hss⟩ := C
  have hal := hwm.alike
  subst hn
  intro H locs ls hV hL hl hE hT hS
  exact lv_land hx hb hd (k H locs ls hV hL hl hE hT (TS.c trivial hS.t.t))
theorem g_lor {x y : Int64} (n : Nat) (hn : pc + 1 = n) (C : Cx X cc own nL lev) (hd : decode cc pc = .ok (.lor, 1))  (k : Gd X h n lv (vL (x ||| y) :: st)) : Gd X h pc lv (vL y :: vL x :: st) := by
  obtain ⟨E, h0, p, e, R, s, m, args, below, meth, c, Q⟩ := X
  obtain ⟨hx, hb, hml, ho, hts, hlk, hG, hwm, hfr, hlo, hrc, hrs, hsz, hss⟩ := C
  have hal := hwm.alike
  subst hn
  intro H locs ls hV hL hl hE hT hS
  exact lv_lor hx hb hd (k H locs ls hV hL hl hE hT (TS.c trivial hS.t.t))
theorem g_lxor {x y : Int64} (n : Nat) (hn : pc + 1 = n) (C : Cx X cc own nL lev) (hd : decode cc pc = .ok (.lxor, 1))  (k : Gd X h n lv (vL (x ^^^ y) :: st)) : Gd X h pc lv (vL y :: vL x :: st) := by
  obtain ⟨E, h0, p, e, R, s, m, args, below, meth, c, Q⟩ := X
  obtain ⟨hx, hb, hml, ho, hts, hlk, hG, hwm, hfr, hlo, hrc, hrs, hsz, hss⟩ := C
  have hal := hwm.alike
  subst hn
  intro H locs ls hV hL hl hE hT hS
  exact lv_lxor hx hb hd (k H locs ls hV hL hl hE hT (TS.c trivial hS.t.t))
theorem g_lshr {x : Int64} {y : Int32} (n : Nat) (hn : pc + 1 = n) (C : Cx X cc own nL lev) (hd : decode cc pc = .ok (.lshr, 1))  (k : Gd X h n lv (vL (x >>> (y.toInt64 &&& 63)) :: st)) : Gd X h pc lv (vI y :: vL x :: st) := by
  obtain ⟨E, h0, p, e, R, s, m, args, below, meth, c, Q⟩ := X
  obtain ⟨hx, hb, hml, ho, hts, hlk, hG, hwm, hfr, hlo, hrc, hrs, hsz, hss⟩ := C
  have hal := hwm.alike
  subst hn
  intro H locs ls hV hL hl hE hT hS
  exact lv_lshr hx hb hd rfl (k H locs ls hV hL hl hE hT (TS.c trivial hS.t.t))
theorem g_lcmp {x y : Int64} (n : Nat) (hn : pc + 1 = n) (C : Cx X cc own nL lev) (hd : decode cc pc = .ok (.lcmp, 1))  (k : Gd X h n lv (vI (lg_cmp x y) :: st)) : Gd X h pc lv (vL y :: vL x :: st) := by
  obtain ⟨E, h0, p, e, R, s, m, args, below, meth, c, Q⟩ := X
  obtain ⟨hx, hb, hml, ho, hts, hlk, hG, hwm, hfr, hlo, hrc, hrs, hsz, hss⟩ := C
  have hal := hwm.alike
  subst hn
  intro H locs ls hV hL hl hE hT hS
  exact W.lcmp hx hb hd (k H locs ls hV hL hl hE hT (TS.c trivial hS.t.t))
theorem g_i2l {x : Int32} (n : Nat) (hn : pc + 1 = n) (C : Cx X cc own nL lev) (hd : decode cc pc = .ok (.i2l, 1))  (k : Gd X h n lv (vL x.toInt64 :: st)) : Gd X h pc lv (vI x :: st) := by
  obtain ⟨E, h0, p, e, R, s, m, args, below, meth, c, Q⟩ := X
  obtain ⟨hx, hb, hml, ho, hts, hlk, hG, hwm, hfr, hlo, hrc, hrs, hsz, hss⟩ := C
  have hal := hwm.alike
  subst hn
  intro H locs ls hV hL hl hE hT hS
  exact lv_i2l hx hb hd rfl (k H locs ls hV hL hl hE hT (TS.c trivial hS.t))
theorem g_l2i {x : Int64} (n : Nat) (hn : pc + 1 = n) (C : Cx X cc own nL lev) (hd : decode cc pc = .ok (.l2i, 1))  (k : Gd X h n lv (vI x.toInt32 :: st)) : Gd X h pc lv (vL x :: st) := by
  obtain ⟨E, h0, p, e, R, s, m, args, below, meth, c, Q⟩ := X
  obtain ⟨hx, hb, hml, ho, hts, hlk, hG, hwm, hfr, hlo, hrc, hrs, hsz, hss⟩ := C
  have hal := hwm.alike
  subst hn
  intro H locs ls hV hL hl hE hT hS
  exact lv_l2i hx hb hd rfl (k H locs ls hV hL hl hE hT (TS.c trivial hS.t))
theorem g_i2f {x : Int32} (n : Nat) (hn : pc + 1 = n) (C : Cx X cc own nL lev) (hd : decode cc pc = .ok (.i2f, 1))  (k : Gd X h n lv (vF (FP.i2f x) :: st)) : Gd X h pc lv (vI x :: st) := by
  obtain ⟨E, h0, p, e, R, s, m, args, below, meth, c, Q⟩ := X
  obtain ⟨hx, hb, hml, ho, hts, hlk, hG, hwm, hfr, hlo, hrc, hrs, hsz, hss⟩ := C
  have hal := hwm.alike
  subst hn
  intro H locs ls hV hL hl hE hT hS
  exact lv_i2f hx hb hd (k H locs ls hV hL hl hE hT (TS.c trivial hS.t))
theorem g_f2i {x : UInt32} (n : Nat) (hn : pc + 1 = n) (C : Cx X cc own nL lev) (hd : decode cc pc = .ok (.f2i, 1))  (k : Gd X h n lv (vI (FP.f2i x) :: st)) : Gd X h pc lv (vF x :: st) := by
  obtain ⟨E, h0, p, e, R, s, m, args, below, meth, c, Q⟩ := X
  obtain ⟨hx, hb, hml, ho, hts, hlk, hG, hwm, hfr, hlo, hrc, hrs, hsz, hss⟩ := C
  have hal := hwm.alike
  subst hn
  intro H locs ls hV hL hl hE hT hS
  exact lv_f2i hx hb hd (k H locs ls hV hL hl hE hT (TS.c trivial hS.t))
theorem g_f2d {x : UInt32} (n : Nat) (hn : pc + 1 = n) (C : Cx X cc own nL lev) (hd : decode cc pc = .ok (.f2d, 1)) (hne : vf_n64 (FP.f2d x)) (k : Gd X h n lv (vD (FP.f2d x) :: st)) : Gd X h pc lv (vF x :: st) := by
  obtain ⟨E, h0, p, e, R, s, m, args, below, meth, c, Q⟩ := X
  obtain ⟨hx, hb, hml, ho, hts, hlk, hG, hwm, hfr, hlo, hrc, hrs, hsz, hss⟩ := C
  have hal := hwm.alike
  subst hn
  intro H locs ls hV hL hl hE hT hS
  exact lv_f2d hx hb hd hne (k H locs ls hV hL hl hE hT (TS.c trivial hS.t))
theorem g_fmul {x y : UInt32} (n : Nat) (hn : pc + 1 = n) (C : Cx X cc own nL lev) (hd : decode cc pc = .ok (.fmul, 1)) (hne : vf_n32 (FP.fmul x y)) (k : Gd X h n lv (vF (FP.fmul x y) :: st)) : Gd X h pc lv (vF y :: vF x :: st) := by
  obtain ⟨E, h0, p, e, R, s, m, args, below, meth, c, Q⟩ := X
  obtain ⟨hx, hb, hml, ho, hts, hlk, hG, hwm, hfr, hlo, hrc, hrs, hsz, hss⟩ := C
  have hal := hwm.alike
  subst hn
  intro H locs ls hV hL hl hE hT hS
  exact lv_fmul hx hb hd hne (k H locs ls hV hL hl hE hT (TS.c trivial hS.t.t))
theorem g_fcmp {x y : UInt32} {op : CmpOp} (n : Nat) (hn : pc + 1 = n) (C : Cx X cc own nL lev) (hd : decode cc pc = .ok (.fcmp op, 1))  (k : Gd X h n lv (vI (Op.cmpValue (FP.fcmp x y) op) :: st)) : Gd X h pc lv (vF y :: vF x :: st) := by
  obtain ⟨E, h0, p, e, R, s, m, args, below, meth, c, Q⟩ := X
  obtain ⟨hx, hb, hml, ho, hts, hlk, hG, hwm, hfr, hlo, hrc, hrs, hsz, hss⟩ := C
  have hal := hwm.alike
  subst hn
  intro H locs ls hV hL hl hE hT hS
  exact lv_fcmp hx hb hd (k H locs ls hV hL hl hE hT (TS.c trivial hS.t.t))
theorem g_i2d {x : Int32} (n : Nat) (hn : pc + 1 = n) (C : Cx X cc own nL lev) (hd : decode cc pc = .ok (.i2d, 1))  (k : Gd X h n lv (vD (FP.i2d x) :: st)) : Gd X h pc lv (vI x :: st) := by
  obtain ⟨E, h0, p, e, R, s, m, args, below, meth, c, Q⟩ := X
  obtain ⟨hx, hb, hml, ho, hts, hlk, hG, hwm, hfr, hlo, hrc, hrs, hsz, hss⟩ := C
  have hal := hwm.alike
  subst hn
  intro H locs ls hV hL hl hE hT hS
  exact lv_i2d hx hb hd (k H locs ls hV hL hl hE hT (TS.c trivial hS.t))
theorem g_d2i {x : UInt64} (n : Nat) (hn : pc + 1 = n) (C : Cx X cc own nL lev) (hd : decode cc pc = .ok (.d2i, 1))  (k : Gd X h n lv (vI (FP.d2i x) :: st)) : Gd X h pc lv (vD x :: st) := by
  obtain ⟨E, h0, p, e, R, s, m, args, below, meth, c, Q⟩ := X
  obtain ⟨hx, hb, hml, ho, hts, hlk, hG, hwm, hfr, hlo, hrc, hrs, hsz, hss⟩ := C
  have hal := hwm.alike
  subst hn
  intro H locs ls hV hL hl hE hT hS
  exact lv_d2i hx hb hd (k H locs ls hV hL hl hE hT (TS.c trivial hS.t))
theorem g_dadd {x y : UInt64} (n : Nat) (hn : pc + 1 = n) (C : Cx X cc own nL lev) (hd : decode cc pc = .ok (.dadd, 1)) (hne : vf_n64 (FP.dadd x y)) (k : Gd X h n lv (vD (FP.dadd x y) :: st)) : Gd X h pc lv (vD y :: vD x :: st) := by
  obtain ⟨E, h0, p, e, R, s, m, args, below, meth, c, Q⟩ := X
  obtain ⟨hx, hb, hml, ho, hts, hlk, hG, hwm, hfr, hlo, hrc, hrs, hsz, hss⟩ := C
  have hal := hwm.alike
  subst hn
  intro H locs ls hV hL hl hE hT hS
  exact lv_dadd hx hb hd hne (k H locs ls hV hL hl hE hT (TS.c trivial hS.t.t))
theorem g_dmul {x y : UInt64} (n : Nat) (hn : pc + 1 = n) (C : Cx X cc own nL lev) (hd : decode cc pc = .ok (.dmul, 1)) (hne : vf_n64 (FP.dmul x y)) (k : Gd X h n lv (vD (FP.dmul x y) :: st)) : Gd X h pc lv (vD y :: vD x :: st) := by
  obtain ⟨E, h0, p, e, R, s, m, args, below, meth, c, Q⟩ := X
  obtain ⟨hx, hb, hml, ho, hts, hlk, hG, hwm, hfr, hlo, hrc, hrs, hsz, hss⟩ := C
  have hal := hwm.alike
  subst hn
  intro H locs ls hV hL hl hE hT hS
  exact lv_dmul hx hb hd hne (k H locs ls hV hL hl hE hT (TS.c trivial hS.t.t))
theorem g_ddiv {x y : UInt64} (n : Nat) (hn : pc + 1 = n) (C : Cx X cc own nL lev) (hd : decode cc pc = .ok (.ddiv, 1)) (hne : vf_n64 (FP.ddiv x y)) (k : Gd X h n lv (vD (FP.ddiv x y) :: st)) : Gd X h pc lv (vD y :: vD x :: st) := by
  obtain ⟨E, h0, p, e, R, s, m, args, below, meth, c, Q⟩ := X
  obtain ⟨hx, hb, hml, ho, hts, hlk, hG, hwm, hfr, hlo, hrc, hrs, hsz, hss⟩ := C
  have hal := hwm.alike
  subst hn
  intro H locs ls hV hL hl hE hT hS
  exact lv_ddiv hx hb hd hne (k H locs ls hV hL hl hE hT (TS.c trivial hS.t.t))
theorem g_dcmp {x y : UInt64} {op : CmpOp} (n : Nat) (hn : pc + 1 = n) (C : Cx X cc own nL lev) (hd : decode cc pc = .ok (.dcmp op, 1))  (k : Gd X h n lv (vI (Op.cmpValue (FP.dcmp x y) op) :: st)) : Gd X h pc lv (vD y :: vD x :: st) := by
  obtain ⟨E, h0, p, e, R, s, m, args, below, meth, c, Q⟩ := X
  obtain ⟨hx, hb, hml, ho, hts, hlk, hG, hwm, hfr, hlo, hrc, hrs, hsz, hss⟩ := C
  have hal := hwm.alike
  subst hn
  intro H locs ls hV hL hl hE hT hS
  exact lv_dcmp hx hb hd (k H locs ls hV hL hl hE hT (TS.c trivial hS.t.t))
theorem g_dup {t : TV} (n : Nat) (hn : pc + 1 = n) (C : Cx X cc own nL lev) (hd : decode cc pc = .ok (.dup, 1)) (h1 : t2 t = false) (k : Gd X h n lv (t :: t :: st)) : Gd X h pc lv (t :: st) := by
  obtain ⟨E, h0, p, e, R, s, m, args, below, meth, c, Q⟩ := X
  obtain ⟨hx, hb, hml, ho, hts, hlk, hG, hwm, hfr, hlo, hrc, hrs, hsz, hss⟩ := C
  have hal := hwm.alike
  subst hn
  intro H locs ls hV hL hl hE hT hS
  exact lv_dup hx hb hd (by rw [tv_cat, h1]; rfl) (k H locs ls hV hL hl hE hT (TS.c hS.h (TS.c hS.h hS.t)))
theorem g_pop {t : TV} (n : Nat) (hn : pc + 1 = n) (C : Cx X cc own nL lev) (hd : decode cc pc = .ok (.pop, 1)) (h1 : t2 t = false) (k : Gd X h n lv (st)) : Gd X h pc lv (t :: st) := by
  obtain ⟨E, h0, p, e, R, s, m, args, below, meth, c, Q⟩ := X
  obtain ⟨hx, hb, hml, ho, hts, hlk, hG, hwm, hfr, hlo, hrc, hrs, hsz, hss⟩ := C
  have hal := hwm.alike
  subst hn
  intro H locs ls hV hL hl hE hT hS
  exact lv_pop hx hb hd (by rw [tv_cat, h1]; rfl) (k H locs ls hV hL hl hE hT hS.t)
theorem g_dup_x1 {t u : TV} (n : Nat) (hn : pc + 1 = n) (C : Cx X cc own nL lev) (hd : decode cc pc = .ok (.dup_x1, 1)) (h1 : t2 t = false) (h2 : t2 u = false) (k : Gd X h n lv (t :: u :: t :: st)) : Gd X h pc lv (t :: u :: st) := by
  obtain ⟨E, h0, p, e, R, s, m, args, below, meth, c, Q⟩ := X
  obtain ⟨hx, hb, hml, ho, hts, hlk, hG, hwm, hfr, hlo, hrc, hrs, hsz, hss⟩ := C
  have hal := hwm.alike
  subst hn
  intro H locs ls hV hL hl hE hT hS
  exact lv_dup_x1 hx hb hd (by rw [tv_cat, h1]; rfl) (by rw [tv_cat, h2]; rfl) (k H locs ls hV hL hl hE hT (TS.c hS.h (TS.c hS.t.h (TS.c hS.h hS.t.t))))
theorem g_dup_x2 {t u r : TV} (n : Nat) (hn : pc + 1 = n) (C : Cx X cc own nL lev) (hd : decode cc pc = .ok (.dup_x2, 1)) (h1 : t2 t = false) (h2 : t2 u = false) (h3 : t2 r = false) (k : Gd X h n lv (t :: u :: r :: t :: st)) : Gd X h pc lv (t :: u :: r :: st) := by
  obtain ⟨E, h0, p, e, R, s, m, args, below, meth, c, Q⟩ := X
  obtain ⟨hx, hb, hml, ho, hts, hlk, hG, hwm, hfr, hlo, hrc, hrs, hsz, hss⟩ := C
  have hal := hwm.alike
  subst hn
  intro H locs ls hV hL hl hE hT hS
  exact lv_dup_x2 hx hb hd (by rw [tv_cat, h1]; rfl) (by rw [tv_cat, h2]; rfl) (by rw [tv_cat, h3]; rfl) (k H locs ls hV hL hl hE hT (TS.c hS.h (TS.c hS.t.h (TS.c hS.t.t.h (TS.c hS.h hS.t.t.t)))))
theorem g_dup2 {t u : TV} (n : Nat) (hn : pc + 1 = n) (C : Cx X cc own nL lev) (hd : decode cc pc = .ok (.dup2, 1)) (h1 : t2 t = false) (h2 : t2 u = false) (k : Gd X h n lv (t :: u :: t :: u :: st)) : Gd X h pc lv (t :: u :: st) := by
  obtain ⟨E, h0, p, e, R, s, m, args, below, meth, c, Q⟩ := X
  obtain ⟨hx, hb, hml, ho, hts, hlk, hG, hwm, hfr, hlo, hrc, hrs, hsz, hss⟩ := C
  have hal := hwm.alike
  subst hn
  intro H locs ls hV hL hl hE hT hS
  exact lv_dup2_11 hx hb hd (by rw [tv_cat, h1]; rfl) (by rw [tv_cat, h2]; rfl) (k H locs ls hV hL hl hE hT (TS.c hS.h (TS.c hS.t.h (TS.c hS.h (TS.c hS.t.h hS.t.t)))))
theorem g_pop2_2 {t : TV} (n : Nat) (hn : pc + 1 = n) (C : Cx X cc own nL lev) (hd : decode cc pc = .ok (.pop2, 1)) (h1 : t2 t = true) (k : Gd X h n lv (st)) : Gd X h pc lv (t :: st) := by
  obtain ⟨E, h0, p, e, R, s, m, args, below, meth, c, Q⟩ := X
  obtain ⟨hx, hb, hml, ho, hts, hlk, hG, hwm, hfr, hlo, hrc, hrs, hsz, hss⟩ := C
  have hal := hwm.alike
  subst hn
  intro H locs ls hV hL hl hE hT hS
  exact lv_pop2_2 hx hb hd (by rw [tv_cat, h1]; rfl) (k H locs ls hV hL hl hE hT hS.t)
theorem g_pop2 {t u : TV} (n : Nat) (hn : pc + 1 = n) (C : Cx X cc own nL lev) (hd : decode cc pc = .ok (.pop2, 1)) (h1 : t2 t = false) (h2 : t2 u = false) (k : Gd X h n lv (st)) : Gd X h pc lv (t :: u :: st) := by
  obtain ⟨E, h0, p, e, R, s, m, args, below, meth, c, Q⟩ := X
  obtain ⟨hx, hb, hml, ho, hts, hlk, hG, hwm, hfr, hlo, hrc, hrs, hsz, hss⟩ := C
  have hal := hwm.alike
  subst hn
  intro H locs ls hV hL hl hE hT hS
  exact lv_pop2_11 hx hb hd (by rw [tv_cat, h1]; rfl) (by rw [tv_cat, h2]; rfl) (k H locs ls hV hL hl hE hT hS.t.t)
theorem g_goto {off : Int} (n : Nat) (C : Cx X cc own nL lev) (hd : decode cc pc = .ok (.goto off, 3)) (ht : (pc : Int) + off = (n : Int)) (k : Gd X h n lv st) : Gd X h pc lv st := by
  obtain ⟨E, h0, p, e, R, s, m, args, below, meth, c, Q⟩ := X
  obtain ⟨hx, hb, hml, ho, hts, hlk, hG, hwm, hfr, hlo, hrc, hrs, hsz, hss⟩ := C
  have hal := hwm.alike
  intro H locs ls hV hL hl hE hT hS
  exact lv_goto hx hb hd ht (k H locs ls hV hL hl hE hT hS)
theorem g_if_eq {x : Int32} {off : Int} (n t : Nat) (hn : pc + 3 = n) (C : Cx X cc own nL lev) (hd : decode cc pc = .ok (.ifCond .eq off, 3)) (ht : (pc : Int) + off = (t : Int)) (kt : x = 0 → Gd X h t lv st) (kf : ¬ x = 0 → Gd X h n lv st) : Gd X h pc lv (vI x :: st) := by
  obtain ⟨E, h0, p, e, R, s, m, args, below, meth, c, Q⟩ := X
  obtain ⟨hx, hb, hml, ho, hts, hlk, hG, hwm, hfr, hlo, hrc, hrs, hsz, hss⟩ := C
  have hal := hwm.alike
  subst hn
  intro H locs ls hV hL hl hE hT hS
  exact lv_if_eq hx hb hd ht (fun q => kt q H locs ls hV hL hl hE hT hS.t) (fun q => kf q H locs ls hV hL hl hE hT hS.t)
theorem g_icmp_eq {x y : Int32} {off : Int} (n t : Nat) (hn : pc + 3 = n) (C : Cx X cc own nL lev) (hd : decode cc pc = .ok (.if_icmp .eq off, 3)) (ht : (pc : Int) + off = (t : Int)) (kt : x = y → Gd X h t lv st) (kf : ¬ x = y → Gd X h n lv st) : Gd X h pc lv (vI y :: vI x :: st) := by
  obtain ⟨E, h0, p, e, R, s, m, args, below, meth, c, Q⟩ := X
  obtain ⟨hx, hb, hml, ho, hts, hlk, hG, hwm, hfr, hlo, hrc, hrs, hsz, hss⟩ := C
  have hal := hwm.alike
  subst hn
  intro H locs ls hV hL hl hE hT hS
  exact lv_icmp_eq hx hb hd ht (fun q => kt q H locs ls hV hL hl hE hT hS.t.t) (fun q => kf q H locs ls hV hL hl hE hT hS.t.t)
theorem g_if_ne {x : Int32} {off : Int} (n t : Nat) (hn : pc + 3 = n) (C : Cx X cc own nL lev) (hd : decode cc pc = .ok (.ifCond .ne off, 3)) (ht : (pc : Int) + off = (t : Int)) (kt : ¬ x = 0 → Gd X h t lv st) (kf : x = 0 → Gd X h n lv st) : Gd X h pc lv (vI x :: st) := by
  obtain ⟨E, h0, p, e, R, s, m, args, below, meth, c, Q⟩ := X
  obtain ⟨hx, hb, hml, ho, hts, hlk, hG, hwm, hfr, hlo, hrc, hrs, hsz, hss⟩ := C
  have hal := hwm.alike
  subst hn
  intro H locs ls hV hL hl hE hT hS
  exact lv_if_ne hx hb hd ht (fun q => kt q H locs ls hV hL hl hE hT hS.t) (fun q => kf q H locs ls hV hL hl hE hT hS.t)
theorem g_icmp_ne {x y : Int32} {off : Int} (n t : Nat) (hn : pc + 3 = n) (C : Cx X cc own nL lev) (hd : decode cc pc = .ok (.if_icmp .ne off, 3)) (ht : (pc : Int) + off = (t : Int)) (kt : ¬ x = y → Gd X h t lv st) (kf : x = y → Gd X h n lv st) : Gd X h pc lv (vI y :: vI x :: st) := by
  obtain ⟨E, h0, p, e, R, s, m, args, below, meth, c, Q⟩ := X
  obtain ⟨hx, hb, hml, ho, hts, hlk, hG, hwm, hfr, hlo, hrc, hrs, hsz, hss⟩ := C
  have hal := hwm.alike
  subst hn
  intro H locs ls hV hL hl hE hT hS
  exact lv_icmp_ne hx hb hd ht (fun q => kt q H locs ls hV hL hl hE hT hS.t.t) (fun q => kf q H locs ls hV hL hl hE hT hS.t.t)
theorem g_if_lt {x : Int32} {off : Int} (n t : Nat) (hn : pc + 3 = n) (C : Cx X cc own nL lev) (hd : decode cc pc = .ok (.ifCond .lt off, 3)) (ht : (pc : Int) + off = (t : Int)) (kt : x < 0 → Gd X h t lv st) (kf : ¬ x < 0 → Gd X h n lv st) : Gd X h pc lv (vI x :: st) := by
  obtain ⟨E, h0, p, e, R, s, m, args, below, meth, c, Q⟩ := X
  obtain ⟨hx, hb, hml, ho, hts, hlk, hG, hwm, hfr, hlo, hrc, hrs, hsz, hss⟩ := C
  have hal := hwm.alike
  subst hn
  intro H locs ls hV hL hl hE hT hS
  exact lv_if_lt hx hb hd ht (fun q => kt q H locs ls hV hL hl hE hT hS.t) (fun q => kf q H locs ls hV hL hl hE hT hS.t)
theorem g_icmp_lt {x y : Int32} {off : Int} (n t : Nat) (hn : pc + 3 = n) (C : Cx X cc own nL lev) (hd : decode cc pc = .ok (.if_icmp .lt off, 3)) (ht : (pc : Int) + off = (t : Int)) (kt : x < y → Gd X h t lv st) (kf : ¬ x < y → Gd X h n lv st) : Gd X h pc lv (vI y :: vI x :: st) := by
  obtain ⟨E, h0, p, e, R, s, m, args, below, meth, c, Q⟩ := X
  obtain ⟨hx, hb, hml, ho, hts, hlk, hG, hwm, hfr, hlo, hrc, hrs, hsz, hss⟩ := C
  have hal := hwm.alike
  subst hn
  intro H locs ls hV hL hl hE hT hS
  exact lv_icmp_lt hx hb hd ht (fun q => kt q H locs ls hV hL hl hE hT hS.t.t) (fun q => kf q H locs ls hV hL hl hE hT hS.t.t)
theorem g_if_ge {x : Int32} {off : Int} (n t : Nat) (hn : pc + 3 = n) (C : Cx X cc own nL lev) (hd : decode cc pc = .ok (.ifCond .ge off, 3)) (ht : (pc : Int) + off = (t : Int)) (kt : 0 ≤ x → Gd X h t lv st) (kf : ¬ 0 ≤ x → Gd X h n lv st) : Gd X h pc lv (vI x :: st) := by
  obtain ⟨E, h0, p, e, R, s, m, args, below, meth, c, Q⟩ := X
  obtain ⟨hx, hb, hml, ho, hts, hlk, hG, hwm, hfr, hlo, hrc, hrs, hsz, hss⟩ := C
  have hal := hwm.alike
  subst hn
  intro H locs ls hV hL hl hE hT hS
  exact lv_if_ge hx hb hd ht (fun q => kt q H locs ls hV hL hl hE hT hS.t) (fun q => kf q H locs ls hV hL hl hE hT hS.t)
theorem g_icmp_ge {x y : Int32} {off : Int} (n t : Nat) (hn : pc + 3 = n) (C : Cx X cc own nL lev) (hd : decode cc pc = .ok (.if_icmp .ge off, 3)) (ht : (pc : Int) + off = (t : Int)) (kt : y ≤ x → Gd X h t lv st) (kf : ¬ y ≤ x → Gd X h n lv st) : Gd X h pc lv (vI y :: vI x :: st) := by
  obtain ⟨E, h0, p, e, R, s, m, args, below, meth, c, Q⟩ := X
  obtain ⟨hx, hb, hml, ho, hts, hlk, hG, hwm, hfr, hlo, hrc, hrs, hsz, hss⟩ := C
  have hal := hwm.alike
  subst hn
  intro H locs ls hV hL hl hE hT hS
  exact lv_icmp_ge hx hb hd ht (fun q => kt q H locs ls hV hL hl hE hT hS.t.t) (fun q => kf q H locs ls hV hL hl hE hT hS.t.t)
theorem g_if_gt {x : Int32} {off : Int} (n t : Nat) (hn : pc + 3 = n) (C : Cx X cc own nL lev) (hd : decode cc pc = .ok (.ifCond .gt off, 3)) (ht : (pc : Int) + off = (t : Int)) (kt : 0 < x → Gd X h t lv st) (kf : ¬ 0 < x → Gd X h n lv st) : Gd X h pc lv (vI x :: st) := by
  obtain ⟨E, h0, p, e, R, s, m, args, below, meth, c, Q⟩ := X
  obtain ⟨hx, hb, hml, ho, hts, hlk, hG, hwm, hfr, hlo, hrc, hrs, hsz, hss⟩ := C
  have hal := hwm.alike
  subst hn
  intro H locs ls hV hL hl hE hT hS
  exact lv_if_gt hx hb hd ht (fun q => kt q H locs ls hV hL hl hE hT hS.t) (fun q => kf q H locs ls hV hL hl hE hT hS.t)
theorem g_icmp_gt {x y : Int32} {off : Int} (n t : Nat) (hn : pc + 3 = n) (C : Cx X cc own nL lev) (hd : decode cc pc = .ok (.if_icmp .gt off, 3)) (ht : (pc : Int) + off = (t : Int)) (kt : y < x → Gd X h t lv st) (kf : ¬ y < x → Gd X h n lv st) : Gd X h pc lv (vI y :: vI x :: st) := by
  obtain ⟨E, h0, p, e, R, s, m, args, below, meth, c, Q⟩ := X
  obtain ⟨hx, hb, hml, ho, hts, hlk, hG, hwm, hfr, hlo, hrc, hrs, hsz, hss⟩ := C
  have hal := hwm.alike
  subst hn
  intro H locs ls hV hL hl hE hT hS
  exact lv_icmp_gt hx hb hd ht (fun q => kt q H locs ls hV hL hl hE hT hS.t.t) (fun q => kf q H locs ls hV hL hl hE hT hS.t.t)
theorem g_if_le {x : Int32} {off : Int} (n t : Nat) (hn : pc + 3 = n) (C : Cx X cc own nL lev) (hd : decode cc pc = .ok (.ifCond .le off, 3)) (ht : (pc : Int) + off = (t : Int)) (kt : x ≤ 0 → Gd X h t lv st) (kf : ¬ x ≤ 0 → Gd X h n lv st) : Gd X h pc lv (vI x :: st) := by
  obtain ⟨E, h0, p, e, R, s, m, args, below, meth, c, Q⟩ := X
  obtain ⟨hx, hb, hml, ho, hts, hlk, hG, hwm, hfr, hlo, hrc, hrs, hsz, hss⟩ := C
  have hal := hwm.alike
  subst hn
  intro H locs ls hV hL hl hE hT hS
  exact lv_if_le hx hb hd ht (fun q => kt q H locs ls hV hL hl hE hT hS.t) (fun q => kf q H locs ls hV hL hl hE hT hS.t)
theorem g_icmp_le {x y : Int32} {off : Int} (n t : Nat) (hn : pc + 3 = n) (C : Cx X cc own nL lev) (hd : decode cc pc = .ok (.if_icmp .le off, 3)) (ht : (pc : Int) + off = (t : Int)) (kt : x ≤ y → Gd X h t lv st) (kf : ¬ x ≤ y → Gd X h n lv st) : Gd X h pc lv (vI y :: vI x :: st) := by
  obtain ⟨E, h0, p, e, R, s, m, args, below, meth, c, Q⟩ := X
  obtain ⟨hx, hb, hml, ho, hts, hlk, hG, hwm, hfr, hlo, hrc, hrs, hsz, hss⟩ := C
  have hal := hwm.alike
  subst hn
  intro H locs ls hV hL hl hE hT hS
  exact lv_icmp_le hx hb hd ht (fun q => kt q H locs ls hV hL hl hE hT hS.t.t) (fun q => kf q H locs ls hV hL hl hE hT hS.t.t)
theorem g_acmp_eq {T T' : List Nat} {x y : Option Nat} {off : Int} (n t : Nat) (hn : pc + 3 = n) (C : Cx X cc own nL lev) (hd : decode cc pc = .ok (.if_acmp .eq off, 3)) (ht : (pc : Int) + off = (t : Int)) (kt : x = y → Gd X h t lv st) (kf : ¬ x = y → Gd X h n lv st) : Gd X h pc lv (vR T y :: vR T' x :: st) := by
  obtain ⟨E, h0, p, e, R, s, m, args, below, meth, c, Q⟩ := X
  obtain ⟨hx, hb, hml, ho, hts, hlk, hG, hwm, hfr, hlo, hrc, hrs, hsz, hss⟩ := C
  have hal := hwm.alike
  subst hn
  intro H locs ls hV hL hl hE hT hS
  exact lv_acmp_eq hx hb hd ht (fun q => kt q H locs ls hV hL hl hE hT hS.t.t) (fun q => kf q H locs ls hV hL hl hE hT hS.t.t)
theorem g_acmp_ne {T T' : List Nat} {x y : Option Nat} {off : Int} (n t : Nat) (hn : pc + 3 = n) (C : Cx X cc own nL lev) (hd : decode cc pc = .ok (.if_acmp .ne off, 3)) (ht : (pc : Int) + off = (t : Int)) (kt : ¬ x = y → Gd X h t lv st) (kf : x = y → Gd X h n lv st) : Gd X h pc lv (vR T y :: vR T' x :: st) := by
  obtain ⟨E, h0, p, e, R, s, m, args, below, meth, c, Q⟩ := X
  obtain ⟨hx, hb, hml, ho, hts, hlk, hG, hwm, hfr, hlo, hrc, hrs, hsz, hss⟩ := C
  have hal := hwm.alike
  subst hn
  intro H locs ls hV hL hl hE hT hS
  exact lv_acmp_ne hx hb hd ht (fun q => kt q H locs ls hV hL hl hE hT hS.t.t) (fun q => kf q H locs ls hV hL hl hE hT hS.t.t)
theorem g_ifnull {T : List Nat} {o : Option Nat} {off : Int} (n t : Nat) (hn : pc + 3 = n) (C : Cx X cc own nL lev) (hd : decode cc pc = .ok (.ifnull off, 3)) (ht : (pc : Int) + off = (t : Int)) (kt : o = none → Gd X h t lv st) (kf : ∀ a, o = some a → Gd X h n lv st) : Gd X h pc lv (vR T o :: st) := by
  obtain ⟨E, h0, p, e, R, s, m, args, below, meth, c, Q⟩ := X
  obtain ⟨hx, hb, hml, ho, hts, hlk, hG, hwm, hfr, hlo, hrc, hrs, hsz, hss⟩ := C
  have hal := hwm.alike
  subst hn
  intro H locs ls hV hL hl hE hT hS
  cases o with
  | none => exact lv_ifnullN hx hb hd ht (kt rfl H locs ls hV hL hl hE hT hS.t)
  | some a => exact lv_ifnull hx hb hd (kf a rfl H locs ls hV hL hl hE hT hS.t)
theorem g_ifnonnull {T : List Nat} {o : Option Nat} {off : Int} (n t : Nat) (hn : pc + 3 = n) (C : Cx X cc own nL lev) (hd : decode cc pc = .ok (.ifnonnull off, 3)) (ht : (pc : Int) + off = (t : Int)) (kt : ∀ a, o = some a → Gd X h t lv st) (kf : o = none → Gd X h n lv st) : Gd X h pc lv (vR T o :: st) := by
  obtain ⟨E, h0, p, e, R, s, m, args, below, meth, c, Q⟩ := X
  obtain ⟨hx, hb, hml, ho, hts, hlk, hG, hwm, hfr, hlo, hrc, hrs, hsz, hss⟩ := C
  have hal := hwm.alike
  subst hn
  intro H locs ls hV hL hl hE hT hS
  cases o with
  | none => exact lv_ifnonnullN hx hb hd (kf rfl H locs ls hV hL hl hE hT hS.t)
  | some a => exact lv_ifnonnull hx hb hd ht (kt a rfl H locs ls hV hL hl hE hT hS.t)
theorem g_tableOut {d lo hi : Int} {offs : Array Int} {len : Nat} {x : Int32} (t : Nat) (C : Cx X cc own nL lev) (hd : decode cc pc = .ok (.tableswitch d lo hi offs, len)) (hr : x.toInt < lo ∨ hi < x.toInt) (ht : (pc : Int) + d = (t : Int)) (k : Gd X h t lv st) : Gd X h pc lv (vI x :: st) := by
  obtain ⟨E, h0, p, e, R, s, m, args, below, meth, c, Q⟩ := X
  obtain ⟨hx, hb, hml, ho, hts, hlk, hG, hwm, hfr, hlo, hrc, hrs, hsz, hss⟩ := C
  have hal := hwm.alike
  intro H locs ls hV hL hl hE hT hS
  exact lv_tableOut hx hb hd hr ht (k H locs ls hV hL hl hE hT hS.t)
theorem g_tableIn {d lo hi off : Int} {offs : Array Int} {len : Nat} {x : Int32} (t : Nat) (C : Cx X cc own nL lev) (hd : decode cc pc = .ok (.tableswitch d lo hi offs, len)) (h1 : ¬ x.toInt < lo) (h2 : ¬ hi < x.toInt) (ho : offs[(x.toInt - lo).toNat]? = some off) (ht : (pc : Int) + off = (t : Int)) (k : Gd X h t lv st) : Gd X h pc lv (vI x :: st) := by
  obtain ⟨E, h0, p, e, R, s, m, args, below, meth, c, Q⟩ := X
  obtain ⟨hx, hb, hml, ho2, hts, hlk, hG, hwm, hfr, hlo, hrc, hrs, hsz, hss⟩ := C
  have hal := hwm.alike
  intro H locs ls hV hL hl hE hT hS
  exact lv_tableIn hx hb hd h1 h2 ho ht (k H locs ls hV hL hl hE hT hS.t)
theorem g_eq {h' : Hp} {lv' : List (Option TV)} {st' : List TV} (k : Gd X h' pc lv' st') (e1 : h = h') (e2 : lv = lv') (e3 : st = st') : Gd X h pc lv st := by subst e1; subst e2; subst e3; exact k
theorem g_ireturn {x : Int32} {post : Option TV → Hp → Prop} (C : Cx X cc own nL lev) (Rr : Rx X (some .int) post) (hd : decode cc pc = .ok (.ireturn, 1)) (hp : post (some (vI x)) h) : Gd X h pc lv [vI x] := by
  obtain ⟨E, h0, p, e, R, s, m, args, below, meth, c, Q⟩ := X
  obtain ⟨hx, hb, hml, ho, hts, hlk, hG, hwm, hfr, hlo, hrc, hrs, hsz, hss⟩ := C
  have hal := hwm.alike
  obtain ⟨hr, rfl⟩ := Rr
  intro H locs ls hV hL hl hE hT hS
  refine W.widen (Nat.sub_le_sub_right hV.2.2.2.2.2.2.2.1 _) (Nat.sub_le_sub_right hV.2.2.2.2.2.2.2.2 _) ?_
  exact W.iret hx hb hr (fun t ht hW => ⟨some (vI x), h, rfl, hp, hE, fun t e => by cases e; exact trivial, hwm.trans hW, by rw [ht]; exact hV⟩) hL hd hlk
theorem g_lreturn {x : Int64} {post : Option TV → Hp → Prop} (C : Cx X cc own nL lev) (Rr : Rx X (some .long) post) (hd : decode cc pc = .ok (.lreturn, 1)) (hp : post (some (vL x)) h) : Gd X h pc lv [vL x] := by
  obtain ⟨E, h0, p, e, R, s, m, args, below, meth, c, Q⟩ := X
  obtain ⟨hx, hb, hml, ho, hts, hlk, hG, hwm, hfr, hlo, hrc, hrs, hsz, hss⟩ := C
  have hal := hwm.alike
  obtain ⟨hr, rfl⟩ := Rr
  intro H locs ls hV hL hl hE hT hS
  refine W.widen (Nat.sub_le_sub_right hV.2.2.2.2.2.2.2.1 _) (Nat.sub_le_sub_right hV.2.2.2.2.2.2.2.2 _) ?_
  exact W.lret hx hb hr (fun t ht hW => ⟨some (vL x), h, rfl, hp, hE, fun t e => by cases e; exact trivial, hwm.trans hW, by rw [ht]; exact hV⟩) hL hd hlk
theorem g_dreturn {x : UInt64} {post : Option TV → Hp → Prop} (C : Cx X cc own nL lev) (Rr : Rx X (some .double) post) (hd : decode cc pc = .ok (.dreturn, 1)) (hp : post (some (vD x)) h) : Gd X h pc lv [vD x] := by
  obtain ⟨E, h0, p, e, R, s, m, args, below, meth, c, Q⟩ := X
  obtain ⟨hx, hb, hml, ho, hts, hlk, hG, hwm, hfr, hlo, hrc, hrs, hsz, hss⟩ := C
  have hal := hwm.alike
  obtain ⟨hr, rfl⟩ := Rr
  intro H locs ls hV hL hl hE hT hS
  refine W.widen (Nat.sub_le_sub_right hV.2.2.2.2.2.2.2.1 _) (Nat.sub_le_sub_right hV.2.2.2.2.2.2.2.2 _) ?_
  exact W.dret hx hb hr (fun t ht hW => ⟨some (vD x), h, rfl, hp, hE, fun t e => by cases e; exact trivial, hwm.trans hW, by rw [ht]; exact hV⟩) hL hd hlk
theorem g_zreturn {x : Int32} {post : Option TV → Hp → Prop} (C : Cx X cc own nL lev) (Rr : Rx X (some .boolean) post) (hd : decode cc pc = .ok (.ireturn, 1)) (hx01 : x = 0 ∨ x = 1) (hp : post (some (vI x)) h) : Gd X h pc lv [vI x] := by
  obtain ⟨E, h0, p, e, R, s, m, args, below, meth, c, Q⟩ := X
  obtain ⟨hx, hb, hml, ho, hts, hlk, hG, hwm, hfr, hlo, hrc, hrs, hsz, hss⟩ := C
  have hal := hwm.alike
  obtain ⟨hr, rfl⟩ := Rr
  intro H locs ls hV hL hl hE hT hS
  refine W.widen (Nat.sub_le_sub_right hV.2.2.2.2.2.2.2.1 _) (Nat.sub_le_sub_right hV.2.2.2.2.2.2.2.2 _) ?_
  exact W.zret hx hb hr (by rcases hx01 with rfl | rfl <;> rfl) (fun t ht hW => ⟨some (vI x), h, rfl, hp, hE, fun t e => by cases e; exact trivial, hwm.trans hW, by rw [ht]; exact hV⟩) hL hd hlk
theorem g_vreturn {post : Option TV → Hp → Prop} (C : Cx X cc own nL lev) (Rr : Rx X none post) (hd : decode cc pc = .ok (.return_, 1)) (hp : post none h) : Gd X h pc lv [] := by
  obtain ⟨E, h0, p, e, R, s, m, args, below, meth, c, Q⟩ := X
  obtain ⟨hx, hb, hml, ho, hts, hlk, hG, hwm, hfr, hlo, hrc, hrs, hsz, hss⟩ := C
  have hal := hwm.alike
  obtain ⟨hr, rfl⟩ := Rr
  intro H locs ls hV hL hl hE hT hS
  refine W.widen (Nat.sub_le_sub_right hV.2.2.2.2.2.2.2.1 _) (Nat.sub_le_sub_right hV.2.2.2.2.2.2.2.2 _) ?_
  exact W.vret hx hb hr (fun t ht hW => ⟨none, h, rfl, hp, hE, fun t e => (by cases e), hwm.trans hW, by rw [ht]; exact hV⟩) hL hd hlk
theorem g_areturn {T : List Nat} (T' : List Nat) {o : Option Nat} {rt : FieldType} {post : Option TV → Hp → Prop} (C : Cx X cc own nL lev) (Rr : Rx X (some rt) post) (hrt : refTy rt = true) (hd : decode cc pc = .ok (.areturn, 1)) (hT' : (T.all fun K => T'.contains K) = true) (hp : post (some (vR T' o)) h) : Gd X h pc lv [vR T o] := by
  obtain ⟨E, h0, p, e, R, s, m, args, below, meth, c, Q⟩ := X
  obtain ⟨hx, hb, hml, ho, hts, hlk, hG, hwm, hfr, hlo, hrc, hrs, hsz, hss⟩ := C
  have hal := hwm.alike
  obtain ⟨hr, rfl⟩ := Rr
  intro H locs ls hV hL hl hE hT hS
  refine W.widen (Nat.sub_le_sub_right hV.2.2.2.2.2.2.2.1 _) (Nat.sub_le_sub_right hV.2.2.2.2.2.2.2.2 _) ?_
  have hrt' : (∃ n, rt = .object n) ∨ ∃ t, rt = .array t := by
    cases rt <;> first | exact Or.inl ⟨_, rfl⟩ | exact Or.inr ⟨_, rfl⟩ | cases hrt
  exact W.aret hx hb hr hrt' (by cases o with | none => exact Or.inl rfl | some a => exact Or.inr ⟨a, rfl⟩) (fun t ht hW => ⟨some (vR T' o), h, rfl, hp, hE, fun t e => by cases e; exact hS.h.up hT', hwm.trans hW, by rw [ht]; exact hV⟩) hL hd hlk
end RWS
