/-! HEAP ROWS: fields, new objects, arrays, casts, over Gd -/
section HPR
variable {X : Fx} {cc : ByteArray} {own : String} {nL lev : Nat} {h : Hp} {pc : Nat} {lv : List (Option TV)} {st : List TV}
/-- what own's entry idx names: the field g -/
def FL (own : String) (idx g : Nat) : Prop := ∃ ref : String, Cond.fieldLink own idx ref (gD g).2.1 (gD g).2.2.1 ∈ lw_all ∧ (ref = (gD g).1 ∨ Cond.sameField ref (gD g).1 (gD g).2.1 (gD g).2.2.1 ∈ lw_all)
theorem kOb_ne0 {K : Nat} (h : kOb K = true) : K ≠ 0 := fun q => by rw [q] at h; cases h
theorem inL {L : List Nat} {f : Nat → Bool} {K : Nat} (hk : K ∈ L) (hL : L.all f = true) : f K = true := List.all_eq_true.mp hL K hk
theorem g_get {idx g a : Nat} {o : Option Nat} {T : List Nat} {t : TV} (n : Nat) (hn : pc + 3 = n) (C : Cx X cc own nL lev) (hd : decode cc pc = .ok (.getfield idx, 3)) (hF : FL own idx g) (ho : o = some a) (hL : (T.all fun K => kOb K && (cG K).contains g) = true) (ht : tv t = fv h g a) (hty : kd h a ≠ 0 → g ∈ cG (kd h a) → WT h → TyOK h t)
    (k : (tg g = 3 → it h g a = 0 ∨ it h g a = 1) → Gd X h n lv (t :: st)) : Gd X h pc lv (vR T o :: st) := by
  obtain ⟨E, h0, p, e, R, s, m, args, below, meth, c, Q⟩ := X
  obtain ⟨hx, hb, hml, how, hts, hlk, hG, hwm, hfr, hlo, hrc, hrs, hsz, hss⟩ := C
  have hal := hwm.alike
  subst hn; subst ho
  intro H locs ls hV hLo hl hE hT hS
  have hkk := inL hS.h.1 hL
  simp only [Bool.and_eq_true] at hkk
  obtain ⟨hkO, hgc⟩ := hkk
  have hgm : g ∈ cG (kd h a) := by simpa using hgc
  obtain ⟨ref, hl1, hl2⟩ := hF
  obtain ⟨cell, q1, q2, q3, q4, q5, q6⟩ := (hV.2.2.1 a (kOb_ne0 hkO)).2.2.1 hkO
  obtain ⟨cf, kf, fi, f, hi, hsl⟩ := slotIs_moved hal (hG.2.2.1 g (cG_lt hkO hgm))
  obtain ⟨hfc, kC, hkC, hkind⟩ := classAt_moved hal (hG.2.1 _ hkO)
  have hst := (u_facts hfc hkC (lay_of hts hkO hgm) hi).1
  have hi' : s.fieldFound? ref (gD g).2.1 (gD g).2.2.1 = some (cf, kf, fi, f) := by
    rcases hl2 with rfl | h2
    · exact hi
    · exact u_same (hts _ h2) _ hi
  refine W.getf hx hb how (hts _ hl1) hi' hst q1 q3 (v := fv h g a) (by rw [hsl]; exact (q6 g hgm).1) rfl rfl hd ?_
  rw [← ht]
  exact k (q6 g hgm).2 H locs ls hV hLo hl hE hT (TS.c (hty hS.h.2 hgm hV.2.2.2.2.1) hS.t)
theorem g_getR {idx g a : Nat} {o : Option Nat} {T : List Nat} (n : Nat) (hn : pc + 3 = n) (C : Cx X cc own nL lev) (hd : decode cc pc = .ok (.getfield idx, 3)) (hF : FL own idx g) (ht : tg g = 0) (ho : o = some a) (hL : (T.all fun K => kOb K && (cG K).contains g) = true)
    (k : Gd X h n lv (vR (fT g) (rf h g a) :: st)) : Gd X h pc lv (vR T o :: st) :=
  g_get n hn C hd hF ho hL (by unfold fv; rw [ht]; rfl) (fun q1 q2 q3 => q3.1 a g q1 q2) (fun _ => k)
theorem g_getI {idx g a : Nat} {o : Option Nat} {T : List Nat} (n : Nat) (hn : pc + 3 = n) (C : Cx X cc own nL lev) (hd : decode cc pc = .ok (.getfield idx, 3)) (hF : FL own idx g) (ht : tg g = 1) (ho : o = some a) (hL : (T.all fun K => kOb K && (cG K).contains g) = true)
    (k : Gd X h n lv (vI (it h g a) :: st)) : Gd X h pc lv (vR T o :: st) :=
  g_get (t := vI (it h g a)) n hn C hd hF ho hL (by unfold fv; rw [ht]; rfl) (fun _ _ _ => trivial) (fun _ => k)
theorem g_getZ {idx g a : Nat} {o : Option Nat} {T : List Nat} (n : Nat) (hn : pc + 3 = n) (C : Cx X cc own nL lev) (hd : decode cc pc = .ok (.getfield idx, 3)) (hF : FL own idx g) (ht : tg g = 3) (ho : o = some a) (hL : (T.all fun K => kOb K && (cG K).contains g) = true)
    (k : it h g a = 0 ∨ it h g a = 1 → Gd X h n lv (vI (it h g a) :: st)) : Gd X h pc lv (vR T o :: st) :=
  g_get (t := vI (it h g a)) n hn C hd hF ho hL (by unfold fv; rw [ht]; rfl) (fun _ _ _ => trivial) (fun q => k (q ht))
theorem g_getF {idx g a : Nat} {o : Option Nat} {T : List Nat} (n : Nat) (hn : pc + 3 = n) (C : Cx X cc own nL lev) (hd : decode cc pc = .ok (.getfield idx, 3)) (hF : FL own idx g) (ht : tg g = 2) (ho : o = some a) (hL : (T.all fun K => kOb K && (cG K).contains g) = true)
    (k : Gd X h n lv (vF (it h g a).toUInt32 :: st)) : Gd X h pc lv (vR T o :: st) :=
  g_get (t := vF (it h g a).toUInt32) n hn C hd hF ho hL (by unfold fv; rw [ht]; rfl) (fun _ _ _ => trivial) (fun _ => k)
/-- a field is written -/
theorem g_put {idx g a : Nat} {o : Option Nat} {T : List Nat} {t : TV} (n : Nat) (hn : pc + 3 = n) (C : Cx X cc own nL lev) (hd : decode cc pc = .ok (.putfield idx, 3)) (hF : FL own idx g) (hfin : (gD g).2.2.2.1 = false) (ht : fitT g t) (ho : o = some a) (hL : (T.all fun K => kNw K && (cG K).contains g) = true)
    (k : Gd X (wT h g a t) n lv st) : Gd X h pc lv (t :: vR T o :: st) := by
  obtain ⟨E, h0, p, e, R, s, m, args, below, meth, c, Q⟩ := X
  obtain ⟨hx, hb, hml, how, hts, hlk, hG, hwm, hfr, hlo, hrc, hrs, hsz, hss⟩ := C
  have hal := hwm.alike
  subst hn; subst ho
  intro H locs ls hV hLo hl hE hT hS
  have hkk := inL hS.t.h.1 hL
  simp only [Bool.and_eq_true] at hkk
  have hgm : g ∈ cG (kd h a) := by simpa using hkk.2
  have hkN : kNw (kd h a) = true := by simp only [kNw, Bool.and_eq_true]; exact hkk.1
  have hkO := kNw_Ob hkN
  have hglt := cG_lt hkO hgm
  obtain ⟨ref, hl1, hl2⟩ := hF
  have hcell := hV.2.2.1 a (kOb_ne0 hkO)
  obtain ⟨cell, q1, q2, q3, q4, q5, q6⟩ := hcell.2.2.1 hkO
  have hS' : ∀ g, g < 52 → SlotIs s (gD g).1 (gD g).2.1 (gD g).2.2.1 (E.2.2.1 g) := fun g hg => slotIs_moved hal (hG.2.2.1 g hg)
  obtain ⟨cf, kf, fi, f, hi, hsl⟩ := hS' g hglt
  obtain ⟨hfc, kC, hkC, hkind⟩ := classAt_moved hal (hG.2.1 _ hkO)
  have hst := (u_facts hfc hkC (lay_of hts hkO hgm) hi).1
  have hi' : s.fieldFound? ref (gD g).2.1 (gD g).2.2.1 = some (cf, kf, fi, f) := by
    rcases hl2 with rfl | h2
    · exact hi
    · exact u_same (hts _ h2) _ hi
  have h6 := u_store hfc hkC hkind (lay_n hts hkO hgm hfin) hi (gTy_ok g hglt) (fitT_ok hglt ht).1 (fitT_ok hglt ht).2
  refine W.putK hx hb (f := f) ⟨how, hts _ hl1, ⟨_, _, _, hi'⟩, hst⟩ (by rw [q2]; exact h6) q1 (q5 hkN) (by rw [hsl]; exact k2_hasslot (q6 g hgm).1) rfl rfl hd fun H' e1 e2 e3 => ?_
  rw [hsl] at e1 ⊢
  have hEx : Ex h (wT h g a t) := ⟨fun b _ => ⟨wT_kd h g a t b, wT_ln h g a t b⟩, Nat.le_of_eq (wT_nc h g a t).1.symm, Nat.le_of_eq (wT_nc h g a t).2.symm⟩
  have k := k H' (locs ++ [⟨a, E.2.2.1 g⟩]) ls (hV.put hkN hgm (fun g' hg' hne => slot_apart hts hS' hkO hgm hg' hne) ht hS.h q1 e1 e2 e3) (fun q hq => by
    rcases List.mem_append.mp hq with hq | hq
    · exact hLo q hq
    · rw [List.mem_singleton.mp hq]
      exact hcell.2.1 (by simp only [kNw, Bool.and_eq_true, decide_eq_true_eq] at hkN; omega)) hl (hE.trans hEx) (hT.ext hEx) (hS.t.t.ext hEx)
  rw [(wT_nc h g a t).1, (wT_nc h g a t).2] at k
  exact k
/-- a final field is written by its class's constructor -/
theorem g_putF {idx g a : Nat} {o : Option Nat} {T : List Nat} {t : TV} (n : Nat) (hn : pc + 3 = n) (C : Cx X cc own nL lev) (hN : Nm X "<init>") (hd : decode cc pc = .ok (.putfield idx, 3)) (hF : FL own idx g) (hfin : (gD g).2.2.2.1 = true ∧ (gD g).1 = own) (ht : fitT g t) (ho : o = some a) (hL : (T.all fun K => kNw K && (cG K).contains g) = true)
    (k : Gd X (wT h g a t) n lv st) : Gd X h pc lv (t :: vR T o :: st) := by
  obtain ⟨E, h0, p, e, R, s, m, args, below, meth, c, Q⟩ := X
  obtain ⟨hx, hb, hml, how, hts, hlk, hG, hwm, hfr, hlo, hrc, hrs, hsz, hss⟩ := C
  have hal := hwm.alike
  subst hn; subst ho
  intro H locs ls hV hLo hl hE hT hS
  have hkk := inL hS.t.h.1 hL
  simp only [Bool.and_eq_true] at hkk
  have hgm : g ∈ cG (kd h a) := by simpa using hkk.2
  have hkN : kNw (kd h a) = true := by simp only [kNw, Bool.and_eq_true]; exact hkk.1
  have hkO := kNw_Ob hkN
  have hglt := cG_lt hkO hgm
  obtain ⟨ref, hl1, hl2⟩ := hF
  have hcell := hV.2.2.1 a (kOb_ne0 hkO)
  obtain ⟨cell, q1, q2, q3, q4, q5, q6⟩ := hcell.2.2.1 hkO
  have hS' : ∀ g, g < 52 → SlotIs s (gD g).1 (gD g).2.1 (gD g).2.2.1 (E.2.2.1 g) := fun g hg => slotIs_moved hal (hG.2.2.1 g hg)
  obtain ⟨cf, kf, fi, f, hi, hsl⟩ := hS' g hglt
  obtain ⟨hfc, kC, hkC, hkind⟩ := classAt_moved hal (hG.2.1 _ hkO)
  have hlay := lay_f hts hkO hgm hfin.1
  have hst := (u_facts hfc hkC (Or.inr hlay) hi).1
  have hi' : s.fieldFound? ref (gD g).2.1 (gD g).2.2.1 = some (cf, kf, fi, f) := by
    rcases hl2 with rfl | h2
    · exact hi
    · exact u_same (hts _ h2) _ hi
  have hcf : m.cls = cf := by
    obtain ⟨_, _, c', _, _, _, -, -, hf', -, -, -, hown2, -⟩ := Cond.laysFinal_spec hlay
    have e1 : c' = cf := by have := hi.symm.trans hf'; simp at this; exact this.1.symm
    rw [hfin.2] at hown2
    rw [← e1]; exact Option.some.inj (how.symm.trans hown2)
  have h6 := u_fits hfc hkC hkind (Or.inr hlay) hi (gTy_ok g hglt) (fitT_ok hglt ht).1 (fitT_ok hglt ht).2
  refine W.putFinK hx hb how (hts _ hl1) hi' hst hcf hN (by rw [q2]; exact h6) q1 (q5 hkN) (by rw [hsl]; exact k2_hasslot (q6 g hgm).1) rfl rfl hd fun H' e1 e2 e3 => ?_
  rw [hsl] at e1 ⊢
  have hEx : Ex h (wT h g a t) := ⟨fun b _ => ⟨wT_kd h g a t b, wT_ln h g a t b⟩, Nat.le_of_eq (wT_nc h g a t).1.symm, Nat.le_of_eq (wT_nc h g a t).2.symm⟩
  have k := k H' (locs ++ [⟨a, E.2.2.1 g⟩]) ls (hV.put hkN hgm (fun g' hg' hne => slot_apart hts hS' hkO hgm hg' hne) ht hS.h q1 e1 e2 e3) (fun q hq => by
    rcases List.mem_append.mp hq with hq | hq
    · exact hLo q hq
    · rw [List.mem_singleton.mp hq]
      exact hcell.2.1 (by simp only [kNw, Bool.and_eq_true, decide_eq_true_eq] at hkN; omega)) hl (hE.trans hEx) (hT.ext hEx) (hS.t.t.ext hEx)
  rw [(wT_nc h g a t).1, (wT_nc h g a t).2] at k
  exact k
theorem g_putR {idx g a : Nat} {o : Option Nat} {T : List Nat} {T2 : List Nat} {x : Option Nat} (n : Nat) (hn : pc + 3 = n) (C : Cx X cc own nL lev) (hd : decode cc pc = .ok (.putfield idx, 3)) (hF : FL own idx g) (hfin : (gD g).2.2.2.1 = false) (ht : tg g = 0) (hT2 : (T2.all fun K => (fT g).contains K) = true) (ho : o = some a) (hL : (T.all fun K => kNw K && (cG K).contains g) = true)
    (k : Gd X (wR h g a x) n lv st) : Gd X h pc lv (vR T2 x :: vR T o :: st) := g_put (t := vR T2 x) n hn C hd hF hfin ⟨ht, hT2⟩ ho hL k
theorem g_putI {idx g a : Nat} {o : Option Nat} {T : List Nat} {x : Int32} (n : Nat) (hn : pc + 3 = n) (C : Cx X cc own nL lev) (hd : decode cc pc = .ok (.putfield idx, 3)) (hF : FL own idx g) (hfin : (gD g).2.2.2.1 = false) (ht : tg g = 1) (ho : o = some a) (hL : (T.all fun K => kNw K && (cG K).contains g) = true)
    (k : Gd X (wI h g a x) n lv st) : Gd X h pc lv (vI x :: vR T o :: st) := g_put (t := vI x) n hn C hd hF hfin (Or.inl ht) ho hL k
theorem g_putZ {idx g a : Nat} {o : Option Nat} {T : List Nat} {x : Int32} (n : Nat) (hn : pc + 3 = n) (C : Cx X cc own nL lev) (hd : decode cc pc = .ok (.putfield idx, 3)) (hF : FL own idx g) (hfin : (gD g).2.2.2.1 = false) (ht : tg g = 3) (h01 : x = 0 ∨ x = 1) (ho : o = some a) (hL : (T.all fun K => kNw K && (cG K).contains g) = true)
    (k : Gd X (wI h g a x) n lv st) : Gd X h pc lv (vI x :: vR T o :: st) := g_put (t := vI x) n hn C hd hF hfin (Or.inr ⟨ht, h01⟩) ho hL k
theorem g_putRF {idx g a : Nat} {o : Option Nat} {T : List Nat} {T2 : List Nat} {x : Option Nat} (n : Nat) (hn : pc + 3 = n) (C : Cx X cc own nL lev) (hN : Nm X "<init>") (hd : decode cc pc = .ok (.putfield idx, 3)) (hF : FL own idx g) (hfin : (gD g).2.2.2.1 = true ∧ (gD g).1 = own) (ht : tg g = 0) (hT2 : (T2.all fun K => (fT g).contains K) = true) (ho : o = some a) (hL : (T.all fun K => kNw K && (cG K).contains g) = true)
    (k : Gd X (wR h g a x) n lv st) : Gd X h pc lv (vR T2 x :: vR T o :: st) := g_putF (t := vR T2 x) n hn C hN hd hF hfin ⟨ht, hT2⟩ ho hL k
theorem g_putIF {idx g a : Nat} {o : Option Nat} {T : List Nat} {x : Int32} (n : Nat) (hn : pc + 3 = n) (C : Cx X cc own nL lev) (hN : Nm X "<init>") (hd : decode cc pc = .ok (.putfield idx, 3)) (hF : FL own idx g) (hfin : (gD g).2.2.2.1 = true ∧ (gD g).1 = own) (ht : tg g = 1) (ho : o = some a) (hL : (T.all fun K => kNw K && (cG K).contains g) = true)
    (k : Gd X (wI h g a x) n lv st) : Gd X h pc lv (vI x :: vR T o :: st) := g_putF (t := vI x) n hn C hN hd hF hfin (Or.inl ht) ho hL k
theorem g_putZF {idx g a : Nat} {o : Option Nat} {T : List Nat} {x : Int32} (n : Nat) (hn : pc + 3 = n) (C : Cx X cc own nL lev) (hN : Nm X "<init>") (hd : decode cc pc = .ok (.putfield idx, 3)) (hF : FL own idx g) (hfin : (gD g).2.2.2.1 = true ∧ (gD g).1 = own) (ht : tg g = 3) (h01 : x = 0 ∨ x = 1) (ho : o = some a) (hL : (T.all fun K => kNw K && (cG K).contains g) = true)
    (k : Gd X (wI h g a x) n lv st) : Gd X h pc lv (vI x :: vR T o :: st) := g_putF (t := vI x) n hn C hN hd hF hfin (Or.inr ⟨ht, h01⟩) ho hL k
theorem g_putFF {idx g a : Nat} {o : Option Nat} {T : List Nat} {x : UInt32} (n : Nat) (hn : pc + 3 = n) (C : Cx X cc own nL lev) (hN : Nm X "<init>") (hd : decode cc pc = .ok (.putfield idx, 3)) (hF : FL own idx g) (hfin : (gD g).2.2.2.1 = true ∧ (gD g).1 = own) (ht : tg g = 2) (ho : o = some a) (hL : (T.all fun K => kNw K && (cG K).contains g) = true)
    (k : Gd X (wI h g a x.toInt32) n lv st) : Gd X h pc lv (vF x :: vR T o :: st) := g_putF (t := vF x) n hn C hN hd hF hfin ht ho hL k
theorem dflt_ok : ∀ g, g < 52 → defaultValue (gTy g) = (match tg g with | 0 => Value.null | 2 => Value.float 0 | _ => Value.int 0) := by
  intro g hg
  rcases tg_le g hg with h0 | h0 | h0 | h0
  · have := gTy_0 g hg h0
    rw [h0]
    revert this
    cases gTy g <;> intro q <;> first | rfl | cases q
  · rw [gTy_1 g hg h0, h0]; rfl
  · rw [gTy_2 g hg h0, h0]; rfl
  · rw [gTy_3 g hg h0, h0]; rfl
/-- room for c cells of n slots -/
def Rm (h : Hp) (c n : Nat) : Prop := nc h + c ≤ 679679 ∧ ns h + n ≤ 7063211
theorem kNw_szK {K n : Nat} (h : kNw K = true) : szK K n = (cG K).length := by
  unfold szK
  rw [if_neg]
  simp only [kNw, Bool.and_eq_true, decide_eq_true_eq] at h
  omega
/-- a new object of the kind K -/
theorem g_new {idx : Nat} (K : Nat) (n : Nat) (hn : pc + 3 = n) (C : Cx X cc own nL lev) (hd : decode cc pc = .ok (.new idx, 3)) (hK : kNw K = true) (q1 : Cond.classLink own idx (cN K) ∈ lw_all) (q2 : Cond.instantiable (cN K) (cG K).length ∈ lw_all) (q3 : Cond.initialized (cN K) ∈ lw_all) (hr : Rm h 1 (cG K).length)
    (k : ∀ a, kd h a = 0 → Gd X (nw h a K 0) n lv (vR [K] (some a) :: st)) : Gd X h pc lv st := by
  obtain ⟨E, h0, p, e, R, s, m, args, below, meth, c, Q⟩ := X
  obtain ⟨hx, hb, hml, how, hts, hlk, hG, hwm, hfr, hlo, hrc, hrs, hsz, hss⟩ := C
  have hal := hwm.alike
  subst hn
  intro H locs ls hV hLo hl hE hT hS
  have hkO := kNw_Ob hK
  have hat := classAt_moved hal (hG.2.1 _ hkO)
  have hS' : ∀ g, g < 52 → SlotIs s (gD g).1 (gD g).2.1 (gD g).2.2.1 (E.2.2.1 g) := fun g hg => slotIs_moved hal (hG.2.2.1 g hg)
  have hle := hE.2
  unfold Rm at hr
  refine W.newc hx hb how (hts _ q1) (hts _ q2) (hts _ q3) rfl hd (by rw [hrc]; omega) (by rw [hrs]; omega) fun cC kC f1 hkC f3 f4 => ?_
  cases hat.1.symm.trans f1
  have e1 : (H.push (blank (E.2.1 K) kC))[H.size]? = some (blank (E.2.1 K) kC) := by rw [Array.getElem?_push_size]
  have z1 : (H.push (blank (E.2.1 K) kC)).size = H.size + 1 := by rw [Array.size_push]
  have o1 : ∀ q, q < H.size → (H.push (blank (E.2.1 K) kC))[q]? = H[q]? := fun q hq => by rw [Array.getElem?_push, if_neg (Nat.ne_of_lt hq)]
  have hKn : u_Kn s (cN K) (cT K) (cG K).length (E.2.1 K) (fun j => E.2.2.1 ((cG K).getD j 0)) := by
    refine ⟨fun j hj => ?_, hat⟩
    have hm : (cG K).getD j 0 ∈ cG K := by
      rw [List.getD_eq_getElem?_getD, List.getElem?_eq_getElem hj]
      exact List.getElem_mem hj
    exact hS' _ (cG_lt hkO hm)
  obtain ⟨cell, d1, d2, d3, d4⟩ := u_born (fun j => gTy ((cG K).getD j 0)) hts (lay_in hkO) hKn hkC e1 (fun j hj => by
    have hm : (cG K).getD j 0 ∈ cG K := by
      rw [List.getD_eq_getElem?_getD, List.getElem?_eq_getElem hj]
      exact List.getElem_mem hj
    exact gTy_ok _ (cG_lt hkO hm))
  have e0 : kd (nw h H.size K 0) H.size = K := by rw [kd_nw, if_pos rfl]
  obtain ⟨hV', hfr', -⟩ := VH.new (K := K) (n := 0) hV ⟨kOb_ne0 hkO, by simp only [kNw, Bool.and_eq_true, decide_eq_true_eq] at hK; omega⟩ z1 o1 e1 (by rw [kNw_szK hK]; show (kC.instanceTypes.map defaultValue).size = _; rw [Array.size_map]; exact f4) hr.1 (by rw [kNw_szK hK]; exact hr.2) (fun q => by simp only [kNw, Bool.and_eq_true, decide_eq_true_eq] at hK; omega) (fun _ => ⟨cell, d1, by rw [e0]; exact d2, by rw [d3]; exact fun q => (by cases q), by rw [d3]; rfl, fun _ => d3, by
    rw [e0]
    intro g hg
    obtain ⟨j, hj, he⟩ := cG_idx hg
    have hv := d4 j hj
    simp only [he] at hv
    have hglt := cG_lt hkO hg
    rw [dflt_ok g hglt] at hv
    have r1 : rf (nw h H.size K 0) g H.size = none := by rw [rf_nw, if_pos rfl]
    have r2 : it (nw h H.size K 0) g H.size = 0 := by rw [it_nw, if_pos rfl]
    refine ⟨?_, fun _ => Or.inl r2⟩
    rw [hv]
    unfold fv
    rw [r1, r2]
    rcases tg_le g hglt with h0 | h0 | h0 | h0 <;> rw [h0] <;> rfl⟩) (fun q => by rw [q] at hK; cases hK) (fun q => by rcases q with q | q <;> (rw [q] at hK; cases hK))
  have hEx : Ex h (nw h H.size K 0) := (Ex.refl h).nw K 0 hfr'
  have k := k H.size hfr' _ locs ls hV' hLo hl (hE.trans hEx) (hT.ext hEx) (TS.c ⟨by rw [e0]; exact List.mem_cons_self, by rw [e0]; exact kOb_ne0 hkO⟩ (hS.ext hEx))
  rw [nc_nw, ns_nw, kNw_szK hK, show nc h + 1 - nc h0 = nc h - nc h0 + 1 by omega, show ns h + (cG K).length - ns h0 = ns h - ns h0 + (cG K).length by omega] at k
  exact k
/-! arrays -/
theorem ix_of {i : Int32} {j N : Nat} (hi : i = nI j) (hj : j < N) (h31 : N < 2 ^ 31) : i.toNatClampNeg = j ∧ ¬ (i < 0 ∨ N ≤ i.toNatClampNeg) := by
  subst hi
  have := nI_clamp (n := j) (by omega)
  exact ⟨this, nI_in hj h31⟩
theorem g_alen {a : Nat} {o : Option Nat} {T : List Nat} (n : Nat) (hn : pc + 1 = n) (C : Cx X cc own nL lev) (hd : decode cc pc = .ok (.arraylength, 1)) (ho : o = some a) (hL : (T.all fun K => decide (50 ≤ K) && decide (K ≤ 52)) = true)
    (k : ln h a < 2 ^ 26 → Gd X h n lv (vI (nI (ln h a)) :: st)) : Gd X h pc lv (vR T o :: st) := by
  obtain ⟨E, h0, p, e, R, s, m, args, below, meth, c, Q⟩ := X
  obtain ⟨hx, hb, hml, how, hts, hlk, hG, hwm, hfr, hlo, hrc, hrs, hsz, hss⟩ := C
  have hal := hwm.alike
  subst hn; subst ho
  intro H locs ls hV hLo hl hE hT hS
  have hkk := inL hS.h.1 hL
  simp only [Bool.and_eq_true, decide_eq_true_eq] at hkk
  obtain ⟨c1, c2, c3, c4, c5, c6, c7⟩ := hV.2.2.1 a (by omega)
  have hA : ∀ K, K = 50 ∨ K = 51 ∨ K = 52 → ArrOfT s (E.2.1 K) (aT K) := fun K hK => arrOfT_moved hal (hG.2.2.2.1 K hK).1
  have k := k (c6 hkk) H locs ls hV hLo hl hE hT (TS.c trivial hS.t)
  by_cases h50 : kd h a = 50
  · exact W.alen (n := Int32.ofNat (ln h a)) hx hb (c4 h50) (hA 50 (Or.inl rfl) _ _) (by rw [arrV_size] <;> rfl) rfl rfl hd k
  · exact W.alen (n := Int32.ofNat (ln h a)) hx hb (c5 (by omega)) (hA (kd h a) (by omega) _ _) (by rw [arrV_size] <;> rfl) rfl rfl hd k
theorem g_iaload {a j : Nat} {i : Int32} {o : Option Nat} (n : Nat) (hn : pc + 1 = n) (C : Cx X cc own nL lev) (hd : decode cc pc = .ok (.iaload, 1)) (ho : o = some a) (hi : i = nI j) (hj : j < ln h a)
    (k : Gd X h n lv (vI (it h (100 + j) a) :: st)) : Gd X h pc lv (vI i :: vR [50] o :: st) := by
  obtain ⟨E, h0, p, e, R, s, m, args, below, meth, c, Q⟩ := X
  obtain ⟨hx, hb, hml, how, hts, hlk, hG, hwm, hfr, hlo, hrc, hrs, hsz, hss⟩ := C
  have hal := hwm.alike
  subst hn; subst ho
  intro H locs ls hV hLo hl hE hT hS
  have h50 : kd h a = 50 := by simpa using hS.t.h.1
  obtain ⟨c1, c2, c3, c4, c5, c6, c7⟩ := hV.2.2.1 a (by omega)
  obtain ⟨i1, i2⟩ := ix_of hi hj (by have := c6 (by omega); omega)
  exact W.iald (v := .int (it h (100 + j) a)) hx hb (c4 h50) (arrOfT_moved hal (hG.2.2.2.1 50 (Or.inl rfl)).1 _ _) (fun q => by cases q) (by rw [arrV_size]; exact i2) (by rw [i1, arrV_read _ _ hj]) rfl rfl hd (k H locs ls hV hLo hl hE hT (TS.c trivial hS.t.t))
/-- the law's script -/
theorem g_slen {a : Nat} {o : Option Nat} (n : Nat) (hn : pc + 1 = n) (C : Cx X cc own nL lev) (hd : decode cc pc = .ok (.arraylength, 1)) (ho : o = some a)
    (k : ln h a < 2 ^ 26 → Gd X h n lv (vI (nI (ln h a)) :: st)) : Gd X h pc lv (vR [61] o :: st) := by
  obtain ⟨E, h0, p, e, R, s, m, args, below, meth, c, Q⟩ := X
  obtain ⟨hx, hb, hml, how, hts, hlk, hG, hwm, hfr, hlo, hrc, hrs, hsz, hss⟩ := C
  have hal := hwm.alike
  subst hn; subst ho
  intro H locs ls hV hLo hl hE hT hS
  have h61 : kd h a = 61 := by simpa using hS.h.1
  obtain ⟨c1, c2, c3, c4, c5, c6, c7⟩ := hV.2.2.1 a (by omega)
  obtain ⟨d1, ⟨scr, x1, x2, x3, x4, x5⟩, d3⟩ := c7 h61
  exact W.alen (n := Int32.ofNat (ln h a)) hx hb (by rw [hV.2.1 a d1]; exact x1) (State.isArrayOf_alike hal x2) (by rw [x4] <;> rfl) rfl rfl hd (k d3 H locs ls hV hLo hl hE hT (TS.c trivial hS.t))
theorem g_sld {a j : Nat} {i : Int32} {o : Option Nat} (n : Nat) (hn : pc + 1 = n) (C : Cx X cc own nL lev) (hd : decode cc pc = .ok (.iaload, 1)) (ho : o = some a) (hi : i = nI j) (hj : j < ln h a)
    (k : Gd X h n lv (vI (it h (100 + j) a) :: st)) : Gd X h pc lv (vI i :: vR [61] o :: st) := by
  obtain ⟨E, h0, p, e, R, s, m, args, below, meth, c, Q⟩ := X
  obtain ⟨hx, hb, hml, how, hts, hlk, hG, hwm, hfr, hlo, hrc, hrs, hsz, hss⟩ := C
  have hal := hwm.alike
  subst hn; subst ho
  intro H locs ls hV hLo hl hE hT hS
  have h61 : kd h a = 61 := by simpa using hS.t.h.1
  obtain ⟨c1, c2, c3, c4, c5, c6, c7⟩ := hV.2.2.1 a (by omega)
  obtain ⟨d1, ⟨scr, x1, x2, x3, x4, x5⟩, d3⟩ := c7 h61
  obtain ⟨i1, i2⟩ := ix_of hi hj (by omega)
  exact W.iald (v := .int (it h (100 + j) a)) hx hb (by rw [hV.2.1 a d1]; exact x1) (State.isArrayOf_alike hal x2) x3 (by rw [x4]; exact i2) (by rw [i1]; exact x5 j hj) rfl rfl hd (k H locs ls hV hLo hl hE hT (TS.c trivial hS.t.t))
theorem g_aaload {a j : Nat} {i : Int32} {o : Option Nat} (K : Nat) (n : Nat) (hn : pc + 1 = n) (C : Cx X cc own nL lev) (hd : decode cc pc = .ok (.aaload, 1)) (hL : K = 51 ∨ K = 52) (ho : o = some a) (hi : i = nI j) (hj : j < ln h a)
    (k : Gd X h n lv (vR (eT K) (rf h (100 + j) a) :: st)) : Gd X h pc lv (vI i :: vR [K] o :: st) := by
  obtain ⟨E, h0, p, e, R, s, m, args, below, meth, c, Q⟩ := X
  obtain ⟨hx, hb, hml, how, hts, hlk, hG, hwm, hfr, hlo, hrc, hrs, hsz, hss⟩ := C
  have hal := hwm.alike
  subst hn; subst ho
  intro H locs ls hV hLo hl hE hT hS
  have hkK : kd h a = K := by simpa using hS.t.h.1
  subst hkK
  obtain ⟨c1, c2, c3, c4, c5, c6, c7⟩ := hV.2.2.1 a (by omega)
  obtain ⟨i1, i2⟩ := ix_of hi hj (by have := c6 (by omega); omega)
  exact W.aald (v := va_rf (rf h (100 + j) a)) (ty := aT (kd h a)) hx hb (c5 hL) (arrOfT_moved hal (hG.2.2.2.1 _ (by omega)).1 _ _) (by rcases hL with q | q <;> rw [q] <;> rfl) (fun q => by cases q) (by rw [arrV_size]; exact i2) (by rw [i1, arrV_read _ _ hj]) rfl rfl hd (k H locs ls hV hLo hl hE hT (TS.c (hV.2.2.2.2.1.2 a j hL) hS.t.t))
theorem g_iastore {a j : Nat} {i x : Int32} {o : Option Nat} (n : Nat) (hn : pc + 1 = n) (C : Cx X cc own nL lev) (hd : decode cc pc = .ok (.iastore, 1)) (ho : o = some a) (hi : i = nI j) (hj : j < ln h a)
    (k : Gd X (wI h (100 + j) a x) n lv st) : Gd X h pc lv (vI x :: vI i :: vR [50] o :: st) := by
  obtain ⟨E, h0, p, e, R, s, m, args, below, meth, c, Q⟩ := X
  obtain ⟨hx, hb, hml, how, hts, hlk, hG, hwm, hfr, hlo, hrc, hrs, hsz, hss⟩ := C
  have hal := hwm.alike
  subst hn; subst ho
  intro H locs ls hV hLo hl hE hT hS
  have h50 : kd h a = 50 := by simpa using hS.t.t.h.1
  obtain ⟨c1, c2, c3, c4, c5, c6, c7⟩ := hV.2.2.1 a (by omega)
  obtain ⟨i1, i2⟩ := ix_of hi hj (by have := c6 (by omega); omega)
  refine W.iast hx hb (c4 h50) (arrOfT_moved hal (hG.2.2.2.1 50 (Or.inl rfl)).1 _ _) (fun q => by cases q) (by rw [arrV_size]; exact i2) rfl rfl hd fun H1 e1 z oq => ?_
  refine k H1 _ ls (VH.ast (a := a) hV (fun _ => rfl) (fun _ => rfl) ⟨rfl, rfl⟩ hV.2.2.2.2.1 (fun b g hb => ⟨rfl, by rw [it_wI, if_neg (fun q => hb q.2)]⟩) (by omega) (fun _ => ?_) (fun q => by omega) z oq) (fun q hq => ?_) hl hE hT hS.t.t.t
  · rw [e1, arrV_store]
    congr 2
    funext q
    rw [i1, it_wI]
    by_cases hq : q = j
    · subst hq; simp [updV]
    · simp [updV, hq]
  · rcases List.mem_append.mp hq with hq | hq
    · exact hLo q hq
    · rw [List.mem_singleton.mp hq]; exact c2 (by omega)
theorem WT.ast {a j : Nat} {x : Option Nat} (k : WT h) (ht : TyOK h (vR (eT (kd h a)) x)) (ha : 50 ≤ kd h a) : WT (wR h (100 + j) a x) := by
  refine ⟨fun b g hb hg => ?_, fun b i hb => ?_⟩
  · show TyOK h (vR _ _)
    rw [rf_wR, if_neg]
    · exact k.1 b g hb hg
    · rintro ⟨rfl, rfl⟩
      have : cG (kd (wR h (100 + j) b x) b) = [] ∨ cG (kd (wR h (100 + j) b x) b) = [23] := by
        rw [kd_wR]
        revert ha
        generalize kd h b = K
        intro ha
        by_cases e : K = 60
        · subst e; exact Or.inr rfl
        · refine Or.inl ?_
          unfold cG
          split <;> first | omega | rfl
      rcases this with e | e <;> rw [e] at hg <;> simp at hg <;> omega
  · show TyOK h (vR (eT (kd h b)) _)
    rw [rf_wR]
    by_cases e : 100 + i = 100 + j ∧ b = a
    · rw [if_pos e]
      obtain ⟨-, rfl⟩ := e
      exact ht
    · rw [if_neg e]
      exact k.2 b i hb
/-- a reference array's place is written: a new Node, Entry, TreeNode; a Pairs; null -/
theorem g_aastore {a j : Nat} {i : Int32} {o x : Option Nat} {T : List Nat} (K : Nat) (n : Nat) (hn : pc + 1 = n) (C : Cx X cc own nL lev) (hd : decode cc pc = .ok (.aastore, 1)) (hL : K = 51 ∨ K = 52) (hT2 : (T.all fun J => (eT K).contains J) = true) (ho : o = some a) (hi : i = nI j) (hj : j < ln h a)
    (k : Gd X (wR h (100 + j) a x) n lv st) : Gd X h pc lv (vR T x :: vI i :: vR [K] o :: st) := by
  obtain ⟨E, h0, p, e, R, s, m, args, below, meth, c, Q⟩ := X
  obtain ⟨hx, hb, hml, how, hts, hlk, hG, hwm, hfr, hlo, hrc, hrs, hsz, hss⟩ := C
  have hal := hwm.alike
  subst hn; subst ho
  intro H locs ls hV hLo hl hE hT hS
  have hkK : kd h a = K := by simpa using hS.t.t.h.1
  subst hkK
  have hkk := hL
  have hxT : TyOK h (vR (eT (kd h a)) x) := hS.h.up hT2
  have hv : ∀ v, x = some v → (kd h a = 51 ∧ kd h v ∈ [5, 6, 7]) ∨ (kd h a = 52 ∧ kd h v ∈ [15]) := by
    intro v hv
    subst hv
    rcases hL with q | q
    · rw [q] at hxT; exact Or.inl ⟨q, hxT.1⟩
    · rw [q] at hxT; exact Or.inr ⟨q, hxT.1⟩
  obtain ⟨c1, c2, c3, c4, c5, c6, c7⟩ := hV.2.2.1 a (by omega)
  obtain ⟨i1, i2⟩ := ix_of hi hj (by have := c6 (by omega); omega)
  have hfin : ∀ (H1 : Heap) (v : Value), v = va_rf x → H1[a]? = some ((arrV (E.2.1 (kd h a)) (ln h a) (fun j => va_rf (rf h (100 + j) a))).setSlot i.toNatClampNeg v) → H1.size = H.size → (∀ q, q ≠ a → H1[q]? = H[q]?) → VH E (wR h (100 + j) a x) H1 := by
    intro H1 v hvx e1 z oq
    refine VH.ast (a := a) hV (fun _ => rfl) (fun _ => rfl) ⟨rfl, rfl⟩ (hV.2.2.2.2.1.ast hxT (by omega)) (fun b g hb => ⟨by rw [rf_wR, if_neg (fun q => hb q.2)], rfl⟩) (by omega) (fun q => by omega) (fun _ => ?_) z oq
    rw [e1, arrV_store]
    congr 2
    funext q
    rw [i1, rf_wR, hvx]
    by_cases hq : q = j
    · subst hq; simp [updV]
    · simp [updV, hq]
  have hloc : ∀ q ∈ locs ++ [(⟨a, i.toNatClampNeg⟩ : Loc)], E.1.heap.size ≤ q.base := by
    intro q hq
    rcases List.mem_append.mp hq with hq | hq
    · exact hLo q hq
    · rw [List.mem_singleton.mp hq]; exact c2 (by omega)
  obtain ⟨hAr, hRA⟩ := hG.2.2.2.1 (kd h a) (by omega)
  cases x with
  | none =>
    have ⟨nm, hnm⟩ : ∃ nm, aT (kd h a) = .object nm := by rcases hkk with q | q <;> rw [q] <;> exact ⟨_, rfl⟩
    refine va_WaastN (C := nm) hx hb (c5 hkk) (hnm ▸ arrOfT_moved hal hAr _ _) (fun q => by cases q) (by rw [arrV_size]; exact i2) rfl rfl hd fun H1 e1 z oq => ?_
    exact k H1 _ ls (hfin H1 _ rfl e1 z oq) hloc hl hE hT hS.t.t.t
  | some v =>
    have hvv := hv v rfl
    have hkO : kOb (kd h v) = true := by
      rcases hvv with ⟨-, q⟩ | ⟨-, q⟩
      · simp only [List.mem_cons, List.not_mem_nil, or_false] at q
        rcases q with q | q | q <;> rw [q] <;> rfl
      · simp only [List.mem_cons, List.not_mem_nil, or_false] at q
        rw [q]; rfl
    obtain ⟨cellV, g1, g2, g3, g4, -, -⟩ := (hV.2.2.1 v (kOb_ne0 hkO)).2.2.1 hkO
    have hatV := classAt_moved hal (hG.2.1 _ hkO)
    obtain ⟨-, kC, hkC, -⟩ := hatV
    have hasg : ∀ comp : ClassId, ∀ nm, aT (kd h a) = .object nm → s.vm.findClass nm = some comp → s.vm.assignable (E.2.1 (kd h v)) comp = true := by
      intro comp nm hnm hcomp
      have hw : cN (kd h v) = nm ∨ Cond.castable (cN (kd h v)) nm ∈ lw_tbl := by
        rcases hvv with ⟨q, r⟩ | ⟨q, r⟩
        · rw [q] at hnm
          have hnm : nm = "java/util/HashMap$Node" := by injection hnm with e; exact e.symm
          subst hnm
          simp only [List.mem_cons, List.not_mem_nil, or_false] at r
          rcases r with r | r | r <;> rw [r]
          · exact Or.inl rfl
          · exact Or.inr q1293
          · exact Or.inr q1294
        · rw [q] at hnm
          have hnm : nm = "HashHallModel$Pairs" := by injection hnm with e; exact e.symm
          subst hnm
          simp only [List.mem_cons, List.not_mem_nil, or_false] at r
          rw [r]
          exact Or.inl rfl
      rcases hw with hw | hw
      · have hat := classAt_moved hal (hG.2.1 _ hkO)
        rw [hw] at hat
        cases hcomp.symm.trans hat.1
        exact va_assign hat
      · have hc : va_Nw (.castable (cN (kd h v)) nm) E.1 := va_Nw.of rfl (hG.1 _ hw)
        have hat0 := hG.2.1 _ hkO
        have hcomp0 : E.1.vm.findClass nm = some comp := by rw [hal.findClass] at hcomp; exact hcomp
        rw [hal.assignable]
        exact vb_asgC hc _ _ hcomp0 hat0.1
    have hRA' := hRA.moved hal
    have ⟨nm, hnm⟩ : ∃ nm, aT (kd h a) = .object nm := by rcases hkk with q | q <;> rw [q] <;> exact ⟨_, rfl⟩
    rw [hnm] at hRA'
    obtain ⟨kA, comp, k1, k2, k3, -⟩ := hRA'
    obtain ⟨kE, hkE, -⟩ := Vm.findClass_spec k3
    refine W.aast hx hb (c5 hkk) (fun q h => by cases h) (fun h => by cases h) k1 k2 rfl hkE ⟨fun q => i2 (Or.inl q), by rw [arrV_size, i1]; exact hj⟩ g1 (fun q h => by rw [h] at g4; cases g4) (by rw [g2]; exact hkC) (by rw [g2]; exact hasg comp nm hnm k3) rfl rfl hd fun H1 e1 z oq => ?_
    exact k H1 _ ls (hfin H1 _ rfl e1 z oq) hloc hl hE hT hS.t.t.t
theorem g_newI {i : Int32} {N : Nat} (n : Nat) (hn : pc + 2 = n) (C : Cx X cc own nL lev) (hd : decode cc pc = .ok (.newarray .int, 2)) (hi : i = nI N) (hN : N < 2 ^ 26) (hr : Rm h 1 N)
    (k : ∀ a, kd h a = 0 → Gd X (nw h a 50 N) n lv (vR [50] (some a) :: st)) : Gd X h pc lv (vI i :: st) := by
  obtain ⟨E, h0, p, e, R, s, m, args, below, meth, c, Q⟩ := X
  obtain ⟨hx, hb, hml, how, hts, hlk, hG, hwm, hfr, hlo, hrc, hrs, hsz, hss⟩ := C
  have hal := hwm.alike
  subst hn; subst hi
  intro H locs ls hV hLo hl hE hT hS
  have hle := hE.2
  unfold Rm at hr
  refine va_newaK (N := N) (atype := .int) hx hb (hts _ q1148) rfl hd rfl (nI_pos (by omega)) (nI_clamp (by omega)) (by show N * 4 ≤ _; omega) (by rw [hrc]; omega) (by rw [hrs]; omega) rfl fun H1 cA e1 z1 o1 hAr hNm => ?_
  have hcA : cA = E.2.1 50 := by
    have h0 : E.1.vm.findClass ("[" ++ FieldType.int.toString) = some (E.2.1 50) := (hG.2.2.2.1 50 (Or.inl rfl)).2
    have h1 : s.vm.findClass ("[" ++ FieldType.int.toString) = some cA := hNm
    rw [hal.findClass, h0] at h1
    exact (Option.some.inj h1).symm
  subst hcA
  obtain ⟨hV', hfr', -⟩ := VH.new (K := 50) (n := N) hV ⟨by decide, by decide⟩ z1 o1 e1 (by rw [arrV_size]; rfl) hr.1 hr.2 (fun _ => hN) (fun q => by cases q) (fun _ => e1) (fun q => by omega)
  have e0 : kd (nw h H.size 50 N) H.size = 50 := by rw [kd_nw, if_pos rfl]
  have hEx : Ex h (nw h H.size 50 N) := (Ex.refl h).nw 50 N hfr'
  have k := k H.size hfr' H1 locs ls hV' hLo hl (hE.trans hEx) (hT.ext hEx) (TS.c ⟨by rw [e0]; exact List.mem_cons_self, by rw [e0]; decide⟩ (hS.t.ext hEx))
  rw [nc_nw, ns_nw, show szK 50 N = N from rfl, show nc h + 1 - nc h0 = nc h - nc h0 + 1 by omega, show ns h + N - ns h0 = ns h - ns h0 + N by omega] at k
  exact k
theorem g_newA {i : Int32} {N idx : Nat} (K : Nat) {nm : String} (n : Nat) (hn : pc + 3 = n) (C : Cx X cc own nL lev) (hd : decode cc pc = .ok (.anewarray idx, 3)) (hK : K = 51 ∨ K = 52) (hnm : aT K = .object nm) (q1 : Cond.classLink own idx nm ∈ lw_all) (q2 : Cond.arrayOver (.object nm) ∈ lw_tbl) (hi : i = nI N) (hN : N < 2 ^ 26) (hr : Rm h 1 N)
    (k : ∀ a, kd h a = 0 → Gd X (nw h a K N) n lv (vR [K] (some a) :: st)) : Gd X h pc lv (vI i :: st) := by
  obtain ⟨E, h0, p, e, R, s, m, args, below, meth, c, Q⟩ := X
  obtain ⟨hx, hb, hml, how, hts, hlk, hG, hwm, hfr, hlo, hrc, hrs, hsz, hss⟩ := C
  have hal := hwm.alike
  subst hn; subst hi
  intro H locs ls hV hLo hl hE hT hS
  have hle := hE.2
  unfold Rm at hr
  have hcl : (nI N).toNatClampNeg = N := nI_clamp (by omega)
  refine W.anew hx hb how (hts _ q1) (va_AO.use (va_AO.moved hal (va_AO.of (hG.1 _ q2)))) rfl hd rfl (nI_pos (by omega)) (by rw [hcl]; omega) (by rw [hrc]; omega) (by rw [hrs, hcl]; omega) fun cA kA comp f1 f2 f3 f4 => ?_
  have hcA : cA = E.2.1 K := by
    have h0 := (hG.2.2.2.1 K (by omega)).2
    rw [hnm] at h0
    obtain ⟨_, _, -, -, -, h0⟩ := h0
    rw [hal.findClass, h0] at f1
    exact (Option.some.inj f1).symm
  subst hcA
  rw [hcl]
  have hsK : szK K N = N := by unfold szK; rw [if_pos (by omega)]
  obtain ⟨hV', hfr', -⟩ := VH.new (K := K) (n := N) (H' := H.push ({ cls := E.2.1 K, slots := Array.replicate N .null, vm := .none } : Cell)) hV ⟨by omega, by omega⟩ (by rw [Array.size_push]) (fun q hq => by rw [Array.getElem?_push, if_neg (Nat.ne_of_lt hq)]) (by rw [Array.getElem?_push_size]) (by rw [hsK]; simp) hr.1 (by rw [hsK]; exact hr.2) (fun _ => hN) (fun q => by rcases hK with r | r <;> (rw [r] at q; cases q)) (fun q => by omega) (fun _ => by rw [Array.getElem?_push_size, ← arrV_new])
  have e0 : kd (nw h H.size K N) H.size = K := by rw [kd_nw, if_pos rfl]
  have hEx : Ex h (nw h H.size K N) := (Ex.refl h).nw K N hfr'
  have k := k H.size hfr' _ locs ls hV' hLo hl (hE.trans hEx) (hT.ext hEx) (TS.c ⟨by rw [e0]; exact List.mem_cons_self, by rw [e0]; omega⟩ (hS.t.ext hEx))
  rw [nc_nw, ns_nw, hsK, show nc h + 1 - nc h0 = nc h - nc h0 + 1 by omega, show ns h + N - ns h0 = ns h - ns h0 + N by omega] at k
  exact k
/-! casts -/
theorem rcv_of {E : Gx} {s : State} {H : Heap} {a : Nat} (hG : Glob E) (hal : E.1.vm.Alike s.vm) (hV : VH E h H) (hkO : kOb (kd h a) = true) : ∃ cell : Cell, H[a]? = some cell ∧ cell.vm.isStatics = false ∧ s.vm.findClass (cN (kd h a)) = some cell.cls := by
  obtain ⟨cell, g1, g2, g3, g4, -, -⟩ := (hV.2.2.1 a (kOb_ne0 hkO)).2.2.1 hkO
  exact ⟨cell, g1, g4, by rw [g2]; exact (classAt_moved hal (hG.2.1 _ hkO)).1⟩
/-- kinds that can be cast to the class nm -/
def CastOk (nm : String) (L : List Nat) : Prop := ∀ K ∈ L, kOb K = true ∧ (cN K = nm ∨ Cond.castable (cN K) nm ∈ lw_tbl)
theorem g_cast {idx : Nat} {nm : String} {T : List Nat} (L : List Nat) {o : Option Nat} (n : Nat) (hn : pc + 3 = n) (C : Cx X cc own nL lev) (hd : decode cc pc = .ok (.checkcast idx, 3)) (q1 : Cond.classLink own idx nm ∈ lw_all) (hc : CastOk nm L) (hk : ∀ a, o = some a → kd h a ∈ T → kd h a ∈ L)
    (k : Gd X h n lv (vR L o :: st)) : Gd X h pc lv (vR T o :: st) := by
  obtain ⟨E, h0, p, e, R, s, m, args, below, meth, c, Q⟩ := X
  obtain ⟨hx, hb, hml, how, hts, hlk, hG, hwm, hfr, hlo, hrc, hrs, hsz, hss⟩ := C
  have hal := hwm.alike
  subst hn
  intro H locs ls hV hLo hl hE hT hS
  cases o with
  | none => exact lv_castN hx hb hd (k H locs ls hV hLo hl hE hT (TS.c trivial hS.t))
  | some a =>
    have hkL := hk a rfl hS.h.1
    obtain ⟨hkO, hw⟩ := hc _ hkL
    have hr := rcv_of hG hal hV hkO
    have k := k H locs ls hV hLo hl hE hT (TS.c ⟨hkL, hS.h.2⟩ hS.t)
    rcases hw with hw | hw
    · have hat := classAt_moved hal (hG.2.1 _ hkO)
      rw [hw] at hat hr
      exact va_castS hx hb how (hts _ q1) hat hr hd k
    · have hcw : va_Nw (.castable (cN (kd h a)) nm) s := va_tabs rfl (rfl : (E.1.setVm s.vm).vm = s.vm) (by rw [Cond.castable_setVm hal]; exact hG.1 _ hw)
      exact va_castY hx hb how (hts _ q1) hcw hr hd k
/-- kinds that can't be cast to the class nm: the Statement says so -/
def CastNo (E : Gx) (nm : String) (L : List Nat) : Prop := ∀ K ∈ L, kOb K = true ∧ va_Nc (cN K) nm E.1
theorem g_inst {idx : Nat} {nm : String} {T : List Nat} (Ly Ln : List Nat) {o : Option Nat} (n : Nat) (hn : pc + 3 = n) (C : Cx X cc own nL lev) (hd : decode cc pc = .ok (.instanceof idx, 3)) (q1 : Cond.classLink own idx nm ∈ lw_all) (hc : CastOk nm Ly) (hcn : Glob X.1 → CastNo X.1 nm Ln) (hL : (T.all fun K => Ly.contains K || Ln.contains K) = true)
    (k1 : ∀ a, o = some a → kd h a ∈ Ly → Gd X h n lv (vI 1 :: st)) (k2 : ∀ a, o = some a → kd h a ∈ Ln → Gd X h n lv (vI 0 :: st)) (k3 : o = none → Gd X h n lv (vI 0 :: st)) : Gd X h pc lv (vR T o :: st) := by
  obtain ⟨E, h0, p, e, R, s, m, args, below, meth, c, Q⟩ := X
  obtain ⟨hx, hb, hml, how, hts, hlk, hG, hwm, hfr, hlo, hrc, hrs, hsz, hss⟩ := C
  have hal := hwm.alike
  subst hn
  intro H locs ls hV hLo hl hE hT hS
  cases o with
  | none => exact lv_instN hx hb hd (k3 rfl H locs ls hV hLo hl hE hT (TS.c trivial hS.t))
  | some a =>
    have hkk := inL hS.h.1 hL
    simp only [Bool.or_eq_true, List.contains_iff_mem] at hkk
    rcases hkk with hkk | hkk
    · obtain ⟨hkO, hw⟩ := hc _ hkk
      have hr := rcv_of hG hal hV hkO
      have k := k1 a rfl hkk H locs ls hV hLo hl hE hT (TS.c trivial hS.t)
      rcases hw with hw | hw
      · have hat := classAt_moved hal (hG.2.1 _ hkO)
        rw [hw] at hat hr
        exact va_instS hx hb how (hts _ q1) hat hr hd k
      · have hcw : va_Nw (.castable (cN (kd h a)) nm) s := va_tabs rfl (rfl : (E.1.setVm s.vm).vm = s.vm) (by rw [Cond.castable_setVm hal]; exact hG.1 _ hw)
        exact va_instY hx hb how (hts _ q1) hcw hr hd k
    · obtain ⟨hkO, hw⟩ := hcn hG _ hkk
      exact va_instNo hx hb how (hts _ q1) (hw.moved hal) (rcv_of hG hal hV hkO) hd (k2 a rfl hkk H locs ls hV hLo hl hE hT (TS.c trivial hS.t))
end HPR
