/-! BALANCING: spec of balanceDeletion (printed by mk43.py) -/
set_option maxRecDepth 100000
/-- TF, and a leaf p stays a leaf -/
def TFp (p : Nat) (S : List Nat) (h h' : Hp) : Prop := TF S h h' ∧ (rf h 7 p = none → rf h 8 p = none → rf h' 7 p = none ∧ rf h' 8 p = none)
theorem TFp.refl (p : Nat) (S : List Nat) (h : Hp) : TFp p S h h := ⟨TF.refl S h, fun a b => ⟨a, b⟩⟩
theorem TFp.trans {p : Nat} {S : List Nat} {h h1 h2 : Hp} (a : TFp p S h h1) (b : TFp p S h1 h2) : TFp p S h h2 := ⟨a.1.trans b.1, fun x y => b.2 (a.2 x y).1 (a.2 x y).2⟩
theorem TFp.sub {p : Nat} {S S' : List Nat} {h h' : Hp} (a : TFp p S h h') (hs : ∀ x ∈ S, x ∈ S') : TFp p S' h h' := ⟨a.1.sub hs, a.2⟩
theorem TFp.red {p : Nat} {S : List Nat} {h : Hp} {a : Nat} (ha : a ∈ S) (v : Int32) : TFp p S h (wI h 10 a v) := ⟨TF.red ha v, fun x y => ⟨x, y⟩⟩
theorem rotH_TFp {fl fr : Nat} (hfs : (fl = 7 ∧ fr = 8) ∨ (fl = 8 ∧ fr = 7)) {p : Nat} {h : Hp} {r : Nat} {S : List Nat} {sub : Nat → List Nat} (k : Trg fl fr h r S sub) {a x : Nat} (ha : a ∈ S) (hx : rf h fr a = some x) (np : p ≠ x) : TFp p S h (rotH fl fr h a x) := by
  have hf : fl ≠ fr ∧ fl ≠ 6 ∧ fr ≠ 6 := by omega
  obtain ⟨F6, Fl, Fr, Fo, It, It2⟩ := rotH_facts hf k ha hx
  refine ⟨rotH_TF hfs k ha hx, fun h7 h8 => ?_⟩
  have hl : rf h fl p = none ∧ rf h fr p = none := by
    rcases hfs with ⟨rfl, rfl⟩ | ⟨rfl, rfl⟩
    · exact ⟨h7, h8⟩
    · exact ⟨h8, h7⟩
  have e1 : rf (rotH fl fr h a x) fl p = none := by
    rw [Fl, if_neg np, if_neg (fun z => by rw [hl.1] at z; cases z.2)]; exact hl.1
  have e2 : rf (rotH fl fr h a x) fr p = none := by
    rw [Fr, if_neg (fun z => by rw [z, hx] at hl; cases hl.2), if_neg (fun z => ?_)]
    · exact hl.2
    · rcases (k.par ha z.1).2 with w | w
      · rw [hl.1] at w; cases w
      · rw [hl.2] at w; cases w
  rcases hfs with ⟨rfl, rfl⟩ | ⟨rfl, rfl⟩
  · exact ⟨e1, e2⟩
  · exact ⟨e2, e1⟩
theorem bd_261_7 {p : Nat} {G : Hp → Option Nat → Option Nat → Prop} {K : Option Nat → Hp → Prop} {h : Hp} {r : Nat} {S : List Nat} {sub : Nat → List Nat} {xp : Nat} (k : Trg 7 8 h r S sub) (pS : xp ∈ S) (np : rf h 8 xp ≠ some p) (fin : ∀ h' r', (∃ sub', Trg 7 8 h' r' S sub') → TFp p S h h' → G h' (some r') (some r')) : wp_J8_balanceDeletion_b261 G K h (some r) (some xp) := by
  unfold wp_J8_balanceDeletion_b261
  refine ⟨(fun q => by cases q), fun a q h1 e => ?_⟩
  cases q
  subst e
  refine s_rotateLeft (k.red xp 0) pS (fun _ _ => ?_) (fun y hy _ => ?_)
  · unfold wp_J8_balanceDeletion_b276 wp_J8_balanceDeletion_b278
    exact fin _ _ ⟨_, k.red xp 0⟩ (TFp.red pS 0)
  · unfold wp_J8_balanceDeletion_b276 wp_J8_balanceDeletion_b278
    exact fin _ _ ⟨_, rotH_Trg ⟨by decide, by decide, by decide⟩ (k.red xp 0) pS hy⟩ ((TFp.red pS 0).trans (rotH_TFp (by decide) (k.red xp 0) pS hy (fun z => np (by rw [z]; exact hy))))
theorem bd_222_7 {p : Nat} {G : Hp → Option Nat → Option Nat → Prop} {K : Option Nat → Hp → Prop} {h : Hp} {r : Nat} {S : List Nat} {sub : Nat → List Nat} {xp : Nat} (k : Trg 7 8 h r S sub) (pS : xp ∈ S) (np : rf h 8 xp ≠ some p) (fin : ∀ h' r', (∃ sub', Trg 7 8 h' r' S sub') → TFp p S h h' → G h' (some r') (some r')) : wp_J8_balanceDeletion_b222 G K h (some r) (some xp) (rf h 8 xp) := by
  unfold wp_J8_balanceDeletion_b222
  refine ⟨fun _ => bd_261_7 k pS np fin, fun s hs => ⟨(fun q => by cases q), fun a q z => ?_⟩⟩
  cases q
  have sS := (k.chS pS (Or.inr hs)).1
  unfold wp_J8_balanceDeletion_b241
  rw [hs]
  refine ⟨s, rfl, z, ?_⟩
  rintro h1 rfl
  refine ⟨s, rfl, fun _ => ?_, fun f hf => ?_⟩
  · exact bd_261_7 (k.red s _) pS np (fun h' r' e1 e2 => fin h' r' e1 ((TFp.red sS _).trans e2))
  · rintro h2 rfl
    have hf : rf h 8 s = some f := hf
    have fS := (k.chS sS (Or.inr hf)).1
    exact bd_261_7 ((k.red s _).red f 0) pS np (fun h' r' e1 e2 => fin h' r' e1 (((TFp.red sS _).trans (TFp.red fS 0)).trans e2))
theorem bd_190_7 {p : Nat} {G : Hp → Option Nat → Option Nat → Prop} {K : Option Nat → Hp → Prop} {h : Hp} {r : Nat} {S : List Nat} {sub : Nat → List Nat} {xp x s : Nat} (k : Trg 7 8 h r S sub) (pS : xp ∈ S) (hx : rf h 7 xp = some x) (hs : rf h 8 xp = some s) (np1 : p ≠ s) (np2 : rf h 7 s ≠ some p) (fin : ∀ h' r', (∃ sub', Trg 7 8 h' r' S sub') → TFp p S h h' → G h' (some r') (some r')) : wp_J8_balanceDeletion_b190 G K h (some r) (some x) (some s) := by
  obtain ⟨xS, x6⟩ := k.chS pS (Or.inl hx)
  obtain ⟨sS, s6⟩ := k.chS pS (Or.inr hs)
  unfold wp_J8_balanceDeletion_b190
  refine ⟨s, rfl, ?_⟩
  rintro h1 rfl
  have k1 := (k.red s 1).mirror
  refine s_rotateRight k1 (List.mem_reverse.mpr sS) (fun _ _ => ?_) (fun y hy _ => ?_)
  · refine ⟨x, rfl, (fun q => ?_), fun q hq => ?_⟩
    · have q : rf h 6 x = none := q
      rw [x6] at q; cases q
    · have hq' : rf h 6 x = some q := hq
      rw [x6] at hq'
      cases hq'
      rw [hq]
      unfold wp_J8_balanceDeletion_b220
      exact bd_222_7 (k.red s 1) pS (fun (z : rf h 8 xp = some p) => np1 (Option.some.inj (z.symm.trans hs))) (fun h' r' e1 e2 => fin h' r' e1 ((TFp.red sS 1).trans e2))
  · have hy' : rf h 7 s = some y := hy
    obtain ⟨F6, Fl, -⟩ := rotH_facts ⟨by decide, by decide, by decide⟩ k1 (List.mem_reverse.mpr sS) hy
    obtain ⟨sub2, k2⟩ := Trg.unmirror (rotH_Trg ⟨by decide, by decide, by decide⟩ k1 (List.mem_reverse.mpr sS) hy)
    have npy : p ≠ y := fun z => np2 (by rw [z]; exact hy')
    have T2 := (rotH_TFp (by decide) k1 (List.mem_reverse.mpr sS) hy npy).sub (fun z hz => List.mem_reverse.mp hz)
    obtain ⟨yS, y6⟩ := k.chS sS (Or.inl hy')
    have e6 : rf (rotH 8 7 (wI h 10 s 1) s y) 6 x = some xp := by
      rw [F6, if_neg (k.lr pS hx hs), if_neg, if_neg]
      · exact x6
      · intro z
        have z : rf h 8 y = some x := z
        have := (k.chS yS (Or.inr z)).2
        rw [x6] at this
        have l1 := (k.ch_sl sS (Or.inl hy')).2
        have l2 := (k.ch_sl pS (Or.inr hs)).2
        cases this
        omega
      · intro z
        rw [z, y6] at x6
        cases x6
        exact k.ne_ch pS (Or.inr hs) rfl
    refine ⟨x, rfl, (fun q => ?_), fun q hq => ?_⟩
    · rw [e6] at q; cases q
    · rw [e6] at hq
      cases hq
      rw [e6]
      unfold wp_J8_balanceDeletion_b220
      refine bd_222_7 k2 pS (fun z => ?_) (fun h' r' e1 e2 => fin h' r' e1 (((TFp.red sS 1).trans T2).trans e2))
      have xy : xp ≠ y := fun w => by
        have l1 := (k.ch_sl sS (Or.inl hy')).2
        have l2 := (k.ch_sl pS (Or.inr hs)).2
        rw [w] at l2
        omega
      rw [Fl, if_neg xy, if_pos ⟨s6, hs⟩] at z
      exact npy (Option.some.inj z).symm
theorem bd_105_7 {p : Nat} {G : Hp → Option Nat → Option Nat → Prop} {K : Option Nat → Hp → Prop} {h : Hp} {r : Nat} {S : List Nat} {sub : Nat → List Nat} {xp x : Nat} (k : Trg 7 8 h r S sub) (pS : xp ∈ S) (hx : rf h 7 xp = some x) (np1 : rf h 8 xp ≠ some p) (np2 : ∀ s, rf h 8 xp = some s → rf h 7 s ≠ some p) (up : ∀ h', Trg 7 8 h' r S sub → TFp p S h h' → it h' 10 xp = it h 10 xp → G h' (some r) (some xp)) (fin : ∀ h' r', (∃ sub', Trg 7 8 h' r' S sub') → TFp p S h h' → G h' (some r') (some r')) : wp_J8_balanceDeletion_b105 G K h (some r) (some x) (some xp) (rf h 8 xp) := by
  have c222 := bd_222_7 (K := K) k pS np1 fin
  unfold wp_J8_balanceDeletion_b105
  refine ⟨fun _ => up h k (TFp.refl p S h) rfl, fun s hs => ?_⟩
  obtain ⟨sS, s6⟩ := k.chS pS (Or.inr hs)
  have hsx : s ≠ xp := k.ne_ch pS (Or.inr hs)
  rw [hs] at c222 ⊢
  have c155 : wp_J8_balanceDeletion_b155 G K h (some r) (some xp) (some s) := by
    unfold wp_J8_balanceDeletion_b155
    refine ⟨s, rfl, ?_⟩
    rintro h1 rfl
    unfold wp_J8_balanceDeletion_b278
    exact up _ (k.red s 1) (TFp.red sS 1) (by rw [it_wI, if_neg (fun z => hsx z.2.symm)])
  have c179 : wp_J8_balanceDeletion_b179 G K h (some r) (some x) (some s) (rf h 7 s) := by
    unfold wp_J8_balanceDeletion_b179
    refine ⟨fun _ => bd_190_7 k pS hx hs (fun z => np1 (by rw [z]; exact hs)) (np2 s hs) fin, fun c hc => ?_⟩
    rintro h1 rfl
    have cS := (k.chS sS (Or.inl hc)).1
    exact bd_190_7 (k.red c 0) pS hx hs (fun z => np1 (by rw [z]; exact hs)) (np2 s hs) (fun h' r' e1 e2 => fin h' r' e1 ((TFp.red cS 0).trans e2))
  have c166 : wp_J8_balanceDeletion_b166 G K h (some r) (some x) (some xp) (some s) (rf h 7 s) (rf h 8 s) := by
    unfold wp_J8_balanceDeletion_b166
    exact ⟨fun _ => c179, fun f hf _ => ⟨fun _ => c222, fun _ => c179⟩⟩
  have c142 : wp_J8_balanceDeletion_b142 G K h (some r) (some x) (some xp) (some s) (rf h 7 s) (rf h 8 s) := by
    unfold wp_J8_balanceDeletion_b142
    exact ⟨fun _ => c155, fun f hf _ => ⟨fun _ => c166, fun _ => c155⟩⟩
  exact ⟨fun _ => c142, fun f hf _ => ⟨fun _ => c166, fun _ => c142⟩⟩
theorem bd_261_8 {p : Nat} {G : Hp → Option Nat → Option Nat → Prop} {K : Option Nat → Hp → Prop} {h : Hp} {r : Nat} {S : List Nat} {sub : Nat → List Nat} {xp : Nat} (k : Trg 8 7 h r S sub) (pS : xp ∈ S) (np : rf h 7 xp ≠ some p) (fin : ∀ h' r', (∃ sub', Trg 8 7 h' r' S sub') → TFp p S h h' → G h' (some r') (some r')) : wp_J8_balanceDeletion_b472 G K h (some r) (some xp) := by
  unfold wp_J8_balanceDeletion_b472
  refine ⟨(fun q => by cases q), fun a q h1 e => ?_⟩
  cases q
  subst e
  refine s_rotateRight (k.red xp 0) pS (fun _ _ => ?_) (fun y hy _ => ?_)
  · unfold wp_J8_balanceDeletion_b487 wp_J8_balanceDeletion_b489
    exact fin _ _ ⟨_, k.red xp 0⟩ (TFp.red pS 0)
  · unfold wp_J8_balanceDeletion_b487 wp_J8_balanceDeletion_b489
    exact fin _ _ ⟨_, rotH_Trg ⟨by decide, by decide, by decide⟩ (k.red xp 0) pS hy⟩ ((TFp.red pS 0).trans (rotH_TFp (by decide) (k.red xp 0) pS hy (fun z => np (by rw [z]; exact hy))))
theorem bd_222_8 {p : Nat} {G : Hp → Option Nat → Option Nat → Prop} {K : Option Nat → Hp → Prop} {h : Hp} {r : Nat} {S : List Nat} {sub : Nat → List Nat} {xp : Nat} (k : Trg 8 7 h r S sub) (pS : xp ∈ S) (np : rf h 7 xp ≠ some p) (fin : ∀ h' r', (∃ sub', Trg 8 7 h' r' S sub') → TFp p S h h' → G h' (some r') (some r')) : wp_J8_balanceDeletion_b436 G K h (some r) (some xp) (rf h 7 xp) := by
  unfold wp_J8_balanceDeletion_b436
  refine ⟨fun _ => bd_261_8 k pS np fin, fun s hs => ⟨(fun q => by cases q), fun a q z => ?_⟩⟩
  cases q
  have sS := (k.chS pS (Or.inr hs)).1
  unfold wp_J8_balanceDeletion_b453
  rw [hs]
  refine ⟨s, rfl, z, ?_⟩
  rintro h1 rfl
  refine ⟨s, rfl, fun _ => ?_, fun f hf => ?_⟩
  · exact bd_261_8 (k.red s _) pS np (fun h' r' e1 e2 => fin h' r' e1 ((TFp.red sS _).trans e2))
  · rintro h2 rfl
    have hf : rf h 7 s = some f := hf
    have fS := (k.chS sS (Or.inr hf)).1
    exact bd_261_8 ((k.red s _).red f 0) pS np (fun h' r' e1 e2 => fin h' r' e1 (((TFp.red sS _).trans (TFp.red fS 0)).trans e2))
theorem bd_190_8 {p : Nat} {G : Hp → Option Nat → Option Nat → Prop} {K : Option Nat → Hp → Prop} {h : Hp} {r : Nat} {S : List Nat} {sub : Nat → List Nat} {xp x s : Nat} (k : Trg 8 7 h r S sub) (pS : xp ∈ S) (hx : rf h 8 xp = some x) (hs : rf h 7 xp = some s) (np1 : p ≠ s) (np2 : rf h 8 s ≠ some p) (fin : ∀ h' r', (∃ sub', Trg 8 7 h' r' S sub') → TFp p S h h' → G h' (some r') (some r')) : wp_J8_balanceDeletion_b407 G K h (some r) (some x) (some s) := by
  obtain ⟨xS, x6⟩ := k.chS pS (Or.inl hx)
  obtain ⟨sS, s6⟩ := k.chS pS (Or.inr hs)
  unfold wp_J8_balanceDeletion_b407
  refine ⟨s, rfl, ?_⟩
  rintro h1 rfl
  have k1 := (k.red s 1).mirror
  refine s_rotateLeft k1 (List.mem_reverse.mpr sS) (fun _ _ => ?_) (fun y hy _ => ?_)
  · refine ⟨x, rfl, (fun q => ?_), fun q hq => ?_⟩
    · have q : rf h 6 x = none := q
      rw [x6] at q; cases q
    · have hq' : rf h 6 x = some q := hq
      rw [x6] at hq'
      cases hq'
      rw [hq]
      unfold wp_J8_balanceDeletion_b435
      exact bd_222_8 (k.red s 1) pS (fun (z : rf h 7 xp = some p) => np1 (Option.some.inj (z.symm.trans hs))) (fun h' r' e1 e2 => fin h' r' e1 ((TFp.red sS 1).trans e2))
  · have hy' : rf h 8 s = some y := hy
    obtain ⟨F6, Fl, -⟩ := rotH_facts ⟨by decide, by decide, by decide⟩ k1 (List.mem_reverse.mpr sS) hy
    obtain ⟨sub2, k2⟩ := Trg.unmirror (rotH_Trg ⟨by decide, by decide, by decide⟩ k1 (List.mem_reverse.mpr sS) hy)
    have npy : p ≠ y := fun z => np2 (by rw [z]; exact hy')
    have T2 := (rotH_TFp (by decide) k1 (List.mem_reverse.mpr sS) hy npy).sub (fun z hz => List.mem_reverse.mp hz)
    obtain ⟨yS, y6⟩ := k.chS sS (Or.inl hy')
    have e6 : rf (rotH 7 8 (wI h 10 s 1) s y) 6 x = some xp := by
      rw [F6, if_neg (k.lr pS hx hs), if_neg, if_neg]
      · exact x6
      · intro z
        have z : rf h 7 y = some x := z
        have := (k.chS yS (Or.inr z)).2
        rw [x6] at this
        have l1 := (k.ch_sl sS (Or.inl hy')).2
        have l2 := (k.ch_sl pS (Or.inr hs)).2
        cases this
        omega
      · intro z
        rw [z, y6] at x6
        cases x6
        exact k.ne_ch pS (Or.inr hs) rfl
    refine ⟨x, rfl, (fun q => ?_), fun q hq => ?_⟩
    · rw [e6] at q; cases q
    · rw [e6] at hq
      cases hq
      rw [e6]
      unfold wp_J8_balanceDeletion_b435
      refine bd_222_8 k2 pS (fun z => ?_) (fun h' r' e1 e2 => fin h' r' e1 (((TFp.red sS 1).trans T2).trans e2))
      have xy : xp ≠ y := fun w => by
        have l1 := (k.ch_sl sS (Or.inl hy')).2
        have l2 := (k.ch_sl pS (Or.inr hs)).2
        rw [w] at l2
        omega
      rw [Fl, if_neg xy, if_pos ⟨s6, hs⟩] at z
      exact npy (Option.some.inj z).symm
theorem bd_105_8 {p : Nat} {G : Hp → Option Nat → Option Nat → Prop} {K : Option Nat → Hp → Prop} {h : Hp} {r : Nat} {S : List Nat} {sub : Nat → List Nat} {xp x : Nat} (k : Trg 8 7 h r S sub) (pS : xp ∈ S) (hx : rf h 8 xp = some x) (np1 : rf h 7 xp ≠ some p) (np2 : ∀ s, rf h 7 xp = some s → rf h 8 s ≠ some p) (up : ∀ h', Trg 8 7 h' r S sub → TFp p S h h' → it h' 10 xp = it h 10 xp → G h' (some r) (some xp)) (fin : ∀ h' r', (∃ sub', Trg 8 7 h' r' S sub') → TFp p S h h' → G h' (some r') (some r')) : wp_J8_balanceDeletion_b326 G K h (some r) (some x) (some xp) (rf h 7 xp) := by
  have c222 := bd_222_8 (K := K) k pS np1 fin
  unfold wp_J8_balanceDeletion_b326
  refine ⟨fun _ => up h k (TFp.refl p S h) rfl, fun s hs => ?_⟩
  obtain ⟨sS, s6⟩ := k.chS pS (Or.inr hs)
  have hsx : s ≠ xp := k.ne_ch pS (Or.inr hs)
  rw [hs] at c222 ⊢
  have c155 : wp_J8_balanceDeletion_b373 G K h (some r) (some xp) (some s) := by
    unfold wp_J8_balanceDeletion_b373
    refine ⟨s, rfl, ?_⟩
    rintro h1 rfl
    unfold wp_J8_balanceDeletion_b489
    exact up _ (k.red s 1) (TFp.red sS 1) (by rw [it_wI, if_neg (fun z => hsx z.2.symm)])
  have c179 : wp_J8_balanceDeletion_b396 G K h (some r) (some x) (some s) (rf h 8 s) := by
    unfold wp_J8_balanceDeletion_b396
    refine ⟨fun _ => bd_190_8 k pS hx hs (fun z => np1 (by rw [z]; exact hs)) (np2 s hs) fin, fun c hc => ?_⟩
    rintro h1 rfl
    have cS := (k.chS sS (Or.inl hc)).1
    exact bd_190_8 (k.red c 0) pS hx hs (fun z => np1 (by rw [z]; exact hs)) (np2 s hs) (fun h' r' e1 e2 => fin h' r' e1 ((TFp.red cS 0).trans e2))
  have c166 : wp_J8_balanceDeletion_b383 G K h (some r) (some x) (some xp) (some s) (rf h 7 s) (rf h 8 s) := by
    unfold wp_J8_balanceDeletion_b383
    exact ⟨fun _ => c179, fun f hf _ => ⟨fun _ => c222, fun _ => c179⟩⟩
  have c142 : wp_J8_balanceDeletion_b360 G K h (some r) (some x) (some xp) (some s) (rf h 7 s) (rf h 8 s) := by
    unfold wp_J8_balanceDeletion_b360
    exact ⟨fun _ => c155, fun f hf _ => ⟨fun _ => c166, fun _ => c155⟩⟩
  exact ⟨fun _ => c142, fun f hf _ => ⟨fun _ => c166, fun _ => c142⟩⟩
theorem bd_end {K : Option Nat → Hp → Prop} {m : Nat} {h : Hp} {r : Nat} (k : K (some r) h) : wp_J8_balanceDeletion_b0 K (m + 1) h (some r) (some r) := by
  unfold wp_J8_balanceDeletion_b0
  exact ⟨(fun q => by cases q), fun a q => ⟨fun z => absurd rfl z, fun _ => k⟩⟩
theorem bd_red {p : Nat} {fl fr : Nat} {K : Option Nat → Hp → Prop} {m : Nat} {h : Hp} {r : Nat} {S : List Nat} {sub : Nat → List Nat} {x : Nat} (k : Trg fl fr h r S sub) (xS : x ∈ S) (hr : it h 10 x = 1) (fin : ∀ h' r', (∃ sub', Trg fl fr h' r' S sub') → TFp p S h h' → K (some r') h') : wp_J8_balanceDeletion_b0 K (m + 1) h (some r) (some x) := by
  unfold wp_J8_balanceDeletion_b0
  refine ⟨(fun q => by cases q), fun a q => ⟨fun z => ?_, fun z => fin h r ⟨_, k⟩ (TFp.refl p S h)⟩⟩
  cases q
  refine ⟨fun h6 => absurd (by rw [k.root_up xS h6]) z, fun p hp _ => ⟨fun e => ?_, fun _ => ?_⟩⟩
  · rw [hr] at e; cases e
  · rintro h1 rfl
    exact fin _ _ ⟨_, k.red x 0⟩ (TFp.red xS 0)
theorem rotH_it {fl fr : Nat} (hf : fl ≠ fr ∧ fl ≠ 6 ∧ fr ≠ 6) {h : Hp} {r : Nat} {S : List Nat} {sub : Nat → List Nat} (k : Trg fl fr h r S sub) {a x : Nat} (ha : a ∈ S) (hx : rf h fr a = some x) : it (rotH fl fr h a x) 10 a = it h 10 a := by
  obtain ⟨-, -, -, -, It, -⟩ := rotH_facts hf k ha hx
  exact It 10 a (fun _ e => k.ne_ch ha (Or.inr hx) e.symm)
/-- the sibling is red: turn, then go on -/
theorem bd_turn_7 {p : Nat} {K : Option Nat → Hp → Prop} {m : Nat} {h : Hp} {r : Nat} {S : List Nat} {sub : Nat → List Nat} {xp x s : Nat} (k : Trg 7 8 h r S sub) (pS : xp ∈ S) (hx : rf h 7 xp = some x) (hs : rf h 8 xp = some s) (np1 : p ≠ s) (np2 : rf h 7 s ≠ some p) (np3 : ∀ c, rf h 7 s = some c → rf h 7 c ≠ some p) (fin : ∀ h' r', (∃ sub', Trg 7 8 h' r' S sub') → TFp p S h h' → K (some r') h') :
    wp_J8_rotateLeft (wI (wI h 10 s 0) 10 xp 1) (some r) (some xp) (fun r1 h1 => Ex (wI (wI h 10 s 0) 10 xp 1) h1 → (((rf h1 6 x) = none → (wp_J8_balanceDeletion_b103 (wp_J8_balanceDeletion_b0 K (m + 1)) K h1 r1 (some x) (rf h1 6 x) none)) ∧ (∀ a1, (rf h1 6 x) = some a1 → (wp_J8_balanceDeletion_b103 (wp_J8_balanceDeletion_b0 K (m + 1)) K h1 r1 (some x) (rf h1 6 x) (rf h1 8 a1))))) := by
  obtain ⟨xS, x6⟩ := k.chS pS (Or.inl hx)
  obtain ⟨sS, s6⟩ := k.chS pS (Or.inr hs)
  have k1 := (k.red s 0).red xp 1
  have T1 : TFp p S h (wI (wI h 10 s 0) 10 xp 1) := (TFp.red sS 0).trans (TFp.red pS 1)
  refine s_rotateLeft k1 pS (fun z _ => ?_) (fun y hy _ => ?_)
  · have z : rf h 8 xp = none := z
    rw [hs] at z; cases z
  · have hy' : rf h 8 xp = some y := hy
    rw [hs] at hy'
    cases hy'
    obtain ⟨F6, Fl, Fr, -⟩ := rotH_facts ⟨by decide, by decide, by decide⟩ k1 pS hy
    have k2 := rotH_Trg ⟨by decide, by decide, by decide⟩ k1 pS hy
    have T2 := T1.trans (rotH_TFp (by decide) k1 pS hy np1)
    have hsx : s ≠ xp := k.ne_ch pS (Or.inr hs)
    have e6 : rf (rotH 7 8 (wI (wI h 10 s 0) 10 xp 1) xp s) 6 x = some xp := by
      rw [F6, if_neg (k.ne_ch pS (Or.inl hx)), if_neg (k.lr pS hx hs), if_neg]
      · exact x6
      · intro z
        have z : rf h 7 s = some x := z
        have := (k.chS sS (Or.inl z)).2
        rw [x6] at this
        exact hsx (Option.some.inj this).symm
    have el : rf (rotH 7 8 (wI (wI h 10 s 0) 10 xp 1) xp s) 7 xp = some x := by
      rw [Fl, if_neg (Ne.symm hsx), if_neg]
      · exact hx
      · intro z
        exact k1.ne_ch (k1.par pS z.1).1 (k1.par pS z.1).2 rfl
    have er : it (rotH 7 8 (wI (wI h 10 s 0) 10 xp 1) xp s) 10 xp = 1 := by
      rw [rotH_it ⟨by decide, by decide, by decide⟩ k1 pS hy, it_wI, if_pos ⟨rfl, rfl⟩]
    refine ⟨(fun q => by rw [e6] at q; cases q), fun q hq => ?_⟩
    rw [e6] at hq
    cases hq
    rw [e6]
    unfold wp_J8_balanceDeletion_b103
    have e8 : rf (rotH 7 8 (wI (wI h 10 s 0) 10 xp 1) xp s) 8 xp = rf h 7 s := by rw [Fr, if_pos rfl]; rfl
    refine bd_105_7 k2 pS el (by rw [e8]; exact np2) (fun c hc => ?_) (fun h' k' e1 e2 => ?_) (fun h' r' e1 e2 => bd_end (fin h' r' e1 (T2.trans e2)))
    · rw [e8] at hc
      have cs : c ≠ s := k.ne_ch sS (Or.inl hc)
      rw [Fl, if_neg cs, if_neg (fun z => ?_)]
      · exact np3 c hc
      · have z2 : rf h 7 c = some xp := z.2
        obtain ⟨cS, -⟩ := k.chS sS (Or.inl hc)
        have l1 := (k.ch_sl sS (Or.inl hc)).2
        have l2 := (k.ch_sl pS (Or.inr hs)).2
        have l3 := (k.ch_sl cS (Or.inl z2)).2
        omega
    exact bd_red k' pS (by rw [e2, er]) (fun h2 r2 e3 e4 => fin h2 r2 e3 ((T2.trans e1).trans e4))
/-- the sibling is red: turn, then go on -/
theorem bd_turn_8 {p : Nat} {K : Option Nat → Hp → Prop} {m : Nat} {h : Hp} {r : Nat} {S : List Nat} {sub : Nat → List Nat} {xp x s : Nat} (k : Trg 8 7 h r S sub) (pS : xp ∈ S) (hx : rf h 8 xp = some x) (hs : rf h 7 xp = some s) (np1 : p ≠ s) (np2 : rf h 8 s ≠ some p) (np3 : ∀ c, rf h 8 s = some c → rf h 8 c ≠ some p) (fin : ∀ h' r', (∃ sub', Trg 8 7 h' r' S sub') → TFp p S h h' → K (some r') h') :
    wp_J8_rotateRight (wI (wI h 10 s 0) 10 xp 1) (some r) (some xp) (fun r1 h1 => Ex (wI (wI h 10 s 0) 10 xp 1) h1 → (((rf h1 6 x) = none → (wp_J8_balanceDeletion_b325 (wp_J8_balanceDeletion_b0 K (m + 1)) K h1 r1 (some x) (rf h1 6 x) none)) ∧ (∀ a1, (rf h1 6 x) = some a1 → (wp_J8_balanceDeletion_b325 (wp_J8_balanceDeletion_b0 K (m + 1)) K h1 r1 (some x) (rf h1 6 x) (rf h1 7 a1))))) := by
  obtain ⟨xS, x6⟩ := k.chS pS (Or.inl hx)
  obtain ⟨sS, s6⟩ := k.chS pS (Or.inr hs)
  have k1 := (k.red s 0).red xp 1
  have T1 : TFp p S h (wI (wI h 10 s 0) 10 xp 1) := (TFp.red sS 0).trans (TFp.red pS 1)
  refine s_rotateRight k1 pS (fun z _ => ?_) (fun y hy _ => ?_)
  · have z : rf h 7 xp = none := z
    rw [hs] at z; cases z
  · have hy' : rf h 7 xp = some y := hy
    rw [hs] at hy'
    cases hy'
    obtain ⟨F6, Fl, Fr, -⟩ := rotH_facts ⟨by decide, by decide, by decide⟩ k1 pS hy
    have k2 := rotH_Trg ⟨by decide, by decide, by decide⟩ k1 pS hy
    have T2 := T1.trans (rotH_TFp (by decide) k1 pS hy np1)
    have hsx : s ≠ xp := k.ne_ch pS (Or.inr hs)
    have e6 : rf (rotH 8 7 (wI (wI h 10 s 0) 10 xp 1) xp s) 6 x = some xp := by
      rw [F6, if_neg (k.ne_ch pS (Or.inl hx)), if_neg (k.lr pS hx hs), if_neg]
      · exact x6
      · intro z
        have z : rf h 8 s = some x := z
        have := (k.chS sS (Or.inl z)).2
        rw [x6] at this
        exact hsx (Option.some.inj this).symm
    have el : rf (rotH 8 7 (wI (wI h 10 s 0) 10 xp 1) xp s) 8 xp = some x := by
      rw [Fl, if_neg (Ne.symm hsx), if_neg]
      · exact hx
      · intro z
        exact k1.ne_ch (k1.par pS z.1).1 (k1.par pS z.1).2 rfl
    have er : it (rotH 8 7 (wI (wI h 10 s 0) 10 xp 1) xp s) 10 xp = 1 := by
      rw [rotH_it ⟨by decide, by decide, by decide⟩ k1 pS hy, it_wI, if_pos ⟨rfl, rfl⟩]
    refine ⟨(fun q => by rw [e6] at q; cases q), fun q hq => ?_⟩
    rw [e6] at hq
    cases hq
    rw [e6]
    unfold wp_J8_balanceDeletion_b325
    have e8 : rf (rotH 8 7 (wI (wI h 10 s 0) 10 xp 1) xp s) 7 xp = rf h 8 s := by rw [Fr, if_pos rfl]; rfl
    refine bd_105_8 k2 pS el (by rw [e8]; exact np2) (fun c hc => ?_) (fun h' k' e1 e2 => ?_) (fun h' r' e1 e2 => bd_end (fin h' r' e1 (T2.trans e2)))
    · rw [e8] at hc
      have cs : c ≠ s := k.ne_ch sS (Or.inl hc)
      rw [Fl, if_neg cs, if_neg (fun z => ?_)]
      · exact np3 c hc
      · have z2 : rf h 8 c = some xp := z.2
        obtain ⟨cS, -⟩ := k.chS sS (Or.inl hc)
        have l1 := (k.ch_sl sS (Or.inl hc)).2
        have l2 := (k.ch_sl pS (Or.inr hs)).2
        have l3 := (k.ch_sl cS (Or.inl z2)).2
        omega
    exact bd_red k' pS (by rw [e2, er]) (fun h2 r2 e3 e4 => fin h2 r2 e3 ((T2.trans e1).trans e4))
theorem bd_loop {p : Nat} {S : List Nat} {K : Option Nat → Hp → Prop} : ∀ (n : Nat) (h : Hp) (r : Nat) (sub : Nat → List Nat) (x : Nat), Trg 7 8 h r S sub → x ∈ S → p ∈ sub x → S.length + 2 ≤ n + (sub x).length → (∀ h' r', (∃ sub', Trg 7 8 h' r' S sub') → TFp p S h h' → K (some r') h') → wp_J8_balanceDeletion_b0 K n h (some r) (some x)
  | 0, h, r, sub, x, k, hx, hpx, hn, fin => by
    have := (k.sl hx).length_le
    omega
  | n + 1, h, r, sub, x, k, hx, hpx, hn, fin => by
    have lx := (k.sl hx).length_le
    have fin8 : ∀ h' r', (∃ sub', Trg 8 7 h' r' S.reverse sub') → TFp p S.reverse h h' → K (some r') h' := fun h' r' e1 e2 => by
      obtain ⟨s', e1⟩ := e1
      exact fin h' r' e1.unmirror (e2.sub (fun z hz => List.mem_reverse.mp hz))
    unfold wp_J8_balanceDeletion_b0
    refine ⟨(fun q => by cases q), fun a q => ⟨fun z => ?_, fun _ => fin h r ⟨_, k⟩ (TFp.refl p S h)⟩⟩
    cases q
    refine ⟨fun h6 => absurd (by rw [k.root_up hx h6]) z, fun xp h6 _ => ⟨fun _ => ?_, fun _ => ?_⟩⟩
    · obtain ⟨pS, pc⟩ := k.par hx h6
      have l1 := (k.ch_sl pS pc).2
      have l3 := (k.sl pS).length_le
      obtain ⟨m, rfl⟩ : ∃ m, n = m + 1 := ⟨n - 1, by omega⟩
      have hpxp : p ∈ sub xp := (k.ch_sl pS pc).1.subset hpx
      have off : ∀ s, chd 7 8 h xp s → s ≠ x → p ∉ sub s := fun s cs ne hs => by
        have nd := k.nd pS
        rw [(k.2.2.2.2 xp pS).1] at nd
        have nd := List.nodup_append.mp nd
        rcases cs with w1 | w1 <;> rcases pc with w2 | w2
        · rw [w1] at w2; cases w2; exact ne rfl
        · rw [w1, w2] at nd
          exact nd.2.2 p hs p (List.mem_cons_of_mem _ hpx) rfl
        · rw [w1, w2] at nd
          exact nd.2.2 p hpx p (List.mem_cons_of_mem _ hs) rfl
        · rw [w1] at w2; cases w2; exact ne rfl
      have far : ∀ s, chd 7 8 h xp s → s ≠ x → p ≠ s ∧ (∀ c, chd 7 8 h s c → p ≠ c ∧ ∀ d, chd 7 8 h c d → p ≠ d) := fun s cs ne => by
        have o := off s cs ne
        have sS := (k.chS pS cs).1
        refine ⟨fun z => o (by rw [z]; exact k.self sS), fun c hc => ?_⟩
        have cS := (k.chS sS hc).1
        have l1 := (k.ch_sl sS hc).1
        refine ⟨fun z => o (l1.subset (by rw [z]; exact k.self cS)), fun d hd => ?_⟩
        have dS := (k.chS cS hd).1
        exact fun z => o (l1.subset ((k.ch_sl cS hd).1.subset (by rw [z]; exact k.self dS)))
      rw [h6]
      refine ⟨fun y => ?_, fun y => ?_⟩
      · have p8 : rf h 8 xp = some x := by
          rcases pc with e | e
          · exact absurd e y
          · exact e
        have b := bd_105_8 (K := K) (G := wp_J8_balanceDeletion_b0 K (m + 1)) k.mirror (List.mem_reverse.mpr pS) p8 (fun z => (far p (Or.inl z) (fun w => y (by rw [← w]; exact z))).1 rfl) (fun s hs z => ((far s (Or.inl hs) (fun w => y (by rw [← w]; exact hs))).2 p (Or.inr z)).1 rfl) (fun h' k' e1 e2 => by
          obtain ⟨sub', kk⟩ := Trg.unmirror k'
          have e3 := k'.mirror
          rw [List.reverse_reverse] at e3
          refine bd_loop (m + 1) h' r _ xp e3 pS (by show p ∈ (sub xp).reverse.reverse; rw [List.reverse_reverse]; exact hpxp) ?_ (fun h2 r2 e4 e5 => fin h2 r2 e4 ((e1.sub (fun z hz => List.mem_reverse.mp hz)).trans e5))
          show S.length + 2 ≤ m + 1 + ((sub xp).reverse.reverse).length
          rw [List.reverse_reverse]
          omega) (fun h' r' e1 e2 => bd_end (fin8 h' r' e1 e2))
        refine ⟨fun _ => b, fun s hs _ => ⟨fun _ => b, fun _ => ?_⟩⟩
        rintro h1 rfl h2 rfl
        have fs := far s (Or.inl hs) (fun w => y (by rw [← w]; exact hs))
        exact bd_turn_8 k.mirror (List.mem_reverse.mpr pS) p8 hs fs.1 (fun z => (fs.2 p (Or.inr z)).1 rfl) (fun c hc z => (fs.2 c (Or.inr hc)).2 p (Or.inr z) rfl) fin8
      · have b := bd_105_7 (K := K) (G := wp_J8_balanceDeletion_b0 K (m + 1)) k pS y (fun z => (far p (Or.inr z) (fun w => k.lr pS y z w.symm)).1 rfl) (fun s hs z => ((far s (Or.inr hs) (fun w => k.lr pS y hs w.symm)).2 p (Or.inl z)).1 rfl) (fun h' k' e1 e2 => bd_loop (m + 1) h' r sub xp k' pS hpxp (by omega) (fun h2 r2 e4 e5 => fin h2 r2 e4 (e1.trans e5))) (fun h' r' e1 e2 => bd_end (fin h' r' e1 e2))
        refine ⟨fun _ => b, fun s hs _ => ⟨fun _ => b, fun _ => ?_⟩⟩
        rintro h1 rfl h2 rfl
        have fs := far s (Or.inr hs) (fun w => k.lr pS y hs w.symm)
        exact bd_turn_7 k pS y hs fs.1 (fun z => (fs.2 p (Or.inl z)).1 rfl) (fun c hc z => (fs.2 c (Or.inl hc)).2 p (Or.inl z) rfl) fin
    · rintro h1 rfl
      exact fin _ _ ⟨_, k.red x 0⟩ (TFp.red hx 0)
theorem s_balanceDeletion {S : List Nat} {K : Option Nat → Hp → Prop} {h : Hp} {r : Nat} {sub : Nat → List Nat} {x : Nat} (k : Trg 7 8 h r S sub) (hx : x ∈ S) (fin : ∀ h' r', (∃ sub', Trg 7 8 h' r' S sub') → TF S h h' → (rf h 7 x = none → rf h 8 x = none → rf h' 7 x = none ∧ rf h' 8 x = none) → K (some r') h') : wp_J8_balanceDeletion h (some r) (some x) K := by
  unfold wp_J8_balanceDeletion
  exact ⟨S.length + 2, bd_loop (p := x) _ _ r sub x k hx (k.self hx) (by omega) (fun h' r' e1 e2 => fin h' r' e1 e2.1 e2.2)⟩
