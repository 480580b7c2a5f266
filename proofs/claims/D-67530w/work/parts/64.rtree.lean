/-! REMOVETREENODE, the whole -/
set_option maxRecDepth 100000
theorem flt_mid {p : Nat} {X Y : List Nat} (nd : (X ++ p :: Y).Nodup) : flt p (X ++ p :: Y) = X ++ Y := by
  have n1 := List.nodup_append.mp nd
  have n2 := List.nodup_cons.mp n1.2.1
  have fX : X.filter (fun a => decide (a ≠ p)) = X := List.filter_eq_self.mpr (fun a ha => decide_eq_true (n1.2.2 a ha p List.mem_cons_self))
  have fY : Y.filter (fun a => decide (a ≠ p)) = Y := List.filter_eq_self.mpr (fun a ha => decide_eq_true (fun w => n2.1 (w ▸ ha)))
  unfold flt
  rw [List.filter_append, List.filter_cons, fX, fY]
  simp
theorem flt_perm {p : Nat} {A B : List Nat} (h : A.Perm B) : (flt p A).Perm (flt p B) := h.filter _
theorem PT.ph {S L : List Nat} {t i f a : Nat} (h : ∀ x ∈ S, x ∈ L) (w : PT S f a) : PH L t i f a := Or.inl ⟨h a w.1, by have := w.2; omega⟩
theorem s_removeTreeNode {h : Hp} {m n t i p r lk : Nat} {O L S : List Nat} {sub : Nat → List Nat} {l3 : Int32} {K : Hp → Prop} (hm0 : kd h m = 2 ∨ kd h m = 3) (hlk : lk = if kd h m = 2 then 5 else 6) (hOk : ∀ b ∈ O, kd h b ≠ 0) (nd : O.Nodup) (mO : m ∉ O) (dl : kd h m = 3 → DL h m O) (hL : ∀ a ∈ L, a ∈ O) (b : Bin h lk n i L) (hk : ∀ a ∈ L, kd h a = 7) (hpv : PVs h 9 none L) (kT : Trg 7 8 h r S sub) (hs : Srt h S) (pS : S.Perm L) (kt : kd h t = 51) (lt : ln h t = n) (hi : i < n) (hn : n < 2 ^ 31) (hh : rf h (100 + i) t = L.head?) (hp : p ∈ L) (hR : l3 ≠ 0 → Rm h L.length (L.length * 6))
    (fin : ∀ h' s L', Evo (PH L t i) h h' m O s → (∀ x, x ∉ L ∨ x = p → s x = x) → L'.Perm ((flt p L).map s) → rf h' (100 + i) t = L'.head? → Bin h' lk n i L' → (l3 = 0 → s = id ∧ L' = flt p L) → nc h' ≤ nc h + (if l3 = 0 then 0 else L.length) → ns h' ≤ ns h + (if l3 = 0 then 0 else L.length * 6) → K h') :
    wp_J8_removeTreeNode h (some p) (some m) (some t) l3 K := by
  have tL : t ∉ L := fun w => by have := hk t w; omega
  have ndL := b.2.1.nd
  obtain ⟨X, Y, eL⟩ := split_at hp
  rw [eL] at ndL
  have fL : flt p L = X ++ Y := by rw [eL]; exact flt_mid ndL
  have nd' := List.nodup_append.mp ndL
  have pX : p ∉ X := fun w => nd'.2.2 p w p List.mem_cons_self rfl
  have pY : p ∉ Y := (List.nodup_cons.mp nd'.2.1).1
  have XY : ∀ a ∈ X, a ∉ Y := fun a ha hy => nd'.2.2 a ha a (List.mem_cons_of_mem _ hy) rfl
  have inL : ∀ a ∈ X ++ Y, a ∈ L := fun a ha => by
    rw [eL]
    rcases List.mem_append.mp ha with w | w <;> simp [w]
  have nXY : (X ++ Y).Nodup := List.nodup_append.mpr ⟨nd'.1, (List.nodup_cons.mp nd'.2.1).2, fun x hx y hy => nd'.2.2 x hx y (List.mem_cons_of_mem _ hy)⟩
  have nx := b.2.2.1
  have pv := hpv
  rw [eL] at nx pv
  have p3 : rf h 3 p = Y.head? := by have := NXs_at nx; simpa using this
  have p9 : rf h 9 p = X.getLast? := by have := PVs_at pv; simpa using this
  obtain ⟨nX, n2, nY⟩ := (NXs_app h 3 none X (p :: Y)).mp nx
  obtain ⟨vX, v2, vY⟩ := (PVs_app h 9 none X (p :: Y)).mp pv
  have pix : ix n (it h 0 p) = i := (b.1 p hp).2
  have x1 : ((nI n - 1) &&& it h 0 p) = nI i := by
    have := (ix_ok (n := n) (it h 0 p) (by omega) hn).1
    rw [pix] at this; exact this
  have pS' : p ∈ S := pS.mem_iff.mpr hp
  have SL : ∀ a ∈ S, a ∈ L := fun a ha => pS.mem_iff.mp ha
  have slXY : (X ++ Y).Sublist L := by rw [eL]; exact (List.sublist_cons_self p Y).append_left X
  -- once the list has been closed
  have b88 : ∀ h1 l7, Chg (PH L t i) h h1 → (∀ f a, f ≠ 3 → f ≠ 9 → a ≠ t → rf h1 f a = rf h f a ∧ it h1 f a = it h f a) → rf h1 (100 + i) t = (X ++ Y).head? → NXs h1 3 (X ++ Y) none → PVs h1 9 none (X ++ Y) → l7 ∈ L → wp_J8_removeTreeNode_b88 K h1 (some p) (some m) (some t) l3 (nI i) (X ++ Y).head? (some l7) := by
    intro h1 l7 c1 o1 e1 n1 v1 l7L
    have E1 : Evo (PH L t i) h h1 m O id := c1.evo nd hOk (fun f x q => q.fl)
    have I1 : IntS h h1 := c1.int PH.no
    have neT : ∀ a ∈ L, a ≠ t := fun a ha w => tL (w ▸ ha)
    have k1 : Trg 7 8 h1 r S sub := kT.same (fun a ha => ⟨(o1 6 a (by omega) (by omega) (neT a (SL a ha))).1, (o1 7 a (by omega) (by omega) (neT a (SL a ha))).1, (o1 8 a (by omega) (by omega) (neT a (SL a ha))).1⟩)
    have hs1 : Srt h1 S := hs.fra (fun a ha => (o1 0 a (by omega) (by omega) (neT a (SL a ha))).2)
    have it1 : ∀ a ∈ L, it h1 0 a = it h 0 a := fun a ha => (o1 0 a (by omega) (by omega) (neT a ha)).2
    have ok1 : ∀ a ∈ L, NodeOK h1 a ∧ ix n (it h1 0 a) = i := fun a ha => ⟨(b.1 a ha).1.fra I1 (it1 a ha) (o1 1 a (by omega) (by omega) (neT a ha)).1 (o1 2 a (by omega) (by omega) (neT a ha)).1, by rw [it1 a ha]; exact (b.1 a ha).2⟩
    have hd1 : HD h1 (X ++ Y) := HD.fra (h := h) (List.Pairwise.sublist slXY b.2.1) (fun a ha => it1 a (inL a ha))
    have kd1 : ∀ a ∈ X ++ Y, kd h1 a = 7 := fun a ha => by rw [c1.1]; exact hk a (inL a ha)
    unfold wp_J8_removeTreeNode_b88
    refine ⟨fun w => ?_, fun fst hf => ?_⟩
    · have hXY : X ++ Y = [] := by
        cases e : X ++ Y with
        | nil => rfl
        | cons x Z => rw [e] at w; cases w
      refine fin h1 id [] E1 (fun _ _ => rfl) (by rw [fL, hXY]; simp) (by rw [e1, hXY]) (Bin.nil _ _ _ _) (fun _ => ⟨rfl, by rw [fL, hXY]⟩) (by rw [c1.2.2.1]; omega) (by rw [c1.2.2.2.1]; omega)
    · have hne : X ++ Y ≠ [] := fun w => by rw [w] at hf; cases hf
      obtain ⟨y0, hy0⟩ := List.exists_mem_of_ne_nil _ hne
      have y0p : y0 ≠ p := fun w => by
        rw [w] at hy0
        rcases List.mem_append.mp hy0 with z | z
        · exact pX z
        · exact pY z
      have hS2 : ∃ y ∈ S, y ≠ p := ⟨y0, pS.mem_iff.mpr (inL y0 hy0), y0p⟩
      have b145 : l3 ≠ 0 → wp_J8_removeTreeNode_b145 K h1 (some m) (some t) (nI i) (X ++ Y).head? := fun q3 => by
        unfold wp_J8_removeTreeNode_b145
        refine ⟨fst, hf, ?_⟩
        have hm1 : kd h1 m = 2 ∨ kd h1 m = 3 := by rw [c1.1]; exact hm0
        have hlk0 : lk ≠ 0 := by rw [hlk]; split <;> decide
        have hlks : szK lk 0 ≤ 6 := by rw [hlk]; split <;> decide
        have d1 : kd h1 m = 3 → DL h1 m O := fun w => by
          have := E1.dl (by omega) dl w
          simpa using this
        have len : (X ++ Y).length ≤ L.length := slXY.length_le
        refine s_untreeify (O := O) (KN := lk) hm1 (by rw [c1.1]; exact hlk) (fun b hb => by rw [c1.1]; exact hOk b hb) nd mO d1 (fun a ha => hL a (inL a ha)) nXY kd1 n1 (by have := hR q3; unfold Rm at this ⊢; rw [c1.2.2.1, c1.2.2.2.1]; omega) (fun h2 s R2 n2 _ => ⟨t, rfl, i, rfl, ?_, ?_⟩)
        · rw [(R2.ex.1 t (by rw [c1.1]; omega)).2, c1.2.1, lt]; exact hi
        · rintro h3 rfl
          have E2 := (R2.evo hlk0 (fun b hb => by rw [c1.1]; exact hOk b hb) nd (by rw [c1.1]; omega) mO).mono (Q := PH L t i) (fun _ _ _ q => q.elim)
          have E3 : Evo (PH L t i) h1 (wR h2 (100 + i) t ((X ++ Y).map s).head?) m O s := E2.chg ((Chg.refl (PH L t i) h2).wR _ (Or.inr ⟨rfl, rfl⟩)) (fun _ _ _ q => q) (fun f x q => q.fl)
          have E4 : Evo (PH L t i) h (wR h2 (100 + i) t ((X ++ Y).map s).head?) m O s := E1.comp (s2 := s) (by simpa using E3) (fun f x _ q => q) (by omega)
          have g : ∀ f c, f < 100 → rf (wR h2 (100 + i) t ((X ++ Y).map s).head?) f c = rf h2 f c := fun f c hf => by rw [rf_wR, if_neg (by omega)]
          refine fin _ s ((X ++ Y).map s) E4 (fun x hx => R2.1 x (fun w => ?_)) (by rw [fL]) (by rw [rf_wR, if_pos ⟨rfl, rfl⟩]) (Bin.map (E3.int PH.no) (fun a ha => (ok1 a (inL a ha)).1) (fun a ha => (ok1 a (inL a ha)).2) hd1 (fun a ha => ?_) (NXs_fr (fun a _ => g 3 a (by omega)) n2)) (fun w => absurd w q3) ?_ ?_
          · rcases hx with z | z
            · exact z (inL x w)
            · rw [z] at w
              rcases List.mem_append.mp w with y | y
              · exact pX y
              · exact pY y
          · obtain ⟨z1, z2, z3, z4, z5⟩ := R2.2.1 a ha
            exact ⟨z2, z3, (g 1 _ (by omega)).trans z4, (g 2 _ (by omega)).trans z5⟩
          · rw [if_neg q3]
            show nc h2 ≤ _
            rw [R2.2.2.2.2.1.1, c1.2.2.1]; omega
          · rw [if_neg q3]
            show ns h2 ≤ _
            rw [R2.2.2.2.2.1.2, c1.2.2.2.1]
            have : (X ++ Y).length * szK lk 0 ≤ L.length * 6 := Nat.mul_le_mul len hlks
            omega
      have b156 : wp_J8_removeTreeNode_b156 K h1 (some p) (some t) l3 (some r) := by
        refine rt_156 k1 pS' hS2 (fun h2 r2 e2 c2 => ?_)
        obtain ⟨sub2, k2⟩ := e2
        have cc : Chg (PH L t i) h h2 := c1.trans (c2.mono (fun f a w => PT.ph SL w))
        have it2 : ∀ a ∈ L, it h2 0 a = it h 0 a := fun a ha => by rw [c2.it (fun w => by omega)]; exact it1 a ha
        have I2 : IntS h h2 := cc.int PH.no
        have o2 : ∀ a f, f < 3 → rf h2 f a = rf h1 f a := fun a f hf => c2.rf (fun w => by omega)
        have ok2 : ∀ a ∈ X ++ Y, NodeOK h2 a ∧ ix n (it h2 0 a) = i := fun a ha => ⟨(b.1 a (inL a ha)).1.fra I2 (it2 a (inL a ha)) ((o2 a 1 (by omega)).trans (o1 1 a (by omega) (by omega) (neT a (inL a ha))).1) ((o2 a 2 (by omega)).trans (o1 2 a (by omega) (by omega) (neT a (inL a ha))).1), by rw [it2 a (inL a ha)]; exact (b.1 a (inL a ha)).2⟩
        have n2' : NXs h2 3 (X ++ Y) none := NXs_fr (fun a _ => c2.rf (fun w => by omega)) n1
        have v2' : PVs h2 9 none (X ++ Y) := PVs_fr (fun a _ => c2.rf (fun w => by omega)) v1
        have pf : (flt p S).Perm (X ++ Y) := by rw [← fL]; exact flt_perm pS
        have hs2 : Srt h2 (flt p S) := (hs1.sub (List.filter_sublist)).fra (fun a _ => c2.it (fun w => by omega))
        have kd2 : ∀ a ∈ X ++ Y, kd h2 a = 7 := fun a ha => by rw [c2.1]; exact kd1 a ha
        have t2 : rf h2 (100 + i) t = (X ++ Y).head? := by rw [c2.rf (fun w => by omega)]; exact e1
        have hd2 : HD h2 (X ++ Y) := hd1.fra (fun a ha => c2.it (fun w => by omega))
        unfold wp_J8_removeTreeNode_b626 wp_J8_removeTreeNode_b636
        refine ⟨fun q3 => ?_, fun q3 => ?_⟩
        · exact fin h2 id (X ++ Y) (cc.evo nd hOk (fun f x q => q.fl)) (fun _ _ => rfl) (by rw [fL]; simp) t2 ⟨ok2, hd2, n2', Or.inr ⟨kd2, v2', r2, flt p S, sub2, k2, hs2, pf⟩⟩ (fun _ => ⟨rfl, fL.symm⟩) (by rw [cc.2.2.1]; omega) (by rw [cc.2.2.2.1]; omega)
        · have r2L : r2 ∈ X ++ Y := pf.mem_iff.mp k2.2.1
          obtain ⟨X3, Y3, e3⟩ := split_at r2L
          have i3 : ix n (it h2 0 r2) = i := (ok2 r2 r2L).2
          rw [e3] at n2' v2' t2
          have nd3 := nXY
          rw [e3] at nd3
          refine s_moveRootToFront (n := n) (by rw [cc.2.1]; exact lt) (by omega) nd3 (by rw [← e3]; exact kd2) (by rw [i3]; exact t2) n2' v2' (by rw [cc.1]; exact kt) (fun h4 c4 q4 n4 v4 _ => ?_)
          rw [i3] at c4 q4
          have P4 : (r2 :: (X3 ++ Y3)).Perm (X ++ Y) := by rw [e3]; exact List.perm_middle.symm
          have inX : ∀ a, a ∈ X3 ++ r2 :: Y3 → a ∈ L := fun a ha => inL a (by rw [e3]; exact ha)
          have c5 : Chg (PH L t i) h h4 := cc.trans (c4.mono (fun f a w => by
            rcases w with w | w
            · exact Or.inl ⟨inX a w.1, by omega⟩
            · exact Or.inr w))
          have o4 : ∀ a f, f < 3 → rf h4 f a = rf h2 f a ∧ it h4 f a = it h2 f a := fun a f hf => ⟨c4.rf (fun w => by omega), c4.it (fun w => by omega)⟩
          have I4 : IntS h2 h4 := c4.int (fun x w => by omega)
          refine fin h4 id (r2 :: (X3 ++ Y3)) (c5.evo nd hOk (fun f x q => q.fl)) (fun _ _ => rfl) (by rw [fL]; simpa using P4) q4 ⟨fun a ha => ?_, ?_, n4, Or.inr ⟨fun a ha => ?_, v4, r2, flt p S, sub2, k2.same (fun a _ => ⟨c4.rf (fun w => by omega), c4.rf (fun w => by omega), c4.rf (fun w => by omega)⟩), hs2.fra (fun a _ => (o4 a 0 (by omega)).2), pf.trans P4.symm⟩⟩ (fun w => absurd w q3) (by rw [c5.2.2.1]; omega) (by rw [c5.2.2.2.1]; omega)
          · have := ok2 a (P4.mem_iff.mp ha)
            exact ⟨this.1.fra I4 (o4 a 0 (by omega)).2 (o4 a 1 (by omega)).1 (o4 a 2 (by omega)).1, by rw [(o4 a 0 (by omega)).2]; exact this.2⟩
          · exact (hd2.perm P4.symm).fra (fun a _ => (o4 a 0 (by omega)).2)
          · rw [c4.1]; exact kd2 a (P4.mem_iff.mp ha)
      have b109 : wp_J8_removeTreeNode_b109 K h1 (some p) (some m) (some t) l3 (nI i) (X ++ Y).head? (some r) := by
        unfold wp_J8_removeTreeNode_b109
        refine ⟨(fun w => by cases w), fun r' e => ?_⟩
        cases e
        refine ⟨fun _ => b156, fun q3 => ⟨fun _ => b145 q3, fun a ha => ⟨fun _ => b145 q3, fun c hc => ⟨fun _ => b145 q3, fun d hd => b156⟩⟩⟩⟩
      have l7S : l7 ∈ S := pS.mem_iff.mpr l7L
      refine ⟨l7, rfl, fun w => ?_, fun d hd => s_root k1 l7S (fun _ => b109)⟩
      rw [k1.root_up l7S w]
      exact b109
  -- the list is closed
  have b76 : ∀ h1 l7, Chg (PH L t i) h h1 → (∀ f a, f ≠ 3 → a ≠ t → rf h1 f a = rf h f a) → (∀ f a, it h1 f a = it h f a) → rf h1 (100 + i) t = (X ++ Y).head? → (∀ a ∈ X, X.getLast? ≠ some a → rf h1 3 a = rf h 3 a) → (∀ a, X.getLast? = some a → rf h1 3 a = Y.head?) → (∀ a ∈ Y, rf h1 3 a = rf h 3 a) → l7 ∈ L → wp_J8_removeTreeNode_b76 K h1 (some p) (some m) (some t) l3 (nI i) (X ++ Y).head? (some l7) Y.head? X.getLast? := by
    intro h1 l7 c1 o1 oi e1 f1 f2 f3 l7L
    have neT : ∀ a ∈ L, a ≠ t := fun a ha w => tL (w ▸ ha)
    have n1 : NXs h1 3 (X ++ Y) none := (NXs_app h1 3 none X Y).mpr ⟨NXs_re nX nd'.1 (fun a ha => by rw [f2 a ha]; simp) (fun a ha q => f1 a ha q), NXs_fr f3 nY⟩
    unfold wp_J8_removeTreeNode_b76
    refine ⟨fun w => ?_, fun y hy => ?_⟩
    · have hY : Y = [] := by cases Y with
        | nil => rfl
        | cons y Y => cases w
      refine b88 h1 l7 c1 (fun f a w3 _ wt => ⟨o1 f a w3 wt, oi f a⟩) e1 n1 ?_ l7L
      rw [hY, List.append_nil]
      exact PVs_fr (fun a ha => o1 9 a (by omega) (neT a (inL a (List.mem_append_left _ ha)))) vX
    · rintro h2 rfl
      have yY : y ∈ Y := List.mem_of_mem_head? hy
      have yt : y ≠ t := neT y (inL y (List.mem_append_right _ yY))
      refine b88 _ l7 (c1.wR _ (Or.inl ⟨inL y (List.mem_append_right _ yY), by omega⟩)) (fun f a w3 w9 wt => ⟨by rw [rf_wR, if_neg (fun z => w9 z.1)]; exact o1 f a w3 wt, oi f a⟩) (by rw [rf_wR, if_neg (by omega)]; exact e1) (NXs_fr (fun a _ => by rw [rf_wR, if_neg (by omega)]) n1) ?_ l7L
      refine (PVs_app _ 9 none X Y).mpr ⟨PVs_fr (fun a ha => ?_) vX, ?_⟩
      · rw [rf_wR, if_neg (fun (z : 9 = 9 ∧ a = y) => XY a ha (z.2 ▸ yY))]
        exact o1 9 a (by omega) (neT a (inL a (List.mem_append_left _ ha)))
      · refine PVs_re vY (List.nodup_cons.mp nd'.2.1).2 (fun c hc => ?_) (fun a ha q => ?_)
        · rw [hy] at hc; cases hc
          rw [rf_wR, if_pos ⟨rfl, rfl⟩]; simp
        · rw [rf_wR, if_neg (fun z => q (by rw [z.2]; exact hy))]
          exact o1 9 a (by omega) (neT a (inL a (List.mem_append_right _ ha)))
  unfold wp_J8_removeTreeNode
  refine ⟨(fun w => by cases w), fun t' e hlt => ?_⟩
  cases e
  rw [lt]
  refine ⟨fun _ => ⟨p, rfl, i, x1, hi, fun a ha => ?_, fun a ha => ?_, fun w => ?_, fun d hd => ?_⟩, fun w => ?_⟩
  · rw [hh] at ha
    rw [hk a (List.mem_of_mem_head? ha)]; decide
  · rw [p3] at ha
    rw [hk a (inL a (List.mem_append_right _ (List.mem_of_mem_head? ha)))]; decide
  · refine ⟨i, x1, hi, ?_⟩
    rintro h1 rfl
    have hX : X = [] := by
      rw [p9] at w
      simpa using w
    have key := b76 (wR h (100 + i) t (rf h 3 p)) p ((Chg.refl _ h).wR _ (Or.inr ⟨rfl, rfl⟩)) (fun f a w3 wt => by rw [rf_wR, if_neg (fun z => wt z.2)]) (fun _ _ => rfl) (by rw [rf_wR, if_pos ⟨rfl, rfl⟩, p3, hX]; rfl) (fun a ha => by rw [hX] at ha; cases ha) (fun a ha => by rw [hX] at ha; cases ha) (fun a ha => by rw [rf_wR, if_neg (by omega)]) hp
    rw [x1, p9, hh, eL, hX] 
    rw [hX] at key
    rw [p3] at key ⊢
    exact key
  · rintro h1 rfl
    have hd' : X.getLast? = some d := by rw [← p9]; exact hd
    have dX : d ∈ X := mem_last hd'
    have key := b76 (wR h 3 d (rf h 3 p)) (L.head?.getD p) ((Chg.refl _ h).wR _ (Or.inl ⟨inL d (List.mem_append_left _ dX), by omega⟩)) (fun f a w3 wt => by rw [rf_wR, if_neg (fun z => w3 z.1)]) (fun _ _ => rfl) (by
      rw [rf_wR, if_neg (by omega), hh, eL]
      cases X with
      | nil => cases dX
      | cons x X => rfl) (fun a ha q => by rw [rf_wR, if_neg (fun z => q (by rw [z.2]; exact hd'))]) (fun a ha => by
      rw [hd'] at ha; cases ha
      rw [rf_wR, if_pos ⟨rfl, rfl⟩, p3]) (fun a ha => by rw [rf_wR, if_neg (fun (z : 3 = 3 ∧ a = d) => XY d dX (z.2 ▸ ha))]) (by
      rw [eL]
      cases X with
      | nil => cases dX
      | cons x X => simp)
    rw [x1, p9, hh, p3]
    rw [p3] at key
    have hl : L.head? = (X ++ Y).head? := by
      rw [eL]
      cases X with
      | nil => cases dX
      | cons x X => rfl
    have hg : some (L.head?.getD p) = L.head? := by
      rw [eL]
      cases X with
      | nil => cases dX
      | cons x X => rfl
    rw [hg, ← hl] at key
    exact key
  · have := nI_inj (a := n) (b := 0) hn (by omega) w
    omega
