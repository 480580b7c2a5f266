/-! treeify: a list of tree nodes becomes a tree -/
set_option maxRecDepth 100000
theorem Int32_lt01 : (0 : Int32) < 1 := by decide
theorem Int32_ltm1 : ¬ (0 : Int32) < (-1) := by decide
/-- an insertion below p, then the balancing -/
theorem leaf_bal {h : Hp} {r : Nat} {S : List Nat} {sub : Nat → List Nat} (k : Trg 7 8 h r S sub) (hs : Srt h S) {p z : Nat} (hp : p ∈ S) (hz : z ∉ S) (d : Dsc h S sub (it h 0 z) p) (hl : rf h 7 z = none) (hr : rf h 8 z = none) (f : Nat) (hf : (f = 7 ∧ it h 0 z < it h 0 p) ∨ (f = 8 ∧ it h 0 p < it h 0 z)) (hfn : rf h f p = none) {K : Option Nat → Hp → Prop}
    (fin : ∀ h' r' S' sub', Trg 7 8 h' r' S' sub' → Srt h' S' → S'.Perm (z :: S) → Chg (PT (z :: S)) h h' → K (some r') h') : wp_J8_balanceInsertion (wR (wR h 6 z (some p)) f p (some z)) (some r) (some z) K := by
  have hpz : p ≠ z := fun e => hz (e ▸ hp)
  have hf78 : f = 7 ∨ f = 8 := by omega
  have C : Chg (PT (z :: S)) h (wR (wR h 6 z (some p)) f p (some z)) := ((Chg.refl _ h).wR _ ⟨List.mem_cons_self, by omega⟩).wR _ ⟨List.mem_cons_of_mem _ hp, by omega⟩
  have e6 : ∀ a ∈ S, rf (wR (wR h 6 z (some p)) f p (some z)) 6 a = rf h 6 a := fun a ha => by
    rw [rf_wR, if_neg (fun w => by omega), rf_wR, if_neg (by rintro ⟨-, rfl⟩; exact hz ha)]
  have o7 : ∀ g a, (g = 7 ∨ g = 8) → ¬ (g = f ∧ a = p) → rf (wR (wR h 6 z (some p)) f p (some z)) g a = rf h g a := fun g a hg hn => by
    rw [rf_wR, if_neg hn, rf_wR, if_neg (fun w => by omega)]
  have ep : rf (wR (wR h 6 z (some p)) f p (some z)) f p = some z := by rw [rf_wR, if_pos ⟨rfl, rfl⟩]
  obtain ⟨S', sub', k', hs', hperm⟩ := leaf_in (h' := wR (wR h 6 z (some p)) f p (some z)) k hs hp hz d (fun _ _ => rfl)
    (by rw [rf_wR, if_neg (fun w => by omega), rf_wR, if_pos ⟨rfl, rfl⟩])
    (by rw [o7 7 z (Or.inl rfl) (fun w => hpz w.2.symm)]; exact hl) (by rw [o7 8 z (Or.inr rfl) (fun w => hpz w.2.symm)]; exact hr) e6
    (fun a _ hap => ⟨o7 7 a (Or.inl rfl) (fun w => hap w.2), o7 8 a (Or.inr rfl) (fun w => hap w.2)⟩)
    (by
      rcases hf with ⟨rfl, hlt⟩ | ⟨rfl, hlt⟩
      · exact Or.inl ⟨hlt, hfn, ep, o7 8 p (Or.inr rfl) (fun w => by omega)⟩
      · exact Or.inr ⟨hlt, hfn, ep, o7 7 p (Or.inl rfl) (fun w => by omega)⟩)
  refine s_balanceInsertion k' (hperm.mem_iff.mpr List.mem_cons_self) (fun h' r' e1 e2 => ?_)
  obtain ⟨sub2, k2⟩ := e1
  have c2 := e2.chg
  refine fin h' r' S' sub2 k2 (hs'.fra (fun a _ => c2.it (fun w => by omega))) hperm (C.trans (c2.mono (fun f x q => ⟨hperm.mem_iff.mp q.1, q.2⟩)))
theorem tfy_inner {G4 : Hp → Option Nat → Option Nat → Option Nat → Prop} {K : Hp → Prop} {h : Hp} {r : Nat} {S : List Nat} {sub : Nat → List Nat} (k : Trg 7 8 h r S sub) (hs : Srt h S) {z : Nat} (hz : z ∉ S) (hl : rf h 7 z = none) (hr : rf h 8 z = none) (hne : ∀ a ∈ S, it h 0 a ≠ it h 0 z) {t nx kk : Option Nat}
    (fin : ∀ h' r' S' sub', Trg 7 8 h' r' S' sub' → Srt h' S' → S'.Perm (z :: S) → Chg (PT (z :: S)) h h' → G4 h' t (some r') nx) :
    ∀ (n p : Nat), p ∈ S → (sub p).length ≤ n → Dsc h S sub (it h 0 z) p → wp_J8_treeify_b64 G4 K n h t (some r) (some z) nx kk (it h 0 z) none (some p)
  | 0, p, hp, hn, d => by
    have := List.length_pos_of_mem (k.self hp)
    omega
  | n + 1, p, hp, hn, d => by
    unfold wp_J8_treeify_b64
    refine ⟨p, rfl, fun q1 => ⟨fun q2 => absurd (Int32.le_antisymm q1 q2) (hne p hp), fun q2 => ?_⟩, fun q1 => ?_⟩
    · have hlt : it h 0 p < it h 0 z := Int32.not_le.mp q2
      unfold wp_J8_treeify_b143
      refine ⟨fun _ => ⟨p, rfl, ?_⟩, fun q => absurd Int32_lt01 q⟩
      unfold wp_J8_treeify_b165
      refine ⟨fun hn8 => ⟨z, rfl, ?_⟩, fun b hb => ?_⟩
      · rintro h1 rfl
        refine ⟨fun _ => ⟨p, rfl, ?_⟩, fun q => absurd Int32_lt01 q⟩
        rintro h2 rfl
        unfold wp_J8_treeify_b197
        refine leaf_bal k hs hp hz d hl hr 8 (Or.inr ⟨rfl, hlt⟩) hn8 (fun h' r' S' sub' e1 e2 e3 e4 _ => ?_)
        unfold wp_J8_treeify_b209
        exact fin h' r' S' sub' e1 e2 e3 e4
      · rw [hb]
        have := (k.ch_sl hp (Or.inr hb)).2
        exact tfy_inner k hs hz hl hr hne fin n b (k.chS hp (Or.inr hb)).1 (by omega) (d.right k hs hp hlt hb)
    · have hlt : it h 0 z < it h 0 p := Int32.not_le.mp q1
      unfold wp_J8_treeify_b143
      refine ⟨fun q => absurd q Int32_ltm1, fun _ => ⟨p, rfl, ?_⟩⟩
      unfold wp_J8_treeify_b165
      refine ⟨fun hn8 => ⟨z, rfl, ?_⟩, fun b hb => ?_⟩
      · rintro h1 rfl
        refine ⟨fun q => absurd q Int32_ltm1, fun _ => ⟨p, rfl, ?_⟩⟩
        rintro h2 rfl
        unfold wp_J8_treeify_b197
        refine leaf_bal k hs hp hz d hl hr 7 (Or.inl ⟨rfl, hlt⟩) hn8 (fun h' r' S' sub' e1 e2 e3 e4 _ => ?_)
        unfold wp_J8_treeify_b209
        exact fin h' r' S' sub' e1 e2 e3 e4
      · rw [hb]
        have := (k.ch_sl hp (Or.inl hb)).2
        exact tfy_inner k hs hz hl hr hne fin n b (k.chS hp (Or.inl hb)).1 (by omega) (d.left k hs hp hlt hb)
/-- the tree so far: none, or one of the cells P -/
def TSo (h : Hp) (P : List Nat) (ro : Option Nat) : Prop := (P = [] ∧ ro = none) ∨ ∃ r S sub, ro = some r ∧ Trg 7 8 h r S sub ∧ Srt h S ∧ S.Perm P
/-- the hashes differ -/
def HD (h : Hp) (L : List Nat) : Prop := L.Pairwise (fun a b => it h 0 a ≠ it h 0 b)
theorem HD.nd {h : Hp} {L : List Nat} (k : HD h L) : L.Nodup := List.Pairwise.imp (fun w e => w (by rw [e])) k
theorem HD.perm {h : Hp} {L L' : List Nat} (k : HD h L) (p : L.Perm L') : HD h L' := (p.pairwise_iff (fun {a b} w => Ne.symm w)).mp k
theorem Srt.hd {h : Hp} {L : List Nat} (k : Srt h L) : HD h L := List.Pairwise.imp (fun w e => by rw [e] at w; exact Int32.lt_irrefl w) k
theorem HD.fra {h h' : Hp} {L : List Nat} (k : HD h L) (e : ∀ a ∈ L, it h' 0 a = it h 0 a) : HD h' L := List.Pairwise.imp_of_mem (fun {a b} ha hb w => by rw [e a ha, e b hb]; exact w) k
theorem single_tree {h : Hp} {z : Nat} (h6 : rf h 6 z = none) (h7 : rf h 7 z = none) (h8 : rf h 8 z = none) : Trg 7 8 h z [z] (fun _ => [z]) := by
  refine ⟨rfl, List.mem_cons_self, List.nodup_cons.mpr ⟨List.not_mem_nil, List.nodup_nil⟩, h6, fun a ha => ?_⟩
  rw [List.mem_singleton.mp ha, h7, h8]
  exact ⟨rfl, (fun b hb => by cases hb), (fun b hb => by cases hb)⟩
theorem tfy_loop {K : Hp → Prop} {h0 : Hp} {L : List Nat} {t n : Nat} (hne : L ≠ []) (hn : ln h0 t = n) (hn0 : 0 < n) (ht : kd h0 t = 51) (hk : ∀ a ∈ L, kd h0 a = 7) (hd : HD h0 L) (hix : ∀ a ∈ L, ∀ b ∈ L, ix n (it h0 0 a) = ix n (it h0 0 b)) (hh : ∀ a ∈ L, rf h0 (100 + ix n (it h0 0 a)) t = L.head?) (hnx : NXs h0 3 L none) (hpv : PVs h0 9 none L)
    (fin : ∀ h' L', L'.Perm L → Chg (fun f a => (a ∈ L ∧ (f = 6 ∨ f = 7 ∨ f = 8 ∨ f = 10 ∨ f = 3 ∨ f = 9)) ∨ (a = t ∧ ∃ b ∈ L, f = 100 + ix n (it h0 0 b))) h0 h' → (∀ b ∈ L, rf h' (100 + ix n (it h0 0 b)) t = L'.head?) → NXs h' 3 L' none → PVs h' 9 none L' → (∃ r S sub, Trg 7 8 h' r S sub ∧ Srt h' S ∧ S.Perm L') → K h') :
    ∀ (R P : List Nat) (h : Hp) (ro : Option Nat) (m : Nat), L = P ++ R → R.length + 1 ≤ m → Chg (PT L) h0 h → TSo h P ro → wp_J8_treeify_b4 K m h (some t) ro R.head?
  | [], P, h, ro, 0, _, hm, _, _ => by simp at hm
  | [], P, h, ro, m + 1, e, hm, C, T => by
    unfold wp_J8_treeify_b4
    refine ⟨fun _ => ?_, (fun a q => by cases q)⟩
    rw [List.append_nil] at e
    subst e
    rcases T with ⟨q, -⟩ | ⟨r, S, sub, rfl, k, hs, hp⟩
    · exact absurd q hne
    · have rL : r ∈ L := hp.mem_iff.mp k.2.1
      obtain ⟨X, Y, eL⟩ := split_at rL
      have nd : L.Nodup := hd.nd
      have i0 : ∀ a, it h 0 a = it h0 0 a := fun a => C.it (fun w => by omega)
      have r3 : ∀ a, rf h 3 a = rf h0 3 a := fun a => C.rf (fun w => by omega)
      have r9 : ∀ a, rf h 9 a = rf h0 9 a := fun a => C.rf (fun w => by omega)
      have tL : t ∉ L := fun q => by have := hk t q; rw [ht] at this; cases this
      refine s_moveRootToFront (X := X) (Y := Y) (n := n) (by rw [C.2.1]; exact hn) hn0 (eL ▸ nd) (fun a ha => by rw [C.1]; exact hk a (eL ▸ ha)) ?_ ?_ ?_ (by rw [C.1]; exact ht) (fun h' C' g1 g2 g3 _ => ?_)
      · rw [i0, C.rf (fun w => tL w.1), hh r rL, eL]
      · rw [← eL]; exact NXs_fr (fun a _ => r3 a) hnx
      · rw [← eL]; exact PVs_fr (fun a _ => r9 a) hpv
      · rw [i0] at C' g1
        have hperm : (r :: (X ++ Y)).Perm L := by rw [eL]; exact List.perm_middle.symm
        refine fin h' (r :: (X ++ Y)) hperm ?_ (fun b hb => ?_) g2 g3 ⟨r, S, sub, k.same (fun a ha => ?_), hs.fra (fun a ha => ?_), hp.trans hperm.symm⟩
        · refine (C.mono (fun f a q => Or.inl ⟨q.1, by omega⟩)).trans (C'.mono (fun f a q => ?_))
          rcases q with q | q
          · exact Or.inl ⟨eL ▸ q.1, by omega⟩
          · exact Or.inr ⟨q.1, r, rL, q.2⟩
        · rw [hix b hb r rL]; exact g1
        · have aL : a ∈ L := hp.mem_iff.mp ha
          have at' : a ≠ t := fun e => tL (e ▸ aL)
          refine ⟨C'.rf ?_, C'.rf ?_, C'.rf ?_⟩ <;> (rintro (w | w); omega; exact at' w.1)
        · have aL : a ∈ L := hp.mem_iff.mp ha
          have at' : a ≠ t := fun e => tL (e ▸ aL)
          exact C'.it (by rintro (w | w); omega; exact at' w.1)
  | z :: R, P, h, ro, 0, _, hm, _, _ => by simp at hm
  | z :: R, P, h, ro, m + 1, e, hm, C, T => by
    have zL : z ∈ L := by rw [e]; exact List.mem_append_right _ List.mem_cons_self
    have nd : L.Nodup := hd.nd
    have zP : z ∉ P := by
      rw [e] at nd
      exact fun q => (List.nodup_append.mp nd).2.2 z q z List.mem_cons_self rfl
    have z3 : rf h 3 z = R.head? := by
      rw [C.rf (fun w => by omega)]
      rw [e] at hnx
      have := NXs_at hnx
      simpa using this
    have hkd : ∀ a ∈ L, kd h a = 7 := fun a ha => by rw [C.1]; exact hk a ha
    unfold wp_J8_treeify_b4
    refine ⟨(fun q => by cases q), fun a q => ⟨fun a ha => ?_, ?_⟩⟩
    · cases q
      rw [z3] at ha
      have : a ∈ L := by rw [e]; exact List.mem_append_right _ (List.mem_cons_of_mem _ (List.mem_of_mem_head? ha))
      rw [hkd a this]; exact List.mem_cons_self
    · cases q
      rintro h1 rfl h2 rfl
      rw [z3]
      have C2 : Chg (PT L) h0 (wR (wR h 8 z none) 7 z none) := (C.wR _ ⟨zL, by omega⟩).wR _ ⟨zL, by omega⟩
      have z7 : rf (wR (wR h 8 z none) 7 z none) 7 z = none := by rw [rf_wR, if_pos ⟨rfl, rfl⟩]
      have z8 : rf (wR (wR h 8 z none) 7 z none) 8 z = none := by rw [rf_wR, if_neg (fun w => by omega), rf_wR, if_pos ⟨rfl, rfl⟩]
      rcases T with ⟨rfl, rfl⟩ | ⟨r, S, sub, rfl, k, hs, hp⟩
      · refine ⟨fun _ => ?_, (fun a q => by cases q)⟩
        rintro h3 rfl h4 rfl
        unfold wp_J8_treeify_b209
        refine tfy_loop hne hn hn0 ht hk hd hix hh hnx hpv fin R [z] _ (some z) m (by rw [e]; rfl) (by simpa using hm) ((C2.wR _ ⟨zL, by omega⟩).wI _ ⟨zL, by omega⟩) (Or.inr ⟨z, [z], fun _ => [z], rfl, single_tree ?_ ?_ ?_, List.pairwise_singleton _ _, List.Perm.refl _⟩)
        · rw [rf_wI, rf_wR, if_pos ⟨rfl, rfl⟩]
        · rw [rf_wI, rf_wR, if_neg (fun w => by omega)]; exact z7
        · rw [rf_wI, rf_wR, if_neg (fun w => by omega)]; exact z8
      · refine ⟨(fun q => by cases q), fun a q => ⟨(sub r).length, ?_⟩⟩
        have zS : z ∉ S := fun q => zP (hp.mem_iff.mp q)
        have k2 : Trg 7 8 (wR (wR h 8 z none) 7 z none) r S sub := k.same (fun a ha => by
          have : a ≠ z := fun e => zS (e ▸ ha)
          refine ⟨?_, ?_, ?_⟩ <;> simp [rf_wR, this])
        have hneq : ∀ a ∈ S, it (wR (wR h 8 z none) 7 z none) 0 a ≠ it (wR (wR h 8 z none) 7 z none) 0 z := fun a ha => by
          show it h 0 a ≠ it h 0 z
          rw [C.it (fun w => by omega), C.it (fun w => by omega)]
          have h5 := hd
          rw [e] at h5
          exact (List.pairwise_append.mp h5).2.2 a (hp.mem_iff.mp ha) z List.mem_cons_self
        refine tfy_inner k2 (hs.fra (fun a _ => rfl)) zS z7 z8 hneq (fun h' r' S' sub' e1 e2 e3 e4 => ?_) _ r k.2.1 (Nat.le_refl _) (Dsc.top k2 _)
        refine tfy_loop hne hn hn0 ht hk hd hix hh hnx hpv fin R (P ++ [z]) h' (some r') m (by rw [e]; simp) (by simpa using hm) (C2.trans (e4.mono (fun f a q => ⟨?_, q.2⟩))) (Or.inr ⟨r', S', sub', rfl, e1, e2, ?_⟩)
        · rcases List.mem_cons.mp q.1 with q | q
          · rw [q]; exact zL
          · rw [e]; exact List.mem_append_left _ (hp.mem_iff.mp q)
        · exact e3.trans ((hp.cons z).trans (List.perm_append_singleton z P).symm)
theorem s_treeify {K : Hp → Prop} {h0 : Hp} {L : List Nat} {t n : Nat} (hne : L ≠ []) (hn : ln h0 t = n) (hn0 : 0 < n) (ht : kd h0 t = 51) (hk : ∀ a ∈ L, kd h0 a = 7) (hd : HD h0 L) (hix : ∀ a ∈ L, ∀ b ∈ L, ix n (it h0 0 a) = ix n (it h0 0 b)) (hh : ∀ a ∈ L, rf h0 (100 + ix n (it h0 0 a)) t = L.head?) (hnx : NXs h0 3 L none) (hpv : PVs h0 9 none L)
    (fin : ∀ h' L', L'.Perm L → Chg (fun f a => (a ∈ L ∧ (f = 6 ∨ f = 7 ∨ f = 8 ∨ f = 10 ∨ f = 3 ∨ f = 9)) ∨ (a = t ∧ ∃ b ∈ L, f = 100 + ix n (it h0 0 b))) h0 h' → (∀ b ∈ L, rf h' (100 + ix n (it h0 0 b)) t = L'.head?) → NXs h' 3 L' none → PVs h' 9 none L' → (∃ r S sub, Trg 7 8 h' r S sub ∧ Srt h' S ∧ S.Perm L') → K h') : wp_J8_treeify h0 L.head? (some t) K := by
  unfold wp_J8_treeify
  exact ⟨L.length + 1, tfy_loop hne hn hn0 ht hk hd hix hh hnx hpv fin L [] h0 none _ rfl (Nat.le_refl _) (Chg.refl _ h0) (Or.inl ⟨rfl, rfl⟩)⟩
