/-! BALANCING: specs of rotateLeft, rotateRight, balanceInsertion (printed by mk42.py) -/
set_option maxRecDepth 100000
/-- only links and colours of the cells in S have changed -/
def TF (S : List Nat) (h h' : Hp) : Prop := (∀ a, kd h' a = kd h a) ∧ (∀ a, ln h' a = ln h a) ∧ nc h' = nc h ∧ ns h' = ns h ∧ (∀ f a, ((f = 6 ∨ f = 7 ∨ f = 8) ∧ a ∈ S) ∨ rf h' f a = rf h f a) ∧ ∀ f a, (f = 10 ∧ a ∈ S) ∨ it h' f a = it h f a
theorem TF.refl (S : List Nat) (h : Hp) : TF S h h := ⟨fun _ => rfl, fun _ => rfl, rfl, rfl, fun _ _ => Or.inr rfl, fun _ _ => Or.inr rfl⟩
theorem TF.trans {S : List Nat} {h h1 h2 : Hp} (a : TF S h h1) (b : TF S h1 h2) : TF S h h2 := by
  refine ⟨fun x => (b.1 x).trans (a.1 x), fun x => (b.2.1 x).trans (a.2.1 x), b.2.2.1.trans a.2.2.1, b.2.2.2.1.trans a.2.2.2.1, fun f x => ?_, fun f x => ?_⟩
  · rcases b.2.2.2.2.1 f x with e | e
    · exact Or.inl e
    · rcases a.2.2.2.2.1 f x with e' | e'
      · exact Or.inl e'
      · exact Or.inr (e.trans e')
  · rcases b.2.2.2.2.2 f x with e | e
    · exact Or.inl e
    · rcases a.2.2.2.2.2 f x with e' | e'
      · exact Or.inl e'
      · exact Or.inr (e.trans e')
theorem TF.sub {S S' : List Nat} {h h' : Hp} (a : TF S h h') (hs : ∀ x ∈ S, x ∈ S') : TF S' h h' :=
  ⟨a.1, a.2.1, a.2.2.1, a.2.2.2.1, fun f x => (a.2.2.2.2.1 f x).imp (fun q => ⟨q.1, hs x q.2⟩) id, fun f x => (a.2.2.2.2.2 f x).imp (fun q => ⟨q.1, hs x q.2⟩) id⟩
theorem TF.ex {S : List Nat} {h h' : Hp} (a : TF S h h') : Ex h h' := ⟨fun q _ => ⟨a.1 q, a.2.1 q⟩, Nat.le_of_eq a.2.2.1.symm, Nat.le_of_eq a.2.2.2.1.symm⟩
theorem TF.red {S : List Nat} {h : Hp} {a : Nat} (ha : a ∈ S) (v : Int32) : TF S h (wI h 10 a v) := by
  refine ⟨fun _ => rfl, fun _ => rfl, rfl, rfl, fun _ _ => Or.inr rfl, fun f x => ?_⟩
  by_cases e : f = 10 ∧ x = a
  · exact Or.inl ⟨e.1, e.2 ▸ ha⟩
  · exact Or.inr (by rw [it_wI, if_neg e])
theorem Trg.red {fl fr : Nat} {h : Hp} {r : Nat} {S : List Nat} {sub : Nat → List Nat} (k : Trg fl fr h r S sub) (a : Nat) (v : Int32) : Trg fl fr (wI h 10 a v) r S sub := k.same (fun _ _ => ⟨rfl, rfl, rfl⟩)
theorem rotH_TF {fl fr : Nat} (hfs : (fl = 7 ∧ fr = 8) ∨ (fl = 8 ∧ fr = 7)) {h : Hp} {r : Nat} {S : List Nat} {sub : Nat → List Nat} (k : Trg fl fr h r S sub) {a x : Nat} (ha : a ∈ S) (hx : rf h fr a = some x) : TF S h (rotH fl fr h a x) := by
  have hf : fl ≠ fr ∧ fl ≠ 6 ∧ fr ≠ 6 := by omega
  obtain ⟨F6, Fl, Fr, Fo, It, It2⟩ := rotH_facts hf k ha hx
  obtain ⟨hxS, hx6⟩ := k.chS ha (Or.inr hx)
  refine ⟨rotH_kd fl fr h a x, fun b => ?_, ?_, ?_, fun f y => ?_, fun f y => ?_⟩
  · unfold rotH; simp only []; split <;> split <;> (try split) <;> rfl
  · unfold rotH; simp only []; split <;> split <;> (try split) <;> rfl
  · unfold rotH; simp only []; split <;> split <;> (try split) <;> rfl
  · by_cases h1 : f = 6
    · subst h1
      rw [F6]
      by_cases y1 : y = a
      · exact Or.inl ⟨by omega, y1 ▸ ha⟩
      · by_cases y2 : y = x
        · exact Or.inl ⟨by omega, y2 ▸ hxS⟩
        · by_cases y3 : rf h fl x = some y
          · exact Or.inl ⟨by omega, (k.chS hxS (Or.inl y3)).1⟩
          · rw [if_neg y1, if_neg y2, if_neg y3]; exact Or.inr rfl
    · by_cases h2 : f = fl
      · subst h2
        rw [Fl]
        by_cases y2 : y = x
        · exact Or.inl ⟨by omega, y2 ▸ hxS⟩
        · by_cases y3 : rf h 6 a = some y ∧ rf h f y = some a
          · exact Or.inl ⟨by omega, (k.par ha y3.1).1⟩
          · rw [if_neg y2, if_neg y3]; exact Or.inr rfl
      · by_cases h3 : f = fr
        · subst h3
          rw [Fr]
          by_cases y1 : y = a
          · exact Or.inl ⟨by omega, y1 ▸ ha⟩
          · by_cases y3 : rf h 6 a = some y ∧ ¬ rf h fl y = some a
            · exact Or.inl ⟨by omega, (k.par ha y3.1).1⟩
            · rw [if_neg y1, if_neg y3]; exact Or.inr rfl
        · exact Or.inr (Fo f y h1 h2 h3)
  · by_cases e : f = 10 ∧ y = x
    · exact Or.inl ⟨e.1, e.2 ▸ hxS⟩
    · exact Or.inr (It f y (fun e1 e2 => e ⟨e1, e2⟩))
theorem rotH_red {fl fr : Nat} {h : Hp} {a x : Nat} (h0 : it h 10 x = 0) : it (rotH fl fr h a x) 10 x = 0 := by
  unfold rotH
  simp only []
  split <;> split <;> (try split) <;> simp [it_wR, it_wI, h0]
theorem s_rotateLeft {h : Hp} {r : Nat} {S : List Nat} {sub : Nat → List Nat} (k : Trg 7 8 h r S sub) {a : Nat} (ha : a ∈ S) {K : Option Nat → Hp → Prop} (h0 : rf h 8 a = none → K (some r) h) (h1 : ∀ x, rf h 8 a = some x → K (some (if a = r then x else r)) (rotH 7 8 h a x)) : wp_J8_rotateLeft h (some r) (some a) K := by
  unfold wp_J8_rotateLeft
  refine ⟨(fun q => by cases q), fun a1 q => ?_⟩
  cases q
  refine ⟨fun q => h0 q, fun x hx => ?_⟩
  have h1 := h1 x hx
  obtain ⟨hxS, -⟩ := k.chS ha (Or.inr hx)
  have hroot : rf h 6 a = none ↔ a = r := ⟨fun q => k.root_up ha q, fun q => by rw [q]; exact k.2.2.2.1⟩
  have e6 : ∀ c, rf h 7 x = some c → rf (wR (wR h 8 a (some c)) 6 c (some a)) 6 a = rf h 6 a := fun c hc => by
    have l1 := (k.ch_sl hxS (Or.inl hc)).2
    have l2 := (k.ch_sl ha (Or.inr hx)).2
    have : c ≠ a := fun e => by rw [e] at l1; omega
    rw [rf_wR, if_neg (fun w => this w.2.symm), rf_wR, if_neg (fun w => by omega)]
  have e6' : rf (wR h 8 a none) 6 a = rf h 6 a := by rw [rf_wR, if_neg (fun w => by omega)]
  rintro h47 rfl
  rw [hx]
  refine ⟨fun hc => ?_, fun c hc h50 e50 => ?_⟩
  · unfold rotH at h1
    simp only [hc, e6'] at h1
    rw [hc]
    unfold wp_J8_rotateLeft_b34
    refine ⟨a, rfl, x, rfl, ?_⟩
    rintro h55 rfl
    rw [e6']
    refine ⟨fun hq => ?_, fun q hq => ⟨fun hn => ?_, fun hn => ?_⟩⟩
    · rintro h58 rfl
      unfold wp_J8_rotateLeft_b79
      refine ⟨x, rfl, ?_⟩
      rintro h64 rfl
      refine ⟨a, rfl, ?_⟩
      rintro h67 rfl
      unfold wp_J8_rotateLeft_b89
      simp only [hq, if_pos (hroot.mp hq)] at h1
      rw [hq]
      exact h1
    · rintro h60 rfl
      unfold wp_J8_rotateLeft_b79
      refine ⟨x, rfl, ?_⟩
      rintro h64 rfl
      refine ⟨a, rfl, ?_⟩
      rintro h67 rfl
      unfold wp_J8_rotateLeft_b89
      rw [hq] at hn ⊢
      have hr : ¬ a = r := fun e => by rw [hroot.mpr e] at hq; cases hq
      simp only [hq, if_neg hr, if_neg hn] at h1
      exact h1
    · rintro h60 rfl
      unfold wp_J8_rotateLeft_b79
      refine ⟨x, rfl, ?_⟩
      rintro h64 rfl
      refine ⟨a, rfl, ?_⟩
      rintro h67 rfl
      unfold wp_J8_rotateLeft_b89
      rw [hq] at hn ⊢
      have hr : ¬ a = r := fun e => by rw [hroot.mpr e] at hq; cases hq
      simp only [hq, if_neg hr, if_pos hn] at h1
      exact h1
  · subst e50
    unfold rotH at h1
    simp only [hc, e6 c hc] at h1
    rw [hc]
    unfold wp_J8_rotateLeft_b34
    refine ⟨a, rfl, x, rfl, ?_⟩
    rintro h55 rfl
    rw [e6 c hc]
    refine ⟨fun hq => ?_, fun q hq => ⟨fun hn => ?_, fun hn => ?_⟩⟩
    · rintro h58 rfl
      unfold wp_J8_rotateLeft_b79
      refine ⟨x, rfl, ?_⟩
      rintro h64 rfl
      refine ⟨a, rfl, ?_⟩
      rintro h67 rfl
      unfold wp_J8_rotateLeft_b89
      simp only [hq, if_pos (hroot.mp hq)] at h1
      rw [hq]
      exact h1
    · rintro h60 rfl
      unfold wp_J8_rotateLeft_b79
      refine ⟨x, rfl, ?_⟩
      rintro h64 rfl
      refine ⟨a, rfl, ?_⟩
      rintro h67 rfl
      unfold wp_J8_rotateLeft_b89
      rw [hq] at hn ⊢
      have hr : ¬ a = r := fun e => by rw [hroot.mpr e] at hq; cases hq
      simp only [hq, if_neg hr, if_neg hn] at h1
      exact h1
    · rintro h60 rfl
      unfold wp_J8_rotateLeft_b79
      refine ⟨x, rfl, ?_⟩
      rintro h64 rfl
      refine ⟨a, rfl, ?_⟩
      rintro h67 rfl
      unfold wp_J8_rotateLeft_b89
      rw [hq] at hn ⊢
      have hr : ¬ a = r := fun e => by rw [hroot.mpr e] at hq; cases hq
      simp only [hq, if_neg hr, if_pos hn] at h1
      exact h1
theorem s_rotateRight {h : Hp} {r : Nat} {S : List Nat} {sub : Nat → List Nat} (k : Trg 8 7 h r S sub) {a : Nat} (ha : a ∈ S) {K : Option Nat → Hp → Prop} (h0 : rf h 7 a = none → K (some r) h) (h1 : ∀ x, rf h 7 a = some x → K (some (if a = r then x else r)) (rotH 8 7 h a x)) : wp_J8_rotateRight h (some r) (some a) K := by
  unfold wp_J8_rotateRight
  refine ⟨(fun q => by cases q), fun a1 q => ?_⟩
  cases q
  refine ⟨fun q => h0 q, fun x hx => ?_⟩
  have h1 := h1 x hx
  obtain ⟨hxS, -⟩ := k.chS ha (Or.inr hx)
  have hroot : rf h 6 a = none ↔ a = r := ⟨fun q => k.root_up ha q, fun q => by rw [q]; exact k.2.2.2.1⟩
  have e6 : ∀ c, rf h 8 x = some c → rf (wR (wR h 7 a (some c)) 6 c (some a)) 6 a = rf h 6 a := fun c hc => by
    have l1 := (k.ch_sl hxS (Or.inl hc)).2
    have l2 := (k.ch_sl ha (Or.inr hx)).2
    have : c ≠ a := fun e => by rw [e] at l1; omega
    rw [rf_wR, if_neg (fun w => this w.2.symm), rf_wR, if_neg (fun w => by omega)]
  have e6' : rf (wR h 7 a none) 6 a = rf h 6 a := by rw [rf_wR, if_neg (fun w => by omega)]
  rintro h47 rfl
  rw [hx]
  refine ⟨fun hc => ?_, fun c hc h50 e50 => ?_⟩
  · unfold rotH at h1
    simp only [hc, e6'] at h1
    rw [hc]
    unfold wp_J8_rotateRight_b34
    refine ⟨a, rfl, x, rfl, ?_⟩
    rintro h55 rfl
    rw [e6']
    refine ⟨fun hq => ?_, fun q hq => ⟨fun hn => ?_, fun hn => ?_⟩⟩
    · rintro h58 rfl
      unfold wp_J8_rotateRight_b79
      refine ⟨x, rfl, ?_⟩
      rintro h64 rfl
      refine ⟨a, rfl, ?_⟩
      rintro h67 rfl
      unfold wp_J8_rotateRight_b89
      simp only [hq, if_pos (hroot.mp hq)] at h1
      rw [hq]
      exact h1
    · rintro h60 rfl
      unfold wp_J8_rotateRight_b79
      refine ⟨x, rfl, ?_⟩
      rintro h64 rfl
      refine ⟨a, rfl, ?_⟩
      rintro h67 rfl
      unfold wp_J8_rotateRight_b89
      rw [hq] at hn ⊢
      have hr : ¬ a = r := fun e => by rw [hroot.mpr e] at hq; cases hq
      simp only [hq, if_neg hr, if_neg hn] at h1
      exact h1
    · rintro h60 rfl
      unfold wp_J8_rotateRight_b79
      refine ⟨x, rfl, ?_⟩
      rintro h64 rfl
      refine ⟨a, rfl, ?_⟩
      rintro h67 rfl
      unfold wp_J8_rotateRight_b89
      rw [hq] at hn ⊢
      have hr : ¬ a = r := fun e => by rw [hroot.mpr e] at hq; cases hq
      simp only [hq, if_neg hr, if_pos hn] at h1
      exact h1
  · subst e50
    unfold rotH at h1
    simp only [hc, e6 c hc] at h1
    rw [hc]
    unfold wp_J8_rotateRight_b34
    refine ⟨a, rfl, x, rfl, ?_⟩
    rintro h55 rfl
    rw [e6 c hc]
    refine ⟨fun hq => ?_, fun q hq => ⟨fun hn => ?_, fun hn => ?_⟩⟩
    · rintro h58 rfl
      unfold wp_J8_rotateRight_b79
      refine ⟨x, rfl, ?_⟩
      rintro h64 rfl
      refine ⟨a, rfl, ?_⟩
      rintro h67 rfl
      unfold wp_J8_rotateRight_b89
      simp only [hq, if_pos (hroot.mp hq)] at h1
      rw [hq]
      exact h1
    · rintro h60 rfl
      unfold wp_J8_rotateRight_b79
      refine ⟨x, rfl, ?_⟩
      rintro h64 rfl
      refine ⟨a, rfl, ?_⟩
      rintro h67 rfl
      unfold wp_J8_rotateRight_b89
      rw [hq] at hn ⊢
      have hr : ¬ a = r := fun e => by rw [hroot.mpr e] at hq; cases hq
      simp only [hq, if_neg hr, if_neg hn] at h1
      exact h1
    · rintro h60 rfl
      unfold wp_J8_rotateRight_b79
      refine ⟨x, rfl, ?_⟩
      rintro h64 rfl
      refine ⟨a, rfl, ?_⟩
      rintro h67 rfl
      unfold wp_J8_rotateRight_b89
      rw [hq] at hn ⊢
      have hr : ¬ a = r := fun e => by rw [hroot.mpr e] at hq; cases hq
      simp only [hq, if_neg hr, if_pos hn] at h1
      exact h1
theorem bi_stop {K : Option Nat → Hp → Prop} {m : Nat} {h : Hp} {ro : Option Nat} {x xp : Nat} (h6 : rf h 6 x = some xp) (hr : it h 10 xp = 0) (k : K ro h) : wp_J8_balanceInsertion_b5 K (m + 1) h ro (some x) := by
  unfold wp_J8_balanceInsertion_b5
  refine ⟨x, rfl, (fun q => by rw [h6] at q; cases q), fun a q _ => ⟨fun _ => k, fun z => ?_⟩⟩
  rw [h6] at q
  cases q
  exact absurd hr z
theorem Trg.unmirror {fl fr : Nat} {h : Hp} {r : Nat} {S : List Nat} {sub : Nat → List Nat} (k : Trg fl fr h r S.reverse sub) : ∃ sub', Trg fr fl h r S sub' := by
  have := k.mirror
  rw [List.reverse_reverse] at this
  exact ⟨_, this⟩
theorem bi_c7 {K : Option Nat → Hp → Prop} {m : Nat} {h : Hp} {r : Nat} {S : List Nat} {sub : Nat → List Nat} {x xp : Nat} (k : Trg 7 8 h r S sub) (hpS : xp ∈ S) (hxp : rf h 7 xp = some x) (hpp : ∀ q, rf h 6 xp = some q → rf h 7 q = some xp)
    (fin : ∀ h' r', (∃ sub', Trg 7 8 h' r' S sub') → TF S h h' → K (some r') h') : wp_J8_balanceInsertion_b123 (wp_J8_balanceInsertion_b5 K (m + 1)) K h (some r) (some x) (some xp) (rf h 6 xp) := by
  unfold wp_J8_balanceInsertion_b123
  refine ⟨(fun q => by cases q), fun a q h184 e => ?_⟩
  cases q
  subst e
  have k1 := k.red xp 0
  have hx6 : rf h 6 x = some xp := (k.chS hpS (Or.inl hxp)).2
  have hne : x ≠ xp := k.ne_ch hpS (Or.inl hxp)
  refine ⟨fun q => ?_, fun q hq h187 e => ?_⟩
  · exact bi_stop (xp := xp) hx6 (by rw [it_wI, if_pos ⟨rfl, rfl⟩]) (fin _ _ ⟨_, k1⟩ (TF.red hpS 0))
  · subst e
    have hl := hpp q hq
    have qS := (k.par hpS hq).1
    have hqx : q ≠ xp := fun e => k.ne_ch qS (Or.inl hl) e.symm
    have k2 := (k1.red q 1).mirror
    rw [hq]
    refine s_rotateRight k2 (List.mem_reverse.mpr qS) (fun z => ?_) (fun y hy hex => ?_)
    · have z : rf h 7 q = none := z
      rw [hl] at z; cases z
    · have hy : rf h 7 q = some y := hy
      rw [hl] at hy
      cases hy
      obtain ⟨F6, -⟩ := rotH_facts ⟨by decide, by decide, by decide⟩ k2 (List.mem_reverse.mpr qS) (x := xp) hl
      refine bi_stop (xp := xp) ?_ (rotH_red ?_) (fin _ _ ?_ ?_)
      · rw [F6]
        by_cases z : x = q
        · rw [if_pos z]
        · rw [if_neg z, if_neg hne, if_neg]
          · exact hx6
          · exact fun z => k.lr hpS hxp z rfl
      · rw [it_wI, if_neg (fun z => hqx z.2.symm), it_wI, if_pos ⟨rfl, rfl⟩]
      · exact Trg.unmirror (rotH_Trg ⟨by decide, by decide, by decide⟩ k2 (List.mem_reverse.mpr qS) (x := xp) hl)
      · exact ((TF.red hpS 0).trans (TF.red qS 1)).trans ((rotH_TF (by decide) k2 (List.mem_reverse.mpr qS) (x := xp) hl).sub (fun z hz => List.mem_reverse.mp hz))
theorem bi_b7 {K : Option Nat → Hp → Prop} {m : Nat} {h : Hp} {r : Nat} {S : List Nat} {sub : Nat → List Nat} {x xp q : Nat} (k : Trg 7 8 h r S sub) (hxS : x ∈ S) (hx6 : rf h 6 x = some xp) (hp6 : rf h 6 xp = some q) (hq : rf h 7 q = some xp)
    (fin : ∀ h' r', (∃ sub', Trg 7 8 h' r' S sub') → TF S h h' → K (some r') h') : wp_J8_balanceInsertion_b89 (wp_J8_balanceInsertion_b5 K (m + 1)) K h (some r) (some x) (some xp) (some q) := by
  obtain ⟨hpS, hpc⟩ := k.par hxS hx6
  have qS := (k.par hpS hp6).1
  unfold wp_J8_balanceInsertion_b89
  refine ⟨xp, rfl, fun z => ?_, fun z => ?_⟩
  · have hl : rf h 7 xp = some x := by
      rcases hpc with e | e
      · exact e
      · exact absurd e.symm z
    have := bi_c7 (m := m) k hpS hl (fun q' e => by rw [hp6] at e; cases e; exact hq) fin
    rw [hp6] at this
    exact this
  · have hr : rf h 8 xp = some x := z.symm
    refine s_rotateLeft k hpS (fun e => by rw [hr] at e; cases e) (fun y hy hex => ?_)
    rw [hr] at hy
    cases hy
    obtain ⟨F6, Fl, -⟩ := rotH_facts ⟨by decide, by decide, by decide⟩ k hpS hr
    have hne : x ≠ xp := k.ne_ch hpS (Or.inr hr)
    have l1 := (k.ch_sl hpS (Or.inr hr)).2
    have l2 := (k.ch_sl qS (Or.inl hq)).2
    have hqx : q ≠ x := fun e => by rw [e] at l2; omega
    have e1 : rf (rotH 7 8 h xp x) 6 xp = some x := by rw [F6, if_pos rfl]
    have e2 : rf (rotH 7 8 h xp x) 6 x = some q := by rw [F6, if_neg hne, if_pos rfl]; exact hp6
    have k' := rotH_Trg ⟨by decide, by decide, by decide⟩ k hpS hr
    have T1 := rotH_TF (by decide) k hpS hr
    refine ⟨(fun e => by rw [e1] at e; cases e), fun a e => ?_⟩
    rw [e1] at e
    cases e
    rw [e1]
    unfold wp_J8_balanceInsertion_b122
    refine bi_c7 k' hxS (by rw [Fl, if_pos rfl]) (fun q' e => ?_) (fun h' r' e1 e2 => fin h' r' e1 (T1.trans e2))
    rw [e2] at e
    cases e
    rw [Fl, if_neg hqx, if_pos ⟨hp6, hq⟩]
theorem bi_c8 {K : Option Nat → Hp → Prop} {m : Nat} {h : Hp} {r : Nat} {S : List Nat} {sub : Nat → List Nat} {x xp : Nat} (k : Trg 8 7 h r S sub) (hpS : xp ∈ S) (hxp : rf h 8 xp = some x) (hpp : ∀ q, rf h 6 xp = some q → rf h 8 q = some xp)
    (fin : ∀ h' r', (∃ sub', Trg 8 7 h' r' S sub') → TF S h h' → K (some r') h') : wp_J8_balanceInsertion_b218 (wp_J8_balanceInsertion_b5 K (m + 1)) K h (some r) (some x) (some xp) (rf h 6 xp) := by
  unfold wp_J8_balanceInsertion_b218
  refine ⟨(fun q => by cases q), fun a q h184 e => ?_⟩
  cases q
  subst e
  have k1 := k.red xp 0
  have hx6 : rf h 6 x = some xp := (k.chS hpS (Or.inl hxp)).2
  have hne : x ≠ xp := k.ne_ch hpS (Or.inl hxp)
  refine ⟨fun q => ?_, fun q hq h187 e => ?_⟩
  · exact bi_stop (xp := xp) hx6 (by rw [it_wI, if_pos ⟨rfl, rfl⟩]) (fin _ _ ⟨_, k1⟩ (TF.red hpS 0))
  · subst e
    have hl := hpp q hq
    have qS := (k.par hpS hq).1
    have hqx : q ≠ xp := fun e => k.ne_ch qS (Or.inl hl) e.symm
    have k2 := (k1.red q 1).mirror
    rw [hq]
    refine s_rotateLeft k2 (List.mem_reverse.mpr qS) (fun z => ?_) (fun y hy hex => ?_)
    · have z : rf h 8 q = none := z
      rw [hl] at z; cases z
    · have hy : rf h 8 q = some y := hy
      rw [hl] at hy
      cases hy
      obtain ⟨F6, -⟩ := rotH_facts ⟨by decide, by decide, by decide⟩ k2 (List.mem_reverse.mpr qS) (x := xp) hl
      refine bi_stop (xp := xp) ?_ (rotH_red ?_) (fin _ _ ?_ ?_)
      · rw [F6]
        by_cases z : x = q
        · rw [if_pos z]
        · rw [if_neg z, if_neg hne, if_neg]
          · exact hx6
          · exact fun z => k.lr hpS hxp z rfl
      · rw [it_wI, if_neg (fun z => hqx z.2.symm), it_wI, if_pos ⟨rfl, rfl⟩]
      · exact Trg.unmirror (rotH_Trg ⟨by decide, by decide, by decide⟩ k2 (List.mem_reverse.mpr qS) (x := xp) hl)
      · exact ((TF.red hpS 0).trans (TF.red qS 1)).trans ((rotH_TF (by decide) k2 (List.mem_reverse.mpr qS) (x := xp) hl).sub (fun z hz => List.mem_reverse.mp hz))
theorem bi_b8 {K : Option Nat → Hp → Prop} {m : Nat} {h : Hp} {r : Nat} {S : List Nat} {sub : Nat → List Nat} {x xp q : Nat} (k : Trg 8 7 h r S sub) (hxS : x ∈ S) (hx6 : rf h 6 x = some xp) (hp6 : rf h 6 xp = some q) (hq : rf h 8 q = some xp)
    (fin : ∀ h' r', (∃ sub', Trg 8 7 h' r' S sub') → TF S h h' → K (some r') h') : wp_J8_balanceInsertion_b184 (wp_J8_balanceInsertion_b5 K (m + 1)) K h (some r) (some x) (some xp) (some q) := by
  obtain ⟨hpS, hpc⟩ := k.par hxS hx6
  have qS := (k.par hpS hp6).1
  unfold wp_J8_balanceInsertion_b184
  refine ⟨xp, rfl, fun z => ?_, fun z => ?_⟩
  · have hl : rf h 8 xp = some x := by
      rcases hpc with e | e
      · exact e
      · exact absurd e.symm z
    have := bi_c8 (m := m) k hpS hl (fun q' e => by rw [hp6] at e; cases e; exact hq) fin
    rw [hp6] at this
    exact this
  · have hr : rf h 7 xp = some x := z.symm
    refine s_rotateRight k hpS (fun e => by rw [hr] at e; cases e) (fun y hy hex => ?_)
    rw [hr] at hy
    cases hy
    obtain ⟨F6, Fl, -⟩ := rotH_facts ⟨by decide, by decide, by decide⟩ k hpS hr
    have hne : x ≠ xp := k.ne_ch hpS (Or.inr hr)
    have l1 := (k.ch_sl hpS (Or.inr hr)).2
    have l2 := (k.ch_sl qS (Or.inl hq)).2
    have hqx : q ≠ x := fun e => by rw [e] at l2; omega
    have e1 : rf (rotH 8 7 h xp x) 6 xp = some x := by rw [F6, if_pos rfl]
    have e2 : rf (rotH 8 7 h xp x) 6 x = some q := by rw [F6, if_neg hne, if_pos rfl]; exact hp6
    have k' := rotH_Trg ⟨by decide, by decide, by decide⟩ k hpS hr
    have T1 := rotH_TF (by decide) k hpS hr
    refine ⟨(fun e => by rw [e1] at e; cases e), fun a e => ?_⟩
    rw [e1] at e
    cases e
    rw [e1]
    unfold wp_J8_balanceInsertion_b217
    refine bi_c8 k' hxS (by rw [Fl, if_pos rfl]) (fun q' e => ?_) (fun h' r' e1 e2 => fin h' r' e1 (T1.trans e2))
    rw [e2] at e
    cases e
    rw [Fl, if_neg hqx, if_pos ⟨hp6, hq⟩]
theorem bi_loop {S : List Nat} {K : Option Nat → Hp → Prop} : ∀ (n : Nat) (h : Hp) (r : Nat) (sub : Nat → List Nat) (x : Nat), Trg 7 8 h r S sub → x ∈ S → S.length + 2 ≤ n + (sub x).length → (∀ h' r', (∃ sub', Trg 7 8 h' r' S sub') → TF S h h' → K (some r') h') → wp_J8_balanceInsertion_b5 K n h (some r) (some x)
  | 0, h, r, sub, x, k, hx, hn, fin => by
    have := (k.sl hx).length_le
    omega
  | n + 1, h, r, sub, x, k, hx, hn, fin => by
    have lx := (k.sl hx).length_le
    have fin8 : ∀ h' r', (∃ sub', Trg 8 7 h' r' S.reverse sub') → TF S.reverse h h' → K (some r') h' := fun h' r' e1 e2 => by
      obtain ⟨s', e1⟩ := e1
      exact fin h' r' e1.unmirror (e2.sub (fun z hz => List.mem_reverse.mp hz))
    unfold wp_J8_balanceInsertion_b5
    refine ⟨x, rfl, fun h6 h131 e => ?_, fun xp h6 _ => ⟨fun _ => fin h r ⟨_, k⟩ (TF.refl S h), fun _ => ⟨fun _ => fin h r ⟨_, k⟩ (TF.refl S h), fun q hq => ?_⟩⟩⟩
    · subst e
      have := k.root_up hx h6
      subst this
      exact fin _ _ ⟨_, k.red x 0⟩ (TF.red hx 0)
    · obtain ⟨pS, pc⟩ := k.par hx h6
      obtain ⟨qS, qc⟩ := k.par pS hq
      have l1 := (k.ch_sl pS pc).2
      have l2 := (k.ch_sl qS qc).2
      have l3 := (k.sl qS).length_le
      obtain ⟨m, rfl⟩ : ∃ m, n = m + 1 := ⟨n - 1, by omega⟩
      have rcs : ∀ u, u ∈ S → wp_J8_balanceInsertion_b5 K (m + 1) (wI (wI (wI h 10 u 0) 10 xp 0) 10 q 1) (some r) (some q) := fun u uS =>
        bi_loop (m + 1) _ r sub q (((k.red u 0).red xp 0).red q 1) qS (by omega) (fun h' r' e1 e2 => fin h' r' e1 ((((TF.red uS 0).trans (TF.red pS 0)).trans (TF.red qS 1)).trans e2))
      rw [h6, hq]
      refine ⟨fun z => ?_, fun z => ?_⟩
      · have q8 : rf h 8 q = some xp := by
          rcases qc with e | e
          · exact absurd e.symm z
          · exact e
        have b := bi_b8 (m := m) k.mirror (List.mem_reverse.mpr hx) h6 hq q8 fin8
        refine ⟨fun _ => b, fun u hu _ => ⟨fun _ => b, fun _ => ?_⟩⟩
        rintro h1 rfl h2 rfl h3 rfl
        exact rcs u (k.chS qS (Or.inl hu)).1
      · have b := bi_b7 (m := m) k hx h6 hq z.symm fin
        refine ⟨fun _ => b, fun u hu _ => ⟨fun _ => b, fun _ => ?_⟩⟩
        rintro h1 rfl h2 rfl h3 rfl
        exact rcs u (k.chS qS (Or.inr hu)).1
theorem s_balanceInsertion {S : List Nat} {K : Option Nat → Hp → Prop} {h : Hp} {r : Nat} {sub : Nat → List Nat} {x : Nat} (k : Trg 7 8 h r S sub) (hx : x ∈ S) (fin : ∀ h' r', (∃ sub', Trg 7 8 h' r' S sub') → TF S h h' → K (some r') h') : wp_J8_balanceInsertion h (some r) (some x) K := by
  unfold wp_J8_balanceInsertion
  refine ⟨x, rfl, ?_⟩
  rintro h1 rfl
  exact ⟨S.length + 2, bi_loop _ _ r sub x (k.red x 1) hx (by omega) (fun h' r' e1 e2 => fin h' r' e1 ((TF.red hx 1).trans e2))⟩
