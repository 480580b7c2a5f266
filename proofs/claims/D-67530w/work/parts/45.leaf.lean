/-! A LEAF COMES INTO A TREE -/
set_option maxRecDepth 100000
/-- z stands ahead of p -/
def insL (p z : Nat) (L : List Nat) : List Nat := L.flatMap (fun y => if y = p then [z, y] else [y])
theorem insL_app (p z : Nat) (A B : List Nat) : insL p z (A ++ B) = insL p z A ++ insL p z B := by simp [insL]
theorem insL_cons_ne {p z a : Nat} (L : List Nat) (h : a ≠ p) : insL p z (a :: L) = a :: insL p z L := by simp [insL, h]
theorem insL_cons_eq (p z : Nat) (L : List Nat) : insL p z (p :: L) = z :: p :: insL p z L := by simp [insL]
theorem insL_off {p z : Nat} : ∀ {L : List Nat}, p ∉ L → insL p z L = L
  | [], _ => rfl
  | a :: l, h => by
    rw [insL_cons_ne l (fun e => h (by rw [e]; exact List.mem_cons_self)), insL_off (fun e => h (List.mem_cons_of_mem _ e))]
theorem insL_at {p z : Nat} {X Y : List Nat} (h : (X ++ p :: Y).Nodup) : insL p z (X ++ p :: Y) = X ++ z :: p :: Y := by
  have h1 := List.nodup_append.mp h
  have hX : p ∉ X := fun e => h1.2.2 p e p List.mem_cons_self rfl
  have hY : p ∉ Y := (List.nodup_cons.mp h1.2.1).1
  rw [insL_app, insL_cons_eq, insL_off hX, insL_off hY]
section LEAF
variable {fl fr : Nat} {h : Hp} {r : Nat} {S : List Nat} {sub : Nat → List Nat}
theorem Trg.ins (k : Trg fl fr h r S sub) {p z : Nat} {X Y : List Nat} (hS : S = X ++ p :: Y) (hz : z ∉ S) (hl : rf h fl p = none) {h' : Hp} (e1 : rf h' 6 z = some p) (e2 : rf h' fl z = none) (e3 : rf h' fr z = none) (e4 : rf h' fl p = some z) (e5 : rf h' fr p = rf h fr p) (e6 : ∀ a ∈ S, rf h' 6 a = rf h 6 a) (e7 : ∀ a ∈ S, a ≠ p → rf h' fl a = rf h fl a ∧ rf h' fr a = rf h fr a) :
    Trg fl fr h' r (X ++ z :: p :: Y) (fun x => if x = z then [z] else insL p z (sub x)) := by
  obtain ⟨k1, k2, k3, k4, k5⟩ := id k
  have hp : p ∈ S := by rw [hS]; exact List.mem_append_right _ List.mem_cons_self
  have hpz : p ≠ z := fun e => hz (e ▸ hp)
  have hI : insL p z S = X ++ z :: p :: Y := by rw [hS]; exact insL_at (hS ▸ k3)
  have mem : ∀ a, a ∈ X ++ z :: p :: Y ↔ a = z ∨ a ∈ S := fun a => by rw [hS]; simp only [List.mem_append, List.mem_cons]; constructor <;> (intro q; rcases q with q | q | q | q <;> simp [q])
  have sne : ∀ b, b ∈ S → (if b = z then [z] else insL p z (sub b)) = insL p z (sub b) := fun b hb => if_neg (fun (e : b = z) => hz (e ▸ hb))
  have sO : ∀ o, (∀ b, o = some b → b ∈ S) → subO (fun x => if x = z then [z] else insL p z (sub x)) o = insL p z (subO sub o) := fun o ho => by
    cases o with
    | none => rfl
    | some b => exact sne b (ho b rfl)
  refine ⟨?_, (mem r).mpr (Or.inr k2), ?_, by rw [e6 r k2]; exact k4, fun a ha => ?_⟩
  · show (if r = z then _ else _) = _
    rw [sne r k2, k1, hI]
  · rw [hS] at k3 hz
    rw [List.nodup_append] at k3 ⊢
    refine ⟨k3.1, List.nodup_cons.mpr ⟨fun q => hz (List.mem_append_right _ q), k3.2.1⟩, fun a ha b hb => ?_⟩
    rcases List.mem_cons.mp hb with e | e
    · exact fun q => hz (by rw [← e, ← q]; exact List.mem_append_left _ ha)
    · exact k3.2.2 a ha b e
  · rcases (mem a).mp ha with e | haS
    · subst e
      rw [e2, e3]
      refine ⟨by simp [subO], (fun b hb => by cases hb), (fun b hb => by cases hb)⟩
    · have hc := k5 a haS
      by_cases hap : a = p
      · subst hap
        rw [e4, e5]
        refine ⟨?_, fun b hb => ?_, fun b hb => ?_⟩
        · show (if a = z then _ else _) = _
          rw [sne a haS, hc.1, hl, sO _ (fun b hb => (hc.2.2 b hb).1)]
          show insL a z ([] ++ a :: _) = (if z = z then [z] else _) ++ _
          rw [if_pos rfl, List.nil_append, insL_cons_eq]
          rfl
        · cases hb
          exact ⟨(mem z).mpr (Or.inl rfl), e1⟩
        · exact ⟨(mem b).mpr (Or.inr (hc.2.2 b hb).1), by rw [e6 b (hc.2.2 b hb).1]; exact (hc.2.2 b hb).2⟩
      · obtain ⟨g1, g2⟩ := e7 a haS hap
        rw [g1, g2]
        refine ⟨?_, fun b hb => ⟨(mem b).mpr (Or.inr (hc.2.1 b hb).1), by rw [e6 b (hc.2.1 b hb).1]; exact (hc.2.1 b hb).2⟩, fun b hb => ⟨(mem b).mpr (Or.inr (hc.2.2 b hb).1), by rw [e6 b (hc.2.2 b hb).1]; exact (hc.2.2 b hb).2⟩⟩
        show (if a = z then _ else _) = _
        rw [sne a haS, hc.1, insL_app, insL_cons_ne _ hap, sO _ (fun b hb => (hc.2.1 b hb).1), sO _ (fun b hb => (hc.2.2 b hb).1)]
/-- on the way down: what lies ahead of p's part of the tree is less than z, what lies behind is greater -/
def Dsc (h : Hp) (S : List Nat) (sub : Nat → List Nat) (z : Int32) (p : Nat) : Prop := ∃ X Y, S = X ++ sub p ++ Y ∧ (∀ a ∈ X, it h 0 a < z) ∧ ∀ a ∈ Y, z < it h 0 a
theorem Dsc.top (k : Trg fl fr h r S sub) (z : Int32) : Dsc h S sub z r := ⟨[], [], by simp [k.1], (fun a ha => by cases ha), (fun a ha => by cases ha)⟩
theorem Srt.parts {X Y : List Nat} {p : Nat} (k : Srt h (X ++ p :: Y)) : (∀ a ∈ X, it h 0 a < it h 0 p) ∧ (∀ a ∈ Y, it h 0 p < it h 0 a) ∧ Srt h X ∧ Srt h Y := by
  unfold Srt at k
  rw [List.pairwise_append] at k
  obtain ⟨a, b, c⟩ := k
  rw [List.pairwise_cons] at b
  exact ⟨fun x hx => c x hx p List.mem_cons_self, b.1, a, b.2⟩
theorem Dsc.left (k : Trg 7 8 h r S sub) (hs : Srt h S) {z : Int32} {p b : Nat} (hp : p ∈ S) (d : Dsc h S sub z p) (hz : z < it h 0 p) (hb : rf h 7 p = some b) : Dsc h S sub z b := by
  obtain ⟨X, Y, e, hX, hY⟩ := d
  have e2 := (k.2.2.2.2 p hp).1
  rw [hb] at e2
  have e2 : sub p = sub b ++ p :: subO sub (rf h 8 p) := e2
  have hsp := (hs.sub (k.sl hp))
  rw [e2] at hsp
  refine ⟨X, p :: subO sub (rf h 8 p) ++ Y, by rw [e, e2]; simp, hX, fun a ha => ?_⟩
  rcases List.mem_append.mp ha with ha | ha
  · rcases List.mem_cons.mp ha with q | q
    · rw [q]; exact hz
    · exact Int32.lt_trans hz (hsp.parts.2.1 a q)
  · exact hY a ha
theorem Dsc.right (k : Trg 7 8 h r S sub) (hs : Srt h S) {z : Int32} {p b : Nat} (hp : p ∈ S) (d : Dsc h S sub z p) (hz : it h 0 p < z) (hb : rf h 8 p = some b) : Dsc h S sub z b := by
  obtain ⟨X, Y, e, hX, hY⟩ := d
  have e2 := (k.2.2.2.2 p hp).1
  rw [hb] at e2
  have e2 : sub p = subO sub (rf h 7 p) ++ p :: sub b := e2
  have hsp := (hs.sub (k.sl hp))
  rw [e2] at hsp
  refine ⟨X ++ (subO sub (rf h 7 p) ++ [p]), Y, by rw [e, e2]; simp, fun a ha => ?_, hY⟩
  rcases List.mem_append.mp ha with ha | ha
  · exact hX a ha
  · rcases List.mem_append.mp ha with q | q
    · exact Int32.lt_trans (hsp.parts.1 a q) hz
    · rw [List.mem_singleton.mp q]; exact hz
theorem Srt.mid {X Y : List Nat} {z : Nat} (k : Srt h (X ++ Y)) (h1 : ∀ a ∈ X, it h 0 a < it h 0 z) (h2 : ∀ a ∈ Y, it h 0 z < it h 0 a) : Srt h (X ++ z :: Y) := by
  unfold Srt at k ⊢
  rw [List.pairwise_append] at k ⊢
  refine ⟨k.1, List.pairwise_cons.mpr ⟨h2, k.2.1⟩, fun a ha b hb => ?_⟩
  rcases List.mem_cons.mp hb with e | e
  · rw [e]; exact h1 a ha
  · exact k.2.2 a ha b e
theorem Srt.fra {h' : Hp} (k : Srt h S) (e : ∀ a ∈ S, it h' 0 a = it h 0 a) : Srt h' S := by
  unfold Srt at k ⊢
  exact List.Pairwise.imp_of_mem (fun {a b} ha hb w => by rw [e a ha, e b hb]; exact w) k
/-- a new leaf under p: the tree, in order -/
theorem leaf_in (k : Trg 7 8 h r S sub) (hs : Srt h S) {p z : Nat} (hp : p ∈ S) (hz : z ∉ S) {h' : Hp} (d : Dsc h S sub (it h' 0 z) p) (hit : ∀ a ∈ S, it h' 0 a = it h 0 a)
    (e1 : rf h' 6 z = some p) (e2 : rf h' 7 z = none) (e3 : rf h' 8 z = none) (e6 : ∀ a ∈ S, rf h' 6 a = rf h 6 a) (e7 : ∀ a ∈ S, a ≠ p → rf h' 7 a = rf h 7 a ∧ rf h' 8 a = rf h 8 a)
    (hc : (it h' 0 z < it h 0 p ∧ rf h 7 p = none ∧ rf h' 7 p = some z ∧ rf h' 8 p = rf h 8 p) ∨ (it h 0 p < it h' 0 z ∧ rf h 8 p = none ∧ rf h' 8 p = some z ∧ rf h' 7 p = rf h 7 p)) :
    ∃ S' sub', Trg 7 8 h' r S' sub' ∧ Srt h' S' ∧ S'.Perm (z :: S) := by
  obtain ⟨X, Y, e, hX, hY⟩ := d
  have es := (k.2.2.2.2 p hp).1
  have hsp := (hs.sub (k.sl hp))
  rcases hc with ⟨c1, c2, c3, c4⟩ | ⟨c1, c2, c3, c4⟩
  · rw [c2] at es
    have es : sub p = p :: subO sub (rf h 8 p) := es
    have hS : S = X ++ p :: (subO sub (rf h 8 p) ++ Y) := by rw [e, es]; simp
    refine ⟨_, _, k.ins hS hz c2 e1 e2 e3 c3 c4 e6 e7, ?_, ?_⟩
    · have s1 : Srt h' (X ++ p :: (subO sub (rf h 8 p) ++ Y)) := hS ▸ (hs.fra hit)
      rw [es] at hsp
      refine s1.mid (fun a ha => ?_) (fun a ha => ?_)
      · rw [hit a (by rw [hS]; exact List.mem_append_left _ ha)]; exact hX a ha
      · rw [hit a (by rw [hS]; exact List.mem_append_right _ ha)]
        rcases List.mem_cons.mp ha with q | q
        · rw [q]; exact c1
        · rcases List.mem_append.mp q with q | q
          · exact Int32.lt_trans c1 ((Srt.parts (X := []) hsp).2.1 a q)
          · exact hY a q
    · rw [hS]
      exact List.perm_middle
  · rw [c2] at es
    have es : sub p = subO sub (rf h 7 p) ++ [p] := es
    have hS : S = (X ++ subO sub (rf h 7 p)) ++ p :: Y := by rw [e, es]; simp
    have hR : S.reverse = Y.reverse ++ p :: (X ++ subO sub (rf h 7 p)).reverse := by rw [hS]; simp
    have km := k.mirror.ins hR (fun q => hz (List.mem_reverse.mp q)) c2 e1 e3 e2 c3 c4 (fun a ha => e6 a (List.mem_reverse.mp ha)) (fun a ha q => ⟨(e7 a (List.mem_reverse.mp ha) q).2, (e7 a (List.mem_reverse.mp ha) q).1⟩)
    have km := km.mirror
    have er : (Y.reverse ++ z :: p :: (X ++ subO sub (rf h 7 p)).reverse).reverse = (X ++ subO sub (rf h 7 p)) ++ p :: z :: Y := by simp
    rw [er] at km
    refine ⟨_, _, km, ?_, ?_⟩
    · have s1 : Srt h' ((X ++ subO sub (rf h 7 p) ++ [p]) ++ Y) := by
        have := hs.fra hit
        rw [hS] at this
        simpa using this
      rw [es] at hsp
      have := s1.mid (z := z) (fun a ha => ?_) (fun a ha => ?_)
      · simpa using this
      · rw [hit a (by rw [hS]; simp only [List.mem_append, List.mem_cons] at ha ⊢; rcases ha with (q | q) | q <;> simp_all)]
        rcases List.mem_append.mp ha with q | q
        · rcases List.mem_append.mp q with q | q
          · exact hX a q
          · exact Int32.lt_trans ((Srt.parts (Y := []) hsp).1 a q) c1
        · rw [List.mem_singleton.mp q]; exact c1
      · rw [hit a (by rw [hS]; exact List.mem_append_right _ (List.mem_cons_of_mem _ ha))]
        exact hY a ha
    · rw [hS]
      have : (X ++ subO sub (rf h 7 p) ++ p :: z :: Y).Perm (X ++ subO sub (rf h 7 p) ++ z :: p :: Y) := List.Perm.append_left _ (List.Perm.swap z p Y)
      exact this.trans List.perm_middle
end LEAF
