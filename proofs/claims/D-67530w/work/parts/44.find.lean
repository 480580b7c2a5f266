/-! KEYS; root, find, getTreeNode -/
set_option maxRecDepth 100000
/-- a node's key is an Integer, its hash is that of the key -/
def NodeK (h : Hp) (a : Nat) : Prop := ∃ b, rf h 1 a = some b ∧ (kd h b = 4 ∨ kd h b = 60) ∧ it h 0 a = spr (it h 23 b)
def keyI (h : Hp) (a : Nat) : Int32 := match rf h 1 a with
  | some b => it h 23 b
  | none => 0
theorem NodeK.hash {h : Hp} {a : Nat} (k : NodeK h a) : it h 0 a = spr (keyI h a) := by
  obtain ⟨b, h1, -, h3⟩ := k
  unfold keyI
  rw [h1]; exact h3
theorem NodeK.key {h : Hp} {a : Nat} {x : Int32} (k : NodeK h a) (e : it h 0 a = spr x) : keyI h a = x := spr_inj (by rw [← k.hash, e])
theorem s_intValue {h : Hp} {a : Nat} {K : Int32 → Hp → Prop} (k : K (it h 23 a) h) : wp_J5_intValue h (some a) K := by
  unfold wp_J5_intValue
  exact ⟨a, rfl, k⟩
theorem s_longValue {h : Hp} {a : Nat} {K : Int64 → Hp → Prop} (k : K (it h 23 a).toInt64 h) : wp_J5_longValue h (some a) K := by
  unfold wp_J5_longValue
  exact ⟨a, rfl, k⟩
theorem s_equals {h : Hp} {a b : Nat} {K : Int32 → Hp → Prop} (k1 : it h 23 a = it h 23 b → K 1 h) (k0 : ¬ it h 23 a = it h 23 b → K 0 h) : wp_J5_equals h (some a) (some b) K := by
  unfold wp_J5_equals
  refine ⟨fun c e _ => ⟨a, rfl, ?_⟩, (fun e => by cases e)⟩
  cases e
  refine s_intValue (fun _ => ⟨fun q => ?_, fun q => ?_⟩)
  · exact ⟨Or.inl rfl, k0 q⟩
  · exact ⟨Or.inr rfl, k1 q⟩
theorem s_hash {h : Hp} {c : Nat} {K : Int32 → Hp → Prop} (k : K (spr (it h 23 c)) h) : wp_J1_hash h (some c) K := by
  unfold wp_J1_hash
  refine ⟨(fun q => by cases q), fun a q => ?_⟩
  cases q
  unfold wp_J5_hashCode
  refine ⟨c, rfl, ?_⟩
  unfold wp_J5_hashCode_2
  intro _ _
  exact k
/-- a node's key is held against c: by reference, then by equals -/
theorem key_test {h : Hp} {a b c : Nat} {P : Hp → Prop} {Q : Hp → Prop} (hb : rf h 1 a = some b) (kp : it h 23 b = it h 23 c → P h) (kq : ¬ it h 23 b = it h 23 c → Q h) :
    ((rf h 1 a = some c → P h) ∧ (¬ rf h 1 a = some c → ((some c = none → Q h) ∧ (∀ a1, some c = some a1 → wp_J5_equals h (some c) (rf h 1 a) (fun r h' => Ex h h' → ((r = 0 → Q h') ∧ (¬ r = 0 → P h'))))))) := by
  refine ⟨fun q => kp (by rw [hb] at q; cases q; rfl), fun q => ⟨(fun q => by cases q), fun a1 e => ?_⟩⟩
  rw [hb]
  exact s_equals (fun e _ => ⟨(fun q => by cases q), fun _ => kp e.symm⟩) (fun e _ => ⟨fun _ => kq (fun z => e z.symm), fun q => absurd rfl q⟩)
theorem root_loop {h : Hp} {r : Nat} {S : List Nat} {sub : Nat → List Nat} {K : Option Nat → Hp → Prop} (k : Trg 7 8 h r S sub) (fin : K (some r) h) : ∀ (n a : Nat), a ∈ S → S.length + 1 ≤ n + (sub a).length → wp_J8_root_b2 K n h (some a)
  | 0, a, ha, hn => by
    have := (k.sl ha).length_le
    omega
  | n + 1, a, ha, hn => by
    unfold wp_J8_root_b2
    refine ⟨a, rfl, fun h6 => ?_, fun p hp => ?_⟩
    · rw [k.root_up ha h6]; exact fin
    · obtain ⟨pS, pc⟩ := k.par ha hp
      have := (k.ch_sl pS pc).2
      rw [hp]
      exact root_loop k fin n p pS (by omega)
theorem s_root {h : Hp} {r : Nat} {S : List Nat} {sub : Nat → List Nat} {K : Option Nat → Hp → Prop} {a : Nat} (k : Trg 7 8 h r S sub) (ha : a ∈ S) (fin : K (some r) h) : wp_J8_root h (some a) K := by
  unfold wp_J8_root
  exact ⟨S.length + 1, root_loop k fin _ a ha (by omega)⟩
/-- the hashes rise -/
def Srt (h : Hp) (S : List Nat) : Prop := S.Pairwise (fun a b => it h 0 a < it h 0 b)
theorem Srt.sub {h : Hp} {S L : List Nat} (k : Srt h S) (hl : L.Sublist S) : Srt h L := List.Pairwise.sublist hl k
theorem find_loop {h : Hp} {r : Nat} {S : List Nat} {sub : Nat → List Nat} {K : Option Nat → Hp → Prop} {c : Nat} {l3 : Option Nat} (k : Trg 7 8 h r S sub) (hs : Srt h S) (hn : ∀ a ∈ S, NodeK h a)
    (f1 : ∀ a ∈ S, it h 0 a = spr (it h 23 c) → K (some a) h) (f0 : (∀ a ∈ S, ¬ it h 0 a = spr (it h 23 c)) → K none h) :
    ∀ (n p : Nat), p ∈ S → (sub p).length ≤ n → (∀ a ∈ S, it h 0 a = spr (it h 23 c) → a ∈ sub p) → wp_J8_find_b3 K n h (spr (it h 23 c)) (some c) l3 (some p)
  | 0, p, hp, hl, hin => by
    have := List.length_pos_of_mem (k.self hp)
    omega
  | n + 1, p, hp, hl, hin => by
    have hsp := hs.sub (k.sl hp)
    have e := (k.2.2.2.2 p hp).1
    rw [e] at hsp hin
    unfold Srt at hsp
    rw [List.pairwise_append] at hsp
    obtain ⟨-, sR, sL⟩ := hsp
    rw [List.pairwise_cons] at sR
    unfold wp_J8_find_b3
    refine ⟨p, rfl, fun q1 => ⟨fun q2 => ?_, fun q2 => ?_⟩, fun q1 => ?_⟩
    · have heq : it h 0 p = spr (it h 23 c) := Int32.le_antisymm q1 q2
      obtain ⟨b, hb, hkb, hsb⟩ := hn p hp
      have fin := f1 p hp heq
      exact key_test (P := fun h' => wp_J8_find_b74 K h' (some p)) (Q := fun h' => wp_J8_find_b77 (wp_J8_find_b3 K n) K h' (spr (it h 23 c)) (some c) l3 (rf h 1 p) (rf h 7 p) (rf h 8 p)) hb (fun _ => fin) (fun z => absurd (spr_inj (hsb.symm.trans heq)) z)
    · have hlt : it h 0 p < spr (it h 23 c) := Int32.not_le.mp q2
      have key : ∀ a ∈ S, it h 0 a = spr (it h 23 c) → a ∈ subO sub (rf h 8 p) := fun a ha e1 => by
        rcases List.mem_append.mp (hin a ha e1) with h1 | h1
        · have := sL a h1 p List.mem_cons_self
          rw [e1] at this
          exact absurd (Int32.lt_trans this hlt) Int32.lt_irrefl
        · rcases List.mem_cons.mp h1 with h1 | h1
          · rw [h1] at e1; rw [e1] at hlt; exact absurd hlt Int32.lt_irrefl
          · exact h1
      unfold wp_J8_find_b165
      refine ⟨fun q => f0 (fun a ha e1 => ?_), fun b hb => ?_⟩
      · have := key a ha e1
        rw [q] at this; cases this
      · rw [hb] at key ⊢
        have := (k.ch_sl hp (Or.inr hb)).2
        exact find_loop k hs hn f1 f0 n b (k.chS hp (Or.inr hb)).1 (by omega) key
    · have hlt : spr (it h 23 c) < it h 0 p := Int32.not_le.mp q1
      have key : ∀ a ∈ S, it h 0 a = spr (it h 23 c) → a ∈ subO sub (rf h 7 p) := fun a ha e1 => by
        rcases List.mem_append.mp (hin a ha e1) with h1 | h1
        · exact h1
        · rcases List.mem_cons.mp h1 with h1 | h1
          · rw [h1] at e1; rw [e1] at hlt; exact absurd hlt Int32.lt_irrefl
          · have := sR.1 a h1
            rw [e1] at this
            exact absurd (Int32.lt_trans this hlt) Int32.lt_irrefl
      unfold wp_J8_find_b165
      refine ⟨fun q => f0 (fun a ha e1 => ?_), fun b hb => ?_⟩
      · have := key a ha e1
        rw [q] at this; cases this
      · rw [hb] at key ⊢
        have := (k.ch_sl hp (Or.inl hb)).2
        exact find_loop k hs hn f1 f0 n b (k.chS hp (Or.inl hb)).1 (by omega) key
theorem s_getTreeNode {h : Hp} {r : Nat} {S : List Nat} {sub : Nat → List Nat} {K : Option Nat → Hp → Prop} {c a : Nat} (k : Trg 7 8 h r S sub) (hs : Srt h S) (hn : ∀ a ∈ S, NodeK h a) (ha : a ∈ S)
    (f1 : ∀ a ∈ S, it h 0 a = spr (it h 23 c) → K (some a) h) (f0 : (∀ a ∈ S, ¬ it h 0 a = spr (it h 23 c)) → K none h) : wp_J8_getTreeNode h (some a) (spr (it h 23 c)) (some c) K := by
  have key : wp_J8_getTreeNode_b15 K h (spr (it h 23 c)) (some c) (some r) := by
    unfold wp_J8_getTreeNode_b15
    refine ⟨r, rfl, ?_⟩
    unfold wp_J8_find
    exact ⟨(sub r).length, find_loop k hs hn (fun a ha e _ => f1 a ha e) (fun e _ => f0 e) _ r k.2.1 (Nat.le_refl _) (fun a ha _ => by rw [k.1]; exact ha)⟩
  unfold wp_J8_getTreeNode
  refine ⟨a, rfl, fun h6 => ?_, fun p hp => s_root k ha (fun _ => key)⟩
  rw [k.root_up ha h6]; exact key
