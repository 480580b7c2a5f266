/-! PLAIN: three lists of pairs, and what the calls do to them -/
set_option maxRecDepth 100000
def aget : List (Int32 × Int32) → Int32 → Option Int32
  | [], _ => none
  | p :: l, k => if p.1 = k then some p.2 else aget l k
def aset (l : List (Int32 × Int32)) (k v : Int32) : List (Int32 × Int32) := l.map (fun p => if p.1 = k then (k, v) else p)
def adel (l : List (Int32 × Int32)) (k : Int32) : List (Int32 × Int32) := l.filter (fun p => decide (p.1 ≠ k))
def aone (l : List (Int32 × Int32)) (k : Int32) : List (Int32 × Int32) := l.filter (fun p => decide (p.1 = k))
/-- a pair is used: the third map notes it -/
def ause (j : Nat) (l : List (Int32 × Int32)) (k : Int32) : List (Int32 × Int32) := if j = 2 then adel l k ++ aone l k else l
def aput (j : Nat) (l : List (Int32 × Int32)) (k v : Int32) : List (Int32 × Int32) := if aget l k = none then l ++ [(k, v)] else ause j (aset l k v) k
def KD (l : List (Int32 × Int32)) : Prop := (l.map (fun p => p.1)).Nodup
theorem KD.mid {X Y : List (Int32 × Int32)} {p : Int32 × Int32} (k : KD (X ++ p :: Y)) : (∀ q ∈ X, q.1 ≠ p.1) ∧ (∀ q ∈ Y, q.1 ≠ p.1) := by
  unfold KD at k
  rw [List.map_append, List.map_cons] at k
  obtain ⟨k1, k2, k3⟩ := List.nodup_append.mp k
  refine ⟨fun q hq e => k3 q.1 (List.mem_map.mpr ⟨q, hq, rfl⟩) p.1 List.mem_cons_self e, fun q hq e => (List.nodup_cons.mp k2).1 (by rw [← e]; exact List.mem_map.mpr ⟨q, hq, rfl⟩)⟩
theorem aget_none {l : List (Int32 × Int32)} {k : Int32} (h : ∀ p ∈ l, p.1 ≠ k) : aget l k = none := by
  induction l with
  | nil => rfl
  | cons p l ih =>
    show (if p.1 = k then some p.2 else aget l k) = none
    rw [if_neg (h p List.mem_cons_self)]
    exact ih (fun q hq => h q (List.mem_cons_of_mem _ hq))
theorem aget_mid {X Y : List (Int32 × Int32)} {p : Int32 × Int32} (hX : ∀ q ∈ X, q.1 ≠ p.1) : aget (X ++ p :: Y) p.1 = some p.2 := by
  induction X with
  | nil => show (if p.1 = p.1 then some p.2 else aget Y p.1) = _; rw [if_pos rfl]
  | cons x X ih =>
    show (if x.1 = p.1 then some x.2 else aget (X ++ p :: Y) p.1) = _
    rw [if_neg (hX x List.mem_cons_self)]
    exact ih (fun q hq => hX q (List.mem_cons_of_mem _ hq))
theorem aget_in {l : List (Int32 × Int32)} {p : Int32 × Int32} (k : KD l) (hp : p ∈ l) : aget l p.1 = some p.2 := by
  obtain ⟨X, Y, rfl⟩ := List.append_of_mem hp
  exact aget_mid k.mid.1
theorem aget_mem {l : List (Int32 × Int32)} {k v : Int32} (h : aget l k = some v) : (k, v) ∈ l := by
  induction l with
  | nil => cases h
  | cons p l ih =>
    have h : (if p.1 = k then some p.2 else aget l k) = some v := h
    by_cases e : p.1 = k
    · rw [if_pos e] at h
      cases h
      rw [← e]; exact List.mem_cons_self
    · rw [if_neg e] at h
      exact List.mem_cons_of_mem _ (ih h)
theorem aget_none' {l : List (Int32 × Int32)} {k : Int32} (h : aget l k = none) : ∀ p ∈ l, p.1 ≠ k := by
  induction l with
  | nil => intro p hp; cases hp
  | cons q l ih =>
    have h : (if q.1 = k then some q.2 else aget l k) = none := h
    by_cases e : q.1 = k
    · rw [if_pos e] at h; cases h
    · rw [if_neg e] at h
      intro p hp
      rcases List.mem_cons.mp hp with w | w
      · rw [w]; exact e
      · exact ih h p w
theorem adel_all {l : List (Int32 × Int32)} {k : Int32} (h : ∀ p ∈ l, p.1 ≠ k) : adel l k = l := List.filter_eq_self.mpr (fun p hp => decide_eq_true (h p hp))
theorem aone_nil {l : List (Int32 × Int32)} {k : Int32} (h : ∀ p ∈ l, p.1 ≠ k) : aone l k = [] := List.filter_eq_nil_iff.mpr (fun p hp w => h p hp (of_decide_eq_true w))
theorem adel_mid {X Y : List (Int32 × Int32)} {p : Int32 × Int32} (hX : ∀ q ∈ X, q.1 ≠ p.1) (hY : ∀ q ∈ Y, q.1 ≠ p.1) : adel (X ++ p :: Y) p.1 = X ++ Y := by
  have e1 := adel_all hX
  have e2 := adel_all hY
  unfold adel at *
  rw [List.filter_append, List.filter_cons, if_neg (by simp), e1, e2]
theorem aone_mid {X Y : List (Int32 × Int32)} {p : Int32 × Int32} (hX : ∀ q ∈ X, q.1 ≠ p.1) (hY : ∀ q ∈ Y, q.1 ≠ p.1) : aone (X ++ p :: Y) p.1 = [p] := by
  have e1 := aone_nil hX
  have e2 := aone_nil hY
  unfold aone at *
  rw [List.filter_append, List.filter_cons, if_pos (by simp), e1, e2]
  rfl
theorem aset_all {l : List (Int32 × Int32)} {k v : Int32} (h : ∀ p ∈ l, p.1 ≠ k) : aset l k v = l := by
  unfold aset
  have : l.map (fun p => if p.1 = k then (k, v) else p) = l.map id := List.map_congr_left (fun p hp => if_neg (h p hp))
  rw [this, List.map_id]
theorem aset_mid {X Y : List (Int32 × Int32)} {p : Int32 × Int32} {v : Int32} (hX : ∀ q ∈ X, q.1 ≠ p.1) (hY : ∀ q ∈ Y, q.1 ≠ p.1) : aset (X ++ p :: Y) p.1 v = X ++ (p.1, v) :: Y := by
  have e1 := aset_all (v := v) hX
  have e2 := aset_all (v := v) hY
  unfold aset at *
  rw [List.map_append, List.map_cons, e1, e2, if_pos rfl]
theorem aset_keys (l : List (Int32 × Int32)) (k v : Int32) : (aset l k v).map (fun p => p.1) = l.map (fun p => p.1) := by
  unfold aset
  rw [List.map_map]
  refine List.map_congr_left (fun p _ => ?_)
  show (if p.1 = k then (k, v) else p).1 = p.1
  by_cases e : p.1 = k
  · rw [if_pos e]; exact e.symm
  · rw [if_neg e]
theorem KD.set {l : List (Int32 × Int32)} (d : KD l) (k v : Int32) : KD (aset l k v) := by unfold KD; rw [aset_keys]; exact d
theorem KD.sub {l l' : List (Int32 × Int32)} (d : KD l) (s : l'.Sublist l) : KD l' := List.Nodup.sublist (s.map _) d
theorem KD.perm {l l' : List (Int32 × Int32)} (d : KD l) (s : l'.Perm l) : KD l' := (s.map _).nodup_iff.mpr d
theorem KD.push {l : List (Int32 × Int32)} (d : KD l) {k v : Int32} (h : aget l k = none) : KD (l ++ [(k, v)]) := by
  unfold KD
  rw [List.map_append]
  refine List.nodup_append.mpr ⟨d, by simp, fun a ha b hb e => ?_⟩
  obtain ⟨p, hp, rfl⟩ := List.mem_map.mp ha
  have hb : b = k := by simpa using hb
  exact aget_none' h p hp (by rw [e, hb])
theorem ause_perm (j : Nat) (l : List (Int32 × Int32)) (k : Int32) : (ause j l k).Perm l := by
  unfold ause
  split
  · have : aone l k = l.filter (fun p => !decide (p.1 ≠ k)) := by
      unfold aone
      refine List.filter_congr (fun p _ => ?_)
      by_cases e : p.1 = k <;> simp [e]
    unfold adel
    rw [this]
    exact List.filter_append_perm _ l
  · exact List.Perm.refl _
theorem KD.put {l : List (Int32 × Int32)} (d : KD l) (j : Nat) (k v : Int32) : KD (aput j l k v) := by
  unfold aput
  split
  · rename_i e; exact d.push e
  · exact (d.set k v).perm (ause_perm _ _ _)
theorem aset_len (l : List (Int32 × Int32)) (k v : Int32) : (aset l k v).length = l.length := List.length_map ..
theorem aput_len (j : Nat) (l : List (Int32 × Int32)) (k v : Int32) : (aput j l k v).length ≤ l.length + 1 := by
  unfold aput
  split
  · simp
  · rw [(ause_perm _ _ _).length_eq, aset_len]; omega
/-! the calls -/
def mix (i : Int32) : Option Nat := if i = 0 then some 0 else if i = 1 then some 1 else if i = 2 then some 2 else none
def tld (o : Option Int32) : Int64 := match o with
  | none => 1099511627776
  | some v => v.toInt64
abbrev AS : Type := Nat → List (Int32 × Int32)
def sput (A : AS) (i k v : Int32) : AS × Int64 := match mix i with
  | none => (A, 1099511627777)
  | some j => (ufn A j (aput j (A j) k v), tld (aget (A j) k))
def sadd (A : AS) (i k v : Int32) : AS × Int64 := match mix i with
  | none => (A, 1099511627777)
  | some j => (ufn A j (if aget (A j) k = none then A j ++ [(k, v)] else ause j (A j) k), tld (aget (A j) k))
def sget (A : AS) (i k : Int32) : AS × Int64 := match mix i with
  | none => (A, 1099511627777)
  | some j => (ufn A j (if aget (A j) k = none then A j else ause j (A j) k), tld (aget (A j) k))
def sgive (A : AS) (i k o : Int32) : AS × Int64 := match mix i with
  | none => (A, 1099511627777)
  | some j => (ufn A j (if aget (A j) k = none then A j else ause j (A j) k), ((aget (A j) k).getD o).toInt64)
def srem (A : AS) (i k : Int32) : AS × Int64 := match mix i with
  | none => (A, 1099511627777)
  | some j => (ufn A j (adel (A j) k), tld (aget (A j) k))
def stake (A : AS) (i k v : Int32) : AS × Int32 := match mix i with
  | none => (A, 0)
  | some j => if aget (A j) k = some v then (ufn A j (adel (A j) k), 1) else (A, 0)
def shas (A : AS) (i w x : Int32) : Int32 := match mix i with
  | none => 0
  | some j => if w = 0 then (if aget (A j) x = none then 0 else 1) else if w = 1 then (if (A j).any (fun p => decide (p.2 = x)) then 1 else 0) else 0
def ssize (A : AS) (i : Int32) : Int32 := match mix i with
  | none => -1
  | some j => nI (A j).length
def sclear (A : AS) (i : Int32) : AS × Int32 := match mix i with
  | none => (A, -1)
  | some j => (ufn A j [], nI (A j).length)
def pourL (j : Nat) (l s : List (Int32 × Int32)) : List (Int32 × Int32) := s.foldl (fun l p => aput j l p.1 p.2) l
def spour (A : AS) (f t : Int32) : AS × Int32 := match mix f, mix t with
  | some i, some j => if i = j ∨ 1400 < (A i).length + (A j).length ∨ (i = 0 ∧ (j = 2 ∨ ∃ p ∈ A i, aget (A j) p.1 = none)) then (A, -1) else (ufn A j (pourL j (A j) (A i)), nI (pourL j (A j) (A i)).length)
  | _, _ => (A, -1)
def sentry (A : AS) (i k w : Int32) : Int64 := if (i = 1 ∨ i = 2) ∧ (w = 0 ∨ w = 1) then (if k < 0 then 1099511627776 else match (A (i.toNatClampNeg))[k.toNatClampNeg]? with
  | none => 1099511627776
  | some p => if w = 0 then p.1.toInt64 else p.2.toInt64) else 1099511627777
def sumL : List (Int32 × Int32) → Int64
  | [] => 0
  | p :: l => (p.1.toInt64 * 31 + p.2.toInt64) + sumL l
def ssum (A : AS) (i : Int32) : Int64 := match mix i with
  | none => 1099511627777
  | some j => sumL (A j)
def fmo (a b : Int32) : Int32 := if 0 ≤ (a ^^^ b) then a - a / b * b else if a - a / b * b = 0 then a - a / b * b else a - a / b * b + b
def ssweep (A : AS) (i s r : Int32) : AS × Int32 := match mix i with
  | none => (A, -1)
  | some j => if s < 1 then (A, -1) else (ufn A j ((A j).filter (fun p => decide (fmo p.1 s ≠ r))), nI ((A j).filter (fun p => decide (fmo p.1 s = r))).length)
def sraise (A : AS) (i d : Int32) : AS × Int32 := match mix i with
  | none => (A, -1)
  | some j => (ufn A j ((A j).map (fun p => (p.1, p.2 + d))), nI (A j).length)
def ssame (A : AS) (i j : Int32) : Int32 := match mix i, mix j with
  | some a, some b => if (A a).length = (A b).length ∧ ∀ p ∈ A a, aget (A b) p.1 = some p.2 then 1 else 0
  | _, _ => 0
def fillL (j : Nat) (f s : Int32) : Nat → List (Int32 × Int32) → List (Int32 × Int32)
  | 0, l => l
  | c + 1, l => aput j (fillL j f s c l) (f + nI c * s) (nI c)
def sfill (A : AS) (i f s c : Int32) : AS × Int32 := match mix i with
  | none => (A, -1)
  | some j => if c < 1 ∨ 400 < c ∨ 1000 < (A j).length then (A, -1) else (ufn A j (fillL j f s c.toNatClampNeg (A j)), nI (fillL j f s c.toNatClampNeg (A j)).length)
theorem KD.fill {l : List (Int32 × Int32)} (d : KD l) (j : Nat) (f s : Int32) : ∀ c, KD (fillL j f s c l) ∧ (fillL j f s c l).length ≤ l.length + c
  | 0 => ⟨d, Nat.le_refl _⟩
  | c + 1 => by
    obtain ⟨h1, h2⟩ := KD.fill d j f s c
    refine ⟨h1.put _ _ _, ?_⟩
    have := aput_len j (fillL j f s c l) (f + nI c * s) (nI c)
    show (aput j (fillL j f s c l) (f + nI c * s) (nI c)).length ≤ _
    omega
theorem KD.pour {j : Nat} : ∀ {s l : List (Int32 × Int32)}, KD l → KD (pourL j l s) ∧ (pourL j l s).length ≤ l.length + s.length
  | [], l, d => ⟨d, Nat.le_refl _⟩
  | p :: s, l, d => by
    obtain ⟨h1, h2⟩ := KD.pour (j := j) (s := s) (d.put j p.1 p.2)
    have := aput_len j l p.1 p.2
    refine ⟨h1, ?_⟩
    show (pourL j (aput j l p.1 p.2) s).length ≤ _
    rw [List.length_cons]
    omega
