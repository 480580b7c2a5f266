/-! PURE: hashes, places, chains -/
set_option maxRecDepth 100000
/-- HashMap's own hash of an int -/
def spr (x : Int32) : Int32 := x ^^^ ((x : Int32).toUInt32 >>> ((16 : Int32).toUInt32 &&& Int32.toUInt32 31)).toInt32
theorem spr_spr (x : Int32) : spr (spr x) = x := by
  unfold spr
  apply Int32.toBitVec_inj.mp
  have e : ((16 : Int32).toUInt32 &&& Int32.toUInt32 31) = 16 := by decide
  rw [e]
  have s : ∀ y : Int32, ((y.toUInt32 >>> 16).toInt32).toBitVec = y.toBitVec >>> 16 := by
    intro y
    show (y.toUInt32 >>> 16).toBitVec = _
    rw [UInt32.toBitVec_shiftRight]
    rfl
  rw [Int32.toBitVec_xor, s, Int32.toBitVec_xor, s, BitVec.ushiftRight_xor_distrib]
  have z : (x.toBitVec >>> 16) >>> 16 = 0#32 := by
    rw [← BitVec.shiftRight_add]
    apply BitVec.eq_of_getLsbD_eq
    intro i hi
    simp
  rw [z, BitVec.xor_assoc, ← BitVec.xor_assoc (x.toBitVec >>> 16), BitVec.xor_self, BitVec.zero_xor, BitVec.xor_zero]
theorem spr_inj {x y : Int32} (h : spr x = spr y) : x = y := by rw [← spr_spr x, h, spr_spr]
/-- the bin of a hash in a table of n places -/
def ix (n : Nat) (z : Int32) : Nat := ((nI n - 1) &&& z).toNatClampNeg
theorem nI_bv {n : Nat} (h : n < 2 ^ 32) : (nI n).toBitVec.toNat = n := by
  show (BitVec.ofNat 32 n).toNat = n
  rw [BitVec.toNat_ofNat]
  exact Nat.mod_eq_of_lt h
theorem nI_bvn {y : Int32} {n : Nat} (h : y.toBitVec.toNat = n) : y = nI n := by
  subst h
  apply Int32.toBitVec_inj.mp
  apply BitVec.eq_of_toNat_eq
  rw [nI_bv (BitVec.isLt _)]
theorem nI_pred1 {n : Nat} (h : 0 < n) : nI n - 1 = nI (n - 1) := by
  obtain ⟨k, rfl⟩ : ∃ k, n = k + 1 := ⟨n - 1, by omega⟩
  rw [nI_pred]; rfl
theorem ix_and {n : Nat} (z : Int32) (h0 : 0 < n) (h : n < 2 ^ 31) : ((nI n - 1) &&& z) = nI ((n - 1) &&& z.toBitVec.toNat) := by
  apply nI_bvn
  rw [nI_pred1 h0, Int32.toBitVec_and, BitVec.toNat_and, nI_bv (by omega)]
theorem ix_nat {n : Nat} (z : Int32) (h0 : 0 < n) (h : n < 2 ^ 31) : ix n z = (n - 1) &&& z.toBitVec.toNat := by
  unfold ix
  rw [ix_and z h0 h]
  have : (n - 1) &&& z.toBitVec.toNat ≤ n - 1 := Nat.and_le_left
  exact nI_clamp (by omega)
theorem ix_ok {n : Nat} (z : Int32) (h0 : 0 < n) (h : n < 2 ^ 31) : ((nI n - 1) &&& z) = nI (ix n z) ∧ ix n z < n := by
  rw [ix_nat z h0 h]
  refine ⟨ix_and z h0 h, ?_⟩
  have : (n - 1) &&& z.toBitVec.toNat ≤ n - 1 := Nat.and_le_left
  omega
theorem nI_inj {a b : Nat} (ha : a < 2 ^ 31) (hb : b < 2 ^ 31) (h : nI a = nI b) : a = b := by
  rw [← nI_clamp ha, h, nI_clamp hb]
/-- doubling a table -/
theorem ix_double {e : Nat} (he : e ≤ 20) (z : Int32) : ix (2 ^ e * 2) z = ix (2 ^ e) z + (if z &&& nI (2 ^ e) = 0 then 0 else 2 ^ e) := by
  have p : 2 ^ e ≤ 2 ^ 20 := Nat.pow_le_pow_right (by decide) he
  have p0 : 0 < 2 ^ e := Nat.pow_pos (by decide)
  rw [ix_nat z (by omega) (by omega), ix_nat z (by omega) (by omega)]
  generalize hu : z.toBitVec.toNat = u
  have hb : (z &&& nI (2 ^ e) = 0) ↔ u &&& 2 ^ e = 0 := by
    have h1 : (z &&& nI (2 ^ e)).toBitVec.toNat = u &&& 2 ^ e := by
      rw [Int32.toBitVec_and, BitVec.toNat_and, nI_bv (by omega), hu]
    constructor
    · intro q; rw [q] at h1; rw [← h1]; rfl
    · intro q
      rw [q] at h1
      rw [nI_bvn h1]; rfl
  rw [← Nat.pow_succ, Nat.and_comm, Nat.and_comm (2 ^ e - 1), Nat.and_two_pow_sub_one_eq_mod, Nat.and_two_pow_sub_one_eq_mod, Nat.mod_pow_succ]
  have h2 : u &&& 2 ^ e = 2 ^ e * (u / 2 ^ e % 2) := by
    apply Nat.eq_of_testBit_eq
    intro i
    rw [Nat.testBit_and, Nat.testBit_two_pow, Nat.testBit_two_pow_mul]
    by_cases hi : e = i
    · subst hi
      simp [Nat.testBit, Nat.shiftRight_eq_div_pow]
    · simp only [hi, decide_false, Bool.and_false]
      by_cases hle : i ≥ e
      · simp only [hle, decide_true, Bool.true_and]
        rw [Nat.testBit_lt_two_pow]
        have : u / 2 ^ e % 2 < 2 := Nat.mod_lt _ (by decide)
        have : 2 ^ 1 ≤ 2 ^ (i - e) := Nat.pow_le_pow_right (by decide) (by omega)
        omega
      · simp [hle]
  rcases Nat.mod_two_eq_zero_or_one (u / 2 ^ e) with q | q
  · rw [q] at h2 ⊢
    rw [if_pos (hb.mpr (by rw [h2]; rfl))]
    rfl
  · rw [q] at h2 ⊢
    rw [if_neg (fun w => by have := hb.mp w; rw [h2] at this; omega)]
    omega
/-! chains: a list of cells linked by the field f; e: what stands behind it; p: what stands ahead of it -/
def NXs (h : Hp) (f : Nat) : List Nat → Option Nat → Prop
  | [], _ => True
  | a :: l, e => rf h f a = l.head?.or e ∧ NXs h f l e
def PVs (h : Hp) (f : Nat) : Option Nat → List Nat → Prop
  | _, [] => True
  | p, a :: l => rf h f a = p ∧ PVs h f (some a) l
theorem NXs_app (h : Hp) (f : Nat) (e : Option Nat) : ∀ (X Y : List Nat), NXs h f (X ++ Y) e ↔ NXs h f X (Y.head?.or e) ∧ NXs h f Y e
  | [], Y => by simp [NXs]
  | a :: X, Y => by
    simp only [List.cons_append, NXs, NXs_app h f e X Y, List.head?_append, Option.or_assoc]
    exact and_assoc.symm
theorem last_or (p : Option Nat) (a : Nat) : ∀ X : List Nat, (a :: X).getLast?.or p = X.getLast?.or (some a)
  | [] => rfl
  | b :: X => by
    rw [List.getLast?_cons_cons]
    cases h : (b :: X).getLast? with
    | none => simp at h
    | some z => rfl
theorem PVs_app (h : Hp) (f : Nat) : ∀ (p : Option Nat) (X Y : List Nat), PVs h f p (X ++ Y) ↔ PVs h f p X ∧ PVs h f (X.getLast?.or p) Y
  | p, [], Y => by simp [PVs]
  | p, a :: X, Y => by
    simp only [List.cons_append, PVs, PVs_app h f (some a) X Y, last_or]
    exact and_assoc.symm
theorem NXs_fr {h h' : Hp} {f : Nat} {e : Option Nat} : ∀ {L : List Nat}, (∀ a ∈ L, rf h' f a = rf h f a) → NXs h f L e → NXs h' f L e
  | [], _, _ => trivial
  | a :: l, hs, hn => ⟨(hs a List.mem_cons_self).trans hn.1, NXs_fr (fun b hb => hs b (List.mem_cons_of_mem _ hb)) hn.2⟩
theorem PVs_fr {h h' : Hp} {f : Nat} : ∀ {p : Option Nat} {L : List Nat}, (∀ a ∈ L, rf h' f a = rf h f a) → PVs h f p L → PVs h' f p L
  | _, [], _, _ => trivial
  | _, a :: l, hs, hn => ⟨(hs a List.mem_cons_self).trans hn.1, PVs_fr (fun b hb => hs b (List.mem_cons_of_mem _ hb)) hn.2⟩
theorem NXs_at {h : Hp} {f : Nat} {e : Option Nat} {X Y : List Nat} {a : Nat} (k : NXs h f (X ++ a :: Y) e) : rf h f a = Y.head?.or e := ((NXs_app h f e X (a :: Y)).mp k).2.1
theorem PVs_at {h : Hp} {f : Nat} {p : Option Nat} {X Y : List Nat} {a : Nat} (k : PVs h f p (X ++ a :: Y)) : rf h f a = X.getLast?.or p := ((PVs_app h f p X (a :: Y)).mp k).2.1
