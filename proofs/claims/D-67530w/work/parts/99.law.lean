/-! THE LAW (printed by emitlaw.py) -/
set_option maxRecDepth 100000
theorem tbl_out16 {x : Int32} (q0 : ¬ x = 0) (q1 : ¬ x = 1) (q2 : ¬ x = 2) (q3 : ¬ x = 3) (q4 : ¬ x = 4) (q5 : ¬ x = 5) (q6 : ¬ x = 6) (q7 : ¬ x = 7) (q8 : ¬ x = 8) (q9 : ¬ x = 9) (q10 : ¬ x = 10) (q11 : ¬ x = 11) (q12 : ¬ x = 12) (q13 : ¬ x = 13) (q14 : ¬ x = 14) (q15 : ¬ x = 15) : x.toInt < 0 ∨ 15 < x.toInt := by
  have e : ∀ k : Int32, ¬ x = k → x.toInt ≠ k.toInt := fun k hk h => hk (Int32.toInt_inj.mp h)
  have a0 := e 0 q0
  have b0 : (0 : Int32).toInt = 0 := rfl
  have a1 := e 1 q1
  have b1 : (1 : Int32).toInt = 1 := rfl
  have a2 := e 2 q2
  have b2 : (2 : Int32).toInt = 2 := rfl
  have a3 := e 3 q3
  have b3 : (3 : Int32).toInt = 3 := rfl
  have a4 := e 4 q4
  have b4 : (4 : Int32).toInt = 4 := rfl
  have a5 := e 5 q5
  have b5 : (5 : Int32).toInt = 5 := rfl
  have a6 := e 6 q6
  have b6 : (6 : Int32).toInt = 6 := rfl
  have a7 := e 7 q7
  have b7 : (7 : Int32).toInt = 7 := rfl
  have a8 := e 8 q8
  have b8 : (8 : Int32).toInt = 8 := rfl
  have a9 := e 9 q9
  have b9 : (9 : Int32).toInt = 9 := rfl
  have a10 := e 10 q10
  have b10 : (10 : Int32).toInt = 10 := rfl
  have a11 := e 11 q11
  have b11 : (11 : Int32).toInt = 11 := rfl
  have a12 := e 12 q12
  have b12 : (12 : Int32).toInt = 12 := rfl
  have a13 := e 13 q13
  have b13 : (13 : Int32).toInt = 13 := rfl
  have a14 := e 14 q14
  have b14 : (14 : Int32).toInt = 14 := rfl
  have a15 := e 15 q15
  have b15 : (15 : Int32).toInt = 15 := rfl
  omega
theorem okn_b59720 : okN ⟨"HashHall", "<init>", "()V"⟩ 0 := by decide +kernel
theorem okn_58a83e : okN ⟨"HashHall", "add", "(III)J"⟩ 3 := by decide +kernel
theorem okn_d1a225 : okN ⟨"HashHall", "clear", "(I)I"⟩ 1 := by decide +kernel
theorem okn_f4214e : okN ⟨"HashHall", "entry", "(III)J"⟩ 3 := by decide +kernel
theorem okn_c040f9 : okN ⟨"HashHall", "fill", "(IIII)I"⟩ 4 := by decide +kernel
theorem okn_8c66a1 : okN ⟨"HashHall", "get", "(II)J"⟩ 2 := by decide +kernel
theorem okn_fd4325 : okN ⟨"HashHall", "give", "(III)J"⟩ 3 := by decide +kernel
theorem okn_b4a4c1 : okN ⟨"HashHall", "has", "(III)Z"⟩ 3 := by decide +kernel
theorem okn_2d9b0b : okN ⟨"HashHall", "pour", "(II)I"⟩ 2 := by decide +kernel
theorem okn_a6e1a0 : okN ⟨"HashHall", "put", "(III)J"⟩ 3 := by decide +kernel
theorem okn_13305a : okN ⟨"HashHall", "raise", "(II)I"⟩ 2 := by decide +kernel
theorem okn_7ad2d8 : okN ⟨"HashHall", "remove", "(II)J"⟩ 2 := by decide +kernel
theorem okn_cd110d : okN ⟨"HashHall", "same", "(II)Z"⟩ 2 := by decide +kernel
theorem okn_bcd9ac : okN ⟨"HashHall", "size", "(I)I"⟩ 1 := by decide +kernel
theorem okn_3bb46b : okN ⟨"HashHall", "sum", "(I)J"⟩ 1 := by decide +kernel
theorem okn_1d50f2 : okN ⟨"HashHall", "sweep", "(III)I"⟩ 3 := by decide +kernel
theorem okn_54a5ec : okN ⟨"HashHall", "take", "(III)Z"⟩ 3 := by decide +kernel
theorem okn_d575d4 : okN ⟨"HashHallModel", "<init>", "()V"⟩ 0 := by decide +kernel
theorem okn_e57f0f : okN ⟨"HashHallModel", "add", "(III)J"⟩ 3 := by decide +kernel
theorem okn_b753b2 : okN ⟨"HashHallModel", "clear", "(I)I"⟩ 1 := by decide +kernel
theorem okn_9b9fdd : okN ⟨"HashHallModel", "entry", "(III)J"⟩ 3 := by decide +kernel
theorem okn_b48390 : okN ⟨"HashHallModel", "fill", "(IIII)I"⟩ 4 := by decide +kernel
theorem okn_f66860 : okN ⟨"HashHallModel", "give", "(III)J"⟩ 3 := by decide +kernel
theorem okn_21dd89 : okN ⟨"HashHallModel", "has", "(III)Z"⟩ 3 := by decide +kernel
theorem okn_7bdede : okN ⟨"HashHallModel", "pour", "(II)I"⟩ 2 := by decide +kernel
theorem okn_9380e3 : okN ⟨"HashHallModel", "raise", "(II)I"⟩ 2 := by decide +kernel
theorem okn_cb2629 : okN ⟨"HashHallModel", "remove", "(II)J"⟩ 2 := by decide +kernel
theorem okn_a68836 : okN ⟨"HashHallModel", "same", "(II)Z"⟩ 2 := by decide +kernel
theorem okn_18d4eb : okN ⟨"HashHallModel", "size", "(I)I"⟩ 1 := by decide +kernel
theorem okn_785f77 : okN ⟨"HashHallModel", "sum", "(I)J"⟩ 1 := by decide +kernel
theorem okn_75c9f5 : okN ⟨"HashHallModel", "sweep", "(III)I"⟩ 3 := by decide +kernel
theorem okn_32e3af : okN ⟨"HashHallModel", "take", "(III)Z"⟩ 3 := by decide +kernel
def wp_L_law_b707 (G18 : Hp → Option Nat → Option Nat → Option Nat → Int32 → Prop) (K : Int32 → Hp → Prop) (h : Hp) (l0 : Option Nat) (l1 : Option Nat) (l2 : Option Nat) (l3 : Int32) : Prop :=
  (G18 h l0 l1 l2 (l3 + 5))
set_option maxHeartbeats 4000000 in
theorem wk_L_law_b707 {X : Fx} {K : Int32 → Hp → Prop} (C : Cx X cL_law "HashHallLaw" 4 40) (kR : ∀ (h : Hp) (lv : List (Option TV)), Gd X h 714 lv [vI 1]) {G18 : Hp → Option Nat → Option Nat → Option Nat → Int32 → Prop} (k18 : ∀ (h : Hp) (l0 : Option Nat) (l1 : Option Nat) (l2 : Option Nat) (l3 : Int32), G18 h l0 l1 l2 l3 → Gd X h 18 [some (vR [61] l0), some (vR [1] l1), some (vR [14] l2), some (vI l3)] []) (h : Hp) (l0 : Option Nat) (l1 : Option Nat) (l2 : Option Nat) (l3 : Int32) (w : wp_L_law_b707 G18 K h l0 l1 l2 l3) : Gd X h 707 [some (vR [61] l0), some (vR [1] l1), some (vR [14] l2), some (vI l3)] [] := by
  unfold wp_L_law_b707 at w
  refine g_iinc 710 rfl C dL_law_707 rfl _ rfl (by decide) (rfl : _ = [some (vR [61] _), some (vR [1] _), some (vR [14] _), some (vI _)]) ?_
  refine g_goto 18 C dL_law_710 rfl ?_
  refine g_sub [some none, some none, some none, some none] [] rfl rfl ?_
  exact k18 _ _ _ _ _ w
def wp_L_law_b18 (K : Int32 → Hp → Prop) : Nat → Hp → Option Nat → Option Nat → Option Nat → Int32 → Prop
  | 0 => fun _ _ _ _ _ => False
  | m9 + 1 => fun h l0 l1 l2 l3 =>
    (∃ a670, l0 = some a670 ∧ (ln h a670 < 2 ^ 26 → ((((nI (ln h a670)) - 5) < l3 → True) ∧ (¬ ((nI (ln h a670)) - 5) < l3 → (∃ j674, l3 = nI j674 ∧ j674 < ln h a670 ∧ ((((it h (100 + j674) a670) &&& 15) = 0 → (∃ j677, (l3 + 1) = nI j677 ∧ j677 < ln h a670 ∧ (∃ j680, (l3 + 2) = nI j680 ∧ j680 < ln h a670 ∧ (∃ j683, (l3 + 3) = nI j683 ∧ j683 < ln h a670 ∧ (∃ a686, l1 = some a686 ∧ (wp_X0_put h l1 (it h (100 + j677) a670) (it h (100 + j680) a670) (it h (100 + j683) a670) (fun r689 h690 => Ex h h690 → (∃ j693, (l3 + 1) = nI j693 ∧ j693 < ln h690 a670 ∧ (∃ j696, (l3 + 2) = nI j696 ∧ j696 < ln h690 a670 ∧ (∃ j699, (l3 + 3) = nI j699 ∧ j699 < ln h690 a670 ∧ (∃ a702, l2 = some a702 ∧ (wp_X1_put h690 l2 (it h690 (100 + j693) a670) (it h690 (100 + j696) a670) (it h690 (100 + j699) a670) (fun r705 h706 => Ex h690 h706 → (((lg_cmp r689 r705) = 0 → (wp_L_law_b707 (wp_L_law_b18 K m9) K h706 l0 l1 l2 l3)) ∧ (¬ (lg_cmp r689 r705) = 0 → False))))))))))))))) ∧ (¬ ((it h (100 + j674) a670) &&& 15) = 0 → ((((it h (100 + j674) a670) &&& 15) = 1 → (∃ j710, (l3 + 1) = nI j710 ∧ j710 < ln h a670 ∧ (∃ j713, (l3 + 2) = nI j713 ∧ j713 < ln h a670 ∧ (∃ j716, (l3 + 3) = nI j716 ∧ j716 < ln h a670 ∧ (∃ a719, l1 = some a719 ∧ (wp_X0_add h l1 (it h (100 + j710) a670) (it h (100 + j713) a670) (it h (100 + j716) a670) (fun r722 h723 => Ex h h723 → (∃ j726, (l3 + 1) = nI j726 ∧ j726 < ln h723 a670 ∧ (∃ j729, (l3 + 2) = nI j729 ∧ j729 < ln h723 a670 ∧ (∃ j732, (l3 + 3) = nI j732 ∧ j732 < ln h723 a670 ∧ (∃ a735, l2 = some a735 ∧ (wp_X1_add h723 l2 (it h723 (100 + j726) a670) (it h723 (100 + j729) a670) (it h723 (100 + j732) a670) (fun r738 h739 => Ex h723 h739 → (((lg_cmp r722 r738) = 0 → (wp_L_law_b707 (wp_L_law_b18 K m9) K h739 l0 l1 l2 l3)) ∧ (¬ (lg_cmp r722 r738) = 0 → False))))))))))))))) ∧ (¬ ((it h (100 + j674) a670) &&& 15) = 1 → ((((it h (100 + j674) a670) &&& 15) = 2 → (∃ j743, (l3 + 1) = nI j743 ∧ j743 < ln h a670 ∧ (∃ j746, (l3 + 2) = nI j746 ∧ j746 < ln h a670 ∧ (∃ a749, l1 = some a749 ∧ (wp_X0_get h l1 (it h (100 + j743) a670) (it h (100 + j746) a670) (fun r752 h753 => Ex h h753 → (∃ j756, (l3 + 1) = nI j756 ∧ j756 < ln h753 a670 ∧ (∃ j759, (l3 + 2) = nI j759 ∧ j759 < ln h753 a670 ∧ (∃ a762, l2 = some a762 ∧ (wp_X1_get h753 l2 (it h753 (100 + j756) a670) (it h753 (100 + j759) a670) (fun r765 h766 => Ex h753 h766 → (((lg_cmp r752 r765) = 0 → (wp_L_law_b707 (wp_L_law_b18 K m9) K h766 l0 l1 l2 l3)) ∧ (¬ (lg_cmp r752 r765) = 0 → False))))))))))))) ∧ (¬ ((it h (100 + j674) a670) &&& 15) = 2 → ((((it h (100 + j674) a670) &&& 15) = 3 → (∃ j770, (l3 + 1) = nI j770 ∧ j770 < ln h a670 ∧ (∃ j773, (l3 + 2) = nI j773 ∧ j773 < ln h a670 ∧ (∃ j776, (l3 + 3) = nI j776 ∧ j776 < ln h a670 ∧ (∃ a779, l1 = some a779 ∧ (wp_X0_give h l1 (it h (100 + j770) a670) (it h (100 + j773) a670) (it h (100 + j776) a670) (fun r782 h783 => Ex h h783 → (∃ j786, (l3 + 1) = nI j786 ∧ j786 < ln h783 a670 ∧ (∃ j789, (l3 + 2) = nI j789 ∧ j789 < ln h783 a670 ∧ (∃ j792, (l3 + 3) = nI j792 ∧ j792 < ln h783 a670 ∧ (∃ a795, l2 = some a795 ∧ (wp_X1_give h783 l2 (it h783 (100 + j786) a670) (it h783 (100 + j789) a670) (it h783 (100 + j792) a670) (fun r798 h799 => Ex h783 h799 → (((lg_cmp r782 r798) = 0 → (wp_L_law_b707 (wp_L_law_b18 K m9) K h799 l0 l1 l2 l3)) ∧ (¬ (lg_cmp r782 r798) = 0 → False))))))))))))))) ∧ (¬ ((it h (100 + j674) a670) &&& 15) = 3 → ((((it h (100 + j674) a670) &&& 15) = 4 → (∃ j803, (l3 + 1) = nI j803 ∧ j803 < ln h a670 ∧ (∃ j806, (l3 + 2) = nI j806 ∧ j806 < ln h a670 ∧ (∃ a809, l1 = some a809 ∧ (wp_X0_remove h l1 (it h (100 + j803) a670) (it h (100 + j806) a670) (fun r812 h813 => Ex h h813 → (∃ j816, (l3 + 1) = nI j816 ∧ j816 < ln h813 a670 ∧ (∃ j819, (l3 + 2) = nI j819 ∧ j819 < ln h813 a670 ∧ (∃ a822, l2 = some a822 ∧ (wp_X1_remove h813 l2 (it h813 (100 + j816) a670) (it h813 (100 + j819) a670) (fun r825 h826 => Ex h813 h826 → (((lg_cmp r812 r825) = 0 → (wp_L_law_b707 (wp_L_law_b18 K m9) K h826 l0 l1 l2 l3)) ∧ (¬ (lg_cmp r812 r825) = 0 → False))))))))))))) ∧ (¬ ((it h (100 + j674) a670) &&& 15) = 4 → ((((it h (100 + j674) a670) &&& 15) = 5 → (∃ j830, (l3 + 1) = nI j830 ∧ j830 < ln h a670 ∧ (∃ j833, (l3 + 2) = nI j833 ∧ j833 < ln h a670 ∧ (∃ j836, (l3 + 3) = nI j836 ∧ j836 < ln h a670 ∧ (∃ a839, l1 = some a839 ∧ (wp_X0_take h l1 (it h (100 + j830) a670) (it h (100 + j833) a670) (it h (100 + j836) a670) (fun r842 h843 => Ex h h843 → (∃ j846, (l3 + 1) = nI j846 ∧ j846 < ln h843 a670 ∧ (∃ j849, (l3 + 2) = nI j849 ∧ j849 < ln h843 a670 ∧ (∃ j852, (l3 + 3) = nI j852 ∧ j852 < ln h843 a670 ∧ (∃ a855, l2 = some a855 ∧ (wp_X1_take h843 l2 (it h843 (100 + j846) a670) (it h843 (100 + j849) a670) (it h843 (100 + j852) a670) (fun r858 h859 => Ex h843 h859 → ((r842 = r858 → (wp_L_law_b707 (wp_L_law_b18 K m9) K h859 l0 l1 l2 l3)) ∧ (¬ r842 = r858 → False))))))))))))))) ∧ (¬ ((it h (100 + j674) a670) &&& 15) = 5 → ((((it h (100 + j674) a670) &&& 15) = 6 → (∃ j863, (l3 + 1) = nI j863 ∧ j863 < ln h a670 ∧ (∃ j866, (l3 + 2) = nI j866 ∧ j866 < ln h a670 ∧ (∃ j869, (l3 + 3) = nI j869 ∧ j869 < ln h a670 ∧ (∃ a872, l1 = some a872 ∧ (wp_X0_has h l1 (it h (100 + j863) a670) (it h (100 + j866) a670) (it h (100 + j869) a670) (fun r875 h876 => Ex h h876 → (∃ j879, (l3 + 1) = nI j879 ∧ j879 < ln h876 a670 ∧ (∃ j882, (l3 + 2) = nI j882 ∧ j882 < ln h876 a670 ∧ (∃ j885, (l3 + 3) = nI j885 ∧ j885 < ln h876 a670 ∧ (∃ a888, l2 = some a888 ∧ (wp_X1_has h876 l2 (it h876 (100 + j879) a670) (it h876 (100 + j882) a670) (it h876 (100 + j885) a670) (fun r891 h892 => Ex h876 h892 → ((r875 = r891 → (wp_L_law_b707 (wp_L_law_b18 K m9) K h892 l0 l1 l2 l3)) ∧ (¬ r875 = r891 → False))))))))))))))) ∧ (¬ ((it h (100 + j674) a670) &&& 15) = 6 → ((((it h (100 + j674) a670) &&& 15) = 7 → (∃ j896, (l3 + 1) = nI j896 ∧ j896 < ln h a670 ∧ (∃ a899, l1 = some a899 ∧ (wp_X0_size h l1 (it h (100 + j896) a670) (fun r902 h903 => Ex h h903 → (∃ j906, (l3 + 1) = nI j906 ∧ j906 < ln h903 a670 ∧ (∃ a909, l2 = some a909 ∧ (wp_X1_size h903 l2 (it h903 (100 + j906) a670) (fun r912 h913 => Ex h903 h913 → ((r902 = r912 → (wp_L_law_b707 (wp_L_law_b18 K m9) K h913 l0 l1 l2 l3)) ∧ (¬ r902 = r912 → False))))))))))) ∧ (¬ ((it h (100 + j674) a670) &&& 15) = 7 → ((((it h (100 + j674) a670) &&& 15) = 8 → (∃ j917, (l3 + 1) = nI j917 ∧ j917 < ln h a670 ∧ (∃ a920, l1 = some a920 ∧ (wp_X0_clear h l1 (it h (100 + j917) a670) (fun r923 h924 => Ex h h924 → (∃ j927, (l3 + 1) = nI j927 ∧ j927 < ln h924 a670 ∧ (∃ a930, l2 = some a930 ∧ (wp_X1_clear h924 l2 (it h924 (100 + j927) a670) (fun r933 h934 => Ex h924 h934 → ((r923 = r933 → (wp_L_law_b707 (wp_L_law_b18 K m9) K h934 l0 l1 l2 l3)) ∧ (¬ r923 = r933 → False))))))))))) ∧ (¬ ((it h (100 + j674) a670) &&& 15) = 8 → ((((it h (100 + j674) a670) &&& 15) = 9 → (∃ j938, (l3 + 1) = nI j938 ∧ j938 < ln h a670 ∧ (∃ j941, (l3 + 2) = nI j941 ∧ j941 < ln h a670 ∧ (∃ a944, l1 = some a944 ∧ (wp_X0_pour h l1 (it h (100 + j938) a670) (it h (100 + j941) a670) (fun r947 h948 => Ex h h948 → (∃ j951, (l3 + 1) = nI j951 ∧ j951 < ln h948 a670 ∧ (∃ j954, (l3 + 2) = nI j954 ∧ j954 < ln h948 a670 ∧ (∃ a957, l2 = some a957 ∧ (wp_X1_pour h948 l2 (it h948 (100 + j951) a670) (it h948 (100 + j954) a670) (fun r960 h961 => Ex h948 h961 → ((r947 = r960 → (wp_L_law_b707 (wp_L_law_b18 K m9) K h961 l0 l1 l2 l3)) ∧ (¬ r947 = r960 → False))))))))))))) ∧ (¬ ((it h (100 + j674) a670) &&& 15) = 9 → ((((it h (100 + j674) a670) &&& 15) = 10 → (∃ j965, (l3 + 1) = nI j965 ∧ j965 < ln h a670 ∧ (∃ j968, (l3 + 2) = nI j968 ∧ j968 < ln h a670 ∧ (∃ j971, (l3 + 3) = nI j971 ∧ j971 < ln h a670 ∧ (∃ a974, l1 = some a974 ∧ (wp_X0_entry h l1 (it h (100 + j965) a670) (it h (100 + j968) a670) (it h (100 + j971) a670) (fun r977 h978 => Ex h h978 → (∃ j981, (l3 + 1) = nI j981 ∧ j981 < ln h978 a670 ∧ (∃ j984, (l3 + 2) = nI j984 ∧ j984 < ln h978 a670 ∧ (∃ j987, (l3 + 3) = nI j987 ∧ j987 < ln h978 a670 ∧ (∃ a990, l2 = some a990 ∧ (wp_X1_entry h978 l2 (it h978 (100 + j981) a670) (it h978 (100 + j984) a670) (it h978 (100 + j987) a670) (fun r993 h994 => Ex h978 h994 → (((lg_cmp r977 r993) = 0 → (wp_L_law_b707 (wp_L_law_b18 K m9) K h994 l0 l1 l2 l3)) ∧ (¬ (lg_cmp r977 r993) = 0 → False))))))))))))))) ∧ (¬ ((it h (100 + j674) a670) &&& 15) = 10 → ((((it h (100 + j674) a670) &&& 15) = 11 → (∃ j998, (l3 + 1) = nI j998 ∧ j998 < ln h a670 ∧ (∃ a1001, l1 = some a1001 ∧ (wp_X0_sum h l1 (it h (100 + j998) a670) (fun r1004 h1005 => Ex h h1005 → (∃ j1008, (l3 + 1) = nI j1008 ∧ j1008 < ln h1005 a670 ∧ (∃ a1011, l2 = some a1011 ∧ (wp_X1_sum h1005 l2 (it h1005 (100 + j1008) a670) (fun r1014 h1015 => Ex h1005 h1015 → (((lg_cmp r1004 r1014) = 0 → (wp_L_law_b707 (wp_L_law_b18 K m9) K h1015 l0 l1 l2 l3)) ∧ (¬ (lg_cmp r1004 r1014) = 0 → False))))))))))) ∧ (¬ ((it h (100 + j674) a670) &&& 15) = 11 → ((((it h (100 + j674) a670) &&& 15) = 12 → (∃ j1019, (l3 + 1) = nI j1019 ∧ j1019 < ln h a670 ∧ (∃ j1022, (l3 + 2) = nI j1022 ∧ j1022 < ln h a670 ∧ (∃ j1025, (l3 + 3) = nI j1025 ∧ j1025 < ln h a670 ∧ (∃ a1028, l1 = some a1028 ∧ (wp_X0_sweep h l1 (it h (100 + j1019) a670) (it h (100 + j1022) a670) (it h (100 + j1025) a670) (fun r1031 h1032 => Ex h h1032 → (∃ j1035, (l3 + 1) = nI j1035 ∧ j1035 < ln h1032 a670 ∧ (∃ j1038, (l3 + 2) = nI j1038 ∧ j1038 < ln h1032 a670 ∧ (∃ j1041, (l3 + 3) = nI j1041 ∧ j1041 < ln h1032 a670 ∧ (∃ a1044, l2 = some a1044 ∧ (wp_X1_sweep h1032 l2 (it h1032 (100 + j1035) a670) (it h1032 (100 + j1038) a670) (it h1032 (100 + j1041) a670) (fun r1047 h1048 => Ex h1032 h1048 → ((r1031 = r1047 → (wp_L_law_b707 (wp_L_law_b18 K m9) K h1048 l0 l1 l2 l3)) ∧ (¬ r1031 = r1047 → False))))))))))))))) ∧ (¬ ((it h (100 + j674) a670) &&& 15) = 12 → ((((it h (100 + j674) a670) &&& 15) = 13 → (∃ j1052, (l3 + 1) = nI j1052 ∧ j1052 < ln h a670 ∧ (∃ j1055, (l3 + 2) = nI j1055 ∧ j1055 < ln h a670 ∧ (∃ a1058, l1 = some a1058 ∧ (wp_X0_raise h l1 (it h (100 + j1052) a670) (it h (100 + j1055) a670) (fun r1061 h1062 => Ex h h1062 → (∃ j1065, (l3 + 1) = nI j1065 ∧ j1065 < ln h1062 a670 ∧ (∃ j1068, (l3 + 2) = nI j1068 ∧ j1068 < ln h1062 a670 ∧ (∃ a1071, l2 = some a1071 ∧ (wp_X1_raise h1062 l2 (it h1062 (100 + j1065) a670) (it h1062 (100 + j1068) a670) (fun r1074 h1075 => Ex h1062 h1075 → ((r1061 = r1074 → (wp_L_law_b707 (wp_L_law_b18 K m9) K h1075 l0 l1 l2 l3)) ∧ (¬ r1061 = r1074 → False))))))))))))) ∧ (¬ ((it h (100 + j674) a670) &&& 15) = 13 → ((((it h (100 + j674) a670) &&& 15) = 14 → (∃ j1079, (l3 + 1) = nI j1079 ∧ j1079 < ln h a670 ∧ (∃ j1082, (l3 + 2) = nI j1082 ∧ j1082 < ln h a670 ∧ (∃ a1085, l1 = some a1085 ∧ (wp_X0_same h l1 (it h (100 + j1079) a670) (it h (100 + j1082) a670) (fun r1088 h1089 => Ex h h1089 → (∃ j1092, (l3 + 1) = nI j1092 ∧ j1092 < ln h1089 a670 ∧ (∃ j1095, (l3 + 2) = nI j1095 ∧ j1095 < ln h1089 a670 ∧ (∃ a1098, l2 = some a1098 ∧ (wp_X1_same h1089 l2 (it h1089 (100 + j1092) a670) (it h1089 (100 + j1095) a670) (fun r1101 h1102 => Ex h1089 h1102 → ((r1088 = r1101 → (wp_L_law_b707 (wp_L_law_b18 K m9) K h1102 l0 l1 l2 l3)) ∧ (¬ r1088 = r1101 → False))))))))))))) ∧ (¬ ((it h (100 + j674) a670) &&& 15) = 14 → ((((it h (100 + j674) a670) &&& 15) = 15 → (∃ j1106, (l3 + 1) = nI j1106 ∧ j1106 < ln h a670 ∧ (∃ j1109, (l3 + 2) = nI j1109 ∧ j1109 < ln h a670 ∧ (∃ j1112, (l3 + 3) = nI j1112 ∧ j1112 < ln h a670 ∧ (∃ j1115, (l3 + 4) = nI j1115 ∧ j1115 < ln h a670 ∧ (∃ a1118, l1 = some a1118 ∧ (wp_X0_fill h l1 (it h (100 + j1106) a670) (it h (100 + j1109) a670) (it h (100 + j1112) a670) (it h (100 + j1115) a670) (fun r1121 h1122 => Ex h h1122 → (∃ j1125, (l3 + 1) = nI j1125 ∧ j1125 < ln h1122 a670 ∧ (∃ j1128, (l3 + 2) = nI j1128 ∧ j1128 < ln h1122 a670 ∧ (∃ j1131, (l3 + 3) = nI j1131 ∧ j1131 < ln h1122 a670 ∧ (∃ j1134, (l3 + 4) = nI j1134 ∧ j1134 < ln h1122 a670 ∧ (∃ a1137, l2 = some a1137 ∧ (wp_X1_fill h1122 l2 (it h1122 (100 + j1125) a670) (it h1122 (100 + j1128) a670) (it h1122 (100 + j1131) a670) (it h1122 (100 + j1134) a670) (fun r1140 h1141 => Ex h1122 h1141 → ((r1121 = r1140 → (wp_L_law_b707 (wp_L_law_b18 K m9) K h1141 l0 l1 l2 l3)) ∧ (¬ r1121 = r1140 → False))))))))))))))))) ∧ (¬ ((it h (100 + j674) a670) &&& 15) = 15 → (wp_L_law_b707 (wp_L_law_b18 K m9) K h l0 l1 l2 l3))))))))))))))))))))))))))))))))))))))
set_option maxHeartbeats 4000000 in
theorem wk_L_law_b18 {X : Fx} {K : Int32 → Hp → Prop} (C : Cx X cL_law "HashHallLaw" 4 40) (kR : ∀ (h : Hp) (lv : List (Option TV)), Gd X h 714 lv [vI 1]) : ∀ (n : Nat) (h : Hp) (l0 : Option Nat) (l1 : Option Nat) (l2 : Option Nat) (l3 : Int32), wp_L_law_b18 K n h l0 l1 l2 l3 → Gd X h 18 [some (vR [61] l0), some (vR [1] l1), some (vR [14] l2), some (vI l3)] [] := by
  intro n
  induction n with
  | zero => intro h l0 l1 l2 l3 w; exact w.elim
  | succ n ih =>
    intro h l0 l1 l2 l3 w
    unfold wp_L_law_b18 at w
    refine g_iload_n 19 rfl C dL_law_18 rfl ?_
    refine g_aload_n 20 rfl C dL_law_19 rfl ?_
    obtain ⟨a670, e671, w⟩ := w
    refine g_slen 21 rfl C dL_law_20 e671 (fun u672 => ?_)
    have w := w u672
    refine g_iconst 22 rfl C dL_law_21 5 rfl ?_
    refine g_isub 23 rfl C dL_law_22 ?_
    refine g_icmp_gt 26 713 rfl C dL_law_23 rfl (fun u673 => ?_) (fun u673 => ?_)
    · have w := w.1 u673
      refine g_iconst 714 rfl C dL_law_713 1 rfl ?_
      exact kR _ _
    · have w := w.2 u673
      refine g_aload_n 27 rfl C dL_law_26 rfl ?_
      refine g_iload_n 28 rfl C dL_law_27 rfl ?_
      obtain ⟨j674, e675, e676, w⟩ := w
      refine g_sld 29 rfl C dL_law_28 e671 e675 e676 ?_
      refine g_bipush 31 rfl C dL_law_29 15 (by decide) ?_
      refine g_iand 32 rfl C dL_law_31 ?_
      SWITCH ((it h (100 + j674) a670) &&& 15)
      by_cases q0_ : XX = 0
      · have w := w.1 q0_
        refine g_tableIn 112 C dL_law_32 (by rw [q0_]; decide) (by rw [q0_]; decide) (by rw [q0_]; rfl) rfl ?_
        refine g_aload_n 113 rfl C dL_law_112 rfl ?_
        refine g_aload_n 114 rfl C dL_law_113 rfl ?_
        refine g_iload_n 115 rfl C dL_law_114 rfl ?_
        refine g_iconst 116 rfl C dL_law_115 1 rfl ?_
        refine g_iadd 117 rfl C dL_law_116 ?_
        obtain ⟨j677, e678, e679, w⟩ := w
        refine g_sld 118 rfl C dL_law_117 e671 e678 e679 ?_
        refine g_aload_n 119 rfl C dL_law_118 rfl ?_
        refine g_iload_n 120 rfl C dL_law_119 rfl ?_
        refine g_iconst 121 rfl C dL_law_120 2 rfl ?_
        refine g_iadd 122 rfl C dL_law_121 ?_
        obtain ⟨j680, e681, e682, w⟩ := w
        refine g_sld 123 rfl C dL_law_122 e671 e681 e682 ?_
        refine g_aload_n 124 rfl C dL_law_123 rfl ?_
        refine g_iload_n 125 rfl C dL_law_124 rfl ?_
        refine g_iconst 126 rfl C dL_law_125 3 rfl ?_
        refine g_iadd 127 rfl C dL_law_126 ?_
        obtain ⟨j683, e684, e685, w⟩ := w
        refine g_sld 128 rfl C dL_law_127 e671 e684 e685 ?_
        obtain ⟨a686, e687, w⟩ := w
        refine g_callV (As := [vI _, vI _, vI _]) (T := [1]) (st := []) "HashHall" 131 rfl C dL_law_128 q154 q155 q156 q9 q157 rfl okn_a6e1a0 (by decide) (by decide) (Nat.le_of_ble_eq_true rfl) e687 (fun q => tC rfl q) rfl (ct_X0_put C.glob w) (fun r0 h690 p691 x692 _ => ?_)
        obtain ⟨r689, rfl, w⟩ := p691
        have w := w x692
        change Gd _ _ _ _ (vL r689 :: [])
        refine g_aload_n 132 rfl C dL_law_131 rfl ?_
        refine g_aload_n 133 rfl C dL_law_132 rfl ?_
        refine g_iload_n 134 rfl C dL_law_133 rfl ?_
        refine g_iconst 135 rfl C dL_law_134 1 rfl ?_
        refine g_iadd 136 rfl C dL_law_135 ?_
        obtain ⟨j693, e694, e695, w⟩ := w
        refine g_sld 137 rfl C dL_law_136 e671 e694 e695 ?_
        refine g_aload_n 138 rfl C dL_law_137 rfl ?_
        refine g_iload_n 139 rfl C dL_law_138 rfl ?_
        refine g_iconst 140 rfl C dL_law_139 2 rfl ?_
        refine g_iadd 141 rfl C dL_law_140 ?_
        obtain ⟨j696, e697, e698, w⟩ := w
        refine g_sld 142 rfl C dL_law_141 e671 e697 e698 ?_
        refine g_aload_n 143 rfl C dL_law_142 rfl ?_
        refine g_iload_n 144 rfl C dL_law_143 rfl ?_
        refine g_iconst 145 rfl C dL_law_144 3 rfl ?_
        refine g_iadd 146 rfl C dL_law_145 ?_
        obtain ⟨j699, e700, e701, w⟩ := w
        refine g_sld 147 rfl C dL_law_146 e671 e700 e701 ?_
        obtain ⟨a702, e703, w⟩ := w
        refine g_callV (As := [vI _, vI _, vI _]) (T := [14]) (st := [vL _]) "HashHallModel" 150 rfl C dL_law_147 q1153 q1154 q1155 q16 q1156 rfl okn_f555d9 (by decide) (by decide) (Nat.le_of_ble_eq_true rfl) e703 (fun q => tC rfl q) rfl (ct_X1_put C.glob w) (fun r0 h706 p707 x708 _ => ?_)
        obtain ⟨r705, rfl, w⟩ := p707
        have w := w x708
        change Gd _ _ _ _ (vL r705 :: [vL _])
        refine g_lcmp 151 rfl C dL_law_150 ?_
        refine g_if_eq 154 707 rfl C dL_law_151 rfl (fun u709 => ?_) (fun u709 => ?_)
        · have w := w.1 u709
          refine g_sub [some none, some none, some none, some none] [] rfl rfl ?_
          exact wk_L_law_b707 C kR ih _ _ _ _ _ w
        · have w := w.2 u709
          refine g_iconst 155 rfl C dL_law_154 0 rfl ?_
          exact w.elim
      · have w := w.2 q0_
        by_cases q1_ : XX = 1
        · have w := w.1 q1_
          refine g_tableIn 156 C dL_law_32 (by rw [q1_]; decide) (by rw [q1_]; decide) (by rw [q1_]; rfl) rfl ?_
          refine g_aload_n 157 rfl C dL_law_156 rfl ?_
          refine g_aload_n 158 rfl C dL_law_157 rfl ?_
          refine g_iload_n 159 rfl C dL_law_158 rfl ?_
          refine g_iconst 160 rfl C dL_law_159 1 rfl ?_
          refine g_iadd 161 rfl C dL_law_160 ?_
          obtain ⟨j710, e711, e712, w⟩ := w
          refine g_sld 162 rfl C dL_law_161 e671 e711 e712 ?_
          refine g_aload_n 163 rfl C dL_law_162 rfl ?_
          refine g_iload_n 164 rfl C dL_law_163 rfl ?_
          refine g_iconst 165 rfl C dL_law_164 2 rfl ?_
          refine g_iadd 166 rfl C dL_law_165 ?_
          obtain ⟨j713, e714, e715, w⟩ := w
          refine g_sld 167 rfl C dL_law_166 e671 e714 e715 ?_
          refine g_aload_n 168 rfl C dL_law_167 rfl ?_
          refine g_iload_n 169 rfl C dL_law_168 rfl ?_
          refine g_iconst 170 rfl C dL_law_169 3 rfl ?_
          refine g_iadd 171 rfl C dL_law_170 ?_
          obtain ⟨j716, e717, e718, w⟩ := w
          refine g_sld 172 rfl C dL_law_171 e671 e717 e718 ?_
          obtain ⟨a719, e720, w⟩ := w
          refine g_callV (As := [vI _, vI _, vI _]) (T := [1]) (st := []) "HashHall" 175 rfl C dL_law_172 q488 q489 q490 q9 q491 rfl okn_58a83e (by decide) (by decide) (Nat.le_of_ble_eq_true rfl) e720 (fun q => tC rfl q) rfl (ct_X0_add C.glob w) (fun r0 h723 p724 x725 _ => ?_)
          obtain ⟨r722, rfl, w⟩ := p724
          have w := w x725
          change Gd _ _ _ _ (vL r722 :: [])
          refine g_aload_n 176 rfl C dL_law_175 rfl ?_
          refine g_aload_n 177 rfl C dL_law_176 rfl ?_
          refine g_iload_n 178 rfl C dL_law_177 rfl ?_
          refine g_iconst 179 rfl C dL_law_178 1 rfl ?_
          refine g_iadd 180 rfl C dL_law_179 ?_
          obtain ⟨j726, e727, e728, w⟩ := w
          refine g_sld 181 rfl C dL_law_180 e671 e727 e728 ?_
          refine g_aload_n 182 rfl C dL_law_181 rfl ?_
          refine g_iload_n 183 rfl C dL_law_182 rfl ?_
          refine g_iconst 184 rfl C dL_law_183 2 rfl ?_
          refine g_iadd 185 rfl C dL_law_184 ?_
          obtain ⟨j729, e730, e731, w⟩ := w
          refine g_sld 186 rfl C dL_law_185 e671 e730 e731 ?_
          refine g_aload_n 187 rfl C dL_law_186 rfl ?_
          refine g_iload_n 188 rfl C dL_law_187 rfl ?_
          refine g_iconst 189 rfl C dL_law_188 3 rfl ?_
          refine g_iadd 190 rfl C dL_law_189 ?_
          obtain ⟨j732, e733, e734, w⟩ := w
          refine g_sld 191 rfl C dL_law_190 e671 e733 e734 ?_
          obtain ⟨a735, e736, w⟩ := w
          refine g_callV (As := [vI _, vI _, vI _]) (T := [14]) (st := [vL _]) "HashHallModel" 194 rfl C dL_law_191 q1211 q1212 q1213 q16 q1214 rfl okn_e57f0f (by decide) (by decide) (Nat.le_of_ble_eq_true rfl) e736 (fun q => tC rfl q) rfl (ct_X1_add C.glob w) (fun r0 h739 p740 x741 _ => ?_)
          obtain ⟨r738, rfl, w⟩ := p740
          have w := w x741
          change Gd _ _ _ _ (vL r738 :: [vL _])
          refine g_lcmp 195 rfl C dL_law_194 ?_
          refine g_if_eq 198 707 rfl C dL_law_195 rfl (fun u742 => ?_) (fun u742 => ?_)
          · have w := w.1 u742
            refine g_sub [some none, some none, some none, some none] [] rfl rfl ?_
            exact wk_L_law_b707 C kR ih _ _ _ _ _ w
          · have w := w.2 u742
            refine g_iconst 199 rfl C dL_law_198 0 rfl ?_
            exact w.elim
        · have w := w.2 q1_
          by_cases q2_ : XX = 2
          · have w := w.1 q2_
            refine g_tableIn 200 C dL_law_32 (by rw [q2_]; decide) (by rw [q2_]; decide) (by rw [q2_]; rfl) rfl ?_
            refine g_aload_n 201 rfl C dL_law_200 rfl ?_
            refine g_aload_n 202 rfl C dL_law_201 rfl ?_
            refine g_iload_n 203 rfl C dL_law_202 rfl ?_
            refine g_iconst 204 rfl C dL_law_203 1 rfl ?_
            refine g_iadd 205 rfl C dL_law_204 ?_
            obtain ⟨j743, e744, e745, w⟩ := w
            refine g_sld 206 rfl C dL_law_205 e671 e744 e745 ?_
            refine g_aload_n 207 rfl C dL_law_206 rfl ?_
            refine g_iload_n 208 rfl C dL_law_207 rfl ?_
            refine g_iconst 209 rfl C dL_law_208 2 rfl ?_
            refine g_iadd 210 rfl C dL_law_209 ?_
            obtain ⟨j746, e747, e748, w⟩ := w
            refine g_sld 211 rfl C dL_law_210 e671 e747 e748 ?_
            obtain ⟨a749, e750, w⟩ := w
            refine g_callV (As := [vI _, vI _]) (T := [1]) (st := []) "HashHall" 214 rfl C dL_law_211 q498 q499 q500 q9 q501 rfl okn_8c66a1 (by decide) (by decide) (Nat.le_of_ble_eq_true rfl) e750 (fun q => tC rfl q) rfl (ct_X0_get C.glob w) (fun r0 h753 p754 x755 _ => ?_)
            obtain ⟨r752, rfl, w⟩ := p754
            have w := w x755
            change Gd _ _ _ _ (vL r752 :: [])
            refine g_aload_n 215 rfl C dL_law_214 rfl ?_
            refine g_aload_n 216 rfl C dL_law_215 rfl ?_
            refine g_iload_n 217 rfl C dL_law_216 rfl ?_
            refine g_iconst 218 rfl C dL_law_217 1 rfl ?_
            refine g_iadd 219 rfl C dL_law_218 ?_
            obtain ⟨j756, e757, e758, w⟩ := w
            refine g_sld 220 rfl C dL_law_219 e671 e757 e758 ?_
            refine g_aload_n 221 rfl C dL_law_220 rfl ?_
            refine g_iload_n 222 rfl C dL_law_221 rfl ?_
            refine g_iconst 223 rfl C dL_law_222 2 rfl ?_
            refine g_iadd 224 rfl C dL_law_223 ?_
            obtain ⟨j759, e760, e761, w⟩ := w
            refine g_sld 225 rfl C dL_law_224 e671 e760 e761 ?_
            obtain ⟨a762, e763, w⟩ := w
            refine g_callV (As := [vI _, vI _]) (T := [14]) (st := [vL _]) "HashHallModel" 228 rfl C dL_law_225 q1215 q1216 q1217 q16 q1218 rfl okn_86b887 (by decide) (by decide) (Nat.le_of_ble_eq_true rfl) e763 (fun q => tC rfl q) rfl (ct_X1_get C.glob w) (fun r0 h766 p767 x768 _ => ?_)
            obtain ⟨r765, rfl, w⟩ := p767
            have w := w x768
            change Gd _ _ _ _ (vL r765 :: [vL _])
            refine g_lcmp 229 rfl C dL_law_228 ?_
            refine g_if_eq 232 707 rfl C dL_law_229 rfl (fun u769 => ?_) (fun u769 => ?_)
            · have w := w.1 u769
              refine g_sub [some none, some none, some none, some none] [] rfl rfl ?_
              exact wk_L_law_b707 C kR ih _ _ _ _ _ w
            · have w := w.2 u769
              refine g_iconst 233 rfl C dL_law_232 0 rfl ?_
              exact w.elim
          · have w := w.2 q2_
            by_cases q3_ : XX = 3
            · have w := w.1 q3_
              refine g_tableIn 234 C dL_law_32 (by rw [q3_]; decide) (by rw [q3_]; decide) (by rw [q3_]; rfl) rfl ?_
              refine g_aload_n 235 rfl C dL_law_234 rfl ?_
              refine g_aload_n 236 rfl C dL_law_235 rfl ?_
              refine g_iload_n 237 rfl C dL_law_236 rfl ?_
              refine g_iconst 238 rfl C dL_law_237 1 rfl ?_
              refine g_iadd 239 rfl C dL_law_238 ?_
              obtain ⟨j770, e771, e772, w⟩ := w
              refine g_sld 240 rfl C dL_law_239 e671 e771 e772 ?_
              refine g_aload_n 241 rfl C dL_law_240 rfl ?_
              refine g_iload_n 242 rfl C dL_law_241 rfl ?_
              refine g_iconst 243 rfl C dL_law_242 2 rfl ?_
              refine g_iadd 244 rfl C dL_law_243 ?_
              obtain ⟨j773, e774, e775, w⟩ := w
              refine g_sld 245 rfl C dL_law_244 e671 e774 e775 ?_
              refine g_aload_n 246 rfl C dL_law_245 rfl ?_
              refine g_iload_n 247 rfl C dL_law_246 rfl ?_
              refine g_iconst 248 rfl C dL_law_247 3 rfl ?_
              refine g_iadd 249 rfl C dL_law_248 ?_
              obtain ⟨j776, e777, e778, w⟩ := w
              refine g_sld 250 rfl C dL_law_249 e671 e777 e778 ?_
              obtain ⟨a779, e780, w⟩ := w
              refine g_callV (As := [vI _, vI _, vI _]) (T := [1]) (st := []) "HashHall" 253 rfl C dL_law_250 q522 q523 q524 q9 q525 rfl okn_fd4325 (by decide) (by decide) (Nat.le_of_ble_eq_true rfl) e780 (fun q => tC rfl q) rfl (ct_X0_give C.glob w) (fun r0 h783 p784 x785 _ => ?_)
              obtain ⟨r782, rfl, w⟩ := p784
              have w := w x785
              change Gd _ _ _ _ (vL r782 :: [])
              refine g_aload_n 254 rfl C dL_law_253 rfl ?_
              refine g_aload_n 255 rfl C dL_law_254 rfl ?_
              refine g_iload_n 256 rfl C dL_law_255 rfl ?_
              refine g_iconst 257 rfl C dL_law_256 1 rfl ?_
              refine g_iadd 258 rfl C dL_law_257 ?_
              obtain ⟨j786, e787, e788, w⟩ := w
              refine g_sld 259 rfl C dL_law_258 e671 e787 e788 ?_
              refine g_aload_n 260 rfl C dL_law_259 rfl ?_
              refine g_iload_n 261 rfl C dL_law_260 rfl ?_
              refine g_iconst 262 rfl C dL_law_261 2 rfl ?_
              refine g_iadd 263 rfl C dL_law_262 ?_
              obtain ⟨j789, e790, e791, w⟩ := w
              refine g_sld 264 rfl C dL_law_263 e671 e790 e791 ?_
              refine g_aload_n 265 rfl C dL_law_264 rfl ?_
              refine g_iload_n 266 rfl C dL_law_265 rfl ?_
              refine g_iconst 267 rfl C dL_law_266 3 rfl ?_
              refine g_iadd 268 rfl C dL_law_267 ?_
              obtain ⟨j792, e793, e794, w⟩ := w
              refine g_sld 269 rfl C dL_law_268 e671 e793 e794 ?_
              obtain ⟨a795, e796, w⟩ := w
              refine g_callV (As := [vI _, vI _, vI _]) (T := [14]) (st := [vL _]) "HashHallModel" 272 rfl C dL_law_269 q1219 q1220 q1221 q16 q1222 rfl okn_f66860 (by decide) (by decide) (Nat.le_of_ble_eq_true rfl) e796 (fun q => tC rfl q) rfl (ct_X1_give C.glob w) (fun r0 h799 p800 x801 _ => ?_)
              obtain ⟨r798, rfl, w⟩ := p800
              have w := w x801
              change Gd _ _ _ _ (vL r798 :: [vL _])
              refine g_lcmp 273 rfl C dL_law_272 ?_
              refine g_if_eq 276 707 rfl C dL_law_273 rfl (fun u802 => ?_) (fun u802 => ?_)
              · have w := w.1 u802
                refine g_sub [some none, some none, some none, some none] [] rfl rfl ?_
                exact wk_L_law_b707 C kR ih _ _ _ _ _ w
              · have w := w.2 u802
                refine g_iconst 277 rfl C dL_law_276 0 rfl ?_
                exact w.elim
            · have w := w.2 q3_
              by_cases q4_ : XX = 4
              · have w := w.1 q4_
                refine g_tableIn 278 C dL_law_32 (by rw [q4_]; decide) (by rw [q4_]; decide) (by rw [q4_]; rfl) rfl ?_
                refine g_aload_n 279 rfl C dL_law_278 rfl ?_
                refine g_aload_n 280 rfl C dL_law_279 rfl ?_
                refine g_iload_n 281 rfl C dL_law_280 rfl ?_
                refine g_iconst 282 rfl C dL_law_281 1 rfl ?_
                refine g_iadd 283 rfl C dL_law_282 ?_
                obtain ⟨j803, e804, e805, w⟩ := w
                refine g_sld 284 rfl C dL_law_283 e671 e804 e805 ?_
                refine g_aload_n 285 rfl C dL_law_284 rfl ?_
                refine g_iload_n 286 rfl C dL_law_285 rfl ?_
                refine g_iconst 287 rfl C dL_law_286 2 rfl ?_
                refine g_iadd 288 rfl C dL_law_287 ?_
                obtain ⟨j806, e807, e808, w⟩ := w
                refine g_sld 289 rfl C dL_law_288 e671 e807 e808 ?_
                obtain ⟨a809, e810, w⟩ := w
                refine g_callV (As := [vI _, vI _]) (T := [1]) (st := []) "HashHall" 292 rfl C dL_law_289 q534 q535 q536 q9 q537 rfl okn_7ad2d8 (by decide) (by decide) (Nat.le_of_ble_eq_true rfl) e810 (fun q => tC rfl q) rfl (ct_X0_remove C.glob w) (fun r0 h813 p814 x815 _ => ?_)
                obtain ⟨r812, rfl, w⟩ := p814
                have w := w x815
                change Gd _ _ _ _ (vL r812 :: [])
                refine g_aload_n 293 rfl C dL_law_292 rfl ?_
                refine g_aload_n 294 rfl C dL_law_293 rfl ?_
                refine g_iload_n 295 rfl C dL_law_294 rfl ?_
                refine g_iconst 296 rfl C dL_law_295 1 rfl ?_
                refine g_iadd 297 rfl C dL_law_296 ?_
                obtain ⟨j816, e817, e818, w⟩ := w
                refine g_sld 298 rfl C dL_law_297 e671 e817 e818 ?_
                refine g_aload_n 299 rfl C dL_law_298 rfl ?_
                refine g_iload_n 300 rfl C dL_law_299 rfl ?_
                refine g_iconst 301 rfl C dL_law_300 2 rfl ?_
                refine g_iadd 302 rfl C dL_law_301 ?_
                obtain ⟨j819, e820, e821, w⟩ := w
                refine g_sld 303 rfl C dL_law_302 e671 e820 e821 ?_
                obtain ⟨a822, e823, w⟩ := w
                refine g_callV (As := [vI _, vI _]) (T := [14]) (st := [vL _]) "HashHallModel" 306 rfl C dL_law_303 q1224 q1225 q1226 q16 q1227 rfl okn_cb2629 (by decide) (by decide) (Nat.le_of_ble_eq_true rfl) e823 (fun q => tC rfl q) rfl (ct_X1_remove C.glob w) (fun r0 h826 p827 x828 _ => ?_)
                obtain ⟨r825, rfl, w⟩ := p827
                have w := w x828
                change Gd _ _ _ _ (vL r825 :: [vL _])
                refine g_lcmp 307 rfl C dL_law_306 ?_
                refine g_if_eq 310 707 rfl C dL_law_307 rfl (fun u829 => ?_) (fun u829 => ?_)
                · have w := w.1 u829
                  refine g_sub [some none, some none, some none, some none] [] rfl rfl ?_
                  exact wk_L_law_b707 C kR ih _ _ _ _ _ w
                · have w := w.2 u829
                  refine g_iconst 311 rfl C dL_law_310 0 rfl ?_
                  exact w.elim
              · have w := w.2 q4_
                by_cases q5_ : XX = 5
                · have w := w.1 q5_
                  refine g_tableIn 312 C dL_law_32 (by rw [q5_]; decide) (by rw [q5_]; decide) (by rw [q5_]; rfl) rfl ?_
                  refine g_aload_n 313 rfl C dL_law_312 rfl ?_
                  refine g_aload_n 314 rfl C dL_law_313 rfl ?_
                  refine g_iload_n 315 rfl C dL_law_314 rfl ?_
                  refine g_iconst 316 rfl C dL_law_315 1 rfl ?_
                  refine g_iadd 317 rfl C dL_law_316 ?_
                  obtain ⟨j830, e831, e832, w⟩ := w
                  refine g_sld 318 rfl C dL_law_317 e671 e831 e832 ?_
                  refine g_aload_n 319 rfl C dL_law_318 rfl ?_
                  refine g_iload_n 320 rfl C dL_law_319 rfl ?_
                  refine g_iconst 321 rfl C dL_law_320 2 rfl ?_
                  refine g_iadd 322 rfl C dL_law_321 ?_
                  obtain ⟨j833, e834, e835, w⟩ := w
                  refine g_sld 323 rfl C dL_law_322 e671 e834 e835 ?_
                  refine g_aload_n 324 rfl C dL_law_323 rfl ?_
                  refine g_iload_n 325 rfl C dL_law_324 rfl ?_
                  refine g_iconst 326 rfl C dL_law_325 3 rfl ?_
                  refine g_iadd 327 rfl C dL_law_326 ?_
                  obtain ⟨j836, e837, e838, w⟩ := w
                  refine g_sld 328 rfl C dL_law_327 e671 e837 e838 ?_
                  obtain ⟨a839, e840, w⟩ := w
                  refine g_callV (As := [vI _, vI _, vI _]) (T := [1]) (st := []) "HashHall" 331 rfl C dL_law_328 q565 q566 q567 q9 q568 rfl okn_54a5ec (by decide) (by decide) (Nat.le_of_ble_eq_true rfl) e840 (fun q => tC rfl q) rfl (ct_X0_take C.glob w) (fun r0 h843 p844 x845 _ => ?_)
                  obtain ⟨r842, rfl, w⟩ := p844
                  have w := w x845
                  change Gd _ _ _ _ (vI r842 :: [])
                  refine g_aload_n 332 rfl C dL_law_331 rfl ?_
                  refine g_aload_n 333 rfl C dL_law_332 rfl ?_
                  refine g_iload_n 334 rfl C dL_law_333 rfl ?_
                  refine g_iconst 335 rfl C dL_law_334 1 rfl ?_
                  refine g_iadd 336 rfl C dL_law_335 ?_
                  obtain ⟨j846, e847, e848, w⟩ := w
                  refine g_sld 337 rfl C dL_law_336 e671 e847 e848 ?_
                  refine g_aload_n 338 rfl C dL_law_337 rfl ?_
                  refine g_iload_n 339 rfl C dL_law_338 rfl ?_
                  refine g_iconst 340 rfl C dL_law_339 2 rfl ?_
                  refine g_iadd 341 rfl C dL_law_340 ?_
                  obtain ⟨j849, e850, e851, w⟩ := w
                  refine g_sld 342 rfl C dL_law_341 e671 e850 e851 ?_
                  refine g_aload_n 343 rfl C dL_law_342 rfl ?_
                  refine g_iload_n 344 rfl C dL_law_343 rfl ?_
                  refine g_iconst 345 rfl C dL_law_344 3 rfl ?_
                  refine g_iadd 346 rfl C dL_law_345 ?_
                  obtain ⟨j852, e853, e854, w⟩ := w
                  refine g_sld 347 rfl C dL_law_346 e671 e853 e854 ?_
                  obtain ⟨a855, e856, w⟩ := w
                  refine g_callV (As := [vI _, vI _, vI _]) (T := [14]) (st := [vI _]) "HashHallModel" 350 rfl C dL_law_347 q1232 q1233 q1234 q16 q1235 rfl okn_32e3af (by decide) (by decide) (Nat.le_of_ble_eq_true rfl) e856 (fun q => tC rfl q) rfl (ct_X1_take C.glob w) (fun r0 h859 p860 x861 _ => ?_)
                  obtain ⟨r858, rfl, w⟩ := p860
                  have w := w x861
                  change Gd _ _ _ _ (vI r858 :: [vI _])
                  refine g_icmp_eq 353 707 rfl C dL_law_350 rfl (fun u862 => ?_) (fun u862 => ?_)
                  · have w := w.1 u862
                    refine g_sub [some none, some none, some none, some none] [] rfl rfl ?_
                    exact wk_L_law_b707 C kR ih _ _ _ _ _ w
                  · have w := w.2 u862
                    refine g_iconst 354 rfl C dL_law_353 0 rfl ?_
                    exact w.elim
                · have w := w.2 q5_
                  by_cases q6_ : XX = 6
                  · have w := w.1 q6_
                    refine g_tableIn 355 C dL_law_32 (by rw [q6_]; decide) (by rw [q6_]; decide) (by rw [q6_]; rfl) rfl ?_
                    refine g_aload_n 356 rfl C dL_law_355 rfl ?_
                    refine g_aload_n 357 rfl C dL_law_356 rfl ?_
                    refine g_iload_n 358 rfl C dL_law_357 rfl ?_
                    refine g_iconst 359 rfl C dL_law_358 1 rfl ?_
                    refine g_iadd 360 rfl C dL_law_359 ?_
                    obtain ⟨j863, e864, e865, w⟩ := w
                    refine g_sld 361 rfl C dL_law_360 e671 e864 e865 ?_
                    refine g_aload_n 362 rfl C dL_law_361 rfl ?_
                    refine g_iload_n 363 rfl C dL_law_362 rfl ?_
                    refine g_iconst 364 rfl C dL_law_363 2 rfl ?_
                    refine g_iadd 365 rfl C dL_law_364 ?_
                    obtain ⟨j866, e867, e868, w⟩ := w
                    refine g_sld 366 rfl C dL_law_365 e671 e867 e868 ?_
                    refine g_aload_n 367 rfl C dL_law_366 rfl ?_
                    refine g_iload_n 368 rfl C dL_law_367 rfl ?_
                    refine g_iconst 369 rfl C dL_law_368 3 rfl ?_
                    refine g_iadd 370 rfl C dL_law_369 ?_
                    obtain ⟨j869, e870, e871, w⟩ := w
                    refine g_sld 371 rfl C dL_law_370 e671 e870 e871 ?_
                    obtain ⟨a872, e873, w⟩ := w
                    refine g_callV (As := [vI _, vI _, vI _]) (T := [1]) (st := []) "HashHall" 374 rfl C dL_law_371 q575 q576 q577 q9 q578 rfl okn_b4a4c1 (by decide) (by decide) (Nat.le_of_ble_eq_true rfl) e873 (fun q => tC rfl q) rfl (ct_X0_has C.glob w) (fun r0 h876 p877 x878 _ => ?_)
                    obtain ⟨r875, rfl, w⟩ := p877
                    have w := w x878
                    change Gd _ _ _ _ (vI r875 :: [])
                    refine g_aload_n 375 rfl C dL_law_374 rfl ?_
                    refine g_aload_n 376 rfl C dL_law_375 rfl ?_
                    refine g_iload_n 377 rfl C dL_law_376 rfl ?_
                    refine g_iconst 378 rfl C dL_law_377 1 rfl ?_
                    refine g_iadd 379 rfl C dL_law_378 ?_
                    obtain ⟨j879, e880, e881, w⟩ := w
                    refine g_sld 380 rfl C dL_law_379 e671 e880 e881 ?_
                    refine g_aload_n 381 rfl C dL_law_380 rfl ?_
                    refine g_iload_n 382 rfl C dL_law_381 rfl ?_
                    refine g_iconst 383 rfl C dL_law_382 2 rfl ?_
                    refine g_iadd 384 rfl C dL_law_383 ?_
                    obtain ⟨j882, e883, e884, w⟩ := w
                    refine g_sld 385 rfl C dL_law_384 e671 e883 e884 ?_
                    refine g_aload_n 386 rfl C dL_law_385 rfl ?_
                    refine g_iload_n 387 rfl C dL_law_386 rfl ?_
                    refine g_iconst 388 rfl C dL_law_387 3 rfl ?_
                    refine g_iadd 389 rfl C dL_law_388 ?_
                    obtain ⟨j885, e886, e887, w⟩ := w
                    refine g_sld 390 rfl C dL_law_389 e671 e886 e887 ?_
                    obtain ⟨a888, e889, w⟩ := w
                    refine g_callV (As := [vI _, vI _, vI _]) (T := [14]) (st := [vI _]) "HashHallModel" 393 rfl C dL_law_390 q1236 q1237 q1238 q16 q1239 rfl okn_21dd89 (by decide) (by decide) (Nat.le_of_ble_eq_true rfl) e889 (fun q => tC rfl q) rfl (ct_X1_has C.glob w) (fun r0 h892 p893 x894 _ => ?_)
                    obtain ⟨r891, rfl, w⟩ := p893
                    have w := w x894
                    change Gd _ _ _ _ (vI r891 :: [vI _])
                    refine g_icmp_eq 396 707 rfl C dL_law_393 rfl (fun u895 => ?_) (fun u895 => ?_)
                    · have w := w.1 u895
                      refine g_sub [some none, some none, some none, some none] [] rfl rfl ?_
                      exact wk_L_law_b707 C kR ih _ _ _ _ _ w
                    · have w := w.2 u895
                      refine g_iconst 397 rfl C dL_law_396 0 rfl ?_
                      exact w.elim
                  · have w := w.2 q6_
                    by_cases q7_ : XX = 7
                    · have w := w.1 q7_
                      refine g_tableIn 398 C dL_law_32 (by rw [q7_]; decide) (by rw [q7_]; decide) (by rw [q7_]; rfl) rfl ?_
                      refine g_aload_n 399 rfl C dL_law_398 rfl ?_
                      refine g_aload_n 400 rfl C dL_law_399 rfl ?_
                      refine g_iload_n 401 rfl C dL_law_400 rfl ?_
                      refine g_iconst 402 rfl C dL_law_401 1 rfl ?_
                      refine g_iadd 403 rfl C dL_law_402 ?_
                      obtain ⟨j896, e897, e898, w⟩ := w
                      refine g_sld 404 rfl C dL_law_403 e671 e897 e898 ?_
                      obtain ⟨a899, e900, w⟩ := w
                      refine g_callV (As := [vI _]) (T := [1]) (st := []) "HashHall" 407 rfl C dL_law_404 q594 q595 q596 q9 q597 rfl okn_bcd9ac (by decide) (by decide) (Nat.le_of_ble_eq_true rfl) e900 (fun q => tC rfl q) rfl (ct_X0_size C.glob w) (fun r0 h903 p904 x905 _ => ?_)
                      obtain ⟨r902, rfl, w⟩ := p904
                      have w := w x905
                      change Gd _ _ _ _ (vI r902 :: [])
                      refine g_aload_n 408 rfl C dL_law_407 rfl ?_
                      refine g_aload_n 409 rfl C dL_law_408 rfl ?_
                      refine g_iload_n 410 rfl C dL_law_409 rfl ?_
                      refine g_iconst 411 rfl C dL_law_410 1 rfl ?_
                      refine g_iadd 412 rfl C dL_law_411 ?_
                      obtain ⟨j906, e907, e908, w⟩ := w
                      refine g_sld 413 rfl C dL_law_412 e671 e907 e908 ?_
                      obtain ⟨a909, e910, w⟩ := w
                      refine g_callV (As := [vI _]) (T := [14]) (st := [vI _]) "HashHallModel" 416 rfl C dL_law_413 q1240 q1241 q1242 q16 q1243 rfl okn_18d4eb (by decide) (by decide) (Nat.le_of_ble_eq_true rfl) e910 (fun q => tC rfl q) rfl (ct_X1_size C.glob w) (fun r0 h913 p914 x915 _ => ?_)
                      obtain ⟨r912, rfl, w⟩ := p914
                      have w := w x915
                      change Gd _ _ _ _ (vI r912 :: [vI _])
                      refine g_icmp_eq 419 707 rfl C dL_law_416 rfl (fun u916 => ?_) (fun u916 => ?_)
                      · have w := w.1 u916
                        refine g_sub [some none, some none, some none, some none] [] rfl rfl ?_
                        exact wk_L_law_b707 C kR ih _ _ _ _ _ w
                      · have w := w.2 u916
                        refine g_iconst 420 rfl C dL_law_419 0 rfl ?_
                        exact w.elim
                    · have w := w.2 q7_
                      by_cases q8_ : XX = 8
                      · have w := w.1 q8_
                        refine g_tableIn 421 C dL_law_32 (by rw [q8_]; decide) (by rw [q8_]; decide) (by rw [q8_]; rfl) rfl ?_
                        refine g_aload_n 422 rfl C dL_law_421 rfl ?_
                        refine g_aload_n 423 rfl C dL_law_422 rfl ?_
                        refine g_iload_n 424 rfl C dL_law_423 rfl ?_
                        refine g_iconst 425 rfl C dL_law_424 1 rfl ?_
                        refine g_iadd 426 rfl C dL_law_425 ?_
                        obtain ⟨j917, e918, e919, w⟩ := w
                        refine g_sld 427 rfl C dL_law_426 e671 e918 e919 ?_
                        obtain ⟨a920, e921, w⟩ := w
                        refine g_callV (As := [vI _]) (T := [1]) (st := []) "HashHall" 430 rfl C dL_law_427 q604 q605 q606 q9 q607 rfl okn_d1a225 (by decide) (by decide) (Nat.le_of_ble_eq_true rfl) e921 (fun q => tC rfl q) rfl (ct_X0_clear C.glob w) (fun r0 h924 p925 x926 _ => ?_)
                        obtain ⟨r923, rfl, w⟩ := p925
                        have w := w x926
                        change Gd _ _ _ _ (vI r923 :: [])
                        refine g_aload_n 431 rfl C dL_law_430 rfl ?_
                        refine g_aload_n 432 rfl C dL_law_431 rfl ?_
                        refine g_iload_n 433 rfl C dL_law_432 rfl ?_
                        refine g_iconst 434 rfl C dL_law_433 1 rfl ?_
                        refine g_iadd 435 rfl C dL_law_434 ?_
                        obtain ⟨j927, e928, e929, w⟩ := w
                        refine g_sld 436 rfl C dL_law_435 e671 e928 e929 ?_
                        obtain ⟨a930, e931, w⟩ := w
                        refine g_callV (As := [vI _]) (T := [14]) (st := [vI _]) "HashHallModel" 439 rfl C dL_law_436 q1244 q1245 q1246 q16 q1247 rfl okn_b753b2 (by decide) (by decide) (Nat.le_of_ble_eq_true rfl) e931 (fun q => tC rfl q) rfl (ct_X1_clear C.glob w) (fun r0 h934 p935 x936 _ => ?_)
                        obtain ⟨r933, rfl, w⟩ := p935
                        have w := w x936
                        change Gd _ _ _ _ (vI r933 :: [vI _])
                        refine g_icmp_eq 442 707 rfl C dL_law_439 rfl (fun u937 => ?_) (fun u937 => ?_)
                        · have w := w.1 u937
                          refine g_sub [some none, some none, some none, some none] [] rfl rfl ?_
                          exact wk_L_law_b707 C kR ih _ _ _ _ _ w
                        · have w := w.2 u937
                          refine g_iconst 443 rfl C dL_law_442 0 rfl ?_
                          exact w.elim
                      · have w := w.2 q8_
                        by_cases q9_ : XX = 9
                        · have w := w.1 q9_
                          refine g_tableIn 444 C dL_law_32 (by rw [q9_]; decide) (by rw [q9_]; decide) (by rw [q9_]; rfl) rfl ?_
                          refine g_aload_n 445 rfl C dL_law_444 rfl ?_
                          refine g_aload_n 446 rfl C dL_law_445 rfl ?_
                          refine g_iload_n 447 rfl C dL_law_446 rfl ?_
                          refine g_iconst 448 rfl C dL_law_447 1 rfl ?_
                          refine g_iadd 449 rfl C dL_law_448 ?_
                          obtain ⟨j938, e939, e940, w⟩ := w
                          refine g_sld 450 rfl C dL_law_449 e671 e939 e940 ?_
                          refine g_aload_n 451 rfl C dL_law_450 rfl ?_
                          refine g_iload_n 452 rfl C dL_law_451 rfl ?_
                          refine g_iconst 453 rfl C dL_law_452 2 rfl ?_
                          refine g_iadd 454 rfl C dL_law_453 ?_
                          obtain ⟨j941, e942, e943, w⟩ := w
                          refine g_sld 455 rfl C dL_law_454 e671 e942 e943 ?_
                          obtain ⟨a944, e945, w⟩ := w
                          refine g_callV (As := [vI _, vI _]) (T := [1]) (st := []) "HashHall" 458 rfl C dL_law_455 q617 q618 q619 q9 q620 rfl okn_2d9b0b (by decide) (by decide) (Nat.le_of_ble_eq_true rfl) e945 (fun q => tC rfl q) rfl (ct_X0_pour C.glob w) (fun r0 h948 p949 x950 _ => ?_)
                          obtain ⟨r947, rfl, w⟩ := p949
                          have w := w x950
                          change Gd _ _ _ _ (vI r947 :: [])
                          refine g_aload_n 459 rfl C dL_law_458 rfl ?_
                          refine g_aload_n 460 rfl C dL_law_459 rfl ?_
                          refine g_iload_n 461 rfl C dL_law_460 rfl ?_
                          refine g_iconst 462 rfl C dL_law_461 1 rfl ?_
                          refine g_iadd 463 rfl C dL_law_462 ?_
                          obtain ⟨j951, e952, e953, w⟩ := w
                          refine g_sld 464 rfl C dL_law_463 e671 e952 e953 ?_
                          refine g_aload_n 465 rfl C dL_law_464 rfl ?_
                          refine g_iload_n 466 rfl C dL_law_465 rfl ?_
                          refine g_iconst 467 rfl C dL_law_466 2 rfl ?_
                          refine g_iadd 468 rfl C dL_law_467 ?_
                          obtain ⟨j954, e955, e956, w⟩ := w
                          refine g_sld 469 rfl C dL_law_468 e671 e955 e956 ?_
                          obtain ⟨a957, e958, w⟩ := w
                          refine g_callV (As := [vI _, vI _]) (T := [14]) (st := [vI _]) "HashHallModel" 472 rfl C dL_law_469 q1252 q1253 q1254 q16 q1255 rfl okn_7bdede (by decide) (by decide) (Nat.le_of_ble_eq_true rfl) e958 (fun q => tC rfl q) rfl (ct_X1_pour C.glob w) (fun r0 h961 p962 x963 _ => ?_)
                          obtain ⟨r960, rfl, w⟩ := p962
                          have w := w x963
                          change Gd _ _ _ _ (vI r960 :: [vI _])
                          refine g_icmp_eq 475 707 rfl C dL_law_472 rfl (fun u964 => ?_) (fun u964 => ?_)
                          · have w := w.1 u964
                            refine g_sub [some none, some none, some none, some none] [] rfl rfl ?_
                            exact wk_L_law_b707 C kR ih _ _ _ _ _ w
                          · have w := w.2 u964
                            refine g_iconst 476 rfl C dL_law_475 0 rfl ?_
                            exact w.elim
                        · have w := w.2 q9_
                          by_cases q10_ : XX = 10
                          · have w := w.1 q10_
                            refine g_tableIn 477 C dL_law_32 (by rw [q10_]; decide) (by rw [q10_]; decide) (by rw [q10_]; rfl) rfl ?_
                            refine g_aload_n 478 rfl C dL_law_477 rfl ?_
                            refine g_aload_n 479 rfl C dL_law_478 rfl ?_
                            refine g_iload_n 480 rfl C dL_law_479 rfl ?_
                            refine g_iconst 481 rfl C dL_law_480 1 rfl ?_
                            refine g_iadd 482 rfl C dL_law_481 ?_
                            obtain ⟨j965, e966, e967, w⟩ := w
                            refine g_sld 483 rfl C dL_law_482 e671 e966 e967 ?_
                            refine g_aload_n 484 rfl C dL_law_483 rfl ?_
                            refine g_iload_n 485 rfl C dL_law_484 rfl ?_
                            refine g_iconst 486 rfl C dL_law_485 2 rfl ?_
                            refine g_iadd 487 rfl C dL_law_486 ?_
                            obtain ⟨j968, e969, e970, w⟩ := w
                            refine g_sld 488 rfl C dL_law_487 e671 e969 e970 ?_
                            refine g_aload_n 489 rfl C dL_law_488 rfl ?_
                            refine g_iload_n 490 rfl C dL_law_489 rfl ?_
                            refine g_iconst 491 rfl C dL_law_490 3 rfl ?_
                            refine g_iadd 492 rfl C dL_law_491 ?_
                            obtain ⟨j971, e972, e973, w⟩ := w
                            refine g_sld 493 rfl C dL_law_492 e671 e972 e973 ?_
                            obtain ⟨a974, e975, w⟩ := w
                            refine g_callV (As := [vI _, vI _, vI _]) (T := [1]) (st := []) "HashHall" 496 rfl C dL_law_493 q972 q973 q974 q9 q975 rfl okn_f4214e (by decide) (by decide) (Nat.le_of_ble_eq_true rfl) e975 (fun q => tC rfl q) rfl (ct_X0_entry C.glob w) (fun r0 h978 p979 x980 _ => ?_)
                            obtain ⟨r977, rfl, w⟩ := p979
                            have w := w x980
                            change Gd _ _ _ _ (vL r977 :: [])
                            refine g_aload_n 497 rfl C dL_law_496 rfl ?_
                            refine g_aload_n 498 rfl C dL_law_497 rfl ?_
                            refine g_iload_n 499 rfl C dL_law_498 rfl ?_
                            refine g_iconst 500 rfl C dL_law_499 1 rfl ?_
                            refine g_iadd 501 rfl C dL_law_500 ?_
                            obtain ⟨j981, e982, e983, w⟩ := w
                            refine g_sld 502 rfl C dL_law_501 e671 e982 e983 ?_
                            refine g_aload_n 503 rfl C dL_law_502 rfl ?_
                            refine g_iload_n 504 rfl C dL_law_503 rfl ?_
                            refine g_iconst 505 rfl C dL_law_504 2 rfl ?_
                            refine g_iadd 506 rfl C dL_law_505 ?_
                            obtain ⟨j984, e985, e986, w⟩ := w
                            refine g_sld 507 rfl C dL_law_506 e671 e985 e986 ?_
                            refine g_aload_n 508 rfl C dL_law_507 rfl ?_
                            refine g_iload_n 509 rfl C dL_law_508 rfl ?_
                            refine g_iconst 510 rfl C dL_law_509 3 rfl ?_
                            refine g_iadd 511 rfl C dL_law_510 ?_
                            obtain ⟨j987, e988, e989, w⟩ := w
                            refine g_sld 512 rfl C dL_law_511 e671 e988 e989 ?_
                            obtain ⟨a990, e991, w⟩ := w
                            refine g_callV (As := [vI _, vI _, vI _]) (T := [14]) (st := [vL _]) "HashHallModel" 515 rfl C dL_law_512 q1257 q1258 q1259 q16 q1260 rfl okn_9b9fdd (by decide) (by decide) (Nat.le_of_ble_eq_true rfl) e991 (fun q => tC rfl q) rfl (ct_X1_entry C.glob w) (fun r0 h994 p995 x996 _ => ?_)
                            obtain ⟨r993, rfl, w⟩ := p995
                            have w := w x996
                            change Gd _ _ _ _ (vL r993 :: [vL _])
                            refine g_lcmp 516 rfl C dL_law_515 ?_
                            refine g_if_eq 519 707 rfl C dL_law_516 rfl (fun u997 => ?_) (fun u997 => ?_)
                            · have w := w.1 u997
                              refine g_sub [some none, some none, some none, some none] [] rfl rfl ?_
                              exact wk_L_law_b707 C kR ih _ _ _ _ _ w
                            · have w := w.2 u997
                              refine g_iconst 520 rfl C dL_law_519 0 rfl ?_
                              exact w.elim
                          · have w := w.2 q10_
                            by_cases q11_ : XX = 11
                            · have w := w.1 q11_
                              refine g_tableIn 521 C dL_law_32 (by rw [q11_]; decide) (by rw [q11_]; decide) (by rw [q11_]; rfl) rfl ?_
                              refine g_aload_n 522 rfl C dL_law_521 rfl ?_
                              refine g_aload_n 523 rfl C dL_law_522 rfl ?_
                              refine g_iload_n 524 rfl C dL_law_523 rfl ?_
                              refine g_iconst 525 rfl C dL_law_524 1 rfl ?_
                              refine g_iadd 526 rfl C dL_law_525 ?_
                              obtain ⟨j998, e999, e1000, w⟩ := w
                              refine g_sld 527 rfl C dL_law_526 e671 e999 e1000 ?_
                              obtain ⟨a1001, e1002, w⟩ := w
                              refine g_callV (As := [vI _]) (T := [1]) (st := []) "HashHall" 530 rfl C dL_law_527 q982 q983 q984 q9 q985 rfl okn_3bb46b (by decide) (by decide) (Nat.le_of_ble_eq_true rfl) e1002 (fun q => tC rfl q) rfl (ct_X0_sum C.glob w) (fun r0 h1005 p1006 x1007 _ => ?_)
                              obtain ⟨r1004, rfl, w⟩ := p1006
                              have w := w x1007
                              change Gd _ _ _ _ (vL r1004 :: [])
                              refine g_aload_n 531 rfl C dL_law_530 rfl ?_
                              refine g_aload_n 532 rfl C dL_law_531 rfl ?_
                              refine g_iload_n 533 rfl C dL_law_532 rfl ?_
                              refine g_iconst 534 rfl C dL_law_533 1 rfl ?_
                              refine g_iadd 535 rfl C dL_law_534 ?_
                              obtain ⟨j1008, e1009, e1010, w⟩ := w
                              refine g_sld 536 rfl C dL_law_535 e671 e1009 e1010 ?_
                              obtain ⟨a1011, e1012, w⟩ := w
                              refine g_callV (As := [vI _]) (T := [14]) (st := [vL _]) "HashHallModel" 539 rfl C dL_law_536 q1261 q1262 q1263 q16 q1264 rfl okn_785f77 (by decide) (by decide) (Nat.le_of_ble_eq_true rfl) e1012 (fun q => tC rfl q) rfl (ct_X1_sum C.glob w) (fun r0 h1015 p1016 x1017 _ => ?_)
                              obtain ⟨r1014, rfl, w⟩ := p1016
                              have w := w x1017
                              change Gd _ _ _ _ (vL r1014 :: [vL _])
                              refine g_lcmp 540 rfl C dL_law_539 ?_
                              refine g_if_eq 543 707 rfl C dL_law_540 rfl (fun u1018 => ?_) (fun u1018 => ?_)
                              · have w := w.1 u1018
                                refine g_sub [some none, some none, some none, some none] [] rfl rfl ?_
                                exact wk_L_law_b707 C kR ih _ _ _ _ _ w
                              · have w := w.2 u1018
                                refine g_iconst 544 rfl C dL_law_543 0 rfl ?_
                                exact w.elim
                            · have w := w.2 q11_
                              by_cases q12_ : XX = 12
                              · have w := w.1 q12_
                                refine g_tableIn 545 C dL_law_32 (by rw [q12_]; decide) (by rw [q12_]; decide) (by rw [q12_]; rfl) rfl ?_
                                refine g_aload_n 546 rfl C dL_law_545 rfl ?_
                                refine g_aload_n 547 rfl C dL_law_546 rfl ?_
                                refine g_iload_n 548 rfl C dL_law_547 rfl ?_
                                refine g_iconst 549 rfl C dL_law_548 1 rfl ?_
                                refine g_iadd 550 rfl C dL_law_549 ?_
                                obtain ⟨j1019, e1020, e1021, w⟩ := w
                                refine g_sld 551 rfl C dL_law_550 e671 e1020 e1021 ?_
                                refine g_aload_n 552 rfl C dL_law_551 rfl ?_
                                refine g_iload_n 553 rfl C dL_law_552 rfl ?_
                                refine g_iconst 554 rfl C dL_law_553 2 rfl ?_
                                refine g_iadd 555 rfl C dL_law_554 ?_
                                obtain ⟨j1022, e1023, e1024, w⟩ := w
                                refine g_sld 556 rfl C dL_law_555 e671 e1023 e1024 ?_
                                refine g_aload_n 557 rfl C dL_law_556 rfl ?_
                                refine g_iload_n 558 rfl C dL_law_557 rfl ?_
                                refine g_iconst 559 rfl C dL_law_558 3 rfl ?_
                                refine g_iadd 560 rfl C dL_law_559 ?_
                                obtain ⟨j1025, e1026, e1027, w⟩ := w
                                refine g_sld 561 rfl C dL_law_560 e671 e1026 e1027 ?_
                                obtain ⟨a1028, e1029, w⟩ := w
                                refine g_callV (As := [vI _, vI _, vI _]) (T := [1]) (st := []) "HashHall" 564 rfl C dL_law_561 q991 q992 q993 q9 q994 rfl okn_1d50f2 (by decide) (by decide) (Nat.le_of_ble_eq_true rfl) e1029 (fun q => tC rfl q) rfl (ct_X0_sweep C.glob w) (fun r0 h1032 p1033 x1034 _ => ?_)
                                obtain ⟨r1031, rfl, w⟩ := p1033
                                have w := w x1034
                                change Gd _ _ _ _ (vI r1031 :: [])
                                refine g_aload_n 565 rfl C dL_law_564 rfl ?_
                                refine g_aload_n 566 rfl C dL_law_565 rfl ?_
                                refine g_iload_n 567 rfl C dL_law_566 rfl ?_
                                refine g_iconst 568 rfl C dL_law_567 1 rfl ?_
                                refine g_iadd 569 rfl C dL_law_568 ?_
                                obtain ⟨j1035, e1036, e1037, w⟩ := w
                                refine g_sld 570 rfl C dL_law_569 e671 e1036 e1037 ?_
                                refine g_aload_n 571 rfl C dL_law_570 rfl ?_
                                refine g_iload_n 572 rfl C dL_law_571 rfl ?_
                                refine g_iconst 573 rfl C dL_law_572 2 rfl ?_
                                refine g_iadd 574 rfl C dL_law_573 ?_
                                obtain ⟨j1038, e1039, e1040, w⟩ := w
                                refine g_sld 575 rfl C dL_law_574 e671 e1039 e1040 ?_
                                refine g_aload_n 576 rfl C dL_law_575 rfl ?_
                                refine g_iload_n 577 rfl C dL_law_576 rfl ?_
                                refine g_iconst 578 rfl C dL_law_577 3 rfl ?_
                                refine g_iadd 579 rfl C dL_law_578 ?_
                                obtain ⟨j1041, e1042, e1043, w⟩ := w
                                refine g_sld 580 rfl C dL_law_579 e671 e1042 e1043 ?_
                                obtain ⟨a1044, e1045, w⟩ := w
                                refine g_callV (As := [vI _, vI _, vI _]) (T := [14]) (st := [vI _]) "HashHallModel" 583 rfl C dL_law_580 q1266 q1267 q1268 q16 q1269 rfl okn_75c9f5 (by decide) (by decide) (Nat.le_of_ble_eq_true rfl) e1045 (fun q => tC rfl q) rfl (ct_X1_sweep C.glob w) (fun r0 h1048 p1049 x1050 _ => ?_)
                                obtain ⟨r1047, rfl, w⟩ := p1049
                                have w := w x1050
                                change Gd _ _ _ _ (vI r1047 :: [vI _])
                                refine g_icmp_eq 586 707 rfl C dL_law_583 rfl (fun u1051 => ?_) (fun u1051 => ?_)
                                · have w := w.1 u1051
                                  refine g_sub [some none, some none, some none, some none] [] rfl rfl ?_
                                  exact wk_L_law_b707 C kR ih _ _ _ _ _ w
                                · have w := w.2 u1051
                                  refine g_iconst 587 rfl C dL_law_586 0 rfl ?_
                                  exact w.elim
                              · have w := w.2 q12_
                                by_cases q13_ : XX = 13
                                · have w := w.1 q13_
                                  refine g_tableIn 588 C dL_law_32 (by rw [q13_]; decide) (by rw [q13_]; decide) (by rw [q13_]; rfl) rfl ?_
                                  refine g_aload_n 589 rfl C dL_law_588 rfl ?_
                                  refine g_aload_n 590 rfl C dL_law_589 rfl ?_
                                  refine g_iload_n 591 rfl C dL_law_590 rfl ?_
                                  refine g_iconst 592 rfl C dL_law_591 1 rfl ?_
                                  refine g_iadd 593 rfl C dL_law_592 ?_
                                  obtain ⟨j1052, e1053, e1054, w⟩ := w
                                  refine g_sld 594 rfl C dL_law_593 e671 e1053 e1054 ?_
                                  refine g_aload_n 595 rfl C dL_law_594 rfl ?_
                                  refine g_iload_n 596 rfl C dL_law_595 rfl ?_
                                  refine g_iconst 597 rfl C dL_law_596 2 rfl ?_
                                  refine g_iadd 598 rfl C dL_law_597 ?_
                                  obtain ⟨j1055, e1056, e1057, w⟩ := w
                                  refine g_sld 599 rfl C dL_law_598 e671 e1056 e1057 ?_
                                  obtain ⟨a1058, e1059, w⟩ := w
                                  refine g_callV (As := [vI _, vI _]) (T := [1]) (st := []) "HashHall" 602 rfl C dL_law_599 q1021 q1022 q1023 q9 q1024 rfl okn_13305a (by decide) (by decide) (Nat.le_of_ble_eq_true rfl) e1059 (fun q => tC rfl q) rfl (ct_X0_raise C.glob w) (fun r0 h1062 p1063 x1064 _ => ?_)
                                  obtain ⟨r1061, rfl, w⟩ := p1063
                                  have w := w x1064
                                  change Gd _ _ _ _ (vI r1061 :: [])
                                  refine g_aload_n 603 rfl C dL_law_602 rfl ?_
                                  refine g_aload_n 604 rfl C dL_law_603 rfl ?_
                                  refine g_iload_n 605 rfl C dL_law_604 rfl ?_
                                  refine g_iconst 606 rfl C dL_law_605 1 rfl ?_
                                  refine g_iadd 607 rfl C dL_law_606 ?_
                                  obtain ⟨j1065, e1066, e1067, w⟩ := w
                                  refine g_sld 608 rfl C dL_law_607 e671 e1066 e1067 ?_
                                  refine g_aload_n 609 rfl C dL_law_608 rfl ?_
                                  refine g_iload_n 610 rfl C dL_law_609 rfl ?_
                                  refine g_iconst 611 rfl C dL_law_610 2 rfl ?_
                                  refine g_iadd 612 rfl C dL_law_611 ?_
                                  obtain ⟨j1068, e1069, e1070, w⟩ := w
                                  refine g_sld 613 rfl C dL_law_612 e671 e1069 e1070 ?_
                                  obtain ⟨a1071, e1072, w⟩ := w
                                  refine g_callV (As := [vI _, vI _]) (T := [14]) (st := [vI _]) "HashHallModel" 616 rfl C dL_law_613 q1271 q1272 q1273 q16 q1274 rfl okn_9380e3 (by decide) (by decide) (Nat.le_of_ble_eq_true rfl) e1072 (fun q => tC rfl q) rfl (ct_X1_raise C.glob w) (fun r0 h1075 p1076 x1077 _ => ?_)
                                  obtain ⟨r1074, rfl, w⟩ := p1076
                                  have w := w x1077
                                  change Gd _ _ _ _ (vI r1074 :: [vI _])
                                  refine g_icmp_eq 619 707 rfl C dL_law_616 rfl (fun u1078 => ?_) (fun u1078 => ?_)
                                  · have w := w.1 u1078
                                    refine g_sub [some none, some none, some none, some none] [] rfl rfl ?_
                                    exact wk_L_law_b707 C kR ih _ _ _ _ _ w
                                  · have w := w.2 u1078
                                    refine g_iconst 620 rfl C dL_law_619 0 rfl ?_
                                    exact w.elim
                                · have w := w.2 q13_
                                  by_cases q14_ : XX = 14
                                  · have w := w.1 q14_
                                    refine g_tableIn 621 C dL_law_32 (by rw [q14_]; decide) (by rw [q14_]; decide) (by rw [q14_]; rfl) rfl ?_
                                    refine g_aload_n 622 rfl C dL_law_621 rfl ?_
                                    refine g_aload_n 623 rfl C dL_law_622 rfl ?_
                                    refine g_iload_n 624 rfl C dL_law_623 rfl ?_
                                    refine g_iconst 625 rfl C dL_law_624 1 rfl ?_
                                    refine g_iadd 626 rfl C dL_law_625 ?_
                                    obtain ⟨j1079, e1080, e1081, w⟩ := w
                                    refine g_sld 627 rfl C dL_law_626 e671 e1080 e1081 ?_
                                    refine g_aload_n 628 rfl C dL_law_627 rfl ?_
                                    refine g_iload_n 629 rfl C dL_law_628 rfl ?_
                                    refine g_iconst 630 rfl C dL_law_629 2 rfl ?_
                                    refine g_iadd 631 rfl C dL_law_630 ?_
                                    obtain ⟨j1082, e1083, e1084, w⟩ := w
                                    refine g_sld 632 rfl C dL_law_631 e671 e1083 e1084 ?_
                                    obtain ⟨a1085, e1086, w⟩ := w
                                    refine g_callV (As := [vI _, vI _]) (T := [1]) (st := []) "HashHall" 635 rfl C dL_law_632 q1038 q1039 q1040 q9 q1041 rfl okn_cd110d (by decide) (by decide) (Nat.le_of_ble_eq_true rfl) e1086 (fun q => tC rfl q) rfl (ct_X0_same C.glob w) (fun r0 h1089 p1090 x1091 _ => ?_)
                                    obtain ⟨r1088, rfl, w⟩ := p1090
                                    have w := w x1091
                                    change Gd _ _ _ _ (vI r1088 :: [])
                                    refine g_aload_n 636 rfl C dL_law_635 rfl ?_
                                    refine g_aload_n 637 rfl C dL_law_636 rfl ?_
                                    refine g_iload_n 638 rfl C dL_law_637 rfl ?_
                                    refine g_iconst 639 rfl C dL_law_638 1 rfl ?_
                                    refine g_iadd 640 rfl C dL_law_639 ?_
                                    obtain ⟨j1092, e1093, e1094, w⟩ := w
                                    refine g_sld 641 rfl C dL_law_640 e671 e1093 e1094 ?_
                                    refine g_aload_n 642 rfl C dL_law_641 rfl ?_
                                    refine g_iload_n 643 rfl C dL_law_642 rfl ?_
                                    refine g_iconst 644 rfl C dL_law_643 2 rfl ?_
                                    refine g_iadd 645 rfl C dL_law_644 ?_
                                    obtain ⟨j1095, e1096, e1097, w⟩ := w
                                    refine g_sld 646 rfl C dL_law_645 e671 e1096 e1097 ?_
                                    obtain ⟨a1098, e1099, w⟩ := w
                                    refine g_callV (As := [vI _, vI _]) (T := [14]) (st := [vI _]) "HashHallModel" 649 rfl C dL_law_646 q1275 q1276 q1277 q16 q1278 rfl okn_a68836 (by decide) (by decide) (Nat.le_of_ble_eq_true rfl) e1099 (fun q => tC rfl q) rfl (ct_X1_same C.glob w) (fun r0 h1102 p1103 x1104 _ => ?_)
                                    obtain ⟨r1101, rfl, w⟩ := p1103
                                    have w := w x1104
                                    change Gd _ _ _ _ (vI r1101 :: [vI _])
                                    refine g_icmp_eq 652 707 rfl C dL_law_649 rfl (fun u1105 => ?_) (fun u1105 => ?_)
                                    · have w := w.1 u1105
                                      refine g_sub [some none, some none, some none, some none] [] rfl rfl ?_
                                      exact wk_L_law_b707 C kR ih _ _ _ _ _ w
                                    · have w := w.2 u1105
                                      refine g_iconst 653 rfl C dL_law_652 0 rfl ?_
                                      exact w.elim
                                  · have w := w.2 q14_
                                    by_cases q15_ : XX = 15
                                    · have w := w.1 q15_
                                      refine g_tableIn 654 C dL_law_32 (by rw [q15_]; decide) (by rw [q15_]; decide) (by rw [q15_]; rfl) rfl ?_
                                      refine g_aload_n 655 rfl C dL_law_654 rfl ?_
                                      refine g_aload_n 656 rfl C dL_law_655 rfl ?_
                                      refine g_iload_n 657 rfl C dL_law_656 rfl ?_
                                      refine g_iconst 658 rfl C dL_law_657 1 rfl ?_
                                      refine g_iadd 659 rfl C dL_law_658 ?_
                                      obtain ⟨j1106, e1107, e1108, w⟩ := w
                                      refine g_sld 660 rfl C dL_law_659 e671 e1107 e1108 ?_
                                      refine g_aload_n 661 rfl C dL_law_660 rfl ?_
                                      refine g_iload_n 662 rfl C dL_law_661 rfl ?_
                                      refine g_iconst 663 rfl C dL_law_662 2 rfl ?_
                                      refine g_iadd 664 rfl C dL_law_663 ?_
                                      obtain ⟨j1109, e1110, e1111, w⟩ := w
                                      refine g_sld 665 rfl C dL_law_664 e671 e1110 e1111 ?_
                                      refine g_aload_n 666 rfl C dL_law_665 rfl ?_
                                      refine g_iload_n 667 rfl C dL_law_666 rfl ?_
                                      refine g_iconst 668 rfl C dL_law_667 3 rfl ?_
                                      refine g_iadd 669 rfl C dL_law_668 ?_
                                      obtain ⟨j1112, e1113, e1114, w⟩ := w
                                      refine g_sld 670 rfl C dL_law_669 e671 e1113 e1114 ?_
                                      refine g_aload_n 671 rfl C dL_law_670 rfl ?_
                                      refine g_iload_n 672 rfl C dL_law_671 rfl ?_
                                      refine g_iconst 673 rfl C dL_law_672 4 rfl ?_
                                      refine g_iadd 674 rfl C dL_law_673 ?_
                                      obtain ⟨j1115, e1116, e1117, w⟩ := w
                                      refine g_sld 675 rfl C dL_law_674 e671 e1116 e1117 ?_
                                      obtain ⟨a1118, e1119, w⟩ := w
                                      refine g_callV (As := [vI _, vI _, vI _, vI _]) (T := [1]) (st := []) "HashHall" 678 rfl C dL_law_675 q1094 q1095 q1096 q9 q1097 rfl okn_c040f9 (by decide) (by decide) (Nat.le_of_ble_eq_true rfl) e1119 (fun q => tC rfl q) rfl (ct_X0_fill C.glob w) (fun r0 h1122 p1123 x1124 _ => ?_)
                                      obtain ⟨r1121, rfl, w⟩ := p1123
                                      have w := w x1124
                                      change Gd _ _ _ _ (vI r1121 :: [])
                                      refine g_aload_n 679 rfl C dL_law_678 rfl ?_
                                      refine g_aload_n 680 rfl C dL_law_679 rfl ?_
                                      refine g_iload_n 681 rfl C dL_law_680 rfl ?_
                                      refine g_iconst 682 rfl C dL_law_681 1 rfl ?_
                                      refine g_iadd 683 rfl C dL_law_682 ?_
                                      obtain ⟨j1125, e1126, e1127, w⟩ := w
                                      refine g_sld 684 rfl C dL_law_683 e671 e1126 e1127 ?_
                                      refine g_aload_n 685 rfl C dL_law_684 rfl ?_
                                      refine g_iload_n 686 rfl C dL_law_685 rfl ?_
                                      refine g_iconst 687 rfl C dL_law_686 2 rfl ?_
                                      refine g_iadd 688 rfl C dL_law_687 ?_
                                      obtain ⟨j1128, e1129, e1130, w⟩ := w
                                      refine g_sld 689 rfl C dL_law_688 e671 e1129 e1130 ?_
                                      refine g_aload_n 690 rfl C dL_law_689 rfl ?_
                                      refine g_iload_n 691 rfl C dL_law_690 rfl ?_
                                      refine g_iconst 692 rfl C dL_law_691 3 rfl ?_
                                      refine g_iadd 693 rfl C dL_law_692 ?_
                                      obtain ⟨j1131, e1132, e1133, w⟩ := w
                                      refine g_sld 694 rfl C dL_law_693 e671 e1132 e1133 ?_
                                      refine g_aload_n 695 rfl C dL_law_694 rfl ?_
                                      refine g_iload_n 696 rfl C dL_law_695 rfl ?_
                                      refine g_iconst 697 rfl C dL_law_696 4 rfl ?_
                                      refine g_iadd 698 rfl C dL_law_697 ?_
                                      obtain ⟨j1134, e1135, e1136, w⟩ := w
                                      refine g_sld 699 rfl C dL_law_698 e671 e1135 e1136 ?_
                                      obtain ⟨a1137, e1138, w⟩ := w
                                      refine g_callV (As := [vI _, vI _, vI _, vI _]) (T := [14]) (st := [vI _]) "HashHallModel" 702 rfl C dL_law_699 q1279 q1280 q1281 q16 q1282 rfl okn_b48390 (by decide) (by decide) (Nat.le_of_ble_eq_true rfl) e1138 (fun q => tC rfl q) rfl (ct_X1_fill C.glob w) (fun r0 h1141 p1142 x1143 _ => ?_)
                                      obtain ⟨r1140, rfl, w⟩ := p1142
                                      have w := w x1143
                                      change Gd _ _ _ _ (vI r1140 :: [vI _])
                                      refine g_icmp_eq 705 707 rfl C dL_law_702 rfl (fun u1144 => ?_) (fun u1144 => ?_)
                                      · have w := w.1 u1144
                                        refine g_sub [some none, some none, some none, some none] [] rfl rfl ?_
                                        exact wk_L_law_b707 C kR ih _ _ _ _ _ w
                                      · have w := w.2 u1144
                                        refine g_iconst 706 rfl C dL_law_705 0 rfl ?_
                                        exact w.elim
                                    · have w := w.2 q15_
                                      refine g_tableOut 707 C dL_law_32 (tbl_out16 q0_ q1_ q2_ q3_ q4_ q5_ q6_ q7_ q8_ q9_ q10_ q11_ q12_ q13_ q14_ q15_) rfl ?_
                                      refine g_sub [some none, some none, some none, some none] [] rfl rfl ?_
                                      exact wk_L_law_b707 C kR ih _ _ _ _ _ w
def wp_L_law (h : Hp) (x0 : Option Nat) (K : Int32 → Hp → Prop) : Prop :=
  (Rm h 1 3 ∧ ∀ a652, kd h a652 = 0 → ∀ h653, h653 = nw h a652 1 0 → (wp_X0_init h653 (some a652) (fun h658 => Ex h653 h658 → (Rm h658 1 1 ∧ ∀ a661, kd h658 a661 = 0 → ∀ h662, h662 = nw h658 a661 14 0 → (wp_X1_init h662 (some a661) (fun h667 => Ex h662 h667 → (∃ n, wp_L_law_b18 K n h667 x0 (some a652) (some a661) 0)))))))
set_option maxHeartbeats 4000000 in
theorem wk_L_law {X : Fx} {K : Int32 → Hp → Prop} (C : Cx X cL_law "HashHallLaw" 4 40) (kR : ∀ (h : Hp) (lv : List (Option TV)), Gd X h 714 lv [vI 1]) (h : Hp) (x0 : Option Nat) (w : wp_L_law h x0 K) : Gd X h 0 [some (vR [61] x0), none, none, none] [] := by
  unfold wp_L_law at w
  obtain ⟨r654, w⟩ := w
  refine g_new 1 3 rfl C dL_law_0 rfl q39 q40 q9 r654 (fun a652 z655 => ?_)
  have w := w a652 z655 _ rfl
  refine g_dup 4 rfl C dL_law_3 rfl ?_
  refine g_callI (As := []) (T := [1]) (st := [vR [1] _]) 7 rfl C dL_law_4 q41 q42 q9 q43 rfl okn_b59720 (by decide) (by decide) (Nat.le_of_ble_eq_true rfl) rfl rfl (ct_X0_init C.glob w) (fun r0 h658 p659 x660 _ => ?_)
  obtain ⟨rfl, w⟩ := p659
  have w := w x660
  change Gd _ _ _ _ [vR [1] _]
  refine g_astore_n 8 rfl C dL_law_7 (by decide) (rfl : _ = [some (vR [61] _), some (vR [1] _), none, none]) ?_
  obtain ⟨r663, w⟩ := w
  refine g_new 14 11 rfl C dL_law_8 rfl q1098 q1099 q16 r663 (fun a661 z664 => ?_)
  have w := w a661 z664 _ rfl
  refine g_dup 12 rfl C dL_law_11 rfl ?_
  refine g_callI (As := []) (T := [14]) (st := [vR [14] _]) 15 rfl C dL_law_12 q1100 q1101 q16 q1102 rfl okn_d575d4 (by decide) (by decide) (Nat.le_of_ble_eq_true rfl) rfl rfl (ct_X1_init C.glob w) (fun r0 h667 p668 x669 _ => ?_)
  obtain ⟨rfl, w⟩ := p668
  have w := w x669
  change Gd _ _ _ _ [vR [14] _]
  refine g_astore_n 16 rfl C dL_law_15 (by decide) (rfl : _ = [some (vR [61] _), some (vR [1] _), some (vR [14] _), none]) ?_
  refine g_iconst 17 rfl C dL_law_16 0 rfl ?_
  refine g_istore_n 18 rfl C dL_law_17 (by decide) (rfl : _ = [some (vR [61] _), some (vR [1] _), some (vR [14] _), some (vI _)]) ?_
  refine g_sub [some none, some none, some none, some none] [] rfl rfl ?_
  obtain ⟨n9, w⟩ := w
  exact wk_L_law_b18 C kR n9 _ _ _ _ _ w
