/-! THE TWIN: tokens -/
def bI (c : Prop) [Decidable c] : Int32 := if c then 1 else 0
theorem bI_0 {c : Prop} [Decidable c] : bI c = iI 0 ↔ ¬ c := by
  unfold bI
  by_cases h : c
  · rw [if_pos h]; exact ⟨fun e => absurd e (by decide), fun e => absurd h e⟩
  · rw [if_neg h]; exact ⟨fun _ => h, fun _ => rfl⟩
theorem bI_1 {c : Prop} [Decidable c] : bI c ≠ iI 0 ↔ c := by
  rw [Ne, bI_0, Classical.not_not]
theorem bI_t {c : Prop} [Decidable c] (h : c) : bI c = iI 1 := if_pos h
theorem bI_f {c : Prop} [Decidable c] (h : ¬ c) : bI c = iI 0 := if_neg h
theorem fit_0 : am_fit 4 (iI 0) = true := by decide
theorem fit_1 : am_fit 4 (iI 1) = true := by decide
theorem fit_b {c : Prop} [Decidable c] : am_fit 4 (bI c) = true := by
  unfold bI
  split <;> decide
theorem up_self {U : tSt} {f : Nat} {j x : Int} (e : U f j = x) : up U f j x = U := by
  funext g i
  rw [up_eq]
  split
  · rename_i q; rw [q.1, q.2, e]
  · rfl
theorem up_up {U : tSt} {f : Nat} {j x y : Int} : up (up U f j x) f j y = up U f j y := by
  funext g i
  simp only [up_eq]
  split <;> rfl
/-- what tokens ask of the scalars -/
def SG (S : tSt) : Prop := 0 ≤ S 47 0 ∧ S 47 0 ≤ S 48 0 ∧ S 48 0 ≤ 2000 ∧ ∀ j, 0 ≤ S 0 j ∧ S 0 j ≤ 255
section TOK
variable {r m : Nat} {h : am_H} {Q : am_O → am_H → Prop} {w : Int} {S U : tSt}
theorem tw_isLetter {b : Int} (h1 : -2147483648 ≤ b) (h2 : b < 2147483648) : Cl r 67 [vI (iI b)] h Q ↔ Q (Sum.inl (some (vI (bI (97 ≤ b ∧ b ≤ 122))))) h := by
  simp (disch := first | exact fit_0 | exact fit_1 | exact fit_b | omega | assumption | decide) only [eX6_isLetter, sX6_isLetter_0, sX6_isLetter_1, sX6_isLetter_3, sX6_isLetter_6, sX6_isLetter_7, sX6_isLetter_9, sX6_isLetter_12, sX6_isLetter_13, sX6_isLetter_16, sX6_isLetter_17, i_m1, i_m2, i_m3, i_m10, i_0, i_1, i_2, i_3, i_4, i_5, i_6, i_7, i_8, i_9, i_10, i_11, i_12, i_13, i_14, i_15, i_16, i_17, i_18, i_19, i_20, i_21, i_22, i_23, i_24, i_25, i_26, i_27, i_28, i_29, i_30, i_31, i_32, i_40, i_41, i_44, i_48, i_59, i_97, i_120, i_122, i_123, i_124, i_125, i_255, i_256, i_300, i_480, i_1024, i_2000, iI_lt, iI_le]
  by_cases a : b < 97
  · rw [if_pos a, bI_f (by omega)]
  · rw [if_neg a]
    by_cases c : 122 < b
    · rw [if_pos c, bI_f (by omega)]
    · rw [if_neg c, bI_t (by omega)]
theorem tw_isSign {b : Int} (h1 : -2147483648 ≤ b) (h2 : b < 2147483648) : Cl r 87 [vI (iI b)] h Q ↔ Q (Sum.inl (some (vI (bI (tSgn b = true))))) h := by
  simp (disch := first | exact fit_0 | exact fit_1 | exact fit_b | omega | assumption | decide) only [eX6_isSign, sX6_isSign_0, sX6_isSign_1, sX6_isSign_3, sX6_isSign_6, sX6_isSign_7, sX6_isSign_9, sX6_isSign_12, sX6_isSign_13, sX6_isSign_15, sX6_isSign_18, sX6_isSign_19, sX6_isSign_21, sX6_isSign_24, sX6_isSign_25, sX6_isSign_27, sX6_isSign_30, sX6_isSign_31, sX6_isSign_33, sX6_isSign_36, sX6_isSign_37, sX6_isSign_39, sX6_isSign_42, sX6_isSign_43, sX6_isSign_46, sX6_isSign_47, i_m1, i_m2, i_m3, i_m10, i_0, i_1, i_2, i_3, i_4, i_5, i_6, i_7, i_8, i_9, i_10, i_11, i_12, i_13, i_14, i_15, i_16, i_17, i_18, i_19, i_20, i_21, i_22, i_23, i_24, i_25, i_26, i_27, i_28, i_29, i_30, i_31, i_32, i_40, i_41, i_44, i_48, i_59, i_97, i_120, i_122, i_123, i_124, i_125, i_255, i_256, i_300, i_480, i_1024, i_2000, iI_eq, Ne]
  unfold tSgn
  repeat' split
  all_goals first | (rw [bI_t (by simp; omega)]; done) | (rw [bI_f (by simp; omega)]; done) | skip
theorem tw_adv1 (sh : TS h m) : ∀ (d : Nat) (S : tSt), SG S → d = (S 48 0 - S 47 0).toNat →
    (Rn r 35 0 [some (vR (some m))] [] (tput h m w S U) Q ↔ Rn r 35 52 [some (vR (some m))] [] (tput h m w (up S 47 0 (tSkip (S 0) d (S 47 0))) U) Q) := by
  intro d
  induction d with
  | zero =>
    intro S hS hd
    obtain ⟨g1, g2, g3, g4⟩ := hS
    rw [sX6_advance_0]
    simp (maxSteps := 3000000) (disch := first | exact tk0 sh | exact tk sh (by decide) (by decide) rfl | exact tk_l sh (by decide) (by decide) (by decide) | exact tk_u sh (by decide) (by decide) (by decide) | exact tbd sh (by decide) (by decide) (by decide) (by omega) (by simp only [tL]; omega) | exact fit_0 | exact fit_1 | exact fit_b | omega | assumption | decide) only [sX6_advance_1, sX6_advance_4, sX6_advance_5, sX6_advance_8, sX6_advance_11, sX6_advance_12, sX6_advance_15, sX6_advance_16, sX6_advance_19, sX6_advance_20, sX6_advance_22, sX6_advance_25, sX6_advance_26, sX6_advance_29, sX6_advance_30, sX6_advance_33, sX6_advance_34, sX6_advance_36, sX6_advance_39, sX6_advance_40, sX6_advance_41, sX6_advance_44, sX6_advance_45, sX6_advance_46, sX6_advance_49, i_m1, i_m2, i_m3, i_m10, i_0, i_1, i_2, i_3, i_4, i_5, i_6, i_7, i_8, i_9, i_10, i_11, i_12, i_13, i_14, i_15, i_16, i_17, i_18, i_19, i_20, i_21, i_22, i_23, i_24, i_25, i_26, i_27, i_28, i_29, i_30, i_31, i_32, i_40, i_41, i_44, i_48, i_59, i_97, i_120, i_122, i_123, i_124, i_125, i_255, i_256, i_300, i_480, i_1024, i_2000, iI_add, iI_sub, iI_mul, iI_lt, iI_le, iI_eq, iI_nat, rd_0, wr_0, rd_1, wr_1, rd_2, wr_2, rd_3, wr_3, rd_4, wr_4, rd_5, wr_5, rd_6, wr_6, rd_7, wr_7, rd_8, wr_8, rd_9, wr_9, rd_10, wr_10, rd_11, wr_11, rd_12, wr_12, rd_13, wr_13, rd_14, wr_14, rd_15, wr_15, rd_16, wr_16, rd_17, wr_17, rd_18, wr_18, rd_19, wr_19, rd_20, wr_20, rd_21, wr_21, rd_22, wr_22, rd_23, wr_23, rd_24, wr_24, rd_25, wr_25, rd_26, wr_26, rd_27, wr_27, rd_28, wr_28, rd_29, wr_29, rd_30, wr_30, rd_31, wr_31, rd_32, wr_32, rd_33, wr_33, rd_34, wr_34, rd_35, wr_35, rd_36, wr_36, rd_37, wr_37, rd_38, wr_38, rd_39, wr_39, rd_40, wr_40, rd_41, wr_41, rd_42, wr_42, rd_43, wr_43, rd_44, wr_44, rd_45, wr_45, rd_46, wr_46, rd_47, wr_47, rd_48, wr_48, rd_49, wr_49, rd_50, wr_50, rd_51, wr_51, rd_52, wr_52, rd_53, wr_53, rd_54, wr_54, rd_55, wr_55, rd_56, wr_56, rd_57, wr_57, rd_58, wr_58, rd_59, wr_59, rd_60, wr_60, rd_61, wr_61, rd_62, wr_62, rd_63, wr_63, rd_64, wr_64, rd_65, wr_65, rd_66, wr_66, rd_67, wr_67, rd_68, wr_68, rd_69, wr_69, rd_70, wr_70, rd_71, wr_71, rd_72, wr_72, rd_73, wr_73, rd_74, wr_74, tr_0 sh, tr_3 sh, tr_4 sh, tr_5 sh, tr_6 sh, tr_7 sh, tr_8 sh, tr_9 sh, tr_10 sh, tr_11 sh, tr_12 sh, tr_13 sh, tr_14 sh, tr_15 sh, tr_16 sh, tr_17 sh, tr_18 sh, tr_19 sh, tr_20 sh, tr_21 sh, tr_22 sh, tr_23 sh, tr_24 sh, tr_25 sh, tr_26 sh, tr_27 sh, tr_28 sh, tr_29 sh, tr_30 sh, tr_31 sh, tr_32 sh, tr_33 sh, tr_34 sh, tr_35 sh, tr_36 sh, tr_37 sh, tr_38 sh, tr_39 sh, tr_40 sh, tr_41 sh, tr_42 sh, tr_43 sh, tr_44 sh, tr_45 sh, tr_46 sh, tr_56 sh, tr_58 sh, tr_59 sh, tr_61 sh, tr_62 sh, tr_63 sh, tr_70 sh, tr_71 sh, tr_72 sh, tr_73 sh, tr_74 sh, Kt_v, Kt_0, Kt_x, lc_eqI, lI_eq, bI_0, bI_1, ne_eq, Classical.not_not, ite_not, up_eq, true_and, false_and, and_true, and_false, and_self, if_true, if_false, eq_self, true_or, or_true, false_or, or_false, not_true_eq_false, not_false_eq_true, Nat.reduceEqDiff, reduceIte, iI_neg, l64_0, Bool.false_eq_true, Int.reduceEq]
    rw [if_pos (by omega), tSkip, up_self rfl]
  | succ d ih =>
    intro S hS hd
    obtain ⟨g1, g2, g3, g4⟩ := hS
    have g5 := g4 (S 47 0)
    rw [sX6_advance_0]
    simp (maxSteps := 3000000) (disch := first | exact tk0 sh | exact tk sh (by decide) (by decide) rfl | exact tk_l sh (by decide) (by decide) (by decide) | exact tk_u sh (by decide) (by decide) (by decide) | exact tbd sh (by decide) (by decide) (by decide) (by omega) (by simp only [tL]; omega) | exact fit_0 | exact fit_1 | exact fit_b | omega | assumption | decide) only [sX6_advance_1, sX6_advance_4, sX6_advance_5, sX6_advance_8, sX6_advance_11, sX6_advance_12, sX6_advance_15, sX6_advance_16, sX6_advance_19, sX6_advance_20, sX6_advance_22, sX6_advance_25, sX6_advance_26, sX6_advance_29, sX6_advance_30, sX6_advance_33, sX6_advance_34, sX6_advance_36, sX6_advance_39, sX6_advance_40, sX6_advance_41, sX6_advance_44, sX6_advance_45, sX6_advance_46, sX6_advance_49, i_m1, i_m2, i_m3, i_m10, i_0, i_1, i_2, i_3, i_4, i_5, i_6, i_7, i_8, i_9, i_10, i_11, i_12, i_13, i_14, i_15, i_16, i_17, i_18, i_19, i_20, i_21, i_22, i_23, i_24, i_25, i_26, i_27, i_28, i_29, i_30, i_31, i_32, i_40, i_41, i_44, i_48, i_59, i_97, i_120, i_122, i_123, i_124, i_125, i_255, i_256, i_300, i_480, i_1024, i_2000, iI_add, iI_sub, iI_mul, iI_lt, iI_le, iI_eq, iI_nat, rd_0, wr_0, rd_1, wr_1, rd_2, wr_2, rd_3, wr_3, rd_4, wr_4, rd_5, wr_5, rd_6, wr_6, rd_7, wr_7, rd_8, wr_8, rd_9, wr_9, rd_10, wr_10, rd_11, wr_11, rd_12, wr_12, rd_13, wr_13, rd_14, wr_14, rd_15, wr_15, rd_16, wr_16, rd_17, wr_17, rd_18, wr_18, rd_19, wr_19, rd_20, wr_20, rd_21, wr_21, rd_22, wr_22, rd_23, wr_23, rd_24, wr_24, rd_25, wr_25, rd_26, wr_26, rd_27, wr_27, rd_28, wr_28, rd_29, wr_29, rd_30, wr_30, rd_31, wr_31, rd_32, wr_32, rd_33, wr_33, rd_34, wr_34, rd_35, wr_35, rd_36, wr_36, rd_37, wr_37, rd_38, wr_38, rd_39, wr_39, rd_40, wr_40, rd_41, wr_41, rd_42, wr_42, rd_43, wr_43, rd_44, wr_44, rd_45, wr_45, rd_46, wr_46, rd_47, wr_47, rd_48, wr_48, rd_49, wr_49, rd_50, wr_50, rd_51, wr_51, rd_52, wr_52, rd_53, wr_53, rd_54, wr_54, rd_55, wr_55, rd_56, wr_56, rd_57, wr_57, rd_58, wr_58, rd_59, wr_59, rd_60, wr_60, rd_61, wr_61, rd_62, wr_62, rd_63, wr_63, rd_64, wr_64, rd_65, wr_65, rd_66, wr_66, rd_67, wr_67, rd_68, wr_68, rd_69, wr_69, rd_70, wr_70, rd_71, wr_71, rd_72, wr_72, rd_73, wr_73, rd_74, wr_74, tr_0 sh, tr_3 sh, tr_4 sh, tr_5 sh, tr_6 sh, tr_7 sh, tr_8 sh, tr_9 sh, tr_10 sh, tr_11 sh, tr_12 sh, tr_13 sh, tr_14 sh, tr_15 sh, tr_16 sh, tr_17 sh, tr_18 sh, tr_19 sh, tr_20 sh, tr_21 sh, tr_22 sh, tr_23 sh, tr_24 sh, tr_25 sh, tr_26 sh, tr_27 sh, tr_28 sh, tr_29 sh, tr_30 sh, tr_31 sh, tr_32 sh, tr_33 sh, tr_34 sh, tr_35 sh, tr_36 sh, tr_37 sh, tr_38 sh, tr_39 sh, tr_40 sh, tr_41 sh, tr_42 sh, tr_43 sh, tr_44 sh, tr_45 sh, tr_46 sh, tr_56 sh, tr_58 sh, tr_59 sh, tr_61 sh, tr_62 sh, tr_63 sh, tr_70 sh, tr_71 sh, tr_72 sh, tr_73 sh, tr_74 sh, Kt_v, Kt_0, Kt_x, lc_eqI, lI_eq, bI_0, bI_1, ne_eq, Classical.not_not, ite_not, up_eq, true_and, false_and, and_true, and_false, and_self, if_true, if_false, eq_self, true_or, or_true, false_or, or_false, not_true_eq_false, not_false_eq_true, Nat.reduceEqDiff, reduceIte, iI_neg, l64_0, Bool.false_eq_true, Int.reduceEq]
    have key := ih (up S 47 0 (S 47 0 + 1)) ⟨by rw [up_s]; omega, by rw [up_s, up_n (by decide)]; omega, by rw [up_n (by decide)]; omega, fun j => by rw [up_n (by decide)]; exact g4 j⟩ (by rw [up_s, up_n (by decide)]; omega)
    rw [up_up, up_s, up_n (g := 0) (by decide)] at key
    rw [if_neg (by omega), tSkip]
    by_cases q : S 0 (S 47 0) = 32
    · rw [if_pos q, if_pos (Or.inl q)]
      exact key
    · rw [if_neg q]
      by_cases q2 : S 0 (S 47 0) = 10
      · rw [if_pos q2, if_pos (Or.inr q2)]
        exact key
      · rw [if_neg q2, if_neg (by omega), up_self rfl]
theorem up_comm {U : tSt} {f g : Nat} {i j x y : Int} (hg : f ≠ g) : up (up U f i x) g j y = up (up U g j y) f i x := by
  funext k l
  simp only [up_eq]
  by_cases q : k = g ∧ l = j
  · rw [if_pos q, if_neg (fun z => hg (z.1.symm.trans q.1)), if_pos q]
  · rw [if_neg q]
    by_cases q2 : k = f ∧ l = i
    · rw [if_pos q2, if_pos q2]
    · rw [if_neg q2, if_neg q2, if_neg q]
theorem up_swap {U : tSt} {f g : Nat} {i j x y : Int} (hg : g < f) : up (up U f i x) g j y = up (up U g j y) f i x := up_comm (Nat.ne_of_gt hg)
theorem tSkip_b (t : Int → Int) : ∀ (d : Nat) (p : Int), p ≤ tSkip t d p ∧ tSkip t d p ≤ p + d
  | 0, p => by simp only [tSkip]; omega
  | d + 1, p => by
    have := tSkip_b t d (p + 1)
    simp only [tSkip]
    split <;> omega
theorem tEnd_b (t : Int → Int) : ∀ (d : Nat) (p : Int), p ≤ tEnd t d p ∧ tEnd t d p ≤ p + d
  | 0, p => by simp only [tEnd]; omega
  | d + 1, p => by
    have := tEnd_b t d (p + 1)
    simp only [tEnd]
    split <;> omega
theorem acc_step {X b : Int} (h1 : 0 ≤ X) (h2 : X < 36028797018963968) (h3 : 0 ≤ b) (h4 : b < 256) : lI X <<< ((iI 8).toInt64 &&& 63) ||| (iI b).toInt64 = lI (X * 256 + b) := by
  obtain ⟨x, rfl⟩ := Int.eq_ofNat_of_zero_le h1
  obtain ⟨y, rfl⟩ := Int.eq_ofNat_of_zero_le h3
  rw [show (iI 8).toInt64 &&& 63 = 8 from by decide]
  have e1 : (iI ((y : Nat) : Int)).toInt64 = lI ((y : Nat) : Int) := by
    rw [← Int64.toInt_inj, lI_toInt (by omega) (by omega), Int32.toInt_toInt64, iI_toInt (by omega) (by omega)]
  rw [e1]
  have e2 : ∀ z : Nat, lI ((z : Nat) : Int) = Int64.ofNat z := fun z => Int64.ofInt_eq_ofNat
  have e3 : ((x : Nat) : Int) * (256 : Int) + ((y : Nat) : Int) = ((x <<< 8 + y : Nat) : Int) := by
    rw [Nat.shiftLeft_eq]
    omega
  rw [e3, Nat.shiftLeft_add_eq_or_of_lt (by omega), e2, e2, e2]
  apply Int64.toBitVec.inj
  rw [Int64.toBitVec_or, Int64.toBitVec_shiftLeft, show (Int64.toBitVec 8).smod 64 = 8#64 from by decide]
  show BitVec.ofNat 64 x <<< 8#64 ||| BitVec.ofNat 64 y = BitVec.ofNat 64 (x <<< 8 ||| y)
  rw [BitVec.ofNat_or]
  congr 1
  apply BitVec.eq_of_toNat_eq
  show (BitVec.ofNat 64 x <<< (8 : Nat)).toNat = _
  rw [BitVec.toNat_shiftLeft, BitVec.toNat_ofNat, BitVec.toNat_ofNat, Nat.mod_eq_of_lt (show x < 2 ^ 64 by omega)]
def tB : Nat → Int
  | 0 => 1
  | j + 1 => 256 * tB j
theorem tB_pos : ∀ j, 1 ≤ tB j
  | 0 => by simp only [tB]; omega
  | j + 1 => by have := tB_pos j; simp only [tB]; omega
theorem tB_mono {i j : Nat} (h : i ≤ j) : tB i ≤ tB j := by
  induction h with
  | refl => omega
  | step _ ih => rename_i k _; have := tB_pos k; simp only [tB]; omega
theorem tAcc_wv (t : Int → Int) (ht : ∀ j, 0 ≤ t j ∧ t j ≤ 255) : ∀ (d : Nat) (p X : Int) (j : Nat), 0 ≤ X → X * 2 < tB j → j + (tEnd t d p - p) ≤ 8 → tAcc t d p (lI X) = lI (tWv t d p X) ∧ 0 ≤ tWv t d p X ∧ tWv t d p X < 9223372036854775808
  | 0, p, X, j, h1, h2, h3 => by
    simp only [tAcc, tWv, tEnd] at *
    have := tB_mono (show j ≤ 8 by omega)
    rw [show tB 8 = 18446744073709551616 from by decide] at this
    refine ⟨trivial, h1, by omega⟩
  | d + 1, p, X, j, h1, h2, h3 => by
    simp only [tAcc, tWv, tEnd] at *
    by_cases q : 97 ≤ t p ∧ t p ≤ 122
    · rw [if_pos q] at h3
      rw [if_pos q, if_pos q]
      have hb := (tEnd_b t d (p + 1)).1
      have h7 := tB_mono (show j ≤ 7 by omega)
      rw [show tB 7 = 72057594037927936 from by decide] at h7
      rw [acc_step h1 (by omega) (by omega) (by omega)]
      refine tAcc_wv t ht d (p + 1) (X * 256 + t p) (j + 1) (by omega) ?_ (by omega)
      simp only [tB]
      omega
    · rw [if_neg q, if_neg q]
      rw [if_neg q] at h3
      have := tB_mono (show j ≤ 8 by omega)
      rw [show tB 8 = 18446744073709551616 from by decide] at this
      exact ⟨rfl, h1, by omega⟩
theorem wl_50 {y : Int64} : putJ (tput h m w S U) m 50 y = tput h m w (up S 50 0 y.toInt) U := by
  rw [← wr_50, lI_of]
theorem tw_adv2 (sh : TS h m) : ∀ (d : Nat) (S : tSt), SG S → (-9223372036854775808 ≤ S 50 0 ∧ S 50 0 < 9223372036854775808) → d = (S 48 0 - S 47 0).toNat →
    (Rn r 35 104 [some (vR (some m))] [] (tput h m w S U) Q ↔ Rn r 35 165 [some (vR (some m))] [] (tput h m w (up (up S 47 0 (tEnd (S 0) d (S 47 0))) 50 0 (tAcc (S 0) d (S 47 0) (lI (S 50 0))).toInt) U) Q) := by
  intro d
  induction d with
  | zero =>
    intro S hS g6 hd
    obtain ⟨g1, g2, g3, g4⟩ := hS
    rw [sX6_advance_104]
    simp (maxSteps := 3000000) (disch := first | exact tk0 sh | exact tk sh (by decide) (by decide) rfl | exact tk_l sh (by decide) (by decide) (by decide) | exact tk_u sh (by decide) (by decide) (by decide) | exact tbd sh (by decide) (by decide) (by decide) (by omega) (by simp only [tL]; omega) | exact fit_0 | exact fit_1 | exact fit_b | omega | assumption | decide) only [sX6_advance_105, sX6_advance_108, sX6_advance_109, sX6_advance_112, sX6_advance_115, sX6_advance_116, sX6_advance_119, sX6_advance_120, sX6_advance_123, sX6_advance_124, sX6_advance_127, sX6_advance_130, sX6_advance_131, sX6_advance_132, sX6_advance_135, sX6_advance_137, sX6_advance_138, sX6_advance_139, sX6_advance_142, sX6_advance_143, sX6_advance_146, sX6_advance_147, sX6_advance_148, sX6_advance_149, sX6_advance_152, sX6_advance_153, sX6_advance_154, sX6_advance_157, sX6_advance_158, sX6_advance_159, sX6_advance_162, i_m1, i_m2, i_m3, i_m10, i_0, i_1, i_2, i_3, i_4, i_5, i_6, i_7, i_8, i_9, i_10, i_11, i_12, i_13, i_14, i_15, i_16, i_17, i_18, i_19, i_20, i_21, i_22, i_23, i_24, i_25, i_26, i_27, i_28, i_29, i_30, i_31, i_32, i_40, i_41, i_44, i_48, i_59, i_97, i_120, i_122, i_123, i_124, i_125, i_255, i_256, i_300, i_480, i_1024, i_2000, iI_add, iI_sub, iI_mul, iI_lt, iI_le, iI_eq, iI_nat, rd_0, wr_0, rd_1, wr_1, rd_2, wr_2, rd_3, wr_3, rd_4, wr_4, rd_5, wr_5, rd_6, wr_6, rd_7, wr_7, rd_8, wr_8, rd_9, wr_9, rd_10, wr_10, rd_11, wr_11, rd_12, wr_12, rd_13, wr_13, rd_14, wr_14, rd_15, wr_15, rd_16, wr_16, rd_17, wr_17, rd_18, wr_18, rd_19, wr_19, rd_20, wr_20, rd_21, wr_21, rd_22, wr_22, rd_23, wr_23, rd_24, wr_24, rd_25, wr_25, rd_26, wr_26, rd_27, wr_27, rd_28, wr_28, rd_29, wr_29, rd_30, wr_30, rd_31, wr_31, rd_32, wr_32, rd_33, wr_33, rd_34, wr_34, rd_35, wr_35, rd_36, wr_36, rd_37, wr_37, rd_38, wr_38, rd_39, wr_39, rd_40, wr_40, rd_41, wr_41, rd_42, wr_42, rd_43, wr_43, rd_44, wr_44, rd_45, wr_45, rd_46, wr_46, rd_47, wr_47, rd_48, wr_48, rd_49, wr_49, rd_50, wr_50, rd_51, wr_51, rd_52, wr_52, rd_53, wr_53, rd_54, wr_54, rd_55, wr_55, rd_56, wr_56, rd_57, wr_57, rd_58, wr_58, rd_59, wr_59, rd_60, wr_60, rd_61, wr_61, rd_62, wr_62, rd_63, wr_63, rd_64, wr_64, rd_65, wr_65, rd_66, wr_66, rd_67, wr_67, rd_68, wr_68, rd_69, wr_69, rd_70, wr_70, rd_71, wr_71, rd_72, wr_72, rd_73, wr_73, rd_74, wr_74, tr_0 sh, tr_3 sh, tr_4 sh, tr_5 sh, tr_6 sh, tr_7 sh, tr_8 sh, tr_9 sh, tr_10 sh, tr_11 sh, tr_12 sh, tr_13 sh, tr_14 sh, tr_15 sh, tr_16 sh, tr_17 sh, tr_18 sh, tr_19 sh, tr_20 sh, tr_21 sh, tr_22 sh, tr_23 sh, tr_24 sh, tr_25 sh, tr_26 sh, tr_27 sh, tr_28 sh, tr_29 sh, tr_30 sh, tr_31 sh, tr_32 sh, tr_33 sh, tr_34 sh, tr_35 sh, tr_36 sh, tr_37 sh, tr_38 sh, tr_39 sh, tr_40 sh, tr_41 sh, tr_42 sh, tr_43 sh, tr_44 sh, tr_45 sh, tr_46 sh, tr_56 sh, tr_58 sh, tr_59 sh, tr_61 sh, tr_62 sh, tr_63 sh, tr_70 sh, tr_71 sh, tr_72 sh, tr_73 sh, tr_74 sh, Kt_v, Kt_0, Kt_x, lc_eqI, lI_eq, bI_0, bI_1, ne_eq, Classical.not_not, ite_not, up_eq, true_and, false_and, and_true, and_false, and_self, if_true, if_false, eq_self, true_or, or_true, false_or, or_false, not_true_eq_false, not_false_eq_true, Nat.reduceEqDiff, reduceIte, iI_neg, l64_0, Bool.false_eq_true, Int.reduceEq, tw_isLetter, wl_50]
    rw [if_pos (by omega), tEnd, tAcc, up_self rfl, up_self]
    exact (lI_toInt g6.1 g6.2).symm
  | succ d ih =>
    intro S hS g6 hd
    obtain ⟨g1, g2, g3, g4⟩ := hS
    have g5 := g4 (S 47 0)
    rw [sX6_advance_104]
    simp (maxSteps := 3000000) (disch := first | exact tk0 sh | exact tk sh (by decide) (by decide) rfl | exact tk_l sh (by decide) (by decide) (by decide) | exact tk_u sh (by decide) (by decide) (by decide) | exact tbd sh (by decide) (by decide) (by decide) (by omega) (by simp only [tL]; omega) | exact fit_0 | exact fit_1 | exact fit_b | omega | assumption | decide) only [sX6_advance_105, sX6_advance_108, sX6_advance_109, sX6_advance_112, sX6_advance_115, sX6_advance_116, sX6_advance_119, sX6_advance_120, sX6_advance_123, sX6_advance_124, sX6_advance_127, sX6_advance_130, sX6_advance_131, sX6_advance_132, sX6_advance_135, sX6_advance_137, sX6_advance_138, sX6_advance_139, sX6_advance_142, sX6_advance_143, sX6_advance_146, sX6_advance_147, sX6_advance_148, sX6_advance_149, sX6_advance_152, sX6_advance_153, sX6_advance_154, sX6_advance_157, sX6_advance_158, sX6_advance_159, sX6_advance_162, i_m1, i_m2, i_m3, i_m10, i_0, i_1, i_2, i_3, i_4, i_5, i_6, i_7, i_8, i_9, i_10, i_11, i_12, i_13, i_14, i_15, i_16, i_17, i_18, i_19, i_20, i_21, i_22, i_23, i_24, i_25, i_26, i_27, i_28, i_29, i_30, i_31, i_32, i_40, i_41, i_44, i_48, i_59, i_97, i_120, i_122, i_123, i_124, i_125, i_255, i_256, i_300, i_480, i_1024, i_2000, iI_add, iI_sub, iI_mul, iI_lt, iI_le, iI_eq, iI_nat, rd_0, wr_0, rd_1, wr_1, rd_2, wr_2, rd_3, wr_3, rd_4, wr_4, rd_5, wr_5, rd_6, wr_6, rd_7, wr_7, rd_8, wr_8, rd_9, wr_9, rd_10, wr_10, rd_11, wr_11, rd_12, wr_12, rd_13, wr_13, rd_14, wr_14, rd_15, wr_15, rd_16, wr_16, rd_17, wr_17, rd_18, wr_18, rd_19, wr_19, rd_20, wr_20, rd_21, wr_21, rd_22, wr_22, rd_23, wr_23, rd_24, wr_24, rd_25, wr_25, rd_26, wr_26, rd_27, wr_27, rd_28, wr_28, rd_29, wr_29, rd_30, wr_30, rd_31, wr_31, rd_32, wr_32, rd_33, wr_33, rd_34, wr_34, rd_35, wr_35, rd_36, wr_36, rd_37, wr_37, rd_38, wr_38, rd_39, wr_39, rd_40, wr_40, rd_41, wr_41, rd_42, wr_42, rd_43, wr_43, rd_44, wr_44, rd_45, wr_45, rd_46, wr_46, rd_47, wr_47, rd_48, wr_48, rd_49, wr_49, rd_50, wr_50, rd_51, wr_51, rd_52, wr_52, rd_53, wr_53, rd_54, wr_54, rd_55, wr_55, rd_56, wr_56, rd_57, wr_57, rd_58, wr_58, rd_59, wr_59, rd_60, wr_60, rd_61, wr_61, rd_62, wr_62, rd_63, wr_63, rd_64, wr_64, rd_65, wr_65, rd_66, wr_66, rd_67, wr_67, rd_68, wr_68, rd_69, wr_69, rd_70, wr_70, rd_71, wr_71, rd_72, wr_72, rd_73, wr_73, rd_74, wr_74, tr_0 sh, tr_3 sh, tr_4 sh, tr_5 sh, tr_6 sh, tr_7 sh, tr_8 sh, tr_9 sh, tr_10 sh, tr_11 sh, tr_12 sh, tr_13 sh, tr_14 sh, tr_15 sh, tr_16 sh, tr_17 sh, tr_18 sh, tr_19 sh, tr_20 sh, tr_21 sh, tr_22 sh, tr_23 sh, tr_24 sh, tr_25 sh, tr_26 sh, tr_27 sh, tr_28 sh, tr_29 sh, tr_30 sh, tr_31 sh, tr_32 sh, tr_33 sh, tr_34 sh, tr_35 sh, tr_36 sh, tr_37 sh, tr_38 sh, tr_39 sh, tr_40 sh, tr_41 sh, tr_42 sh, tr_43 sh, tr_44 sh, tr_45 sh, tr_46 sh, tr_56 sh, tr_58 sh, tr_59 sh, tr_61 sh, tr_62 sh, tr_63 sh, tr_70 sh, tr_71 sh, tr_72 sh, tr_73 sh, tr_74 sh, Kt_v, Kt_0, Kt_x, lc_eqI, lI_eq, bI_0, bI_1, ne_eq, Classical.not_not, ite_not, up_eq, true_and, false_and, and_true, and_false, and_self, if_true, if_false, eq_self, true_or, or_true, false_or, or_false, not_true_eq_false, not_false_eq_true, Nat.reduceEqDiff, reduceIte, iI_neg, l64_0, Bool.false_eq_true, Int.reduceEq, tw_isLetter, wl_50]
    rw [if_neg (by omega), tEnd, tAcc]
    by_cases q : 97 ≤ S 0 (S 47 0) ∧ S 0 (S 47 0) ≤ 122
    · rw [if_pos q, if_pos q, if_pos q]
      generalize hX : lI (S 50 0) <<< ((iI 8).toInt64 &&& 63) ||| (iI (S 0 (S 47 0))).toInt64 = X
      have key := ih (up (up S 50 0 X.toInt) 47 0 (S 47 0 + 1)) ⟨by simp only [up_eq, true_and, false_and, and_true, and_false, and_self, if_true, if_false, eq_self, Nat.reduceEqDiff, reduceIte]; omega, by simp only [up_eq, true_and, false_and, and_true, and_false, and_self, if_true, if_false, eq_self, Nat.reduceEqDiff, reduceIte]; omega, by simp only [up_eq, true_and, false_and, and_true, and_false, and_self, if_true, if_false, eq_self, Nat.reduceEqDiff, reduceIte]; omega, fun j => by simp only [up_eq, true_and, false_and, and_true, and_false, and_self, if_true, if_false, eq_self, Nat.reduceEqDiff, reduceIte]; exact g4 j⟩ (by simp only [up_eq, true_and, false_and, and_true, and_false, and_self, if_true, if_false, eq_self, Nat.reduceEqDiff, reduceIte]; exact ⟨Int64.le_toInt X, Int64.toInt_lt X⟩) (by simp only [up_eq, true_and, false_and, and_true, and_false, and_self, if_true, if_false, eq_self, Nat.reduceEqDiff, reduceIte]; omega)
      simp only [up_eq, true_and, false_and, and_true, and_false, and_self, if_true, if_false, eq_self, Nat.reduceEqDiff, reduceIte] at key
      rw [lI_of] at key
      simp (disch := decide) only [up_n, up_up, up_swap] at key ⊢
      exact key
    · rw [if_neg q, if_neg q, if_neg q, up_self rfl, up_self]
      exact (lI_toInt g6.1 g6.2).symm
theorem tw_advance (sh : TS h m) (hS : SG S) : Cl r 35 [vR (some m)] (tput h m w S U) Q ↔ Q (Sum.inl none) (tput h m w (tAdv S) U) := by
  rw [eX6_advance, tw_adv1 sh _ S hS rfl, show tSkip (S 0) (S 48 0 - S 47 0).toNat (S 47 0) = tkP (S 0) (S 48 0) (S 47 0) from rfl]
  have hb := tSkip_b (S 0) (S 48 0 - S 47 0).toNat (S 47 0)
  rw [show tSkip (S 0) (S 48 0 - S 47 0).toNat (S 47 0) = tkP (S 0) (S 48 0) (S 47 0) from rfl] at hb
  unfold tAdv tTok
  generalize tkP (S 0) (S 48 0) (S 47 0) = p at *
  obtain ⟨g1, g2, g3, g4⟩ := hS
  have g5 := g4 p
  simp (maxSteps := 3000000) (disch := first | exact tk0 sh | exact tk sh (by decide) (by decide) rfl | exact tk_l sh (by decide) (by decide) (by decide) | exact tk_u sh (by decide) (by decide) (by decide) | exact tbd sh (by decide) (by decide) (by decide) (by omega) (by simp only [tL]; omega) | exact fit_0 | exact fit_1 | exact fit_b | omega | assumption | decide) only [sX6_advance_52, sX6_advance_53, sX6_advance_54, sX6_advance_57, sX6_advance_60, sX6_advance_61, sX6_advance_62, sX6_advance_65, sX6_advance_66, sX6_advance_69, sX6_advance_70, sX6_advance_73, sX6_advance_76, sX6_advance_77, sX6_advance_78, sX6_advance_81, sX6_advance_84, sX6_advance_85, sX6_advance_88, sX6_advance_89, sX6_advance_92, sX6_advance_93, sX6_advance_96, sX6_advance_99, sX6_advance_100, sX6_advance_101, sX6_advance_165, sX6_advance_166, sX6_advance_169, sX6_advance_170, sX6_advance_173, sX6_advance_174, sX6_advance_176, sX6_advance_179, sX6_advance_180, sX6_advance_182, sX6_advance_185, sX6_advance_186, sX6_advance_187, sX6_advance_190, sX6_advance_193, sX6_advance_194, sX6_advance_195, sX6_advance_198, sX6_advance_199, sX6_advance_202, sX6_advance_203, sX6_advance_206, sX6_advance_209, sX6_advance_210, sX6_advance_213, sX6_advance_214, sX6_advance_217, sX6_advance_218, sX6_advance_221, sX6_advance_223, sX6_advance_226, sX6_advance_227, sX6_advance_228, sX6_advance_231, sX6_advance_232, sX6_advance_233, sX6_advance_236, i_m1, i_m2, i_m3, i_m10, i_0, i_1, i_2, i_3, i_4, i_5, i_6, i_7, i_8, i_9, i_10, i_11, i_12, i_13, i_14, i_15, i_16, i_17, i_18, i_19, i_20, i_21, i_22, i_23, i_24, i_25, i_26, i_27, i_28, i_29, i_30, i_31, i_32, i_40, i_41, i_44, i_48, i_59, i_97, i_120, i_122, i_123, i_124, i_125, i_255, i_256, i_300, i_480, i_1024, i_2000, iI_add, iI_sub, iI_mul, iI_lt, iI_le, iI_eq, iI_nat, rd_0, wr_0, rd_1, wr_1, rd_2, wr_2, rd_3, wr_3, rd_4, wr_4, rd_5, wr_5, rd_6, wr_6, rd_7, wr_7, rd_8, wr_8, rd_9, wr_9, rd_10, wr_10, rd_11, wr_11, rd_12, wr_12, rd_13, wr_13, rd_14, wr_14, rd_15, wr_15, rd_16, wr_16, rd_17, wr_17, rd_18, wr_18, rd_19, wr_19, rd_20, wr_20, rd_21, wr_21, rd_22, wr_22, rd_23, wr_23, rd_24, wr_24, rd_25, wr_25, rd_26, wr_26, rd_27, wr_27, rd_28, wr_28, rd_29, wr_29, rd_30, wr_30, rd_31, wr_31, rd_32, wr_32, rd_33, wr_33, rd_34, wr_34, rd_35, wr_35, rd_36, wr_36, rd_37, wr_37, rd_38, wr_38, rd_39, wr_39, rd_40, wr_40, rd_41, wr_41, rd_42, wr_42, rd_43, wr_43, rd_44, wr_44, rd_45, wr_45, rd_46, wr_46, rd_47, wr_47, rd_48, wr_48, rd_49, wr_49, rd_50, wr_50, rd_51, wr_51, rd_52, wr_52, rd_53, wr_53, rd_54, wr_54, rd_55, wr_55, rd_56, wr_56, rd_57, wr_57, rd_58, wr_58, rd_59, wr_59, rd_60, wr_60, rd_61, wr_61, rd_62, wr_62, rd_63, wr_63, rd_64, wr_64, rd_65, wr_65, rd_66, wr_66, rd_67, wr_67, rd_68, wr_68, rd_69, wr_69, rd_70, wr_70, rd_71, wr_71, rd_72, wr_72, rd_73, wr_73, rd_74, wr_74, tr_0 sh, tr_3 sh, tr_4 sh, tr_5 sh, tr_6 sh, tr_7 sh, tr_8 sh, tr_9 sh, tr_10 sh, tr_11 sh, tr_12 sh, tr_13 sh, tr_14 sh, tr_15 sh, tr_16 sh, tr_17 sh, tr_18 sh, tr_19 sh, tr_20 sh, tr_21 sh, tr_22 sh, tr_23 sh, tr_24 sh, tr_25 sh, tr_26 sh, tr_27 sh, tr_28 sh, tr_29 sh, tr_30 sh, tr_31 sh, tr_32 sh, tr_33 sh, tr_34 sh, tr_35 sh, tr_36 sh, tr_37 sh, tr_38 sh, tr_39 sh, tr_40 sh, tr_41 sh, tr_42 sh, tr_43 sh, tr_44 sh, tr_45 sh, tr_46 sh, tr_56 sh, tr_58 sh, tr_59 sh, tr_61 sh, tr_62 sh, tr_63 sh, tr_70 sh, tr_71 sh, tr_72 sh, tr_73 sh, tr_74 sh, Kt_v, Kt_0, Kt_x, lc_eqI, lI_eq, bI_0, bI_1, ne_eq, Classical.not_not, ite_not, up_eq, true_and, false_and, and_true, and_false, and_self, if_true, if_false, eq_self, true_or, or_true, false_or, or_false, not_true_eq_false, not_false_eq_true, Nat.reduceEqDiff, reduceIte, iI_neg, l64_0, Bool.false_eq_true, Int.reduceEq, tw_isLetter, tw_isSign, wl_50]
  unfold tkQ tkX tkS
  by_cases q1 : p = S 48 0
  · simp only [q1, if_true, if_false]
  · simp only [q1, if_false]
    by_cases q2 : 97 ≤ S 0 p ∧ S 0 p ≤ 122
    · simp only [q2, if_true, and_self]
      rw [tw_adv2 sh _ _ ⟨by simp only [up_eq, true_and, false_and, and_true, and_false, and_self, if_true, if_false, eq_self, Nat.reduceEqDiff, reduceIte]; omega, by simp only [up_eq, true_and, false_and, and_true, and_false, and_self, if_true, if_false, eq_self, Nat.reduceEqDiff, reduceIte]; omega, by simp only [up_eq, true_and, false_and, and_true, and_false, and_self, if_true, if_false, eq_self, Nat.reduceEqDiff, reduceIte]; omega, fun j => by simp only [up_eq, true_and, false_and, and_true, and_false, and_self, if_true, if_false, eq_self, Nat.reduceEqDiff, reduceIte]; exact g4 j⟩ (by simp only [up_eq, true_and, false_and, and_true, and_false, and_self, if_true, if_false, eq_self, Nat.reduceEqDiff, reduceIte]; omega) rfl]
      simp only [up_eq, true_and, false_and, and_true, and_false, and_self, if_true, if_false, eq_self, Nat.reduceEqDiff, reduceIte]
      simp (disch := decide) only [up_n, up_up, up_swap]
      have hE := tEnd_b (S 0) (S 48 0 - p).toNat p
      have hW := tAcc_wv (S 0) g4 (S 48 0 - p).toNat p 0 0 (by omega) (by simp only [tB]; omega)
      rw [show tEnd (S 0) (S 48 0 - p).toNat p = tkE (S 0) (S 48 0) p from rfl] at hE hW ⊢
      generalize tkE (S 0) (S 48 0) p = z at *
      simp (maxSteps := 3000000) (disch := first | exact tk0 sh | exact tk sh (by decide) (by decide) rfl | exact tk_l sh (by decide) (by decide) (by decide) | exact tk_u sh (by decide) (by decide) (by decide) | exact tbd sh (by decide) (by decide) (by decide) (by omega) (by simp only [tL]; omega) | exact fit_0 | exact fit_1 | exact fit_b | omega | assumption | decide) only [sX6_advance_165, sX6_advance_166, sX6_advance_169, sX6_advance_170, sX6_advance_173, sX6_advance_174, sX6_advance_176, sX6_advance_179, sX6_advance_180, sX6_advance_182, sX6_advance_185, sX6_advance_186, sX6_advance_187, sX6_advance_190, sX6_advance_193, sX6_advance_194, sX6_advance_195, sX6_advance_198, sX6_advance_199, sX6_advance_202, sX6_advance_203, sX6_advance_206, sX6_advance_209, sX6_advance_210, sX6_advance_213, sX6_advance_214, sX6_advance_217, sX6_advance_218, sX6_advance_221, sX6_advance_223, sX6_advance_226, sX6_advance_227, sX6_advance_228, sX6_advance_231, sX6_advance_232, sX6_advance_233, sX6_advance_236, i_m1, i_m2, i_m3, i_m10, i_0, i_1, i_2, i_3, i_4, i_5, i_6, i_7, i_8, i_9, i_10, i_11, i_12, i_13, i_14, i_15, i_16, i_17, i_18, i_19, i_20, i_21, i_22, i_23, i_24, i_25, i_26, i_27, i_28, i_29, i_30, i_31, i_32, i_40, i_41, i_44, i_48, i_59, i_97, i_120, i_122, i_123, i_124, i_125, i_255, i_256, i_300, i_480, i_1024, i_2000, iI_add, iI_sub, iI_mul, iI_lt, iI_le, iI_eq, iI_nat, rd_0, wr_0, rd_1, wr_1, rd_2, wr_2, rd_3, wr_3, rd_4, wr_4, rd_5, wr_5, rd_6, wr_6, rd_7, wr_7, rd_8, wr_8, rd_9, wr_9, rd_10, wr_10, rd_11, wr_11, rd_12, wr_12, rd_13, wr_13, rd_14, wr_14, rd_15, wr_15, rd_16, wr_16, rd_17, wr_17, rd_18, wr_18, rd_19, wr_19, rd_20, wr_20, rd_21, wr_21, rd_22, wr_22, rd_23, wr_23, rd_24, wr_24, rd_25, wr_25, rd_26, wr_26, rd_27, wr_27, rd_28, wr_28, rd_29, wr_29, rd_30, wr_30, rd_31, wr_31, rd_32, wr_32, rd_33, wr_33, rd_34, wr_34, rd_35, wr_35, rd_36, wr_36, rd_37, wr_37, rd_38, wr_38, rd_39, wr_39, rd_40, wr_40, rd_41, wr_41, rd_42, wr_42, rd_43, wr_43, rd_44, wr_44, rd_45, wr_45, rd_46, wr_46, rd_47, wr_47, rd_48, wr_48, rd_49, wr_49, rd_50, wr_50, rd_51, wr_51, rd_52, wr_52, rd_53, wr_53, rd_54, wr_54, rd_55, wr_55, rd_56, wr_56, rd_57, wr_57, rd_58, wr_58, rd_59, wr_59, rd_60, wr_60, rd_61, wr_61, rd_62, wr_62, rd_63, wr_63, rd_64, wr_64, rd_65, wr_65, rd_66, wr_66, rd_67, wr_67, rd_68, wr_68, rd_69, wr_69, rd_70, wr_70, rd_71, wr_71, rd_72, wr_72, rd_73, wr_73, rd_74, wr_74, tr_0 sh, tr_3 sh, tr_4 sh, tr_5 sh, tr_6 sh, tr_7 sh, tr_8 sh, tr_9 sh, tr_10 sh, tr_11 sh, tr_12 sh, tr_13 sh, tr_14 sh, tr_15 sh, tr_16 sh, tr_17 sh, tr_18 sh, tr_19 sh, tr_20 sh, tr_21 sh, tr_22 sh, tr_23 sh, tr_24 sh, tr_25 sh, tr_26 sh, tr_27 sh, tr_28 sh, tr_29 sh, tr_30 sh, tr_31 sh, tr_32 sh, tr_33 sh, tr_34 sh, tr_35 sh, tr_36 sh, tr_37 sh, tr_38 sh, tr_39 sh, tr_40 sh, tr_41 sh, tr_42 sh, tr_43 sh, tr_44 sh, tr_45 sh, tr_46 sh, tr_56 sh, tr_58 sh, tr_59 sh, tr_61 sh, tr_62 sh, tr_63 sh, tr_70 sh, tr_71 sh, tr_72 sh, tr_73 sh, tr_74 sh, Kt_v, Kt_0, Kt_x, lc_eqI, lI_eq, bI_0, bI_1, ne_eq, Classical.not_not, ite_not, up_eq, true_and, false_and, and_true, and_false, and_self, if_true, if_false, eq_self, true_or, or_true, false_or, or_false, not_true_eq_false, not_false_eq_true, Nat.reduceEqDiff, reduceIte, iI_neg, l64_0, Bool.false_eq_true, Int.reduceEq, wl_50]
      by_cases q3 : 8 < z - p
      · rw [if_neg (by omega), if_pos q3, if_pos q3]
        simp (disch := decide) only [up_n, up_up, up_swap]
      · rw [if_pos (by omega), if_neg q3, if_neg q3, (hW (by omega)).1, lI_toInt (by omega) (hW (by omega)).2.2]
    · simp only [q2, if_false]
      by_cases q3 : tSgn (S 0 p) = true
      · simp only [q3, if_true]
        simp (disch := decide) only [up_n, up_up, up_swap]
      · rw [if_neg q3, if_neg q3]
        simp (disch := decide) only [up_n, up_up, up_swap]
/-- the scalars while a text is read -/
def SI (S : tSt) : Prop := SG S ∧ (0 ≤ S 49 0 ∧ S 49 0 ≤ 2000) ∧ (0 ≤ S 50 0 ∧ S 50 0 < 9223372036854775808) ∧ (-2 ≤ S 51 0 ∧ S 51 0 ≤ 255) ∧ (-1 ≤ S 52 0 ∧ S 52 0 ≤ 2000) ∧ (0 ≤ S 53 0 ∧ S 53 0 < 9223372036854775808) ∧ (0 ≤ S 54 0 ∧ S 54 0 ≤ 2000) ∧ (0 ≤ S 55 0 ∧ S 55 0 ≤ 8)
/-- what a token is: its place and end in the text, its word, its sign -/
theorem tAdv_val (hS : SG S) : S 47 0 ≤ tAdv S 49 0 ∧ tAdv S 49 0 ≤ tAdv S 47 0 ∧ tAdv S 47 0 ≤ S 48 0 ∧ (0 ≤ tAdv S 50 0 ∧ tAdv S 50 0 < 9223372036854775808) ∧ (-2 ≤ tAdv S 51 0 ∧ tAdv S 51 0 ≤ 255) ∧ (tAdv S 51 0 ≠ -1 → tAdv S 49 0 < tAdv S 47 0) := by
  obtain ⟨g1, g2, g3, g4⟩ := hS
  unfold tAdv tTok
  simp only [up_eq, true_and, false_and, and_true, and_false, and_self, if_true, if_false, eq_self, Nat.reduceEqDiff, reduceIte]
  have hb := tSkip_b (S 0) (S 48 0 - S 47 0).toNat (S 47 0)
  rw [show tSkip (S 0) (S 48 0 - S 47 0).toNat (S 47 0) = tkP (S 0) (S 48 0) (S 47 0) from rfl] at hb
  generalize tkP (S 0) (S 48 0) (S 47 0) = p at *
  have g5 := g4 p
  have hE := tEnd_b (S 0) (S 48 0 - p).toNat p
  have hW := tAcc_wv (S 0) g4 (S 48 0 - p).toNat p 0 0 (by omega) (by simp only [tB]; omega)
  have hL : 97 ≤ S 0 p ∧ S 0 p ≤ 122 → p ≠ S 48 0 → p < tEnd (S 0) (S 48 0 - p).toNat p := by
    intro q q1
    obtain ⟨d, hd⟩ : ∃ d, (S 48 0 - p).toNat = d + 1 := ⟨(S 48 0 - p).toNat - 1, by omega⟩
    rw [hd, tEnd, if_pos q]
    have := (tEnd_b (S 0) d (p + 1)).1
    omega
  unfold tkQ tkX tkS
  rw [show tEnd (S 0) (S 48 0 - p).toNat p = tkE (S 0) (S 48 0) p from rfl] at *
  by_cases q1 : p = S 48 0
  · simp only [q1, if_true, if_false]
    omega
  · simp only [q1, if_false]
    by_cases q2 : 97 ≤ S 0 p ∧ S 0 p ≤ 122
    · simp only [q2, if_true, and_self]
      have := hL q2 q1
      by_cases q3 : 8 < tkE (S 0) (S 48 0) p - p
      · simp only [q3, if_true]
        omega
      · simp only [q3, if_false]
        have := hW (by omega)
        omega
    · simp only [q2, if_false]
      split <;> omega
theorem tAdv_o (f : Nat) (h1 : f ≠ 47) (h2 : f ≠ 49) (h3 : f ≠ 50) (h4 : f ≠ 51) : tAdv S f = S f := by
  unfold tAdv tTok
  rw [up_n h4, up_n h3, up_n h2, up_n h1]
theorem SI_adv (hS : SI S) : SI (tAdv S) := by
  obtain ⟨s1, s2, s3, s4, s5, s6, s7, s8⟩ := hS
  have v := tAdv_val s1
  obtain ⟨g1, g2, g3, g4⟩ := s1
  unfold SI SG
  simp (disch := decide) only [tAdv_o]
  exact ⟨⟨by omega, by omega, by omega, g4⟩, by omega, by omega, by omega, s5, s6, s7, s8⟩
theorem tFail_o (f : Nat) (h1 : f ≠ 52) : tFail S f = S f := by
  unfold tFail
  rw [up_n h1]
theorem SI_fail (hS : SI S) : SI (tFail S) := by
  obtain ⟨s1, s2, s3, s4, s5, s6, s7, s8⟩ := hS
  unfold SI SG
  simp (disch := decide) only [tFail_o]
  refine ⟨s1, s2, s3, s4, ?_, s6, s7, s8⟩
  unfold tFail
  rw [up_s]
  split <;> omega
theorem tw_fails (sh : TS h m) (hS : SI S) : Cl r 39 [vR (some m)] (tput h m w S U) Q ↔ Q (Sum.inl (some (vI (iI 0)))) (tput h m w (tFail S) U) := by
  obtain ⟨s1, s2, s3, s4, s5, s6, s7, s8⟩ := hS
  simp (maxSteps := 3000000) (disch := first | exact tk0 sh | exact tk sh (by decide) (by decide) rfl | exact tk_l sh (by decide) (by decide) (by decide) | exact tk_u sh (by decide) (by decide) (by decide) | exact tbd sh (by decide) (by decide) (by decide) (by omega) (by simp only [tL]; omega) | exact fit_0 | exact fit_1 | exact fit_b | omega | assumption | decide) only [eX6_fails, sX6_fails_0, sX6_fails_1, sX6_fails_2, sX6_fails_5, sX6_fails_6, sX6_fails_9, sX6_fails_10, sX6_fails_13, sX6_fails_16, sX6_fails_17, sX6_fails_20, sX6_fails_23, sX6_fails_24, i_m1, i_m2, i_m3, i_m10, i_0, i_1, i_2, i_3, i_4, i_5, i_6, i_7, i_8, i_9, i_10, i_11, i_12, i_13, i_14, i_15, i_16, i_17, i_18, i_19, i_20, i_21, i_22, i_23, i_24, i_25, i_26, i_27, i_28, i_29, i_30, i_31, i_32, i_40, i_41, i_44, i_48, i_59, i_97, i_120, i_122, i_123, i_124, i_125, i_255, i_256, i_300, i_480, i_1024, i_2000, iI_add, iI_sub, iI_mul, iI_lt, iI_le, iI_eq, iI_nat, rd_0, wr_0, rd_1, wr_1, rd_2, wr_2, rd_3, wr_3, rd_4, wr_4, rd_5, wr_5, rd_6, wr_6, rd_7, wr_7, rd_8, wr_8, rd_9, wr_9, rd_10, wr_10, rd_11, wr_11, rd_12, wr_12, rd_13, wr_13, rd_14, wr_14, rd_15, wr_15, rd_16, wr_16, rd_17, wr_17, rd_18, wr_18, rd_19, wr_19, rd_20, wr_20, rd_21, wr_21, rd_22, wr_22, rd_23, wr_23, rd_24, wr_24, rd_25, wr_25, rd_26, wr_26, rd_27, wr_27, rd_28, wr_28, rd_29, wr_29, rd_30, wr_30, rd_31, wr_31, rd_32, wr_32, rd_33, wr_33, rd_34, wr_34, rd_35, wr_35, rd_36, wr_36, rd_37, wr_37, rd_38, wr_38, rd_39, wr_39, rd_40, wr_40, rd_41, wr_41, rd_42, wr_42, rd_43, wr_43, rd_44, wr_44, rd_45, wr_45, rd_46, wr_46, rd_47, wr_47, rd_48, wr_48, rd_49, wr_49, rd_50, wr_50, rd_51, wr_51, rd_52, wr_52, rd_53, wr_53, rd_54, wr_54, rd_55, wr_55, rd_56, wr_56, rd_57, wr_57, rd_58, wr_58, rd_59, wr_59, rd_60, wr_60, rd_61, wr_61, rd_62, wr_62, rd_63, wr_63, rd_64, wr_64, rd_65, wr_65, rd_66, wr_66, rd_67, wr_67, rd_68, wr_68, rd_69, wr_69, rd_70, wr_70, rd_71, wr_71, rd_72, wr_72, rd_73, wr_73, rd_74, wr_74, tr_0 sh, tr_3 sh, tr_4 sh, tr_5 sh, tr_6 sh, tr_7 sh, tr_8 sh, tr_9 sh, tr_10 sh, tr_11 sh, tr_12 sh, tr_13 sh, tr_14 sh, tr_15 sh, tr_16 sh, tr_17 sh, tr_18 sh, tr_19 sh, tr_20 sh, tr_21 sh, tr_22 sh, tr_23 sh, tr_24 sh, tr_25 sh, tr_26 sh, tr_27 sh, tr_28 sh, tr_29 sh, tr_30 sh, tr_31 sh, tr_32 sh, tr_33 sh, tr_34 sh, tr_35 sh, tr_36 sh, tr_37 sh, tr_38 sh, tr_39 sh, tr_40 sh, tr_41 sh, tr_42 sh, tr_43 sh, tr_44 sh, tr_45 sh, tr_46 sh, tr_56 sh, tr_58 sh, tr_59 sh, tr_61 sh, tr_62 sh, tr_63 sh, tr_70 sh, tr_71 sh, tr_72 sh, tr_73 sh, tr_74 sh, Kt_v, Kt_0, Kt_x, lc_eqI, lI_eq, bI_0, bI_1, ne_eq, Classical.not_not, ite_not, up_eq, true_and, false_and, and_true, and_false, and_self, if_true, if_false, eq_self, true_or, or_true, false_or, or_false, not_true_eq_false, not_false_eq_true, Nat.reduceEqDiff, reduceIte, iI_neg, l64_0, Bool.false_eq_true, Int.reduceEq]
  unfold tFail
  split <;> rfl
theorem tw_take {s : Int} (sh : TS h m) (hS : SI S) (hs : -10 ≤ s ∧ s ≤ 255) : Cl r 90 [vR (some m), vI (iI s)] (tput h m w S U) Q ↔ Q (Sum.inl (some (vI (bI (S 51 0 = s))))) (tput h m w (tTake S s) U) := by
  have S9 := hS
  obtain ⟨s1, s2, s3, s4, s5, s6, s7, s8⟩ := hS
  simp (maxSteps := 3000000) (disch := first | exact tk0 sh | exact tk sh (by decide) (by decide) rfl | exact tk_l sh (by decide) (by decide) (by decide) | exact tk_u sh (by decide) (by decide) (by decide) | exact tbd sh (by decide) (by decide) (by decide) (by omega) (by simp only [tL]; omega) | exact fit_0 | exact fit_1 | exact fit_b | omega | assumption | decide) only [eX6_take, sX6_take_0, sX6_take_1, sX6_take_4, sX6_take_5, sX6_take_8, sX6_take_9, sX6_take_12, sX6_take_13, sX6_take_14, sX6_take_17, sX6_take_18, i_m1, i_m2, i_m3, i_m10, i_0, i_1, i_2, i_3, i_4, i_5, i_6, i_7, i_8, i_9, i_10, i_11, i_12, i_13, i_14, i_15, i_16, i_17, i_18, i_19, i_20, i_21, i_22, i_23, i_24, i_25, i_26, i_27, i_28, i_29, i_30, i_31, i_32, i_40, i_41, i_44, i_48, i_59, i_97, i_120, i_122, i_123, i_124, i_125, i_255, i_256, i_300, i_480, i_1024, i_2000, iI_add, iI_sub, iI_mul, iI_lt, iI_le, iI_eq, iI_nat, rd_0, wr_0, rd_1, wr_1, rd_2, wr_2, rd_3, wr_3, rd_4, wr_4, rd_5, wr_5, rd_6, wr_6, rd_7, wr_7, rd_8, wr_8, rd_9, wr_9, rd_10, wr_10, rd_11, wr_11, rd_12, wr_12, rd_13, wr_13, rd_14, wr_14, rd_15, wr_15, rd_16, wr_16, rd_17, wr_17, rd_18, wr_18, rd_19, wr_19, rd_20, wr_20, rd_21, wr_21, rd_22, wr_22, rd_23, wr_23, rd_24, wr_24, rd_25, wr_25, rd_26, wr_26, rd_27, wr_27, rd_28, wr_28, rd_29, wr_29, rd_30, wr_30, rd_31, wr_31, rd_32, wr_32, rd_33, wr_33, rd_34, wr_34, rd_35, wr_35, rd_36, wr_36, rd_37, wr_37, rd_38, wr_38, rd_39, wr_39, rd_40, wr_40, rd_41, wr_41, rd_42, wr_42, rd_43, wr_43, rd_44, wr_44, rd_45, wr_45, rd_46, wr_46, rd_47, wr_47, rd_48, wr_48, rd_49, wr_49, rd_50, wr_50, rd_51, wr_51, rd_52, wr_52, rd_53, wr_53, rd_54, wr_54, rd_55, wr_55, rd_56, wr_56, rd_57, wr_57, rd_58, wr_58, rd_59, wr_59, rd_60, wr_60, rd_61, wr_61, rd_62, wr_62, rd_63, wr_63, rd_64, wr_64, rd_65, wr_65, rd_66, wr_66, rd_67, wr_67, rd_68, wr_68, rd_69, wr_69, rd_70, wr_70, rd_71, wr_71, rd_72, wr_72, rd_73, wr_73, rd_74, wr_74, tr_0 sh, tr_3 sh, tr_4 sh, tr_5 sh, tr_6 sh, tr_7 sh, tr_8 sh, tr_9 sh, tr_10 sh, tr_11 sh, tr_12 sh, tr_13 sh, tr_14 sh, tr_15 sh, tr_16 sh, tr_17 sh, tr_18 sh, tr_19 sh, tr_20 sh, tr_21 sh, tr_22 sh, tr_23 sh, tr_24 sh, tr_25 sh, tr_26 sh, tr_27 sh, tr_28 sh, tr_29 sh, tr_30 sh, tr_31 sh, tr_32 sh, tr_33 sh, tr_34 sh, tr_35 sh, tr_36 sh, tr_37 sh, tr_38 sh, tr_39 sh, tr_40 sh, tr_41 sh, tr_42 sh, tr_43 sh, tr_44 sh, tr_45 sh, tr_46 sh, tr_56 sh, tr_58 sh, tr_59 sh, tr_61 sh, tr_62 sh, tr_63 sh, tr_70 sh, tr_71 sh, tr_72 sh, tr_73 sh, tr_74 sh, Kt_v, Kt_0, Kt_x, lc_eqI, lI_eq, bI_0, bI_1, ne_eq, Classical.not_not, ite_not, up_eq, true_and, false_and, and_true, and_false, and_self, if_true, if_false, eq_self, true_or, or_true, false_or, or_false, not_true_eq_false, not_false_eq_true, Nat.reduceEqDiff, reduceIte, iI_neg, l64_0, Bool.false_eq_true, Int.reduceEq, tw_fails sh S9, tw_advance sh s1]
  unfold tTake
  by_cases q : S 51 0 = s
  · simp only [q, if_true, bI_t]
  · simp only [q, if_false, bI_f, not_false_eq_true]
end TOK
