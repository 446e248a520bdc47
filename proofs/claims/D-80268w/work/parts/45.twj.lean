/-! THE TWIN: judging, 1: who can be left; the sweeps; mistakes *-/
section J1
variable {r m : Nat} {h : am_H} {Q : am_O → am_H → Prop} {w : Int} {S U : tSt}
theorem tw_isBefore {p c k q d l : Int} (h1 : -1000000 ≤ p ∧ p < 1000000) (h2 : -1000000 ≤ c ∧ c < 1000000) (h3 : -1000000 ≤ k ∧ k < 1000000) (h4 : -1000000 ≤ q ∧ q < 1000000) (h5 : -1000000 ≤ d ∧ d < 1000000) (h6 : -1000000 ≤ l ∧ l < 1000000) :
    Cl r 145 [vI (iI p), vI (iI c), vI (iI k), vI (iI q), vI (iI d), vI (iI l)] h Q ↔ Q (Sum.inl (some (vI (bI (msLt (c, p, k) (d, q, l) = true))))) h := by
  unfold msLt
  dsimp only
  by_cases q1 : p = q
  · by_cases q2 : c = d
    · by_cases q3 : k < l
      · have q4 : ¬ l ≤ k := by omega
        simp (disch := first | exact fit_0 | exact fit_1 | exact fit_b | omega | assumption | decide) only [eX6_isBefore, sX6_isBefore_0, sX6_isBefore_1, sX6_isBefore_2, sX6_isBefore_5, sX6_isBefore_6, sX6_isBefore_7, sX6_isBefore_10, sX6_isBefore_11, sX6_isBefore_14, sX6_isBefore_15, sX6_isBefore_18, sX6_isBefore_19, sX6_isBefore_21, sX6_isBefore_24, sX6_isBefore_25, sX6_isBefore_27, sX6_isBefore_30, sX6_isBefore_31, sX6_isBefore_34, sX6_isBefore_35, sX6_isBefore_38, sX6_isBefore_39, sX6_isBefore_41, sX6_isBefore_44, sX6_isBefore_45, sX6_isBefore_48, sX6_isBefore_49, i_m1, i_m2, i_m3, i_m10, i_0, i_1, i_2, i_3, i_4, i_5, i_6, i_7, i_8, i_9, i_10, i_11, i_12, i_13, i_14, i_15, i_16, i_17, i_18, i_19, i_20, i_21, i_22, i_23, i_24, i_25, i_26, i_27, i_28, i_29, i_30, i_31, i_32, i_40, i_41, i_44, i_48, i_59, i_97, i_120, i_122, i_123, i_124, i_125, i_255, i_256, i_300, i_480, i_1024, i_2000, iI_eq, iI_le, iI_lt, ne_eq, q1, q2, q3, q4, not_true_eq_false, if_true, if_false, decide_true, bI_t]
      · have q4 : l ≤ k := by omega
        simp (disch := first | exact fit_0 | exact fit_1 | exact fit_b | omega | assumption | decide) only [eX6_isBefore, sX6_isBefore_0, sX6_isBefore_1, sX6_isBefore_2, sX6_isBefore_5, sX6_isBefore_6, sX6_isBefore_7, sX6_isBefore_10, sX6_isBefore_11, sX6_isBefore_14, sX6_isBefore_15, sX6_isBefore_18, sX6_isBefore_19, sX6_isBefore_21, sX6_isBefore_24, sX6_isBefore_25, sX6_isBefore_27, sX6_isBefore_30, sX6_isBefore_31, sX6_isBefore_34, sX6_isBefore_35, sX6_isBefore_38, sX6_isBefore_39, sX6_isBefore_41, sX6_isBefore_44, sX6_isBefore_45, sX6_isBefore_48, sX6_isBefore_49, i_m1, i_m2, i_m3, i_m10, i_0, i_1, i_2, i_3, i_4, i_5, i_6, i_7, i_8, i_9, i_10, i_11, i_12, i_13, i_14, i_15, i_16, i_17, i_18, i_19, i_20, i_21, i_22, i_23, i_24, i_25, i_26, i_27, i_28, i_29, i_30, i_31, i_32, i_40, i_41, i_44, i_48, i_59, i_97, i_120, i_122, i_123, i_124, i_125, i_255, i_256, i_300, i_480, i_1024, i_2000, iI_eq, iI_le, iI_lt, ne_eq, q1, q2, q3, q4, not_true_eq_false, if_true, if_false, decide_false, bI_f, Bool.false_eq_true, not_false_eq_true]
    · by_cases q3 : c < d
      · have q4 : ¬ d ≤ c := by omega
        simp (disch := first | exact fit_0 | exact fit_1 | exact fit_b | omega | assumption | decide) only [eX6_isBefore, sX6_isBefore_0, sX6_isBefore_1, sX6_isBefore_2, sX6_isBefore_5, sX6_isBefore_6, sX6_isBefore_7, sX6_isBefore_10, sX6_isBefore_11, sX6_isBefore_14, sX6_isBefore_15, sX6_isBefore_18, sX6_isBefore_19, sX6_isBefore_21, sX6_isBefore_24, sX6_isBefore_25, sX6_isBefore_27, sX6_isBefore_30, sX6_isBefore_31, sX6_isBefore_34, sX6_isBefore_35, sX6_isBefore_38, sX6_isBefore_39, sX6_isBefore_41, sX6_isBefore_44, sX6_isBefore_45, sX6_isBefore_48, sX6_isBefore_49, i_m1, i_m2, i_m3, i_m10, i_0, i_1, i_2, i_3, i_4, i_5, i_6, i_7, i_8, i_9, i_10, i_11, i_12, i_13, i_14, i_15, i_16, i_17, i_18, i_19, i_20, i_21, i_22, i_23, i_24, i_25, i_26, i_27, i_28, i_29, i_30, i_31, i_32, i_40, i_41, i_44, i_48, i_59, i_97, i_120, i_122, i_123, i_124, i_125, i_255, i_256, i_300, i_480, i_1024, i_2000, iI_eq, iI_le, iI_lt, ne_eq, q1, q2, q3, q4, not_true_eq_false, not_false_eq_true, if_true, if_false, decide_true, bI_t]
      · have q4 : d ≤ c := by omega
        simp (disch := first | exact fit_0 | exact fit_1 | exact fit_b | omega | assumption | decide) only [eX6_isBefore, sX6_isBefore_0, sX6_isBefore_1, sX6_isBefore_2, sX6_isBefore_5, sX6_isBefore_6, sX6_isBefore_7, sX6_isBefore_10, sX6_isBefore_11, sX6_isBefore_14, sX6_isBefore_15, sX6_isBefore_18, sX6_isBefore_19, sX6_isBefore_21, sX6_isBefore_24, sX6_isBefore_25, sX6_isBefore_27, sX6_isBefore_30, sX6_isBefore_31, sX6_isBefore_34, sX6_isBefore_35, sX6_isBefore_38, sX6_isBefore_39, sX6_isBefore_41, sX6_isBefore_44, sX6_isBefore_45, sX6_isBefore_48, sX6_isBefore_49, i_m1, i_m2, i_m3, i_m10, i_0, i_1, i_2, i_3, i_4, i_5, i_6, i_7, i_8, i_9, i_10, i_11, i_12, i_13, i_14, i_15, i_16, i_17, i_18, i_19, i_20, i_21, i_22, i_23, i_24, i_25, i_26, i_27, i_28, i_29, i_30, i_31, i_32, i_40, i_41, i_44, i_48, i_59, i_97, i_120, i_122, i_123, i_124, i_125, i_255, i_256, i_300, i_480, i_1024, i_2000, iI_eq, iI_le, iI_lt, ne_eq, q1, q2, q3, q4, not_true_eq_false, if_true, if_false, decide_false, bI_f, Bool.false_eq_true, not_false_eq_true]
  · by_cases q3 : p < q
    · have q4 : ¬ q ≤ p := by omega
      simp (disch := first | exact fit_0 | exact fit_1 | exact fit_b | omega | assumption | decide) only [eX6_isBefore, sX6_isBefore_0, sX6_isBefore_1, sX6_isBefore_2, sX6_isBefore_5, sX6_isBefore_6, sX6_isBefore_7, sX6_isBefore_10, sX6_isBefore_11, sX6_isBefore_14, sX6_isBefore_15, sX6_isBefore_18, sX6_isBefore_19, sX6_isBefore_21, sX6_isBefore_24, sX6_isBefore_25, sX6_isBefore_27, sX6_isBefore_30, sX6_isBefore_31, sX6_isBefore_34, sX6_isBefore_35, sX6_isBefore_38, sX6_isBefore_39, sX6_isBefore_41, sX6_isBefore_44, sX6_isBefore_45, sX6_isBefore_48, sX6_isBefore_49, i_m1, i_m2, i_m3, i_m10, i_0, i_1, i_2, i_3, i_4, i_5, i_6, i_7, i_8, i_9, i_10, i_11, i_12, i_13, i_14, i_15, i_16, i_17, i_18, i_19, i_20, i_21, i_22, i_23, i_24, i_25, i_26, i_27, i_28, i_29, i_30, i_31, i_32, i_40, i_41, i_44, i_48, i_59, i_97, i_120, i_122, i_123, i_124, i_125, i_255, i_256, i_300, i_480, i_1024, i_2000, iI_eq, iI_le, iI_lt, ne_eq, q1, q3, q4, not_true_eq_false, not_false_eq_true, if_true, if_false, decide_true, bI_t]
    · have q4 : q ≤ p := by omega
      simp (disch := first | exact fit_0 | exact fit_1 | exact fit_b | omega | assumption | decide) only [eX6_isBefore, sX6_isBefore_0, sX6_isBefore_1, sX6_isBefore_2, sX6_isBefore_5, sX6_isBefore_6, sX6_isBefore_7, sX6_isBefore_10, sX6_isBefore_11, sX6_isBefore_14, sX6_isBefore_15, sX6_isBefore_18, sX6_isBefore_19, sX6_isBefore_21, sX6_isBefore_24, sX6_isBefore_25, sX6_isBefore_27, sX6_isBefore_30, sX6_isBefore_31, sX6_isBefore_34, sX6_isBefore_35, sX6_isBefore_38, sX6_isBefore_39, sX6_isBefore_41, sX6_isBefore_44, sX6_isBefore_45, sX6_isBefore_48, sX6_isBefore_49, i_m1, i_m2, i_m3, i_m10, i_0, i_1, i_2, i_3, i_4, i_5, i_6, i_7, i_8, i_9, i_10, i_11, i_12, i_13, i_14, i_15, i_16, i_17, i_18, i_19, i_20, i_21, i_22, i_23, i_24, i_25, i_26, i_27, i_28, i_29, i_30, i_31, i_32, i_40, i_41, i_44, i_48, i_59, i_97, i_120, i_122, i_123, i_124, i_125, i_255, i_256, i_300, i_480, i_1024, i_2000, iI_eq, iI_le, iI_lt, ne_eq, q1, q3, q4, not_true_eq_false, if_true, if_false, decide_false, bI_f, Bool.false_eq_true, not_false_eq_true]
/-- a mistake's numbers are small -/
def mOk (x : tMi) : Prop := (-1000000 ≤ x.1 ∧ x.1 < 1000000) ∧ (-1000000 ≤ x.2.1 ∧ x.2.1 < 1000000) ∧ (-1000000 ≤ x.2.2 ∧ x.2.2 < 1000000)
theorem mA_get {L : List tMi} {i : Nat} (hi : i < L.length) : mA S L 61 (i : Int) = (L.getD i (0, 0, 0)).1 ∧ mA S L 62 (i : Int) = (L.getD i (0, 0, 0)).2.1 ∧ mA S L 63 (i : Int) = (L.getD i (0, 0, 0)).2.2 := by
  unfold mA
  have : 0 ≤ (i : Int) ∧ (i : Int) < L.length := by omega
  simp only [this, and_self, if_true, Int.toNat_natCast, Nat.reduceEqDiff, if_false]
theorem mA_o {L : List tMi} {f : Nat} (h1 : f ≠ 61) (h2 : f ≠ 62) (h3 : f ≠ 63) : mA S L f = S f := by
  funext j
  unfold mA
  split
  · first | rfl | rw [if_neg h1, if_neg h2, if_neg h3]
  · rfl
/-- a place's three numbers written -/
theorem mA_put {A B : List tMi} {y x : tMi} : up (up (up (mA S (A ++ y :: B)) 61 A.length x.1) 62 A.length x.2.1) 63 A.length x.2.2 = mA S (A ++ x :: B) := by
  funext f j
  simp only [up_eq]
  unfold mA
  have hl : (A ++ y :: B).length = (A ++ x :: B).length := by simp
  rw [hl]
  by_cases q : j = A.length
  · subst q
    have : 0 ≤ (A.length : Int) ∧ (A.length : Int) < (A ++ x :: B).length := by simp; omega
    simp only [this, and_self, if_true, and_true, Int.toNat_natCast, List.getD_eq_getElem?_getD, List.getElem?_append_right (Nat.le_refl _), Nat.sub_self, List.getElem?_cons_zero, Option.getD_some]
    by_cases f3 : f = 63
    · simp only [f3, if_true, Nat.reduceEqDiff, if_false]
    · by_cases f2 : f = 62
      · simp only [f2, if_true, Nat.reduceEqDiff, if_false]
      · by_cases f1 : f = 61
        · simp only [f1, if_true, Nat.reduceEqDiff, if_false]
        · simp only [f1, f2, f3, if_false]
  · simp only [q, and_false, if_false]
    have e : ∀ n : Nat, n ≠ A.length → (A ++ y :: B).getD n (0, 0, 0) = (A ++ x :: B).getD n (0, 0, 0) := by
      intro n hn
      simp only [List.getD_eq_getElem?_getD]
      congr 1
      rcases Nat.lt_or_ge n A.length with z | z
      · rw [List.getElem?_append_left z, List.getElem?_append_left z]
      · rw [List.getElem?_append_right z, List.getElem?_append_right z]
        obtain ⟨i, hi⟩ : ∃ i, n - A.length = i + 1 := ⟨n - A.length - 1, by omega⟩
        rw [hi, List.getElem?_cons_succ, List.getElem?_cons_succ]
    by_cases z : 0 ≤ j ∧ j < (A ++ x :: B).length
    · rw [if_pos z, if_pos z, e j.toNat (by omega)]
    · rw [if_neg z, if_neg z]
theorem mA_put60 {A B : List tMi} {y x : tMi} {n i : Int} (hi : i = A.length) : up (up (up (up (mA S (A ++ y :: B)) 60 0 n) 61 i x.1) 62 i x.2.1) 63 i x.2.2 = up (mA S (A ++ x :: B)) 60 0 n := by
  subst hi
  rw [← mA_put (S := S) (A := A) (B := B) (y := y) (x := x)]
  rw [up_comm (f := 63) (g := 60) (by decide), up_comm (f := 62) (g := 60) (by decide), up_comm (f := 61) (g := 60) (by decide)]
theorem mA_more {L : List tMi} : mA S L = mA S (L ++ [(S 61 L.length, S 62 L.length, S 63 L.length)]) := by
  funext f j
  unfold mA
  by_cases q : 0 ≤ j ∧ j < L.length
  · have q2 : 0 ≤ j ∧ j < (L ++ [(S 61 L.length, S 62 L.length, S 63 L.length)]).length := by simp; omega
    rw [if_pos q, if_pos q2]
    have e : (L ++ [(S 61 L.length, S 62 L.length, S 63 L.length)]).getD j.toNat (0, 0, 0) = L.getD j.toNat (0, 0, 0) := by
      simp only [List.getD_eq_getElem?_getD]
      rw [List.getElem?_append_left (by omega)]
    rw [e]
  · rw [if_neg q]
    by_cases q2 : 0 ≤ j ∧ j < (L ++ [(S 61 L.length, S 62 L.length, S 63 L.length)]).length
    · have e : j = L.length := by simp at q2; omega
      rw [if_pos q2]
      subst e
      simp only [Int.toNat_natCast, List.getD_eq_getElem?_getD, List.getElem?_append_right (Nat.le_refl _), Nat.sub_self, List.getElem?_cons_zero, Option.getD_some]
      by_cases f1 : f = 61
      · simp only [f1, if_true]
      · by_cases f2 : f = 62
        · simp only [f2, if_true, Nat.reduceEqDiff, if_false]
        · by_cases f3 : f = 63
          · simp only [f3, if_true, Nat.reduceEqDiff, if_false]
          · simp only [f1, f2, f3, if_false]
    · rw [if_neg q2]
theorem tw_blm (sh : TS h m) {x : tMi} (hx : mOk x) {n : Int} (hn : 0 ≤ n ∧ n < 4000) : ∀ (Ar : List tMi) (y : tMi) (B : List tMi) (i : Int), (∀ z ∈ Ar, mOk z) → i = Ar.length → i < 4000 →
    (Rn r 96 6 [some (vR (some m)), some (vI (iI x.1)), some (vI (iI x.2.1)), some (vI (iI x.2.2)), some (vI (iI i))] [] (tput h m w (up (mA S (Ar.reverse ++ y :: B)) 60 0 n) U) Q ↔
      Q (Sum.inl none) (tput h m w (up (mA S (insR x Ar B)) 60 0 (n + 1)) U)) := by
  intro Ar
  have hw : (0 : Int) = 0 := rfl
  obtain ⟨x1, x2, x3⟩ := id hx
  induction Ar with
  | nil =>
    intro y B i _ hi hi2
    have hi : i = 0 := hi
    subst hi
    have e0 : ∀ y, mA S (([] : List tMi).reverse ++ y :: B) = mA S (y :: B) := fun _ => rfl
    have ep : ∀ n, up (up (up (up (mA S (y :: B)) 60 0 n) 61 0 x.1) 62 0 x.2.1) 63 0 x.2.2 = up (mA S (x :: B)) 60 0 n := fun n => mA_put60 (A := []) rfl
    rw [e0, sX6_blame_6]
    simp (maxSteps := 3000000) (disch := first | exact tk0 sh | exact tk sh (by decide) (by decide) rfl | exact tk_l sh (by decide) (by decide) (by decide) | exact tk_u sh (by decide) (by decide) (by decide) | exact tbd sh (by decide) (by decide) (by decide) (by omega) (by simp only [tL]; omega) | exact fit_0 | exact fit_1 | exact fit_b | omega | exact qlo qu | exact qhi qu (by decide) | exact qloL qu | exact qhiL qu | assumption | decide) only [sX6_blame_8, sX6_blame_11, sX6_blame_12, sX6_blame_13, sX6_blame_14, sX6_blame_15, sX6_blame_18, sX6_blame_20, sX6_blame_21, sX6_blame_22, sX6_blame_23, sX6_blame_24, sX6_blame_27, sX6_blame_29, sX6_blame_30, sX6_blame_31, sX6_blame_32, sX6_blame_33, sX6_blame_36, sX6_blame_38, sX6_blame_39, sX6_blame_40, sX6_blame_41, sX6_blame_44, sX6_blame_47, sX6_blame_48, sX6_blame_51, sX6_blame_53, sX6_blame_54, sX6_blame_57, sX6_blame_59, sX6_blame_60, sX6_blame_61, sX6_blame_62, sX6_blame_63, sX6_blame_64, sX6_blame_67, sX6_blame_69, sX6_blame_70, sX6_blame_73, sX6_blame_75, sX6_blame_76, sX6_blame_77, sX6_blame_78, sX6_blame_79, sX6_blame_80, sX6_blame_83, sX6_blame_85, sX6_blame_86, sX6_blame_89, sX6_blame_91, sX6_blame_92, sX6_blame_93, sX6_blame_94, sX6_blame_95, sX6_blame_98, sX6_blame_101, sX6_blame_102, sX6_blame_105, sX6_blame_107, sX6_blame_108, sX6_blame_109, sX6_blame_110, sX6_blame_113, sX6_blame_115, sX6_blame_116, sX6_blame_117, sX6_blame_118, sX6_blame_121, sX6_blame_123, sX6_blame_124, sX6_blame_125, sX6_blame_126, sX6_blame_127, sX6_blame_130, sX6_blame_131, sX6_blame_132, sX6_blame_135, i_m1, i_m2, i_m3, i_m10, i_0, i_1, i_2, i_3, i_4, i_5, i_6, i_7, i_8, i_9, i_10, i_11, i_12, i_13, i_14, i_15, i_16, i_17, i_18, i_19, i_20, i_21, i_22, i_23, i_24, i_25, i_26, i_27, i_28, i_29, i_30, i_31, i_32, i_40, i_41, i_44, i_48, i_59, i_97, i_120, i_122, i_123, i_124, i_125, i_255, i_256, i_300, i_480, i_1024, i_2000, iI_add, iI_sub, iI_mul, iI_lt, iI_le, iI_eq, iI_nat, rd_0, wr_0, rd_1, wr_1, rd_2, wr_2, rd_3, wr_3, rd_4, wr_4, rd_5, wr_5, rd_6, wr_6, rd_7, wr_7, rd_8, wr_8, rd_9, wr_9, rd_10, wr_10, rd_11, wr_11, rd_12, wr_12, rd_13, wr_13, rd_14, wr_14, rd_15, wr_15, rd_16, wr_16, rd_17, wr_17, rd_18, wr_18, rd_19, wr_19, rd_20, wr_20, rd_21, wr_21, rd_22, wr_22, rd_23, wr_23, rd_24, wr_24, rd_25, wr_25, rd_26, wr_26, rd_27, wr_27, rd_28, wr_28, rd_29, wr_29, rd_30, wr_30, rd_31, wr_31, rd_32, wr_32, rd_33, wr_33, rd_34, wr_34, rd_35, wr_35, rd_36, wr_36, rd_37, wr_37, rd_38, wr_38, rd_39, wr_39, rd_40, wr_40, rd_41, wr_41, rd_42, wr_42, rd_43, wr_43, rd_44, wr_44, rd_45, wr_45, rd_46, wr_46, rd_47, wr_47, rd_48, wr_48, rd_49, wr_49, rd_50, wr_50, rd_51, wr_51, rd_52, wr_52, rd_53, wr_53, rd_54, wr_54, rd_55, wr_55, rd_56, wr_56, rd_57, wr_57, rd_58, wr_58, rd_59, wr_59, rd_60, wr_60, rd_61, wr_61, rd_62, wr_62, rd_63, wr_63, rd_64, wr_64, rd_65, wr_65, rd_66, wr_66, rd_67, wr_67, rd_68, wr_68, rd_69, wr_69, rd_70, wr_70, rd_71, wr_71, rd_72, wr_72, rd_73, wr_73, rd_74, wr_74, tr_0 sh, tr_3 sh, tr_4 sh, tr_5 sh, tr_6 sh, tr_7 sh, tr_8 sh, tr_9 sh, tr_10 sh, tr_11 sh, tr_12 sh, tr_13 sh, tr_14 sh, tr_15 sh, tr_16 sh, tr_17 sh, tr_18 sh, tr_19 sh, tr_20 sh, tr_21 sh, tr_22 sh, tr_23 sh, tr_24 sh, tr_25 sh, tr_26 sh, tr_27 sh, tr_28 sh, tr_29 sh, tr_30 sh, tr_31 sh, tr_32 sh, tr_33 sh, tr_34 sh, tr_35 sh, tr_36 sh, tr_37 sh, tr_38 sh, tr_39 sh, tr_40 sh, tr_41 sh, tr_42 sh, tr_43 sh, tr_44 sh, tr_45 sh, tr_46 sh, tr_56 sh, tr_58 sh, tr_59 sh, tr_61 sh, tr_62 sh, tr_63 sh, tr_70 sh, tr_71 sh, tr_72 sh, tr_73 sh, tr_74 sh, Kt_v, Kt_0, Kt_x, lc_eqI, lI_eq, bI_0, bI_1, ne_eq, Classical.not_not, ite_not, up_eq, true_and, false_and, and_true, and_false, and_self, if_true, if_false, eq_self, true_or, or_true, false_or, or_false, not_true_eq_false, not_false_eq_true, Nat.reduceEqDiff, ↓reduceIte, iI_neg, l64_0, Bool.false_eq_true, Int.reduceEq, l_wKind, l_wBelow, l_wWay, l_wOver, l_wFree, l_wThrows, l_wDo, l_wCall, l_wThrow, l_wSet, l_wIf, l_wElse, l_wWhile, l_wLoop, l_wBreak, l_wReturn, l_wTry, l_wCatch, l_wFinally, l_wRun, l_0, l_6384748, l_482854660462, l_465726042981, l_435711799154, hw, Int.lt_irrefl, Int.le_refl, ep]
    rw [up_up]
    rfl
  | cons z A ih =>
    intro y B i hA hi hi2
    have hi : i = (A.length : Int) + 1 := by rw [hi, List.length_cons]; omega
    subst hi
    have hz := hA z List.mem_cons_self
    obtain ⟨z1, z2, z3⟩ := id hz
    have el : (z :: A).reverse ++ y :: B = A.reverse ++ z :: (y :: B) := by simp
    have g := mA_get (S := S) (L := A.reverse ++ z :: (y :: B)) (i := A.length) (by simp)
    have gd : (A.reverse ++ z :: (y :: B)).getD A.length (0, 0, 0) = z := by
      rw [List.getD_eq_getElem?_getD, List.getElem?_append_right (by simp)]
      simp
    rw [gd] at g
    obtain ⟨g1, g2, g3⟩ := g
    have i1 : (A.length : Int) + 1 - 1 = A.length := by omega
    have p0 : 0 < (A.length : Int) + 1 := by omega
    have p1 : ¬ (A.length : Int) + 1 ≤ 0 := by omega
    have hB : ∀ Q, Cl r 145 [vI (iI x.2.1), vI (iI x.1), vI (iI x.2.2), vI (iI z.2.1), vI (iI z.1), vI (iI z.2.2)] (tput h m w (up (mA S (A.reverse ++ z :: (y :: B))) 60 0 n) U) Q ↔ _ := fun Q => tw_isBefore x2 x1 x3 z2 z1 z3
    rw [el, sX6_blame_6]
    unfold insR
    by_cases q : msLt x z = true
    · have ep : up (up (up (up (mA S (A.reverse ++ z :: (y :: B))) 60 0 n) 61 ((A.length : Int) + 1) z.1) 62 ((A.length : Int) + 1) z.2.1) 63 ((A.length : Int) + 1) z.2.2 = up (mA S (A.reverse ++ z :: (z :: B))) 60 0 n := by
        have e2 : A.reverse ++ z :: (y :: B) = (A.reverse ++ [z]) ++ y :: B := by simp
        have e3 : A.reverse ++ z :: (z :: B) = (A.reverse ++ [z]) ++ z :: B := by simp
        rw [e2, e3]
        exact mA_put60 (by simp)
      rw [if_pos q]
      simp (maxSteps := 3000000) (disch := first | exact tk0 sh | exact tk sh (by decide) (by decide) rfl | exact tk_l sh (by decide) (by decide) (by decide) | exact tk_u sh (by decide) (by decide) (by decide) | exact tbd sh (by decide) (by decide) (by decide) (by omega) (by simp only [tL]; omega) | exact fit_0 | exact fit_1 | exact fit_b | omega | exact qlo qu | exact qhi qu (by decide) | exact qloL qu | exact qhiL qu | assumption | decide) only [sX6_blame_8, sX6_blame_11, sX6_blame_12, sX6_blame_13, sX6_blame_14, sX6_blame_15, sX6_blame_18, sX6_blame_20, sX6_blame_21, sX6_blame_22, sX6_blame_23, sX6_blame_24, sX6_blame_27, sX6_blame_29, sX6_blame_30, sX6_blame_31, sX6_blame_32, sX6_blame_33, sX6_blame_36, sX6_blame_38, sX6_blame_39, sX6_blame_40, sX6_blame_41, sX6_blame_44, sX6_blame_47, sX6_blame_48, sX6_blame_51, sX6_blame_53, sX6_blame_54, sX6_blame_57, sX6_blame_59, sX6_blame_60, sX6_blame_61, sX6_blame_62, sX6_blame_63, sX6_blame_64, sX6_blame_67, sX6_blame_69, sX6_blame_70, sX6_blame_73, sX6_blame_75, sX6_blame_76, sX6_blame_77, sX6_blame_78, sX6_blame_79, sX6_blame_80, sX6_blame_83, sX6_blame_85, sX6_blame_86, sX6_blame_89, sX6_blame_91, sX6_blame_92, sX6_blame_93, sX6_blame_94, sX6_blame_95, sX6_blame_98, sX6_blame_101, sX6_blame_102, sX6_blame_105, sX6_blame_107, sX6_blame_108, sX6_blame_109, sX6_blame_110, sX6_blame_113, sX6_blame_115, sX6_blame_116, sX6_blame_117, sX6_blame_118, sX6_blame_121, sX6_blame_123, sX6_blame_124, sX6_blame_125, sX6_blame_126, sX6_blame_127, sX6_blame_130, sX6_blame_131, sX6_blame_132, sX6_blame_135, i_m1, i_m2, i_m3, i_m10, i_0, i_1, i_2, i_3, i_4, i_5, i_6, i_7, i_8, i_9, i_10, i_11, i_12, i_13, i_14, i_15, i_16, i_17, i_18, i_19, i_20, i_21, i_22, i_23, i_24, i_25, i_26, i_27, i_28, i_29, i_30, i_31, i_32, i_40, i_41, i_44, i_48, i_59, i_97, i_120, i_122, i_123, i_124, i_125, i_255, i_256, i_300, i_480, i_1024, i_2000, iI_add, iI_sub, iI_mul, iI_lt, iI_le, iI_eq, iI_nat, rd_0, wr_0, rd_1, wr_1, rd_2, wr_2, rd_3, wr_3, rd_4, wr_4, rd_5, wr_5, rd_6, wr_6, rd_7, wr_7, rd_8, wr_8, rd_9, wr_9, rd_10, wr_10, rd_11, wr_11, rd_12, wr_12, rd_13, wr_13, rd_14, wr_14, rd_15, wr_15, rd_16, wr_16, rd_17, wr_17, rd_18, wr_18, rd_19, wr_19, rd_20, wr_20, rd_21, wr_21, rd_22, wr_22, rd_23, wr_23, rd_24, wr_24, rd_25, wr_25, rd_26, wr_26, rd_27, wr_27, rd_28, wr_28, rd_29, wr_29, rd_30, wr_30, rd_31, wr_31, rd_32, wr_32, rd_33, wr_33, rd_34, wr_34, rd_35, wr_35, rd_36, wr_36, rd_37, wr_37, rd_38, wr_38, rd_39, wr_39, rd_40, wr_40, rd_41, wr_41, rd_42, wr_42, rd_43, wr_43, rd_44, wr_44, rd_45, wr_45, rd_46, wr_46, rd_47, wr_47, rd_48, wr_48, rd_49, wr_49, rd_50, wr_50, rd_51, wr_51, rd_52, wr_52, rd_53, wr_53, rd_54, wr_54, rd_55, wr_55, rd_56, wr_56, rd_57, wr_57, rd_58, wr_58, rd_59, wr_59, rd_60, wr_60, rd_61, wr_61, rd_62, wr_62, rd_63, wr_63, rd_64, wr_64, rd_65, wr_65, rd_66, wr_66, rd_67, wr_67, rd_68, wr_68, rd_69, wr_69, rd_70, wr_70, rd_71, wr_71, rd_72, wr_72, rd_73, wr_73, rd_74, wr_74, tr_0 sh, tr_3 sh, tr_4 sh, tr_5 sh, tr_6 sh, tr_7 sh, tr_8 sh, tr_9 sh, tr_10 sh, tr_11 sh, tr_12 sh, tr_13 sh, tr_14 sh, tr_15 sh, tr_16 sh, tr_17 sh, tr_18 sh, tr_19 sh, tr_20 sh, tr_21 sh, tr_22 sh, tr_23 sh, tr_24 sh, tr_25 sh, tr_26 sh, tr_27 sh, tr_28 sh, tr_29 sh, tr_30 sh, tr_31 sh, tr_32 sh, tr_33 sh, tr_34 sh, tr_35 sh, tr_36 sh, tr_37 sh, tr_38 sh, tr_39 sh, tr_40 sh, tr_41 sh, tr_42 sh, tr_43 sh, tr_44 sh, tr_45 sh, tr_46 sh, tr_56 sh, tr_58 sh, tr_59 sh, tr_61 sh, tr_62 sh, tr_63 sh, tr_70 sh, tr_71 sh, tr_72 sh, tr_73 sh, tr_74 sh, Kt_v, Kt_0, Kt_x, lc_eqI, lI_eq, bI_0, bI_1, ne_eq, Classical.not_not, ite_not, up_eq, true_and, false_and, and_true, and_false, and_self, if_true, if_false, eq_self, true_or, or_true, false_or, or_false, not_true_eq_false, not_false_eq_true, Nat.reduceEqDiff, ↓reduceIte, iI_neg, l64_0, Bool.false_eq_true, Int.reduceEq, l_wKind, l_wBelow, l_wWay, l_wOver, l_wFree, l_wThrows, l_wDo, l_wCall, l_wThrow, l_wSet, l_wIf, l_wElse, l_wWhile, l_wLoop, l_wBreak, l_wReturn, l_wTry, l_wCatch, l_wFinally, l_wRun, l_0, l_6384748, l_482854660462, l_465726042981, l_435711799154, hw, i1, p0, p1, g1, g2, g3, hB, q, ep]
      rw [show (A.length : Int) + 1 + -1 = A.length by omega]
      exact ih z (z :: B) A.length (fun u hu => hA u (List.mem_cons_of_mem _ hu)) rfl (by omega)
    · have ep : ∀ n, up (up (up (up (mA S (A.reverse ++ z :: (y :: B))) 60 0 n) 61 ((A.length : Int) + 1) x.1) 62 ((A.length : Int) + 1) x.2.1) 63 ((A.length : Int) + 1) x.2.2 = up (mA S (A.reverse ++ z :: (x :: B))) 60 0 n := by
        intro n
        have e2 : A.reverse ++ z :: (y :: B) = (A.reverse ++ [z]) ++ y :: B := by simp
        have e3 : A.reverse ++ z :: (x :: B) = (A.reverse ++ [z]) ++ x :: B := by simp
        rw [e2, e3]
        exact mA_put60 (by simp)
      rw [if_neg q]
      simp (maxSteps := 3000000) (disch := first | exact tk0 sh | exact tk sh (by decide) (by decide) rfl | exact tk_l sh (by decide) (by decide) (by decide) | exact tk_u sh (by decide) (by decide) (by decide) | exact tbd sh (by decide) (by decide) (by decide) (by omega) (by simp only [tL]; omega) | exact fit_0 | exact fit_1 | exact fit_b | omega | exact qlo qu | exact qhi qu (by decide) | exact qloL qu | exact qhiL qu | assumption | decide) only [sX6_blame_8, sX6_blame_11, sX6_blame_12, sX6_blame_13, sX6_blame_14, sX6_blame_15, sX6_blame_18, sX6_blame_20, sX6_blame_21, sX6_blame_22, sX6_blame_23, sX6_blame_24, sX6_blame_27, sX6_blame_29, sX6_blame_30, sX6_blame_31, sX6_blame_32, sX6_blame_33, sX6_blame_36, sX6_blame_38, sX6_blame_39, sX6_blame_40, sX6_blame_41, sX6_blame_44, sX6_blame_47, sX6_blame_48, sX6_blame_51, sX6_blame_53, sX6_blame_54, sX6_blame_57, sX6_blame_59, sX6_blame_60, sX6_blame_61, sX6_blame_62, sX6_blame_63, sX6_blame_64, sX6_blame_67, sX6_blame_69, sX6_blame_70, sX6_blame_73, sX6_blame_75, sX6_blame_76, sX6_blame_77, sX6_blame_78, sX6_blame_79, sX6_blame_80, sX6_blame_83, sX6_blame_85, sX6_blame_86, sX6_blame_89, sX6_blame_91, sX6_blame_92, sX6_blame_93, sX6_blame_94, sX6_blame_95, sX6_blame_98, sX6_blame_101, sX6_blame_102, sX6_blame_105, sX6_blame_107, sX6_blame_108, sX6_blame_109, sX6_blame_110, sX6_blame_113, sX6_blame_115, sX6_blame_116, sX6_blame_117, sX6_blame_118, sX6_blame_121, sX6_blame_123, sX6_blame_124, sX6_blame_125, sX6_blame_126, sX6_blame_127, sX6_blame_130, sX6_blame_131, sX6_blame_132, sX6_blame_135, i_m1, i_m2, i_m3, i_m10, i_0, i_1, i_2, i_3, i_4, i_5, i_6, i_7, i_8, i_9, i_10, i_11, i_12, i_13, i_14, i_15, i_16, i_17, i_18, i_19, i_20, i_21, i_22, i_23, i_24, i_25, i_26, i_27, i_28, i_29, i_30, i_31, i_32, i_40, i_41, i_44, i_48, i_59, i_97, i_120, i_122, i_123, i_124, i_125, i_255, i_256, i_300, i_480, i_1024, i_2000, iI_add, iI_sub, iI_mul, iI_lt, iI_le, iI_eq, iI_nat, rd_0, wr_0, rd_1, wr_1, rd_2, wr_2, rd_3, wr_3, rd_4, wr_4, rd_5, wr_5, rd_6, wr_6, rd_7, wr_7, rd_8, wr_8, rd_9, wr_9, rd_10, wr_10, rd_11, wr_11, rd_12, wr_12, rd_13, wr_13, rd_14, wr_14, rd_15, wr_15, rd_16, wr_16, rd_17, wr_17, rd_18, wr_18, rd_19, wr_19, rd_20, wr_20, rd_21, wr_21, rd_22, wr_22, rd_23, wr_23, rd_24, wr_24, rd_25, wr_25, rd_26, wr_26, rd_27, wr_27, rd_28, wr_28, rd_29, wr_29, rd_30, wr_30, rd_31, wr_31, rd_32, wr_32, rd_33, wr_33, rd_34, wr_34, rd_35, wr_35, rd_36, wr_36, rd_37, wr_37, rd_38, wr_38, rd_39, wr_39, rd_40, wr_40, rd_41, wr_41, rd_42, wr_42, rd_43, wr_43, rd_44, wr_44, rd_45, wr_45, rd_46, wr_46, rd_47, wr_47, rd_48, wr_48, rd_49, wr_49, rd_50, wr_50, rd_51, wr_51, rd_52, wr_52, rd_53, wr_53, rd_54, wr_54, rd_55, wr_55, rd_56, wr_56, rd_57, wr_57, rd_58, wr_58, rd_59, wr_59, rd_60, wr_60, rd_61, wr_61, rd_62, wr_62, rd_63, wr_63, rd_64, wr_64, rd_65, wr_65, rd_66, wr_66, rd_67, wr_67, rd_68, wr_68, rd_69, wr_69, rd_70, wr_70, rd_71, wr_71, rd_72, wr_72, rd_73, wr_73, rd_74, wr_74, tr_0 sh, tr_3 sh, tr_4 sh, tr_5 sh, tr_6 sh, tr_7 sh, tr_8 sh, tr_9 sh, tr_10 sh, tr_11 sh, tr_12 sh, tr_13 sh, tr_14 sh, tr_15 sh, tr_16 sh, tr_17 sh, tr_18 sh, tr_19 sh, tr_20 sh, tr_21 sh, tr_22 sh, tr_23 sh, tr_24 sh, tr_25 sh, tr_26 sh, tr_27 sh, tr_28 sh, tr_29 sh, tr_30 sh, tr_31 sh, tr_32 sh, tr_33 sh, tr_34 sh, tr_35 sh, tr_36 sh, tr_37 sh, tr_38 sh, tr_39 sh, tr_40 sh, tr_41 sh, tr_42 sh, tr_43 sh, tr_44 sh, tr_45 sh, tr_46 sh, tr_56 sh, tr_58 sh, tr_59 sh, tr_61 sh, tr_62 sh, tr_63 sh, tr_70 sh, tr_71 sh, tr_72 sh, tr_73 sh, tr_74 sh, Kt_v, Kt_0, Kt_x, lc_eqI, lI_eq, bI_0, bI_1, ne_eq, Classical.not_not, ite_not, up_eq, true_and, false_and, and_true, and_false, and_self, if_true, if_false, eq_self, true_or, or_true, false_or, or_false, not_true_eq_false, not_false_eq_true, Nat.reduceEqDiff, ↓reduceIte, iI_neg, l64_0, Bool.false_eq_true, Int.reduceEq, l_wKind, l_wBelow, l_wWay, l_wOver, l_wFree, l_wThrows, l_wDo, l_wCall, l_wThrow, l_wSet, l_wIf, l_wElse, l_wWhile, l_wLoop, l_wBreak, l_wReturn, l_wTry, l_wCatch, l_wFinally, l_wRun, l_0, l_6384748, l_482854660462, l_465726042981, l_435711799154, hw, i1, p0, p1, g1, g2, g3, hB, q, ep]
      rw [up_up]
end J1
