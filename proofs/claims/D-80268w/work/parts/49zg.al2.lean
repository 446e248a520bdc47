/-! JDK: lists, 2: lengths *-/
section AL2
variable {r : Nat} {h : am_H} {Q : am_O → am_H → Prop} {a b c : Int}
theorem jd_max (a1 : -2147483648 ≤ a) (a2 : a < 2147483648) (b1 : -2147483648 ≤ b) (b2 : b < 2147483648) : Cl r 266 [vI (iI a), vI (iI b)] h Q ↔ Q (Sum.inl (some (vI (iI (if a < b then b else a))))) h := by
  simp (disch := first | exact fit_0 | exact fit_1 | exact fit_b | omega | assumption | decide) only [eJ9_max, sJ9_max_0, sJ9_max_1, sJ9_max_2, sJ9_max_5, sJ9_max_6, sJ9_max_9, sJ9_max_10, iI_lt]
  split <;> rfl
theorem jd_min (a1 : -2147483648 ≤ a) (a2 : a < 2147483648) (b1 : -2147483648 ≤ b) (b2 : b < 2147483648) : Cl r 246 [vI (iI a), vI (iI b)] h Q ↔ Q (Sum.inl (some (vI (iI (if b < a then b else a))))) h := by
  simp (disch := first | exact fit_0 | exact fit_1 | exact fit_b | omega | assumption | decide) only [eJ9_min, sJ9_min_0, sJ9_min_1, sJ9_min_2, sJ9_min_5, sJ9_min_6, sJ9_min_9, sJ9_min_10, iI_lt]
  split <;> rfl
theorem jd_newLength (a1 : 0 ≤ a) (a2 : a < 100000) (b1 : 1 ≤ b) (b2 : b < 100000) (c1 : 0 ≤ c) (c2 : c < 100000) : Cl r 245 [vI (iI a), vI (iI b), vI (iI c)] h Q ↔ Q (Sum.inl (some (vI (iI (a + if b < c then c else b))))) h := by
  have hm : ∀ Q, Cl r 266 [vI (iI b), vI (iI c)] h Q ↔ _ := fun Q => jd_max (by omega) (by omega) (by omega) (by omega)
  have big : (2147483639 : Int32) = iI 2147483639 := rfl
  by_cases p : b < c
  · simp only [if_pos p] at hm ⊢
    have q1 : ¬ a + c ≤ 0 := by omega
    have q2 : ¬ 2147483639 < a + c := by omega
    simp (disch := first | exact fit_0 | exact fit_1 | exact fit_b | omega | assumption | decide) only [eJ8_newLength, sJ8_newLength_0, sJ8_newLength_1, sJ8_newLength_2, sJ8_newLength_3, sJ8_newLength_6, sJ8_newLength_7, sJ8_newLength_8, sJ8_newLength_9, sJ8_newLength_10, sJ8_newLength_13, sJ8_newLength_14, sJ8_newLength_16, sJ8_newLength_19, sJ8_newLength_20, sJ8_newLength_21, sJ8_newLength_22, sJ8_newLength_26, hm, Kt_v, iI_add, i_m1, i_m2, i_m3, i_m10, i_0, i_1, i_2, i_3, i_4, i_5, i_6, i_7, i_8, i_9, i_10, i_11, i_12, i_13, i_14, i_15, i_16, i_17, i_18, i_19, i_20, i_21, i_22, i_23, i_24, i_25, i_26, i_27, i_28, i_29, i_30, i_31, i_32, i_40, i_41, i_44, i_48, i_59, i_97, i_120, i_122, i_123, i_124, i_125, i_255, i_256, i_300, i_480, i_1024, i_2000, big, iI_lt, iI_le, q1, q2, if_false]
  · simp only [if_neg p] at hm ⊢
    have q1 : ¬ a + b ≤ 0 := by omega
    have q2 : ¬ 2147483639 < a + b := by omega
    simp (disch := first | exact fit_0 | exact fit_1 | exact fit_b | omega | assumption | decide) only [eJ8_newLength, sJ8_newLength_0, sJ8_newLength_1, sJ8_newLength_2, sJ8_newLength_3, sJ8_newLength_6, sJ8_newLength_7, sJ8_newLength_8, sJ8_newLength_9, sJ8_newLength_10, sJ8_newLength_13, sJ8_newLength_14, sJ8_newLength_16, sJ8_newLength_19, sJ8_newLength_20, sJ8_newLength_21, sJ8_newLength_22, sJ8_newLength_26, hm, Kt_v, iI_add, i_m1, i_m2, i_m3, i_m10, i_0, i_1, i_2, i_3, i_4, i_5, i_6, i_7, i_8, i_9, i_10, i_11, i_12, i_13, i_14, i_15, i_16, i_17, i_18, i_19, i_20, i_21, i_22, i_23, i_24, i_25, i_26, i_27, i_28, i_29, i_30, i_31, i_32, i_40, i_41, i_44, i_48, i_59, i_97, i_120, i_122, i_123, i_124, i_125, i_255, i_256, i_300, i_480, i_1024, i_2000, big, iI_lt, iI_le, q1, q2, if_false]
end AL2
