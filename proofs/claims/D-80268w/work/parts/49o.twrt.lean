/-! THE TWIN: the ends of reading *-/
section RT
variable {r m : Nat} {h B : am_H} {Q : am_O → am_H → Prop} {w w' : Int} {S S1 S2 U U1 U2 : tSt}
theorem tV_two (w0 : 0 ≤ w) (w1 : w ≤ 1) (e : w' = 1 - w) (d k : Nat) : (tV w' S2 U2 d k = tV w S2 U1 d k ∧ (tV w S2 U1 d k = none → tV w S1 U1 d k = none)) ∨ (tV w S1 U1 d k = tV w S2 U1 d k ∧ (tV w' S2 U2 d k = none ∨ tV w S2 U1 d k = none)) := by
  unfold tV
  by_cases q : d = 0
  · simp only [if_pos q]
    left
    refine ⟨trivial, ?_⟩
    split
    · intro z; cases z
    · intro _; rfl
  · simp only [if_neg q]
    by_cases q2 : tH (tF d) = 0
    · simp only [if_pos q2]
      left
      exact ⟨trivial, fun z => by cases z⟩
    · simp only [if_neg q2]
      right
      refine ⟨trivial, ?_⟩
      generalize hH : (tH (tF d) : Int) = H at *
      by_cases p : H * w' ≤ k ∧ (k : Int) < H * w' + H
      · right
        rw [if_neg]
        intro p2
        have hw : w = 0 ∨ w = 1 := by omega
        rcases hw with z | z <;> subst z <;> subst e <;> omega
      · left
        rw [if_neg p]
/-- two halves may be laid in either order -/
theorem tput_two (w0 : 0 ≤ w) (w1 : w ≤ 1) (e : w' = 1 - w) : tput (tput h m w S1 U1) m w' S2 U2 = tput (tput h m w' S2 U2) m w S2 U1 := by
  refine am_H_ext (h := tput (tput h m w S1 U1) m w' S2 U2) (h' := tput (tput h m w' S2 U2) m w S2 U1) rfl rfl ?_ ?_ (fun _ _ => rfl)
  · intro a k
    rw [hI_tput, hI_tput, tpI, tpI]
    split
    · rename_i q
      rw [hI_tput, hI_tput, tpI, tpI, if_pos q, if_pos q]
      have K := tV_two (S1 := S1) (S2 := S2) (U1 := U1) (U2 := U2) w0 w1 e (a - m) k
      generalize tV w' S2 U2 (a - m) k = A at *
      generalize tV w S2 U1 (a - m) k = C at *
      generalize tV w S1 U1 (a - m) k = D at *
      rcases K with ⟨rfl, K⟩ | ⟨rfl, rfl | rfl⟩
      · cases A with
        | none => rw [K rfl]
        | some x => rfl
      · cases D <;> rfl
      · cases A <;> rfl
    · rename_i q
      rw [hI_tput, hI_tput, tpI, tpI, if_neg q, if_neg q]
  · intro a k
    rw [hJ_tput, hJ_tput, tpJ, tpJ]
    split
    · rename_i q
      rw [hJ_tput, hJ_tput, tpJ, tpJ, if_pos q, if_pos q]
      have K := tV_two (S1 := S1) (S2 := S2) (U1 := U1) (U2 := U2) w0 w1 e (a - m) k
      generalize tV w' S2 U2 (a - m) k = A at *
      generalize tV w S2 U1 (a - m) k = C at *
      generalize tV w S1 U1 (a - m) k = D at *
      rcases K with ⟨rfl, K⟩ | ⟨rfl, rfl | rfl⟩
      · cases A with
        | none => rw [K rfl]
        | some x => rfl
      · cases D <;> rfl
      · cases A <;> rfl
    · rename_i q
      rw [hJ_tput, hJ_tput, tpJ, tpJ, if_neg q, if_neg q]
/-- a failure: the elder half is the twin's again -/
theorem tw_rdF (sh : TS h m) (w0 : 0 ≤ w) (w1 : w ≤ 1) (hw : S 2 0 = 1 - w) (hf : S 52 0 ≠ -1) (h5 : -1 ≤ S 52 0 ∧ S 52 0 ≤ 4000) :
    Rn r 8 132 [some (vR (some m))] [] (tput (tput h m w S1 U1) m (1 - w) S U) Q ↔ Q (Sum.inl (some (vI (iI (-10 - S 52 0))))) (tput (tput h m (1 - w) (up S 2 0 w) U) m w (up S 2 0 w) U1) := by
  rw [← tput_two (S1 := S1) w0 w1 rfl]
  have sh9 := sh
  clear sh
  have sh : TS (tput h m w S1 U1) m := sh9
  have ee : (1 : Int) - (1 - w) = w := by omega
  generalize tput h m w S1 U1 = B at *
  rw [sX6_read_132]
  simp (maxSteps := 3000000) (disch := first | exact tk0 sh | exact tk sh (by decide) (by decide) rfl | exact tk_l sh (by decide) (by decide) (by decide) | exact tk_u sh (by decide) (by decide) (by decide) | exact tbd sh (by decide) (by decide) (by decide) (by omega) (by simp only [tL]; omega) | exact fit_0 | exact fit_1 | exact fit_b | omega | assumption | decide) only [sX6_read_133, sX6_read_136, sX6_read_137, sX6_read_140, sX6_read_141, sX6_read_142, sX6_read_143, sX6_read_146, sX6_read_147, sX6_read_150, sX6_read_152, sX6_read_153, sX6_read_156, sX6_read_157, i_m1, i_m2, i_m3, i_m10, i_0, i_1, i_2, i_3, i_4, i_5, i_6, i_7, i_8, i_9, i_10, i_11, i_12, i_13, i_14, i_15, i_16, i_17, i_18, i_19, i_20, i_21, i_22, i_23, i_24, i_25, i_26, i_27, i_28, i_29, i_30, i_31, i_32, i_40, i_41, i_44, i_48, i_59, i_97, i_120, i_122, i_123, i_124, i_125, i_255, i_256, i_300, i_480, i_1024, i_2000, iI_add, iI_sub, iI_mul, iI_lt, iI_le, iI_eq, iI_nat, rd_0, wr_0, rd_1, wr_1, rd_2, wr_2, rd_3, wr_3, rd_4, wr_4, rd_5, wr_5, rd_6, wr_6, rd_7, wr_7, rd_8, wr_8, rd_9, wr_9, rd_10, wr_10, rd_11, wr_11, rd_12, wr_12, rd_13, wr_13, rd_14, wr_14, rd_15, wr_15, rd_16, wr_16, rd_17, wr_17, rd_18, wr_18, rd_19, wr_19, rd_20, wr_20, rd_21, wr_21, rd_22, wr_22, rd_23, wr_23, rd_24, wr_24, rd_25, wr_25, rd_26, wr_26, rd_27, wr_27, rd_28, wr_28, rd_29, wr_29, rd_30, wr_30, rd_31, wr_31, rd_32, wr_32, rd_33, wr_33, rd_34, wr_34, rd_35, wr_35, rd_36, wr_36, rd_37, wr_37, rd_38, wr_38, rd_39, wr_39, rd_40, wr_40, rd_41, wr_41, rd_42, wr_42, rd_43, wr_43, rd_44, wr_44, rd_45, wr_45, rd_46, wr_46, rd_47, wr_47, rd_48, wr_48, rd_49, wr_49, rd_50, wr_50, rd_51, wr_51, rd_52, wr_52, rd_53, wr_53, rd_54, wr_54, rd_55, wr_55, rd_56, wr_56, rd_57, wr_57, rd_58, wr_58, rd_59, wr_59, rd_60, wr_60, rd_61, wr_61, rd_62, wr_62, rd_63, wr_63, rd_64, wr_64, rd_65, wr_65, rd_66, wr_66, rd_67, wr_67, rd_68, wr_68, rd_69, wr_69, rd_70, wr_70, rd_71, wr_71, rd_72, wr_72, rd_73, wr_73, rd_74, wr_74, tr_0 sh, tr_3 sh, tr_4 sh, tr_5 sh, tr_6 sh, tr_7 sh, tr_8 sh, tr_9 sh, tr_10 sh, tr_11 sh, tr_12 sh, tr_13 sh, tr_14 sh, tr_15 sh, tr_16 sh, tr_17 sh, tr_18 sh, tr_19 sh, tr_20 sh, tr_21 sh, tr_22 sh, tr_23 sh, tr_24 sh, tr_25 sh, tr_26 sh, tr_27 sh, tr_28 sh, tr_29 sh, tr_30 sh, tr_31 sh, tr_32 sh, tr_33 sh, tr_34 sh, tr_35 sh, tr_36 sh, tr_37 sh, tr_38 sh, tr_39 sh, tr_40 sh, tr_41 sh, tr_42 sh, tr_43 sh, tr_44 sh, tr_45 sh, tr_46 sh, tr_56 sh, tr_58 sh, tr_59 sh, tr_61 sh, tr_62 sh, tr_63 sh, tr_70 sh, tr_71 sh, tr_72 sh, tr_73 sh, tr_74 sh, Kt_v, Kt_0, Kt_x, lc_eqI, lI_eq, bI_0, bI_1, ne_eq, Classical.not_not, ite_not, up_eq, true_and, false_and, and_true, and_false, and_self, if_true, if_false, eq_self, true_or, or_true, false_or, or_false, not_true_eq_false, not_false_eq_true, Nat.reduceEqDiff, ↓reduceIte, iI_neg, l64_0, Bool.false_eq_true, Int.reduceEq, l_wKind, l_wBelow, l_wWay, l_wOver, l_wFree, l_wThrows, l_wDo, l_wCall, l_wThrow, l_wSet, l_wIf, l_wElse, l_wWhile, l_wLoop, l_wBreak, l_wReturn, l_wTry, l_wCatch, l_wFinally, l_wRun, l_0, l_6384748, l_482854660462, l_465726042981, l_435711799154, hw, tAdv_o, tName_o, tFail_o, hf, ee]
/-- success: all is judged -/
theorem tw_rdS {k : Nat} (c : QC h m w S U) (qa : QA S) (hst : tStops U w (U 19 w).toNat k (tLeft U w (U 19 w).toNat S)) (hM : (mAll U w (tJdg U w k S 58) (tJdg U w k S 59)).length ≤ 4000) (hf : S 52 0 = -1)
    (hQ : ∀ v, Q (Sum.inl (some (vI (iI (U 9 w))))) (tput h m w (mP (up (tJdg U w k S) 57 0 v) (insA [] (mAll U w (tJdg U w k S 58) (tJdg U w k S 59)))) U)) :
    Rn r 8 132 [some (vR (some m))] [] (tput h m w S U) Q := by
  obtain ⟨sh, qu, hw, ⟨w0, w1⟩, n3, n9, n19, n40, qs, qb, qm, qk⟩ := id c
  have e7 : up S 57 0 (S 57 0) = S := by
    funext f j
    rw [up_eq]
    split
    · rename_i z; rw [z.1, z.2]
    · rfl
  rw [sX6_read_132]
  simp (maxSteps := 3000000) (disch := first | exact tk0 sh | exact tk sh (by decide) (by decide) rfl | exact tk_l sh (by decide) (by decide) (by decide) | exact tk_u sh (by decide) (by decide) (by decide) | exact tbd sh (by decide) (by decide) (by decide) (by omega) (by simp only [tL]; omega) | exact fit_0 | exact fit_1 | exact fit_b | omega | exact qlo qu | exact qhi qu (by decide) | exact qloL qu | exact qhiL qu | assumption | decide) only [sX6_read_133, sX6_read_136, sX6_read_137, sX6_read_140, sX6_read_141, sX6_read_142, sX6_read_143, sX6_read_146, sX6_read_147, sX6_read_150, sX6_read_152, sX6_read_153, sX6_read_156, sX6_read_157, sX6_read_158, sX6_read_159, i_m1, i_m2, i_m3, i_m10, i_0, i_1, i_2, i_3, i_4, i_5, i_6, i_7, i_8, i_9, i_10, i_11, i_12, i_13, i_14, i_15, i_16, i_17, i_18, i_19, i_20, i_21, i_22, i_23, i_24, i_25, i_26, i_27, i_28, i_29, i_30, i_31, i_32, i_40, i_41, i_44, i_48, i_59, i_97, i_120, i_122, i_123, i_124, i_125, i_255, i_256, i_300, i_480, i_1024, i_2000, iI_add, iI_sub, iI_mul, iI_lt, iI_le, iI_eq, iI_nat, rd_0, wr_0, rd_1, wr_1, rd_2, wr_2, rd_3, wr_3, rd_4, wr_4, rd_5, wr_5, rd_6, wr_6, rd_7, wr_7, rd_8, wr_8, rd_9, wr_9, rd_10, wr_10, rd_11, wr_11, rd_12, wr_12, rd_13, wr_13, rd_14, wr_14, rd_15, wr_15, rd_16, wr_16, rd_17, wr_17, rd_18, wr_18, rd_19, wr_19, rd_20, wr_20, rd_21, wr_21, rd_22, wr_22, rd_23, wr_23, rd_24, wr_24, rd_25, wr_25, rd_26, wr_26, rd_27, wr_27, rd_28, wr_28, rd_29, wr_29, rd_30, wr_30, rd_31, wr_31, rd_32, wr_32, rd_33, wr_33, rd_34, wr_34, rd_35, wr_35, rd_36, wr_36, rd_37, wr_37, rd_38, wr_38, rd_39, wr_39, rd_40, wr_40, rd_41, wr_41, rd_42, wr_42, rd_43, wr_43, rd_44, wr_44, rd_45, wr_45, rd_46, wr_46, rd_47, wr_47, rd_48, wr_48, rd_49, wr_49, rd_50, wr_50, rd_51, wr_51, rd_52, wr_52, rd_53, wr_53, rd_54, wr_54, rd_55, wr_55, rd_56, wr_56, rd_57, wr_57, rd_58, wr_58, rd_59, wr_59, rd_60, wr_60, rd_61, wr_61, rd_62, wr_62, rd_63, wr_63, rd_64, wr_64, rd_65, wr_65, rd_66, wr_66, rd_67, wr_67, rd_68, wr_68, rd_69, wr_69, rd_70, wr_70, rd_71, wr_71, rd_72, wr_72, rd_73, wr_73, rd_74, wr_74, tr_0 sh, tr_3 sh, tr_4 sh, tr_5 sh, tr_6 sh, tr_7 sh, tr_8 sh, tr_9 sh, tr_10 sh, tr_11 sh, tr_12 sh, tr_13 sh, tr_14 sh, tr_15 sh, tr_16 sh, tr_17 sh, tr_18 sh, tr_19 sh, tr_20 sh, tr_21 sh, tr_22 sh, tr_23 sh, tr_24 sh, tr_25 sh, tr_26 sh, tr_27 sh, tr_28 sh, tr_29 sh, tr_30 sh, tr_31 sh, tr_32 sh, tr_33 sh, tr_34 sh, tr_35 sh, tr_36 sh, tr_37 sh, tr_38 sh, tr_39 sh, tr_40 sh, tr_41 sh, tr_42 sh, tr_43 sh, tr_44 sh, tr_45 sh, tr_46 sh, tr_56 sh, tr_58 sh, tr_59 sh, tr_61 sh, tr_62 sh, tr_63 sh, tr_70 sh, tr_71 sh, tr_72 sh, tr_73 sh, tr_74 sh, Kt_v, Kt_0, Kt_x, lc_eqI, lI_eq, bI_0, bI_1, ne_eq, Classical.not_not, ite_not, up_eq, true_and, false_and, and_true, and_false, and_self, if_true, if_false, eq_self, true_or, or_true, false_or, or_false, not_true_eq_false, not_false_eq_true, Nat.reduceEqDiff, ↓reduceIte, iI_neg, l64_0, Bool.false_eq_true, Int.reduceEq, l_wKind, l_wBelow, l_wWay, l_wOver, l_wFree, l_wThrows, l_wDo, l_wCall, l_wThrow, l_wSet, l_wIf, l_wElse, l_wWhile, l_wLoop, l_wBreak, l_wReturn, l_wTry, l_wCatch, l_wFinally, l_wRun, l_0, l_6384748, l_482854660462, l_465726042981, l_435711799154, hw, hf]
  have jj := tw_judge (r := r) (v := S 57 0) (Q := Kt r 8 162 [some (vR (some m))] [] Q) c qa hst hM
  rw [e7] at jj
  apply jj
  intro v
  rw [Kt_0]
  have hw : mP (up (tJdg U w k S) 57 0 v) (insA [] (mAll U w (tJdg U w k S 58) (tJdg U w k S 59))) 2 0 = w := by
    rw [mP_o (by decide) (by decide) (by decide) (by decide), up_n (by decide)]
    unfold tJdg
    rw [tSwps_o 2 (by decide), tLeft_o 2 (by decide) (by decide)]
    exact c.2.2.1
  have hq := hQ v
  generalize mP (up (tJdg U w k S) 57 0 v) (insA [] (mAll U w (tJdg U w k S 58) (tJdg U w k S 59))) = S9 at *
  simp (maxSteps := 3000000) (disch := first | exact tk0 sh | exact tk sh (by decide) (by decide) rfl | exact tk_l sh (by decide) (by decide) (by decide) | exact tk_u sh (by decide) (by decide) (by decide) | exact tbd sh (by decide) (by decide) (by decide) (by omega) (by simp only [tL]; omega) | exact fit_0 | exact fit_1 | exact fit_b | omega | exact qlo qu | exact qhi qu (by decide) | exact qloL qu | exact qhiL qu | assumption | decide) only [sX6_read_162, sX6_read_163, sX6_read_166, sX6_read_167, sX6_read_170, sX6_read_171, i_m1, i_m2, i_m3, i_m10, i_0, i_1, i_2, i_3, i_4, i_5, i_6, i_7, i_8, i_9, i_10, i_11, i_12, i_13, i_14, i_15, i_16, i_17, i_18, i_19, i_20, i_21, i_22, i_23, i_24, i_25, i_26, i_27, i_28, i_29, i_30, i_31, i_32, i_40, i_41, i_44, i_48, i_59, i_97, i_120, i_122, i_123, i_124, i_125, i_255, i_256, i_300, i_480, i_1024, i_2000, iI_add, iI_sub, iI_mul, iI_lt, iI_le, iI_eq, iI_nat, rd_0, wr_0, rd_1, wr_1, rd_2, wr_2, rd_3, wr_3, rd_4, wr_4, rd_5, wr_5, rd_6, wr_6, rd_7, wr_7, rd_8, wr_8, rd_9, wr_9, rd_10, wr_10, rd_11, wr_11, rd_12, wr_12, rd_13, wr_13, rd_14, wr_14, rd_15, wr_15, rd_16, wr_16, rd_17, wr_17, rd_18, wr_18, rd_19, wr_19, rd_20, wr_20, rd_21, wr_21, rd_22, wr_22, rd_23, wr_23, rd_24, wr_24, rd_25, wr_25, rd_26, wr_26, rd_27, wr_27, rd_28, wr_28, rd_29, wr_29, rd_30, wr_30, rd_31, wr_31, rd_32, wr_32, rd_33, wr_33, rd_34, wr_34, rd_35, wr_35, rd_36, wr_36, rd_37, wr_37, rd_38, wr_38, rd_39, wr_39, rd_40, wr_40, rd_41, wr_41, rd_42, wr_42, rd_43, wr_43, rd_44, wr_44, rd_45, wr_45, rd_46, wr_46, rd_47, wr_47, rd_48, wr_48, rd_49, wr_49, rd_50, wr_50, rd_51, wr_51, rd_52, wr_52, rd_53, wr_53, rd_54, wr_54, rd_55, wr_55, rd_56, wr_56, rd_57, wr_57, rd_58, wr_58, rd_59, wr_59, rd_60, wr_60, rd_61, wr_61, rd_62, wr_62, rd_63, wr_63, rd_64, wr_64, rd_65, wr_65, rd_66, wr_66, rd_67, wr_67, rd_68, wr_68, rd_69, wr_69, rd_70, wr_70, rd_71, wr_71, rd_72, wr_72, rd_73, wr_73, rd_74, wr_74, tr_0 sh, tr_3 sh, tr_4 sh, tr_5 sh, tr_6 sh, tr_7 sh, tr_8 sh, tr_9 sh, tr_10 sh, tr_11 sh, tr_12 sh, tr_13 sh, tr_14 sh, tr_15 sh, tr_16 sh, tr_17 sh, tr_18 sh, tr_19 sh, tr_20 sh, tr_21 sh, tr_22 sh, tr_23 sh, tr_24 sh, tr_25 sh, tr_26 sh, tr_27 sh, tr_28 sh, tr_29 sh, tr_30 sh, tr_31 sh, tr_32 sh, tr_33 sh, tr_34 sh, tr_35 sh, tr_36 sh, tr_37 sh, tr_38 sh, tr_39 sh, tr_40 sh, tr_41 sh, tr_42 sh, tr_43 sh, tr_44 sh, tr_45 sh, tr_46 sh, tr_56 sh, tr_58 sh, tr_59 sh, tr_61 sh, tr_62 sh, tr_63 sh, tr_70 sh, tr_71 sh, tr_72 sh, tr_73 sh, tr_74 sh, Kt_v, Kt_0, Kt_x, lc_eqI, lI_eq, bI_0, bI_1, ne_eq, Classical.not_not, ite_not, up_eq, true_and, false_and, and_true, and_false, and_self, if_true, if_false, eq_self, true_or, or_true, false_or, or_false, not_true_eq_false, not_false_eq_true, Nat.reduceEqDiff, ↓reduceIte, iI_neg, l64_0, Bool.false_eq_true, Int.reduceEq, l_wKind, l_wBelow, l_wWay, l_wOver, l_wFree, l_wThrows, l_wDo, l_wCall, l_wThrow, l_wSet, l_wIf, l_wElse, l_wWhile, l_wLoop, l_wBreak, l_wReturn, l_wTry, l_wCatch, l_wFinally, l_wRun, l_0, l_6384748, l_482854660462, l_465726042981, l_435711799154, hw]
  exact hq
end RT
