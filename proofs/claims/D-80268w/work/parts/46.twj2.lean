/-! THE TWIN: judging, 2: mistakes are put in -/
section J2
variable {r m : Nat} {h : am_H} {Q : am_O → am_H → Prop} {w : Int} {S U : tSt}
theorem insR_len {x : tMi} : ∀ (A B : List tMi), (insR x A B).length = A.length + B.length + 1
  | [], B => by simp [insR]
  | z :: A, B => by
    unfold insR
    split
    · rw [insR_len A (z :: B)]; simp; omega
    · simp; omega
theorem insM_len {x : tMi} {L : List tMi} : (insM x L).length = L.length + 1 := by
  unfold insM
  rw [insR_len]
  simp
theorem insR_mem {x : tMi} {z : tMi} : ∀ (A B : List tMi), z ∈ insR x A B ↔ (z = x ∨ z ∈ A ∨ z ∈ B)
  | [], B => by simp [insR]
  | y :: A, B => by
    unfold insR
    split
    · rw [insR_mem A (y :: B)]
      simp only [List.mem_cons]
      constructor
      · rintro (q | q | q | q)
        · exact Or.inl q
        · exact Or.inr (Or.inl (Or.inr q))
        · exact Or.inr (Or.inl (Or.inl q))
        · exact Or.inr (Or.inr q)
      · rintro (q | (q | q) | q)
        · exact Or.inl q
        · exact Or.inr (Or.inr (Or.inl q))
        · exact Or.inr (Or.inl q)
        · exact Or.inr (Or.inr (Or.inr q))
    · simp only [List.mem_append, List.mem_reverse, List.mem_cons]
      constructor
      · rintro (q | q | q | q)
        · exact Or.inr (Or.inl (Or.inr q))
        · exact Or.inr (Or.inl (Or.inl q))
        · exact Or.inl q
        · exact Or.inr (Or.inr q)
      · rintro (q | (q | q) | q)
        · exact Or.inr (Or.inr (Or.inl q))
        · exact Or.inr (Or.inl q)
        · exact Or.inl q
        · exact Or.inr (Or.inr (Or.inr q))
theorem insM_mem {x z : tMi} {L : List tMi} : z ∈ insM x L ↔ z = x ∨ z ∈ L := by
  unfold insM
  rw [insR_mem]
  simp
/-- a list of small mistakes, with room for more -/
def mLs (L : List tMi) (n : Nat) : Prop := (∀ z ∈ L, mOk z) ∧ L.length + n ≤ 4000
theorem mLs_ins {x : tMi} {L : List tMi} {n : Nat} (h : mLs L (n + 1)) (hx : mOk x) : mLs (insM x L) n := by
  refine ⟨fun z hz => ?_, by rw [insM_len]; have := h.2; omega⟩
  rcases insM_mem.mp hz with q | q
  · rw [q]; exact hx
  · exact h.1 z q
theorem mP_o {L : List tMi} {f : Nat} (h0 : f ≠ 60) (h1 : f ≠ 61) (h2 : f ≠ 62) (h3 : f ≠ 63) : mP S L f = S f := by
  unfold mP
  rw [up_n h0, mA_o h1 h2 h3]
theorem mP_pas {L : List tMi} {v : Int} : up (mP S L) 57 0 v = mP (up S 57 0 v) L := by
  unfold mP
  rw [up_comm (by decide)]
  congr 1
  funext f j
  rw [up_eq]
  unfold mA
  by_cases q : f = 57 ∧ j = 0
  · rw [if_pos q, q.1, q.2]
    simp only [Nat.reduceEqDiff, if_false, up_s]
    split <;> rfl
  · rw [if_neg q, up_eq, if_neg q]
theorem QC.mP {L : List tMi} (c : QC h m w S U) : QC h m w (mP S L) U := by
  obtain ⟨c1, c2, c3, c4, c5⟩ := c
  exact ⟨c1, c2, by rw [mP_o (by decide) (by decide) (by decide) (by decide)]; exact c3, c4, c5⟩
theorem QS.mP {L : List tMi} (c : QS w S U) : QS w (mP S L) U := fun s hs => by
  rw [mP_o (by decide) (by decide) (by decide) (by decide), mP_o (by decide) (by decide) (by decide) (by decide)]
  exact c s hs
theorem mP58 {L : List tMi} : mP S L 58 = S 58 := mP_o (by decide) (by decide) (by decide) (by decide)
theorem mP59 {L : List tMi} : mP S L 59 = S 59 := mP_o (by decide) (by decide) (by decide) (by decide)
theorem tw_blame {x : tMi} {L : List tMi} (sh : TS h m) (hL : mLs L 1) (hx : mOk x) : Cl r 96 [vR (some m), vI (iI x.1), vI (iI x.2.1), vI (iI x.2.2)] (tput h m w (mP S L) U) Q ↔ Q (Sum.inl none) (tput h m w (mP S (insM x L)) U) := by
  have hw : (0 : Int) = 0 := rfl
  have hl := hL.2
  have e60 : mP S L 60 0 = L.length := by unfold mP; exact up_s
  rw [eX6_blame]
  simp (maxSteps := 3000000) (disch := first | exact tk0 sh | exact tk sh (by decide) (by decide) rfl | exact tk_l sh (by decide) (by decide) (by decide) | exact tk_u sh (by decide) (by decide) (by decide) | exact tbd sh (by decide) (by decide) (by decide) (by omega) (by simp only [tL]; omega) | exact fit_0 | exact fit_1 | exact fit_b | omega | exact qlo qu | exact qhi qu (by decide) | exact qloL qu | exact qhiL qu | assumption | decide) only [sX6_blame_0, sX6_blame_1, sX6_blame_4, i_m1, i_m2, i_m3, i_m10, i_0, i_1, i_2, i_3, i_4, i_5, i_6, i_7, i_8, i_9, i_10, i_11, i_12, i_13, i_14, i_15, i_16, i_17, i_18, i_19, i_20, i_21, i_22, i_23, i_24, i_25, i_26, i_27, i_28, i_29, i_30, i_31, i_32, i_40, i_41, i_44, i_48, i_59, i_97, i_120, i_122, i_123, i_124, i_125, i_255, i_256, i_300, i_480, i_1024, i_2000, iI_add, iI_sub, iI_mul, iI_lt, iI_le, iI_eq, iI_nat, rd_0, wr_0, rd_1, wr_1, rd_2, wr_2, rd_3, wr_3, rd_4, wr_4, rd_5, wr_5, rd_6, wr_6, rd_7, wr_7, rd_8, wr_8, rd_9, wr_9, rd_10, wr_10, rd_11, wr_11, rd_12, wr_12, rd_13, wr_13, rd_14, wr_14, rd_15, wr_15, rd_16, wr_16, rd_17, wr_17, rd_18, wr_18, rd_19, wr_19, rd_20, wr_20, rd_21, wr_21, rd_22, wr_22, rd_23, wr_23, rd_24, wr_24, rd_25, wr_25, rd_26, wr_26, rd_27, wr_27, rd_28, wr_28, rd_29, wr_29, rd_30, wr_30, rd_31, wr_31, rd_32, wr_32, rd_33, wr_33, rd_34, wr_34, rd_35, wr_35, rd_36, wr_36, rd_37, wr_37, rd_38, wr_38, rd_39, wr_39, rd_40, wr_40, rd_41, wr_41, rd_42, wr_42, rd_43, wr_43, rd_44, wr_44, rd_45, wr_45, rd_46, wr_46, rd_47, wr_47, rd_48, wr_48, rd_49, wr_49, rd_50, wr_50, rd_51, wr_51, rd_52, wr_52, rd_53, wr_53, rd_54, wr_54, rd_55, wr_55, rd_56, wr_56, rd_57, wr_57, rd_58, wr_58, rd_59, wr_59, rd_60, wr_60, rd_61, wr_61, rd_62, wr_62, rd_63, wr_63, rd_64, wr_64, rd_65, wr_65, rd_66, wr_66, rd_67, wr_67, rd_68, wr_68, rd_69, wr_69, rd_70, wr_70, rd_71, wr_71, rd_72, wr_72, rd_73, wr_73, rd_74, wr_74, tr_0 sh, tr_3 sh, tr_4 sh, tr_5 sh, tr_6 sh, tr_7 sh, tr_8 sh, tr_9 sh, tr_10 sh, tr_11 sh, tr_12 sh, tr_13 sh, tr_14 sh, tr_15 sh, tr_16 sh, tr_17 sh, tr_18 sh, tr_19 sh, tr_20 sh, tr_21 sh, tr_22 sh, tr_23 sh, tr_24 sh, tr_25 sh, tr_26 sh, tr_27 sh, tr_28 sh, tr_29 sh, tr_30 sh, tr_31 sh, tr_32 sh, tr_33 sh, tr_34 sh, tr_35 sh, tr_36 sh, tr_37 sh, tr_38 sh, tr_39 sh, tr_40 sh, tr_41 sh, tr_42 sh, tr_43 sh, tr_44 sh, tr_45 sh, tr_46 sh, tr_56 sh, tr_58 sh, tr_59 sh, tr_61 sh, tr_62 sh, tr_63 sh, tr_70 sh, tr_71 sh, tr_72 sh, tr_73 sh, tr_74 sh, Kt_v, Kt_0, Kt_x, lc_eqI, lI_eq, bI_0, bI_1, ne_eq, Classical.not_not, ite_not, up_eq, true_and, false_and, and_true, and_false, and_self, if_true, if_false, eq_self, true_or, or_true, false_or, or_false, not_true_eq_false, not_false_eq_true, Nat.reduceEqDiff, ↓reduceIte, iI_neg, l64_0, Bool.false_eq_true, Int.reduceEq, l_wKind, l_wBelow, l_wWay, l_wOver, l_wFree, l_wThrows, l_wDo, l_wCall, l_wThrow, l_wSet, l_wIf, l_wElse, l_wWhile, l_wLoop, l_wBreak, l_wReturn, l_wTry, l_wCatch, l_wFinally, l_wRun, l_0, l_6384748, l_482854660462, l_465726042981, l_435711799154, hw, e60]
  have k := tw_blm (r := r) (h := h) (m := m) (Q := Q) (w := w) (S := S) (U := U) sh hx (n := L.length) (by omega) L.reverse (S 61 L.length, S 62 L.length, S 63 L.length) [] L.length (fun z hz => hL.1 z (List.mem_reverse.mp hz)) (by simp) (by omega)
  rw [List.reverse_reverse, ← mA_more] at k
  have e9 : up (mA S (insR x L.reverse [])) 60 0 ((L.length : Int) + 1) = mP S (insM x L) := by
    unfold mP
    rw [insM_len]
    rfl
  rw [e9] at k
  exact k
theorem insA_app {L xs ys : List tMi} : insA L (xs ++ ys) = insA (insA L xs) ys := by
  unfold insA
  rw [List.foldl_append]
theorem mLs_all {n : Nat} : ∀ (xs : List tMi) (L : List tMi), mLs L (xs.length + n) → (∀ x ∈ xs, mOk x) → mLs (insA L xs) n
  | [], L, h, _ => by
    have : ([] : List tMi).length + n = n := by simp
    rw [this] at h
    exact h
  | x :: xs, L, h, hx => by
    show mLs (insA (insM x L) xs) n
    refine mLs_all xs _ (mLs_ins ?_ (hx x List.mem_cons_self)) (fun y hy => hx y (List.mem_cons_of_mem _ hy))
    rw [List.length_cons] at h
    rw [show xs.length + n + 1 = xs.length + 1 + n by omega]
    exact h
theorem tFor_cat {α : Type} (g : Int → List α) : ∀ (d : Nat) (j : Int) (A : List α), tFor (fun k L => L ++ g k) d j A = A ++ tCat g d j
  | 0, j, A => by simp [tFor, tCat]
  | d + 1, j, A => by
    unfold tCat
    show tFor (fun k L => L ++ g k) d (j + 1) (A ++ g j) = A ++ tFor (fun k L => L ++ g k) d (j + 1) ([] ++ g j)
    rw [tFor_cat g d (j + 1) (A ++ g j), tFor_cat g d (j + 1) ([] ++ g j)]
    simp
theorem tCat_s {α : Type} (g : Int → List α) (d : Nat) (j : Int) : tCat g (d + 1) j = g j ++ tCat g d (j + 1) := by
  have := tFor_cat g d (j + 1) (g j)
  unfold tCat at *
  show tFor (fun k L => L ++ g k) d (j + 1) ([] ++ g j) = _
  rw [List.nil_append]
  exact this
theorem tCat_0 {α : Type} (g : Int → List α) (j : Int) : tCat g 0 j = [] := rfl
end J2
