/-! JDK: lists, 1 *-/
/-- a list in the heap: e its row -/
def AL (h : am_H) (a e : Nat) (L : List (Option Nat)) : Prop := hK h a = 4 ∧ hI h a 2 = iI L.length ∧ hR h a 1 = some e ∧ 46 ≤ hK h e ∧ hK h e ≤ 49 ∧ L.length ≤ hL h e ∧ hL h e ≤ 65536 ∧ ∀ i, i < L.length → hR h e i = L.getD i none
section ALS
variable {r a e : Nat} {h : am_H} {Q : am_O → am_H → Prop} {L : List (Option Nat)}
theorem al_size (A : AL h a e L) : Cl r 34 [vR (some a)] h Q ↔ Q (Sum.inl (some (vI (iI L.length)))) h := by
  obtain ⟨a1, a2, a3, a4, a5, a6, a7, a8⟩ := A
  simp only [eJ5_size, sJ5_size_0, sJ5_size_1, sJ5_size_4, a1, a2]
theorem jd_check {x n : Int} (h1 : 0 ≤ x) (h2 : x < n) (h3 : n < 2147483648) : Cl r 99 [vI (iI x), vI (iI n)] h Q ↔ Q (Sum.inl (some (vI (iI x)))) h := by
  have p1 : ¬ x < 0 := by omega
  simp (disch := first | exact fit_0 | exact fit_1 | exact fit_b | omega | assumption | decide) only [eJ26_checkIndex, sJ26_checkIndex_0, sJ26_checkIndex_1, sJ26_checkIndex_2, sJ26_checkIndex_3, sJ26_checkIndex_6, eJ18_checkIndex, sJ18_checkIndex_0, sJ18_checkIndex_1, sJ18_checkIndex_4, sJ18_checkIndex_5, sJ18_checkIndex_6, sJ18_checkIndex_9, sJ18_checkIndex_10, sJ18_checkIndex_11, sJ18_checkIndex_16, sJ18_checkIndex_17, i_m1, i_m2, i_m3, i_m10, i_0, i_1, i_2, i_3, i_4, i_5, i_6, i_7, i_8, i_9, i_10, i_11, i_12, i_13, i_14, i_15, i_16, i_17, i_18, i_19, i_20, i_21, i_22, i_23, i_24, i_25, i_26, i_27, i_28, i_29, i_30, i_31, i_32, i_40, i_41, i_44, i_48, i_59, i_97, i_120, i_122, i_123, i_124, i_125, i_255, i_256, i_300, i_480, i_1024, i_2000, iI_lt, iI_le, p1, h2, if_true, if_false, Kt_v, Kt_0, Kt_x]
theorem al_get {k : Int} (A : AL h a e L) (h1 : 0 ≤ k) (h2 : k < L.length) : Cl r 43 [vR (some a), vI (iI k)] h Q ↔ Q (Sum.inl (some (vR (L.getD k.toNat none)))) h := by
  obtain ⟨a1, a2, a3, a4, a5, a6, a7, a8⟩ := A
  have b : ¬ (iI k < 0 ∨ hL h e ≤ (iI k).toNatClampNeg) := iI_bd h1 (by omega) (by omega)
  have v := a8 k.toNat (by omega)
  have ck : ∀ Q, Cl r 99 [vI (iI k), vI (iI L.length)] h Q ↔ _ := fun Q => jd_check h1 h2 (by omega)
  have n : (iI k).toNatClampNeg = k.toNat := iI_nat (by omega) (by omega)
  simp only [eJ5_get, sJ5_get_0, sJ5_get_1, sJ5_get_2, sJ5_get_5, sJ5_get_8, sJ5_get_9, sJ5_get_10, sJ5_get_11, sJ5_get_14, a1, a2, ck, Kt_v, Kt_0, Kt_x, eJ5_elementData, sJ5_elementData_0, sJ5_elementData_1, sJ5_elementData_4, sJ5_elementData_5, sJ5_elementData_6, a3]
  rw [sJ5_elementData_5 a4 a5 b, n, v]
  simp only [sJ5_elementData_6, Kt_v, sJ5_get_14]
end ALS
