/-! JDK: lists, 8: constructors, isEmpty *-/
section AL8
variable {r e a n : Nat} {h : am_H} {Q : am_O → am_H → Prop}
theorem al_init0 (ha : hK h a = 4) : Cl r 116 [vR (some a)] h Q ↔ Q (Sum.inl none) (putI h a 0 (iI 0)) := by
  rw [eJ4_init, sJ4_init_0, sJ4_init_1 (by omega) (by omega), eJ3_init, sJ3_init_0, sJ3_init_1, sJ3_init_4, Kt_0, sJ4_init_4, sJ4_init_5, i_0, sJ4_init_6 ha, sJ4_init_9]
theorem al_init (ha : hK h a = 4) : Cl r 76 [vR (some a)] h Q ↔ Q (Sum.inl none) (putR (putI h a 0 (iI 0)) a 1 (some (hE h 31))) := by
  have ha' : hK (putI h a 0 (iI 0)) a = 4 := ha
  rw [eJ5_init, sJ5_init_0, sJ5_init_1 (by omega) (by omega), al_init0 ha, Kt_0, sJ5_init_4, sJ5_init_5, sJ5_init_8 ha', sJ5_init_11]
  rfl
theorem al_init2 (ha : hK h a = 4) (an : a < hN h) (n1 : 1 ≤ n) (n2 : n ≤ 60000) : Cl r 172 [vR (some a), vI (iI n)] h Q ↔ Q (Sum.inl none) (putR (newC (putI h a 0 (iI 0)) 46 n) a 1 (some (hN h))) := by
  have ha' : hK (newC (putI h a 0 (iI 0)) 46 n) a = 4 := by rw [hK_newC, if_neg (by rw [hN_putI]; omega)]; exact ha
  have nn : (iI n).toNatClampNeg = n := by rw [iI_nat (by omega) (by omega)]; omega
  have c0 : ¬ iI n ≤ iI 0 := by rw [iI_le (by omega) (by omega) (by omega) (by omega)]; omega
  have bn : ¬ (iI n < 0 ∨ 65536 < (iI n).toNatClampNeg) := by
    rw [nn, i_0, iI_lt (by omega) (by omega) (by omega) (by omega)]
    omega
  rw [eJ5_init_2, sJ5_init_2_0, sJ5_init_2_1 (by omega) (by omega), al_init0 ha, Kt_0, sJ5_init_2_4, sJ5_init_2_5, i_0, if_neg c0, sJ5_init_2_8, sJ5_init_2_9, sJ5_init_2_10 bn, nn, sJ5_init_2_13 ha', sJ5_init_2_16, sJ5_init_2_60]
  rfl
theorem al_isEmpty (ha : hK h a = 4) (hs : hI h a 2 = iI n) (n2 : n ≤ 60000) : Cl r 282 [vR (some a)] h Q ↔ Q (Sum.inl (some (vI (iI (if n = 0 then 1 else 0))))) h := by
  have c0 : iI n ≠ iI 0 ↔ n ≠ 0 := by
    rw [ne_eq, iI_eq (by omega) (by omega) (by omega) (by omega)]
    omega
  rw [eJ5_isEmpty, sJ5_isEmpty_0, sJ5_isEmpty_1 ha, hs, sJ5_isEmpty_4, i_0]
  by_cases p : n = 0
  · rw [if_neg (fun z => c0.mp z p), if_pos p, sJ5_isEmpty_7, i_1, sJ5_isEmpty_8, sJ5_isEmpty_12 (by decide)]
  · rw [if_pos (c0.mpr p), if_neg p, sJ5_isEmpty_11, i_0, sJ5_isEmpty_12 (by decide)]
end AL8
