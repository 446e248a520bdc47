/-! JDK: builders of texts, 3: the text *-/
section SB3
variable {r a b n k : Nat} {h : am_H} {v : vT} {Q : am_O → am_H → Prop} {x : Int} {T : List Int32}
theorem jd_rangeB (hk : hK h b = 44) (bn : b < hN h) (h1 : n ≤ hL h b) (h2 : hL h b ≤ 60000) : Cl r 190 [vR (some b), vI 0, vI (iI n)] h Q ↔ Q (Sum.inl (some (vR (some (hN h))))) (cpyI (newC h 44 n) b 0 (hN h) 0 n) := by
  have nn := nn_i (n := n) (by omega)
  have hk2 : hK (newC h 44 n) b = 44 := by rw [hK_newC, if_neg (by omega)]; exact hk
  have hl2 : hL (newC h 44 n) b = hL h b := by rw [hL_newC, if_neg (by omega)]
  have hk3 : hK (newC h 44 n) (hN h) = 44 := by rw [hK_newC, if_pos rfl]
  have hl3 : hL (newC h 44 n) (hN h) = n := by rw [hL_newC, if_pos rfl]
  rw [eJ10_copyOfRange, sJ10_copyOfRange_0, sJ10_copyOfRange_1, if_neg (fun z => z rfl), sJ10_copyOfRange_4, sJ10_copyOfRange_5, sJ10_copyOfRange_6 (by omega) (by omega), iI_nI, sJ10_copyOfRange_7]
  by_cases p : n = hL h b
  · rw [if_pos (by rw [p]), sJ10_copyOfRange_17, sJ10_copyOfRange_18 hk, sJ10_copyOfRange_21 (by rw [hK_cpyI, hK_newC, if_pos rfl]; decide), sJ10_copyOfRange_24, p]
  · have bn' : ¬ (iI n < 0 ∨ 65536 < (iI n).toNatClampNeg) := by
      rw [nn, i_0, iI_lt (by omega) (by omega) (by omega) (by omega)]
      omega
    have ck : ∀ Q, Cl r 288 [vI 0, vI (iI n)] h Q ↔ Q (Sum.inl none) h := fun Q => by
      have c1 : (0 : Int32) ≤ iI n := by rw [i_0, iI_le (by omega) (by omega) (by omega) (by omega)]; omega
      simp only [eJ10_checkLength, sJ10_checkLength_0, sJ10_checkLength_1, sJ10_checkLength_2, sJ10_checkLength_8, sJ10_checkLength_12, sJ10_checkLength_37, c1, if_true]
    have hm : ∀ (g : am_H) Q, Cl r 246 [vI (iI (hL h b)), vI (iI n)] g Q ↔ _ := fun g Q => jd_min (by omega) (by omega) (by omega) (by omega)
    rw [if_pos (by omega)] at hm
    have s0 : ∀ y : Int32, y - 0 = y := fun y => by simp
    rw [if_neg (by rw [iI_eq (by omega) (by omega) (by omega) (by omega)]; omega), sJ10_copyOfRange_10, sJ10_copyOfRange_11, sJ10_copyOfRange_12, sJ10_copyOfRange_13, eJ10_copyOfRangeByte, sJ10_copyOfRangeByte_0, sJ10_copyOfRangeByte_1, sJ10_copyOfRangeByte_2, ck, Kt_0, sJ10_copyOfRangeByte_5, sJ10_copyOfRangeByte_6, sJ10_copyOfRangeByte_7, s0, sJ10_copyOfRangeByte_8, sJ10_copyOfRangeByte_9, sJ10_copyOfRangeByte_10 bn', nn, sJ10_copyOfRangeByte_12, sJ10_copyOfRangeByte_14, sJ10_copyOfRangeByte_15, sJ10_copyOfRangeByte_16, sJ10_copyOfRangeByte_18, sJ10_copyOfRangeByte_19, sJ10_copyOfRangeByte_20 (by omega) (by omega), hl2, iI_nI, sJ10_copyOfRangeByte_21, sJ10_copyOfRangeByte_22, s0, sJ10_copyOfRangeByte_23, sJ10_copyOfRangeByte_24, hm, Kt_v]
    rw [sJ10_copyOfRangeByte_27 ⟨by rw [i_0, iI_le (by omega) (by omega) (by omega) (by omega)]; omega, by decide, by decide, by rw [nn, hl2, show ((0 : Int32)).toNatClampNeg = 0 from rfl]; omega, by rw [nn, hl3, show ((0 : Int32)).toNatClampNeg = 0 from rfl]; omega⟩ ⟨Or.inl hk2, hk3⟩, nn, sJ10_copyOfRangeByte_30, sJ10_copyOfRangeByte_32, Kt_v, sJ10_copyOfRange_16]
    rfl
theorem v_toS (c : CR h v) (ha : hK v.1 a = 16) (hl : (vTx v a).length ≤ 300)
    (q : ∀ h', CR h' (vsT (vbm (vnw v 10 4) (hN v.1 + 2) (hS v.1 + 4 + (vTx v a).length)) (hN v.1) (vTx v a)) → Q (Sum.inl (some (vR (some (hN v.1))))) h') : Cl r 65 [vR (some a)] h Q := by
  obtain ⟨b, b1, b2, b3, b4, b5, b6, b7, b8, b9, b10, b11⟩ := c.sb ha
  have la := c.lt (a := a) (by rw [ha]; decide)
  have hvn := c.hn
  have hvs := c.hs
  have one : ¬ ((1 : Int32) = 0) := by decide
  have ka : hK (newC h 10 4) a = 16 := by rw [hK_newC, if_neg (by omega)]; exact b11
  have kn : hK (newC h 10 4) (hN h) = 10 := by rw [hK_newC, if_pos rfl]
  have k0 : 0 < hK (newC h 10 4) (hN h) := by omega
  have k1 : hK (newC h 10 4) (hN h) < 40 := by omega
  have r0 : hR (newC h 10 4) a 0 = some b := by rw [hR_newC, if_neg (by omega)]; exact b1
  have c0 : hI (newC h 10 4) a 1 = 0 := by rw [hI_newC, if_neg (by omega)]; exact b7
  have s0 : hI (newC h 10 4) a 3 = iI (vTx v a).length := by rw [hI_newC, if_neg (by omega)]; exact b9
  have lat : ∀ Q, Cl r 154 [vR (some a)] (newC h 10 4) Q ↔ Q (Sum.inl (some (vI 1))) (newC h 10 4) := fun Q => by
    simp only [eJ22_isLatin1, sJ22_isLatin1_0, sJ22_isLatin1_3, sJ22_isLatin1_6, sJ22_isLatin1_7, sJ22_isLatin1_10, sJ22_isLatin1_13, sJ22_isLatin1_14, sJ22_isLatin1_17, sJ22_isLatin1_18, ka, c0, ne_eq, not_true_eq_false, one, if_false, show am_fit 4 1 = true from rfl]
  have gv : ∀ Q, Cl r 188 [vR (some a)] (newC h 10 4) Q ↔ Q (Sum.inl (some (vR (some b)))) (newC h 10 4) := fun Q => by
    simp only [eJ22_getValue, sJ22_getValue_0, sJ22_getValue_1, sJ22_getValue_4, ka, r0]
  have gl : ∀ Q, Cl r 189 [vR (some a)] (newC h 10 4) Q ↔ Q (Sum.inl (some (vI (iI (vTx v a).length)))) (newC h 10 4) := fun Q => by
    have k2 : 0 < hK (newC h 10 4) a := by omega
    have k3 : hK (newC h 10 4) a < 40 := by omega
    rw [eJ23_length, sJ23_length_0, sJ23_length_1 k2 k3, eJ22_length, sJ22_length_0, sJ22_length_1 ka, s0, sJ22_length_4, Kt_v, sJ23_length_4]
  have kb1 : hK (putI (newC h 10 4) (hN h) 1 0) b = 44 := by rw [hK_putI, hK_newC, if_neg (by omega)]; exact b3
  have lb1 : hL (putI (newC h 10 4) (hN h) 1 0) b = hL h b := by rw [hL_putI, hL_newC, if_neg (by omega)]
  have n1 : hN (putI (newC h 10 4) (hN h) 1 0) = hN h + 1 := rfl
  have cr : ∀ Q, Cl r 190 [vR (some b), vI 0, vI (iI (vTx v a).length)] (putI (newC h 10 4) (hN h) 1 0) Q ↔ _ := fun Q => jd_rangeB kb1 (by rw [n1]; omega) (by rw [lb1]; exact b4) (by rw [lb1]; omega)
  rw [eJ23_toString, sJ23_toString_0, sJ23_toString_3, sJ23_toString_4, sJ23_toString_5 k0 k1, eJ13_init, sJ13_init_0, sJ13_init_1, sJ13_init_2, sJ13_init_3 k0 k1, eJ13_init_2, sJ13_init_2_0, sJ13_init_2_1, sJ13_init_2_4, sJ13_init_2_5 ka, gv, Kt_v, sJ13_init_2_8, sJ13_init_2_9, sJ13_init_2_10 ka, gl, Kt_v, sJ13_init_2_13, sJ13_init_2_15, sJ13_init_2_16 ka, lat, Kt_v, sJ13_init_2_19, if_neg one, sJ13_init_2_22, sJ13_init_2_23, sJ13_init_2_24 kn rfl, sJ13_init_2_27, sJ13_init_2_28, sJ13_init_2_29, sJ13_init_2_30, sJ13_init_2_32, cr, Kt_v]
  rw [sJ13_init_2_35 (by rw [hK_cpyI, hK_newC, n1, if_neg (by omega), hK_putI]; exact kn), sJ13_init_2_38, sJ13_init_2_97, Kt_0, sJ13_init_6, Kt_0, sJ23_toString_8, n1]
  suffices w : CR (putR (cpyI (newC (putI (newC h 10 4) (hN h) 1 0) 44 (vTx v a).length) b 0 (hN h + 1) 0 (vTx v a).length) (hN h) 0 (some (hN h + 1))) (vsT (vbm (vnw v 10 4) (hN v.1 + 2) (hS v.1 + 4 + (vTx v a).length)) (hN v.1) (vTx v a)) by
    have z := q _ w
    rw [← hvn] at z
    exact z
  refine CR_n2 (T := vTx v a) c rfl (fun k => rfl) (fun d hd => ⟨?_, ?_, fun k => ⟨?_, ?_, ?_⟩⟩) (by
    rw [show hN (putR (cpyI (newC (putI (newC h 10 4) (hN h) 1 0) 44 (vTx v a).length) b 0 (hN h + 1) 0 (vTx v a).length) (hN h) 0 (some (hN h + 1))) = hN v.1 + 2 by rw [← hvn]; rfl, show hS (putR (cpyI (newC (putI (newC h 10 4) (hN h) 1 0) 44 (vTx v a).length) b 0 (hN h + 1) 0 (vTx v a).length) (hN h) 0 (some (hN h + 1))) = hS v.1 + 4 + (vTx v a).length by rw [← hvs]; rfl]) (Or.inl rfl) ?_ ?_ ?_ ?_ b8 ?_ ?_ (fun i hi => ?_) (fun _ => ⟨?_, hl, ?_, ?_⟩) (fun z => absurd z (by decide))
  · rw [hK_putR, hK_cpyI, hK_newC, n1, if_neg (by omega), hK_putI, hK_newC, if_neg (by omega)]
  · rw [hL_putR, hL_cpyI, hL_newC, n1, if_neg (by omega), hL_putI, hL_newC, if_neg (by omega)]
  · rw [hI_putR, hI_cpyI, if_neg (fun w => by have := w.1; omega), hI_newC, n1, if_neg (by omega), hI_putI, if_neg (fun w => by have := w.1; omega), hI_newC, if_neg (by omega)]
  · rw [hJ_putR, hJ_cpyI, hJ_newC, n1, if_neg (by omega), hJ_putI, hJ_newC, if_neg (by omega)]
  · rw [hR_putR, if_neg (fun w => by have := w.1; omega), hR_cpyI, hR_newC, n1, if_neg (by omega), hR_putI, hR_newC, if_neg (by omega)]
  · rw [hK_putR, hK_cpyI, hK_newC, n1, if_neg (by omega), hK_putI]; exact kn
  · rw [hK_putR, hK_cpyI, hK_newC, n1, if_pos rfl]
  · rw [hR_putR, if_pos ⟨rfl, rfl⟩]
  · rw [hI_putR, hI_cpyI, if_neg (fun w => by have := w.1; omega), hI_newC, n1, if_neg (by omega), hI_putI, if_pos ⟨rfl, rfl⟩]
  · rw [hL_putR, hL_cpyI, hL_newC, n1, if_pos rfl]; exact Nat.le_refl _
  · rw [hL_putR, hL_cpyI, hL_newC, n1, if_pos rfl]; omega
  · rw [hI_putR, hI_cpyI, if_pos ⟨rfl, by omega, by omega⟩, hI_newC, n1, if_neg (by omega), hI_putI, if_neg (fun w => by have := w.1; omega), hI_newC, if_neg (by omega), show 0 + (i - 0) = i by omega]
    exact b6 i hi
  · rw [hL_putR, hL_cpyI, hL_newC, n1, if_pos rfl]
  · rw [hI_putR, hI_cpyI, if_neg (fun w => by have := w.1; omega), hI_newC, n1, if_neg (by omega), hI_putI, if_neg (fun w => absurd w.2 (by decide)), hI_newC, if_pos rfl]
  · rw [hI_putR, hI_cpyI, if_neg (fun w => by have := w.1; omega), hI_newC, n1, if_neg (by omega), hI_putI, if_neg (fun w => absurd w.2 (by decide)), hI_newC, if_pos rfl]
end SB3
