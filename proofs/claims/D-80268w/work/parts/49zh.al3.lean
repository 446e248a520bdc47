/-! JDK: lists, 3: a longer row *-/
section AL3
variable {r e : Nat} {h : am_H} {Q : am_O → am_H → Prop} {n : Int}
theorem jd_copyOf (hk : hK h e = 46 ∨ hK h e = 47) (he : e ≠ hN h) (h1 : (hL h e : Int) ≤ n) (h2 : n ≤ 60000) :
    Cl r 292 [vR (some e), vI (iI n)] h Q ↔ Q (Sum.inl (some (vR (some (hN h))))) (cpyR (newC h 46 n.toNat) e 0 (hN h) 0 (hL h e)) := by
  have nn : (iI n).toNatClampNeg = n.toNat := iI_nat (by omega) (by omega)
  have bn : ¬ (iI n < 0 ∨ 65536 < (iI n).toNatClampNeg) := by
    rw [nn, i_0, iI_lt (by omega) (by omega) (by omega) (by omega)]
    omega
  have hk2 : hK (newC h 46 n.toNat) e = 46 ∨ hK (newC h 46 n.toNat) e = 47 := by rw [hK_newC, if_neg he]; exact hk
  have hl2 : hL (newC h 46 n.toNat) e = hL h e := by rw [hL_newC, if_neg he]
  have hk3 : hK (newC h 46 n.toNat) (hN h) = 46 := by rw [hK_newC, if_pos rfl]
  have hl3 : hL (newC h 46 n.toNat) (hN h) = n.toNat := by rw [hL_newC, if_pos rfl]
  have hm : ∀ (g : am_H) Q, Cl r 246 [vI (iI (hL h e)), vI (iI n)] g Q ↔ _ := fun g Q => jd_min (by omega) (by omega) (by omega) (by omega)
  rw [if_neg (by omega)] at hm
  rw [eJ10_copyOf, sJ10_copyOf_0, sJ10_copyOf_1, sJ10_copyOf_2, sJ10_copyOf_3_o hk, sJ10_copyOf_6, eJ10_copyOf_2, sJ10_copyOf_2_0, sJ10_copyOf_2_1, sJ10_copyOf_2_3, if_neg (fun z => z rfl), sJ10_copyOf_2_6, sJ10_copyOf_2_7 bn, nn, sJ10_copyOf_2_10, sJ10_copyOf_2_24, sJ10_copyOf_2_25, sJ10_copyOf_2_26, sJ10_copyOf_2_27, sJ10_copyOf_2_28, sJ10_copyOf_2_29,
    sJ10_copyOf_2_30 (by rcases hk2 with z | z <;> omega) (by rcases hk2 with z | z <;> omega), hl2, iI_nI, sJ10_copyOf_2_31, sJ10_copyOf_2_32, hm, Kt_v]
  have nl : (iI (hL h e)).toNatClampNeg = hL h e := by rw [iI_nat (by omega) (by omega)]; omega
  rw [sJ10_copyOf_2_35_r ⟨by rw [i_0, iI_le (by omega) (by omega) (by omega) (by omega)]; omega, by decide, by decide, by rw [nl, hl2, show ((0 : Int32)).toNatClampNeg = 0 from rfl]; omega, by rw [nl, hl3, show ((0 : Int32)).toNatClampNeg = 0 from rfl]; omega⟩ ⟨hk2, hk3⟩, nl, sJ10_copyOf_2_38, sJ10_copyOf_2_39, Kt_v, sJ10_copyOf_9]
  rfl
end AL3
