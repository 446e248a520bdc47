/-! JDK: lists, 5: growing *-/
/-- a longer row for a full list -/
def gLn (k : Nat) : Nat := k + (if 1 < k / 2 then k / 2 else 1)
def gR (h : am_H) (e : Nat) : am_H := if hL h e = 0 ∧ e = hE h 31 then newC h 46 10 else cpyR (newC h 46 (gLn (hL h e))) e 0 (hN h) 0 (hL h e)
section AL5
variable {r e a : Nat} {h : am_H} {Q : am_O → am_H → Prop}
theorem al_grow (ha : hK h a = 4) (an : a ≠ hN h) (hr : hR h a 1 = some e) (hs : hI h a 2 = iI (hL h e)) (hk : hK h e = 46 ∨ hK h e = 47) (en : e ≠ hN h) (hl : hL h e ≤ 30000) :
    Cl r 205 [vR (some a)] h Q ↔ Q (Sum.inl (some (vR (some (hN h))))) (putR (gR h e) a 1 (some (hN h))) := by
  have k1 : 40 ≤ hK h e := by rcases hk with z | z <;> omega
  have k2 : hK h e ≤ 49 := by rcases hk with z | z <;> omega
  rw [eJ5_grow, sJ5_grow_0, sJ5_grow_1, sJ5_grow_2 ha, hs, sJ5_grow_5, sJ5_grow_6, i_1, iI_add, sJ5_grow_7 ha, eJ5_grow_2, sJ5_grow_2_0, sJ5_grow_2_1 ha, hr, sJ5_grow_2_4 k1 k2, iI_nI, sJ5_grow_2_5, sJ5_grow_2_6, sJ5_grow_2_7, i_0]
  have c0 : iI 0 < iI (hL h e) ↔ 0 < (hL h e : Int) := iI_lt (by omega) (by omega) (by omega) (by omega)
  have big : Rn r 257 20 [some (vR (some a)), some (vI (iI (hL h e + 1))), some (vI (iI (hL h e))), none] [] h (Kt r 205 10 [some (vR (some a))] [] Q) ↔ Q (Sum.inl (some (vR (some (hN h))))) (putR (cpyR (newC h 46 (gLn (hL h e))) e 0 (hN h) 0 (hL h e)) a 1 (some (hN h))) := by
    have hn : ∀ Q, Cl r 245 [vI (iI (hL h e)), vI (iI (hL h e + 1 - hL h e)), vI (iI ((hL h e : Int) / 2))] h Q ↔ _ := fun Q => jd_newLength (by omega) (by omega) (by omega) (by omega) (by omega) (by omega)
    have eg : (hL h e : Int) + (if (hL h e : Int) + 1 - hL h e < (hL h e : Int) / 2 then (hL h e : Int) / 2 else (hL h e : Int) + 1 - hL h e) = (gLn (hL h e) : Nat) := by
      unfold gLn
      split <;> split <;> omega
    rw [eg] at hn
    have gb : hL h e ≤ gLn (hL h e) ∧ gLn (hL h e) ≤ 60000 := by
      unfold gLn
      split <;> omega
    rw [sJ5_grow_2_20, sJ5_grow_2_21, sJ5_grow_2_22, sJ5_grow_2_23, iI_sub, sJ5_grow_2_24, sJ5_grow_2_25, sJ5_grow_2_26, i_1, i_31, iI_half (by omega) (by omega), sJ5_grow_2_27, hn, Kt_v, sJ5_grow_2_30, sJ5_grow_2_31, sJ5_grow_2_32, sJ5_grow_2_33 ha, hr, sJ5_grow_2_36, sJ5_grow_2_37, jd_copyOf hk en (by omega) (by omega), Kt_v, Int.toNat_natCast, sJ5_grow_2_40]
    rw [sJ5_grow_2_41 (by rw [hK_cpyR, hK_newC, if_neg an]; exact ha), sJ5_grow_2_44, Kt_v, sJ5_grow_10]
  unfold gR
  by_cases p : 0 < (hL h e : Int)
  · rw [if_pos (c0.mpr p), if_neg (by omega)]
    exact big
  · rw [if_neg (fun z => p (c0.mp z)), sJ5_grow_2_10, sJ5_grow_2_11 ha, hr, sJ5_grow_2_14, sJ5_grow_2_17]
    by_cases q : e = hE h 31
    · rw [if_pos (by rw [q]), if_pos ⟨by omega, q⟩]
      have hm : ∀ Q, Cl r 266 [vI (iI 10), vI (iI (hL h e + 1))] h Q ↔ _ := fun Q => jd_max (by omega) (by omega) (by omega) (by omega)
      rw [if_neg (by omega)] at hm
      rw [sJ5_grow_2_45, sJ5_grow_2_46, i_10, sJ5_grow_2_48, sJ5_grow_2_49, hm, Kt_v, sJ5_grow_2_52 (by decide), sJ5_grow_2_55, sJ5_grow_2_56 (by rw [hK_newC, if_neg an]; exact ha), sJ5_grow_2_59, Kt_v, sJ5_grow_10]
      rfl
    · rw [if_neg (fun z => q (Option.some.inj z)), if_neg (fun z => q z.2)]
      exact big
end AL5
