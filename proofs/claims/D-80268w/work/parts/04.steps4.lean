/-! STEP LEMMAS, printed by gen_steps.py -/
set_option maxRecDepth 100000
section ST4
variable {r : Nat} {h : am_H} {Q : am_O → am_H → Prop} {x x0 x1 x2 x3 x4 x5 x6 x7 x8 x9 x10 x11 : Int32} {y y0 y1 y2 y3 y4 y5 y6 y7 y8 y9 y10 y11 : Int64} {z z0 z1 z2 z3 z4 z5 z6 z7 z8 z9 z10 z11 : Option Nat} {w0 w1 w2 : UInt32} {a0 a1 a2 a3 a4 a5 a6 a7 a8 a9 a10 a11 : Nat} {l0 l1 l2 l3 l4 l5 l6 l7 l8 l9 l10 l11 l12 l13 l14 l15 l16 l17 l18 l19 : Option am_V}
/-! 145 ThrowRulesModel.isBefore(IIIIII)Z -/
theorem eX6_isBefore : Cl r 145 [vI x0, vI x1, vI x2, vI x3, vI x4, vI x5] h Q ↔ Rn r 145 0 [some (vI x0), some (vI x1), some (vI x2), some (vI x3), some (vI x4), some (vI x5)] [] h Q := Cl_in pg145 rfl
theorem sX6_isBefore_0 : Rn r 145 0 [some (vI x), l1, l2, l3, l4, l5] [] h Q ↔ Rn r 145 1 [some (vI x), l1, l2, l3, l4, l5] [vI x] h Q := Rn_nx pg145 rfl rfl
theorem sX6_isBefore_1 : Rn r 145 1 [l0, l1, l2, some (vI x), l4, l5] [vI x0] h Q ↔ Rn r 145 2 [l0, l1, l2, some (vI x), l4, l5] [vI x, vI x0] h Q := Rn_nx pg145 rfl rfl
theorem sX6_isBefore_2 : Rn r 145 2 [l0, l1, l2, l3, l4, l5] [vI x0, vI x1] h Q ↔ if x1 = x0 then Rn r 145 18 [l0, l1, l2, l3, l4, l5] [] h Q else Rn r 145 5 [l0, l1, l2, l3, l4, l5] [] h Q := Rn_if pg145 rfl rfl rfl
theorem sX6_isBefore_5 : Rn r 145 5 [some (vI x), l1, l2, l3, l4, l5] [] h Q ↔ Rn r 145 6 [some (vI x), l1, l2, l3, l4, l5] [vI x] h Q := Rn_nx pg145 rfl rfl
theorem sX6_isBefore_6 : Rn r 145 6 [l0, l1, l2, some (vI x), l4, l5] [vI x0] h Q ↔ Rn r 145 7 [l0, l1, l2, some (vI x), l4, l5] [vI x, vI x0] h Q := Rn_nx pg145 rfl rfl
theorem sX6_isBefore_7 : Rn r 145 7 [l0, l1, l2, l3, l4, l5] [vI x0, vI x1] h Q ↔ if x0 ≤ x1 then Rn r 145 14 [l0, l1, l2, l3, l4, l5] [] h Q else Rn r 145 10 [l0, l1, l2, l3, l4, l5] [] h Q := Rn_if pg145 rfl rfl rfl
theorem sX6_isBefore_10 : Rn r 145 10 [l0, l1, l2, l3, l4, l5] [] h Q ↔ Rn r 145 11 [l0, l1, l2, l3, l4, l5] [vI 1] h Q := Rn_nx pg145 rfl rfl
theorem sX6_isBefore_11 : Rn r 145 11 [l0, l1, l2, l3, l4, l5] [vI x0] h Q ↔ Rn r 145 49 [l0, l1, l2, l3, l4, l5] [vI x0] h Q := Rn_nx pg145 rfl rfl
theorem sX6_isBefore_14 : Rn r 145 14 [l0, l1, l2, l3, l4, l5] [] h Q ↔ Rn r 145 15 [l0, l1, l2, l3, l4, l5] [vI 0] h Q := Rn_nx pg145 rfl rfl
theorem sX6_isBefore_15 : Rn r 145 15 [l0, l1, l2, l3, l4, l5] [vI x0] h Q ↔ Rn r 145 49 [l0, l1, l2, l3, l4, l5] [vI x0] h Q := Rn_nx pg145 rfl rfl
theorem sX6_isBefore_18 : Rn r 145 18 [l0, some (vI x), l2, l3, l4, l5] [] h Q ↔ Rn r 145 19 [l0, some (vI x), l2, l3, l4, l5] [vI x] h Q := Rn_nx pg145 rfl rfl
theorem sX6_isBefore_19 : Rn r 145 19 [l0, l1, l2, l3, some (vI x), l5] [vI x0] h Q ↔ Rn r 145 21 [l0, l1, l2, l3, some (vI x), l5] [vI x, vI x0] h Q := Rn_nx pg145 rfl rfl
theorem sX6_isBefore_21 : Rn r 145 21 [l0, l1, l2, l3, l4, l5] [vI x0, vI x1] h Q ↔ if x1 = x0 then Rn r 145 38 [l0, l1, l2, l3, l4, l5] [] h Q else Rn r 145 24 [l0, l1, l2, l3, l4, l5] [] h Q := Rn_if pg145 rfl rfl rfl
theorem sX6_isBefore_24 : Rn r 145 24 [l0, some (vI x), l2, l3, l4, l5] [] h Q ↔ Rn r 145 25 [l0, some (vI x), l2, l3, l4, l5] [vI x] h Q := Rn_nx pg145 rfl rfl
theorem sX6_isBefore_25 : Rn r 145 25 [l0, l1, l2, l3, some (vI x), l5] [vI x0] h Q ↔ Rn r 145 27 [l0, l1, l2, l3, some (vI x), l5] [vI x, vI x0] h Q := Rn_nx pg145 rfl rfl
theorem sX6_isBefore_27 : Rn r 145 27 [l0, l1, l2, l3, l4, l5] [vI x0, vI x1] h Q ↔ if x0 ≤ x1 then Rn r 145 34 [l0, l1, l2, l3, l4, l5] [] h Q else Rn r 145 30 [l0, l1, l2, l3, l4, l5] [] h Q := Rn_if pg145 rfl rfl rfl
theorem sX6_isBefore_30 : Rn r 145 30 [l0, l1, l2, l3, l4, l5] [] h Q ↔ Rn r 145 31 [l0, l1, l2, l3, l4, l5] [vI 1] h Q := Rn_nx pg145 rfl rfl
theorem sX6_isBefore_31 : Rn r 145 31 [l0, l1, l2, l3, l4, l5] [vI x0] h Q ↔ Rn r 145 49 [l0, l1, l2, l3, l4, l5] [vI x0] h Q := Rn_nx pg145 rfl rfl
theorem sX6_isBefore_34 : Rn r 145 34 [l0, l1, l2, l3, l4, l5] [] h Q ↔ Rn r 145 35 [l0, l1, l2, l3, l4, l5] [vI 0] h Q := Rn_nx pg145 rfl rfl
theorem sX6_isBefore_35 : Rn r 145 35 [l0, l1, l2, l3, l4, l5] [vI x0] h Q ↔ Rn r 145 49 [l0, l1, l2, l3, l4, l5] [vI x0] h Q := Rn_nx pg145 rfl rfl
theorem sX6_isBefore_38 : Rn r 145 38 [l0, l1, some (vI x), l3, l4, l5] [] h Q ↔ Rn r 145 39 [l0, l1, some (vI x), l3, l4, l5] [vI x] h Q := Rn_nx pg145 rfl rfl
theorem sX6_isBefore_39 : Rn r 145 39 [l0, l1, l2, l3, l4, some (vI x)] [vI x0] h Q ↔ Rn r 145 41 [l0, l1, l2, l3, l4, some (vI x)] [vI x, vI x0] h Q := Rn_nx pg145 rfl rfl
theorem sX6_isBefore_41 : Rn r 145 41 [l0, l1, l2, l3, l4, l5] [vI x0, vI x1] h Q ↔ if x0 ≤ x1 then Rn r 145 48 [l0, l1, l2, l3, l4, l5] [] h Q else Rn r 145 44 [l0, l1, l2, l3, l4, l5] [] h Q := Rn_if pg145 rfl rfl rfl
theorem sX6_isBefore_44 : Rn r 145 44 [l0, l1, l2, l3, l4, l5] [] h Q ↔ Rn r 145 45 [l0, l1, l2, l3, l4, l5] [vI 1] h Q := Rn_nx pg145 rfl rfl
theorem sX6_isBefore_45 : Rn r 145 45 [l0, l1, l2, l3, l4, l5] [vI x0] h Q ↔ Rn r 145 49 [l0, l1, l2, l3, l4, l5] [vI x0] h Q := Rn_nx pg145 rfl rfl
theorem sX6_isBefore_48 : Rn r 145 48 [l0, l1, l2, l3, l4, l5] [] h Q ↔ Rn r 145 49 [l0, l1, l2, l3, l4, l5] [vI 0] h Q := Rn_nx pg145 rfl rfl
theorem sX6_isBefore_49 (hf : am_fit 4 x0 = true) : Rn r 145 49 [l0, l1, l2, l3, l4, l5] [vI x0] h Q ↔ Q (Sum.inl (some (vI x0))) h := Rn_end pg145 rfl (if_pos hf)
/-! 146 ThrowRulesModel.isUnder(II)Z -/
theorem eX6_isUnder : Cl r 146 [vR z0, vI x1, vI x2] h Q ↔ Rn r 146 0 [some (vR z0), some (vI x1), some (vI x2), none, none] [] h Q := Cl_in pg146 rfl
theorem sX6_isUnder_0 : Rn r 146 0 [l0, l1, l2, l3, l4] [] h Q ↔ Rn r 146 1 [l0, l1, l2, l3, l4] [vI 0] h Q := Rn_nx pg146 rfl rfl
theorem sX6_isUnder_1 : Rn r 146 1 [l0, l1, l2, l3, l4] [vI x0] h Q ↔ Rn r 146 2 [l0, l1, l2, some (vI x0), l4] [] h Q := Rn_nx pg146 rfl rfl
theorem sX6_isUnder_2 : Rn r 146 2 [l0, l1, l2, l3, l4] [] h Q ↔ Rn r 146 3 [l0, l1, l2, l3, l4] [vI 0] h Q := Rn_nx pg146 rfl rfl
theorem sX6_isUnder_3 : Rn r 146 3 [l0, l1, l2, l3, l4] [vI x0] h Q ↔ Rn r 146 5 [l0, l1, l2, l3, some (vI x0)] [] h Q := Rn_nx pg146 rfl rfl
theorem sX6_isUnder_5 : Rn r 146 5 [l0, l1, l2, l3, some (vI x)] [] h Q ↔ Rn r 146 7 [l0, l1, l2, l3, some (vI x)] [vI x] h Q := Rn_nx pg146 rfl rfl
theorem sX6_isUnder_7 : Rn r 146 7 [some (vR z), l1, l2, l3, l4] [vI x0] h Q ↔ Rn r 146 8 [some (vR z), l1, l2, l3, l4] [vR z, vI x0] h Q := Rn_nx pg146 rfl rfl
theorem sX6_isUnder_8 (hk : hK h a0 = 15) : Rn r 146 8 [l0, l1, l2, l3, l4] [vR (some a0), vI x1] h Q ↔ Rn r 146 11 [l0, l1, l2, l3, l4] [vR (hR h a0 3), vI x1] h Q := Rn_nx pg146 rfl (if_pos ⟨(hk ▸ Nat.le_refl _), (hk ▸ Nat.le_refl _)⟩)
theorem sX6_isUnder_11 : Rn r 146 11 [some (vR z), l1, l2, l3, l4] [vR z0, vI x1] h Q ↔ Rn r 146 12 [some (vR z), l1, l2, l3, l4] [vR z, vR z0, vI x1] h Q := Rn_nx pg146 rfl rfl
theorem sX6_isUnder_12 (hk : hK h a0 = 15) : Rn r 146 12 [l0, l1, l2, l3, l4] [vR (some a0), vR z1, vI x2] h Q ↔ Rn r 146 15 [l0, l1, l2, l3, l4] [vI (hI h a0 2), vR z1, vI x2] h Q := Rn_nx pg146 rfl (if_pos ⟨(hk ▸ Nat.le_refl _), (hk ▸ Nat.le_refl _)⟩)
theorem sX6_isUnder_15 (hk : 40 ≤ hK h a1) (hk2 : hK h a1 ≤ 41) (hx : ¬ (x0 < 0 ∨ hL h a1 ≤ x0.toNatClampNeg)) : Rn r 146 15 [l0, l1, l2, l3, l4] [vI x0, vR (some a1), vI x2] h Q ↔ Rn r 146 16 [l0, l1, l2, l3, l4] [vI (hI h a1 x0.toNatClampNeg), vI x2] h Q := Rn_nx pg146 rfl ((if_pos ⟨hk, hk2⟩).trans (if_neg hx))
theorem sX6_isUnder_16 : Rn r 146 16 [l0, l1, l2, l3, l4] [vI x0, vI x1] h Q ↔ if x0 ≤ x1 then Rn r 146 54 [l0, l1, l2, l3, l4] [] h Q else Rn r 146 19 [l0, l1, l2, l3, l4] [] h Q := Rn_if pg146 rfl rfl rfl
theorem sX6_isUnder_19 : Rn r 146 19 [l0, l1, l2, some (vI x), l4] [] h Q ↔ Rn r 146 20 [l0, l1, l2, some (vI x), l4] [vI x] h Q := Rn_nx pg146 rfl rfl
theorem sX6_isUnder_20 : Rn r 146 20 [l0, l1, l2, l3, l4] [vI x0] h Q ↔ if x0 ≠ 0 then Rn r 146 42 [l0, l1, l2, l3, l4] [] h Q else Rn r 146 23 [l0, l1, l2, l3, l4] [] h Q := Rn_if pg146 rfl rfl rfl
theorem sX6_isUnder_23 : Rn r 146 23 [l0, l1, some (vI x), l3, l4] [] h Q ↔ Rn r 146 24 [l0, l1, some (vI x), l3, l4] [vI x] h Q := Rn_nx pg146 rfl rfl
theorem sX6_isUnder_24 : Rn r 146 24 [l0, l1, l2, l3, some (vI x)] [vI x0] h Q ↔ Rn r 146 26 [l0, l1, l2, l3, some (vI x)] [vI x, vI x0] h Q := Rn_nx pg146 rfl rfl
theorem sX6_isUnder_26 : Rn r 146 26 [l0, l1, l2, l3, l4] [vI x0, vI x1] h Q ↔ Cl r 184 [vI x1, vI x0] h (Kt r 146 29 [l0, l1, l2, l3, l4] [] Q) := Rn_call pg146 rfl rfl pg184 rfl rfl rfl
theorem sX6_isUnder_29 : Rn r 146 29 [l0, l1, l2, l3, l4] [vI x0] h Q ↔ if x0 = 0 then Rn r 146 46 [l0, l1, l2, l3, l4] [] h Q else Rn r 146 32 [l0, l1, l2, l3, l4] [] h Q := Rn_if pg146 rfl rfl rfl
theorem sX6_isUnder_32 : Rn r 146 32 [some (vR z), l1, l2, l3, l4] [] h Q ↔ Rn r 146 33 [some (vR z), l1, l2, l3, l4] [vR z] h Q := Rn_nx pg146 rfl rfl
theorem sX6_isUnder_33 : Rn r 146 33 [l0, some (vI x), l2, l3, l4] [vR z0] h Q ↔ Rn r 146 34 [l0, some (vI x), l2, l3, l4] [vI x, vR z0] h Q := Rn_nx pg146 rfl rfl
theorem sX6_isUnder_34 : Rn r 146 34 [l0, l1, l2, l3, some (vI x)] [vI x0, vR z1] h Q ↔ Rn r 146 36 [l0, l1, l2, l3, some (vI x)] [vI x, vI x0, vR z1] h Q := Rn_nx pg146 rfl rfl
theorem sX6_isUnder_36 (hk : hK h a2 = 15) : Rn r 146 36 [l0, l1, l2, l3, l4] [vI x0, vI x1, vR (some a2)] h Q ↔ Cl r 48 [vR (some a2), vI x1, vI x0] h (Kt r 146 39 [l0, l1, l2, l3, l4] [] Q) := Rn_call pg146 rfl (by simp only [am_exec, am_inv, am_pop, am_lk, hk]; rfl) pg48 rfl rfl rfl
theorem sX6_isUnder_39 : Rn r 146 39 [l0, l1, l2, l3, l4] [vI x0] h Q ↔ if x0 = 0 then Rn r 146 46 [l0, l1, l2, l3, l4] [] h Q else Rn r 146 42 [l0, l1, l2, l3, l4] [] h Q := Rn_if pg146 rfl rfl rfl
theorem sX6_isUnder_42 : Rn r 146 42 [l0, l1, l2, l3, l4] [] h Q ↔ Rn r 146 43 [l0, l1, l2, l3, l4] [vI 1] h Q := Rn_nx pg146 rfl rfl
theorem sX6_isUnder_43 : Rn r 146 43 [l0, l1, l2, l3, l4] [vI x0] h Q ↔ Rn r 146 47 [l0, l1, l2, l3, l4] [vI x0] h Q := Rn_nx pg146 rfl rfl
theorem sX6_isUnder_46 : Rn r 146 46 [l0, l1, l2, l3, l4] [] h Q ↔ Rn r 146 47 [l0, l1, l2, l3, l4] [vI 0] h Q := Rn_nx pg146 rfl rfl
theorem sX6_isUnder_47 : Rn r 146 47 [l0, l1, l2, l3, l4] [vI x0] h Q ↔ Rn r 146 48 [l0, l1, l2, some (vI x0), l4] [] h Q := Rn_nx pg146 rfl rfl
theorem sX6_isUnder_48 : Rn r 146 48 [l0, l1, l2, l3, some (vI x)] [] h Q ↔ Rn r 146 51 [l0, l1, l2, l3, some (vI (x + 1))] [] h Q := Rn_nx pg146 rfl rfl
theorem sX6_isUnder_51 : Rn r 146 51 [l0, l1, l2, l3, l4] [] h Q ↔ Rn r 146 5 [l0, l1, l2, l3, l4] [] h Q := Rn_nx pg146 rfl rfl
theorem sX6_isUnder_54 : Rn r 146 54 [l0, l1, l2, some (vI x), l4] [] h Q ↔ Rn r 146 55 [l0, l1, l2, some (vI x), l4] [vI x] h Q := Rn_nx pg146 rfl rfl
theorem sX6_isUnder_55 (hf : am_fit 4 x0 = true) : Rn r 146 55 [l0, l1, l2, l3, l4] [vI x0] h Q ↔ Q (Sum.inl (some (vI x0))) h := Rn_end pg146 rfl (if_pos hf)
/-! 147 ThrowRulesModel.untold(III)V -/
theorem eX6_untold : Cl r 147 [vR z0, vI x1, vI x2, vI x3] h Q ↔ Rn r 147 0 [some (vR z0), some (vI x1), some (vI x2), some (vI x3), none] [] h Q := Cl_in pg147 rfl
theorem sX6_untold_0 : Rn r 147 0 [l0, l1, l2, l3, l4] [] h Q ↔ Rn r 147 1 [l0, l1, l2, l3, l4] [vI 0] h Q := Rn_nx pg147 rfl rfl
theorem sX6_untold_1 : Rn r 147 1 [l0, l1, l2, l3, l4] [vI x0] h Q ↔ Rn r 147 3 [l0, l1, l2, l3, some (vI x0)] [] h Q := Rn_nx pg147 rfl rfl
theorem sX6_untold_3 : Rn r 147 3 [l0, l1, l2, l3, some (vI x)] [] h Q ↔ Rn r 147 5 [l0, l1, l2, l3, some (vI x)] [vI x] h Q := Rn_nx pg147 rfl rfl
theorem sX6_untold_5 : Rn r 147 5 [some (vR z), l1, l2, l3, l4] [vI x0] h Q ↔ Rn r 147 6 [some (vR z), l1, l2, l3, l4] [vR z, vI x0] h Q := Rn_nx pg147 rfl rfl
theorem sX6_untold_6 (hk : hK h a0 = 15) : Rn r 147 6 [l0, l1, l2, l3, l4] [vR (some a0), vI x1] h Q ↔ Rn r 147 9 [l0, l1, l2, l3, l4] [vR (hR h a0 3), vI x1] h Q := Rn_nx pg147 rfl (if_pos ⟨(hk ▸ Nat.le_refl _), (hk ▸ Nat.le_refl _)⟩)
theorem sX6_untold_9 : Rn r 147 9 [some (vR z), l1, l2, l3, l4] [vR z0, vI x1] h Q ↔ Rn r 147 10 [some (vR z), l1, l2, l3, l4] [vR z, vR z0, vI x1] h Q := Rn_nx pg147 rfl rfl
theorem sX6_untold_10 (hk : hK h a0 = 15) : Rn r 147 10 [l0, l1, l2, l3, l4] [vR (some a0), vR z1, vI x2] h Q ↔ Rn r 147 13 [l0, l1, l2, l3, l4] [vI (hI h a0 2), vR z1, vI x2] h Q := Rn_nx pg147 rfl (if_pos ⟨(hk ▸ Nat.le_refl _), (hk ▸ Nat.le_refl _)⟩)
theorem sX6_untold_13 (hk : 40 ≤ hK h a1) (hk2 : hK h a1 ≤ 41) (hx : ¬ (x0 < 0 ∨ hL h a1 ≤ x0.toNatClampNeg)) : Rn r 147 13 [l0, l1, l2, l3, l4] [vI x0, vR (some a1), vI x2] h Q ↔ Rn r 147 14 [l0, l1, l2, l3, l4] [vI (hI h a1 x0.toNatClampNeg), vI x2] h Q := Rn_nx pg147 rfl ((if_pos ⟨hk, hk2⟩).trans (if_neg hx))
theorem sX6_untold_14 : Rn r 147 14 [l0, l1, l2, l3, l4] [vI x0, vI x1] h Q ↔ if x0 ≤ x1 then Rn r 147 60 [l0, l1, l2, l3, l4] [] h Q else Rn r 147 17 [l0, l1, l2, l3, l4] [] h Q := Rn_if pg147 rfl rfl rfl
theorem sX6_untold_17 : Rn r 147 17 [l0, some (vI x), l2, l3, l4] [] h Q ↔ Rn r 147 18 [l0, some (vI x), l2, l3, l4] [vI x] h Q := Rn_nx pg147 rfl rfl
theorem sX6_untold_18 : Rn r 147 18 [l0, l1, l2, l3, some (vI x)] [vI x0] h Q ↔ Rn r 147 20 [l0, l1, l2, l3, some (vI x)] [vI x, vI x0] h Q := Rn_nx pg147 rfl rfl
theorem sX6_untold_20 : Rn r 147 20 [l0, l1, l2, l3, l4] [vI x0, vI x1] h Q ↔ Cl r 184 [vI x1, vI x0] h (Kt r 147 23 [l0, l1, l2, l3, l4] [] Q) := Rn_call pg147 rfl rfl pg184 rfl rfl rfl
theorem sX6_untold_23 : Rn r 147 23 [l0, l1, l2, l3, l4] [vI x0] h Q ↔ if x0 = 0 then Rn r 147 54 [l0, l1, l2, l3, l4] [] h Q else Rn r 147 26 [l0, l1, l2, l3, l4] [] h Q := Rn_if pg147 rfl rfl rfl
theorem sX6_untold_26 : Rn r 147 26 [some (vR z), l1, l2, l3, l4] [] h Q ↔ Rn r 147 27 [some (vR z), l1, l2, l3, l4] [vR z] h Q := Rn_nx pg147 rfl rfl
theorem sX6_untold_27 : Rn r 147 27 [l0, l1, l2, l3, some (vI x)] [vR z0] h Q ↔ Rn r 147 29 [l0, l1, l2, l3, some (vI x)] [vI x, vR z0] h Q := Rn_nx pg147 rfl rfl
theorem sX6_untold_29 (hk : hK h a1 = 15) : Rn r 147 29 [l0, l1, l2, l3, l4] [vI x0, vR (some a1)] h Q ↔ Cl r 46 [vR (some a1), vI x0] h (Kt r 147 32 [l0, l1, l2, l3, l4] [] Q) := Rn_call pg147 rfl (by simp only [am_exec, am_inv, am_pop, am_lk, hk]; rfl) pg46 rfl rfl rfl
theorem sX6_untold_32 : Rn r 147 32 [l0, l1, l2, l3, l4] [vI x0] h Q ↔ if x0 = 0 then Rn r 147 54 [l0, l1, l2, l3, l4] [] h Q else Rn r 147 35 [l0, l1, l2, l3, l4] [] h Q := Rn_if pg147 rfl rfl rfl
theorem sX6_untold_35 : Rn r 147 35 [some (vR z), l1, l2, l3, l4] [] h Q ↔ Rn r 147 36 [some (vR z), l1, l2, l3, l4] [vR z] h Q := Rn_nx pg147 rfl rfl
theorem sX6_untold_36 : Rn r 147 36 [l0, l1, l2, l3, some (vI x)] [vR z0] h Q ↔ Rn r 147 38 [l0, l1, l2, l3, some (vI x)] [vI x, vR z0] h Q := Rn_nx pg147 rfl rfl
theorem sX6_untold_38 : Rn r 147 38 [l0, l1, some (vI x), l3, l4] [vI x0, vR z1] h Q ↔ Rn r 147 39 [l0, l1, some (vI x), l3, l4] [vI x, vI x0, vR z1] h Q := Rn_nx pg147 rfl rfl
theorem sX6_untold_39 (hk : hK h a2 = 15) : Rn r 147 39 [l0, l1, l2, l3, l4] [vI x0, vI x1, vR (some a2)] h Q ↔ Cl r 146 [vR (some a2), vI x1, vI x0] h (Kt r 147 42 [l0, l1, l2, l3, l4] [] Q) := Rn_call pg147 rfl (by simp only [am_exec, am_inv, am_pop, am_lk, hk]; rfl) pg146 rfl rfl rfl
theorem sX6_untold_42 : Rn r 147 42 [l0, l1, l2, l3, l4] [vI x0] h Q ↔ if x0 ≠ 0 then Rn r 147 54 [l0, l1, l2, l3, l4] [] h Q else Rn r 147 45 [l0, l1, l2, l3, l4] [] h Q := Rn_if pg147 rfl rfl rfl
theorem sX6_untold_45 : Rn r 147 45 [some (vR z), l1, l2, l3, l4] [] h Q ↔ Rn r 147 46 [some (vR z), l1, l2, l3, l4] [vR z] h Q := Rn_nx pg147 rfl rfl
theorem sX6_untold_46 : Rn r 147 46 [l0, l1, l2, l3, l4] [vR z0] h Q ↔ Rn r 147 48 [l0, l1, l2, l3, l4] [vI 9, vR z0] h Q := Rn_nx pg147 rfl rfl
theorem sX6_untold_48 : Rn r 147 48 [l0, l1, l2, some (vI x), l4] [vI x0, vR z1] h Q ↔ Rn r 147 49 [l0, l1, l2, some (vI x), l4] [vI x, vI x0, vR z1] h Q := Rn_nx pg147 rfl rfl
theorem sX6_untold_49 : Rn r 147 49 [l0, l1, l2, l3, some (vI x)] [vI x0, vI x1, vR z2] h Q ↔ Rn r 147 51 [l0, l1, l2, l3, some (vI x)] [vI x, vI x0, vI x1, vR z2] h Q := Rn_nx pg147 rfl rfl
theorem sX6_untold_51 (hk : hK h a3 = 15) : Rn r 147 51 [l0, l1, l2, l3, l4] [vI x0, vI x1, vI x2, vR (some a3)] h Q ↔ Cl r 96 [vR (some a3), vI x2, vI x1, vI x0] h (Kt r 147 54 [l0, l1, l2, l3, l4] [] Q) := Rn_call pg147 rfl (by simp only [am_exec, am_inv, am_pop, am_lk, hk]; rfl) pg96 rfl rfl rfl
theorem sX6_untold_54 : Rn r 147 54 [l0, l1, l2, l3, some (vI x)] [] h Q ↔ Rn r 147 57 [l0, l1, l2, l3, some (vI (x + 1))] [] h Q := Rn_nx pg147 rfl rfl
theorem sX6_untold_57 : Rn r 147 57 [l0, l1, l2, l3, l4] [] h Q ↔ Rn r 147 3 [l0, l1, l2, l3, l4] [] h Q := Rn_nx pg147 rfl rfl
theorem sX6_untold_60 : Rn r 147 60 [l0, l1, l2, l3, l4] [] h Q ↔ Q (Sum.inl none) h := Rn_end pg147 rfl rfl
/-! 148 ThrowRulesModel.isSet(I)Z -/
theorem eX6_isSet : Cl r 148 [vR z0, vI x1] h Q ↔ Rn r 148 0 [some (vR z0), some (vI x1), none, none, none] [] h Q := Cl_in pg148 rfl
theorem sX6_isSet_0 : Rn r 148 0 [l0, l1, l2, l3, l4] [] h Q ↔ Rn r 148 1 [l0, l1, l2, l3, l4] [vI 0] h Q := Rn_nx pg148 rfl rfl
theorem sX6_isSet_1 : Rn r 148 1 [l0, l1, l2, l3, l4] [vI x0] h Q ↔ Rn r 148 2 [l0, l1, some (vI x0), l3, l4] [] h Q := Rn_nx pg148 rfl rfl
theorem sX6_isSet_2 : Rn r 148 2 [l0, l1, l2, l3, l4] [] h Q ↔ Rn r 148 3 [l0, l1, l2, l3, l4] [vI 0] h Q := Rn_nx pg148 rfl rfl
theorem sX6_isSet_3 : Rn r 148 3 [l0, l1, l2, l3, l4] [vI x0] h Q ↔ Rn r 148 4 [l0, l1, l2, some (vI x0), l4] [] h Q := Rn_nx pg148 rfl rfl
theorem sX6_isSet_4 : Rn r 148 4 [l0, l1, l2, some (vI x), l4] [] h Q ↔ Rn r 148 5 [l0, l1, l2, some (vI x), l4] [vI x] h Q := Rn_nx pg148 rfl rfl
theorem sX6_isSet_5 : Rn r 148 5 [some (vR z), l1, l2, l3, l4] [vI x0] h Q ↔ Rn r 148 6 [some (vR z), l1, l2, l3, l4] [vR z, vI x0] h Q := Rn_nx pg148 rfl rfl
theorem sX6_isSet_6 (hk : hK h a0 = 15) : Rn r 148 6 [l0, l1, l2, l3, l4] [vR (some a0), vI x1] h Q ↔ Rn r 148 9 [l0, l1, l2, l3, l4] [vR (hR h a0 19), vI x1] h Q := Rn_nx pg148 rfl (if_pos ⟨(hk ▸ Nat.le_refl _), (hk ▸ Nat.le_refl _)⟩)
theorem sX6_isSet_9 : Rn r 148 9 [some (vR z), l1, l2, l3, l4] [vR z0, vI x1] h Q ↔ Rn r 148 10 [some (vR z), l1, l2, l3, l4] [vR z, vR z0, vI x1] h Q := Rn_nx pg148 rfl rfl
theorem sX6_isSet_10 (hk : hK h a0 = 15) : Rn r 148 10 [l0, l1, l2, l3, l4] [vR (some a0), vR z1, vI x2] h Q ↔ Rn r 148 13 [l0, l1, l2, l3, l4] [vI (hI h a0 2), vR z1, vI x2] h Q := Rn_nx pg148 rfl (if_pos ⟨(hk ▸ Nat.le_refl _), (hk ▸ Nat.le_refl _)⟩)
theorem sX6_isSet_13 (hk : 40 ≤ hK h a1) (hk2 : hK h a1 ≤ 41) (hx : ¬ (x0 < 0 ∨ hL h a1 ≤ x0.toNatClampNeg)) : Rn r 148 13 [l0, l1, l2, l3, l4] [vI x0, vR (some a1), vI x2] h Q ↔ Rn r 148 14 [l0, l1, l2, l3, l4] [vI (hI h a1 x0.toNatClampNeg), vI x2] h Q := Rn_nx pg148 rfl ((if_pos ⟨hk, hk2⟩).trans (if_neg hx))
theorem sX6_isSet_14 : Rn r 148 14 [l0, l1, l2, l3, l4] [vI x0, vI x1] h Q ↔ if x0 ≤ x1 then Rn r 148 77 [l0, l1, l2, l3, l4] [] h Q else Rn r 148 17 [l0, l1, l2, l3, l4] [] h Q := Rn_if pg148 rfl rfl rfl
theorem sX6_isSet_17 : Rn r 148 17 [some (vR z), l1, l2, l3, l4] [] h Q ↔ Rn r 148 18 [some (vR z), l1, l2, l3, l4] [vR z] h Q := Rn_nx pg148 rfl rfl
theorem sX6_isSet_18 (hk : hK h a0 = 15) : Rn r 148 18 [l0, l1, l2, l3, l4] [vR (some a0)] h Q ↔ Rn r 148 21 [l0, l1, l2, l3, l4] [vI (hI h a0 2)] h Q := Rn_nx pg148 rfl (if_pos ⟨(hk ▸ Nat.le_refl _), (hk ▸ Nat.le_refl _)⟩)
theorem sX6_isSet_21 : Rn r 148 21 [l0, l1, l2, l3, l4] [vI x0] h Q ↔ Rn r 148 23 [l0, l1, l2, l3, l4] [vI 120, vI x0] h Q := Rn_nx pg148 rfl rfl
theorem sX6_isSet_23 : Rn r 148 23 [l0, l1, l2, l3, l4] [vI x0, vI x1] h Q ↔ Rn r 148 24 [l0, l1, l2, l3, l4] [vI (x1 * x0)] h Q := Rn_nx pg148 rfl rfl
theorem sX6_isSet_24 : Rn r 148 24 [l0, l1, l2, some (vI x), l4] [vI x0] h Q ↔ Rn r 148 25 [l0, l1, l2, some (vI x), l4] [vI x, vI x0] h Q := Rn_nx pg148 rfl rfl
theorem sX6_isSet_25 : Rn r 148 25 [l0, l1, l2, l3, l4] [vI x0, vI x1] h Q ↔ Rn r 148 26 [l0, l1, l2, l3, l4] [vI (x1 + x0)] h Q := Rn_nx pg148 rfl rfl
theorem sX6_isSet_26 : Rn r 148 26 [l0, l1, l2, l3, l4] [vI x0] h Q ↔ Rn r 148 28 [l0, l1, l2, l3, some (vI x0)] [] h Q := Rn_nx pg148 rfl rfl
theorem sX6_isSet_28 : Rn r 148 28 [l0, l1, some (vI x), l3, l4] [] h Q ↔ Rn r 148 29 [l0, l1, some (vI x), l3, l4] [vI x] h Q := Rn_nx pg148 rfl rfl
theorem sX6_isSet_29 : Rn r 148 29 [l0, l1, l2, l3, l4] [vI x0] h Q ↔ if x0 ≠ 0 then Rn r 148 65 [l0, l1, l2, l3, l4] [] h Q else Rn r 148 32 [l0, l1, l2, l3, l4] [] h Q := Rn_if pg148 rfl rfl rfl
theorem sX6_isSet_32 : Rn r 148 32 [some (vR z), l1, l2, l3, l4] [] h Q ↔ Rn r 148 33 [some (vR z), l1, l2, l3, l4] [vR z] h Q := Rn_nx pg148 rfl rfl
theorem sX6_isSet_33 (hk : hK h a0 = 15) : Rn r 148 33 [l0, l1, l2, l3, l4] [vR (some a0)] h Q ↔ Rn r 148 36 [l0, l1, l2, l3, l4] [vR (hR h a0 20)] h Q := Rn_nx pg148 rfl (if_pos ⟨(hk ▸ Nat.le_refl _), (hk ▸ Nat.le_refl _)⟩)
theorem sX6_isSet_36 : Rn r 148 36 [l0, l1, l2, l3, some (vI x)] [vR z0] h Q ↔ Rn r 148 38 [l0, l1, l2, l3, some (vI x)] [vI x, vR z0] h Q := Rn_nx pg148 rfl rfl
theorem sX6_isSet_38 (hk : 40 ≤ hK h a1) (hk2 : hK h a1 ≤ 41) (hx : ¬ (x0 < 0 ∨ hL h a1 ≤ x0.toNatClampNeg)) : Rn r 148 38 [l0, l1, l2, l3, l4] [vI x0, vR (some a1)] h Q ↔ Rn r 148 39 [l0, l1, l2, l3, l4] [vI (hI h a1 x0.toNatClampNeg)] h Q := Rn_nx pg148 rfl ((if_pos ⟨hk, hk2⟩).trans (if_neg hx))
theorem sX6_isSet_39 : Rn r 148 39 [l0, l1, l2, l3, l4] [vI x0] h Q ↔ Rn r 148 40 [l0, l1, l2, l3, l4] [vI 3, vI x0] h Q := Rn_nx pg148 rfl rfl
theorem sX6_isSet_40 : Rn r 148 40 [l0, l1, l2, l3, l4] [vI x0, vI x1] h Q ↔ if x1 ≠ x0 then Rn r 148 69 [l0, l1, l2, l3, l4] [] h Q else Rn r 148 43 [l0, l1, l2, l3, l4] [] h Q := Rn_if pg148 rfl rfl rfl
theorem sX6_isSet_43 : Rn r 148 43 [some (vR z), l1, l2, l3, l4] [] h Q ↔ Rn r 148 44 [some (vR z), l1, l2, l3, l4] [vR z] h Q := Rn_nx pg148 rfl rfl
theorem sX6_isSet_44 : Rn r 148 44 [some (vR z), l1, l2, l3, l4] [vR z0] h Q ↔ Rn r 148 45 [some (vR z), l1, l2, l3, l4] [vR z, vR z0] h Q := Rn_nx pg148 rfl rfl
theorem sX6_isSet_45 (hk : hK h a0 = 15) : Rn r 148 45 [l0, l1, l2, l3, l4] [vR (some a0), vR z1] h Q ↔ Rn r 148 48 [l0, l1, l2, l3, l4] [vR (hR h a0 25), vR z1] h Q := Rn_nx pg148 rfl (if_pos ⟨(hk ▸ Nat.le_refl _), (hk ▸ Nat.le_refl _)⟩)
theorem sX6_isSet_48 : Rn r 148 48 [l0, l1, l2, l3, some (vI x)] [vR z0, vR z1] h Q ↔ Rn r 148 50 [l0, l1, l2, l3, some (vI x)] [vI x, vR z0, vR z1] h Q := Rn_nx pg148 rfl rfl
theorem sX6_isSet_50 (hk : hK h a1 = 42) (hx : ¬ (x0 < 0 ∨ hL h a1 ≤ x0.toNatClampNeg)) : Rn r 148 50 [l0, l1, l2, l3, l4] [vI x0, vR (some a1), vR z2] h Q ↔ Rn r 148 51 [l0, l1, l2, l3, l4] [vL (hJ h a1 x0.toNatClampNeg), vR z2] h Q := Rn_nx pg148 rfl ((if_pos ⟨(hk ▸ Nat.le_refl _), (hk ▸ Nat.le_refl _)⟩).trans (if_neg hx))
theorem sX6_isSet_51 : Rn r 148 51 [some (vR z), l1, l2, l3, l4] [vL y0, vR z1] h Q ↔ Rn r 148 52 [some (vR z), l1, l2, l3, l4] [vR z, vL y0, vR z1] h Q := Rn_nx pg148 rfl rfl
theorem sX6_isSet_52 (hk : hK h a0 = 15) : Rn r 148 52 [l0, l1, l2, l3, l4] [vR (some a0), vL y1, vR z2] h Q ↔ Rn r 148 55 [l0, l1, l2, l3, l4] [vR (hR h a0 22), vL y1, vR z2] h Q := Rn_nx pg148 rfl (if_pos ⟨(hk ▸ Nat.le_refl _), (hk ▸ Nat.le_refl _)⟩)
theorem sX6_isSet_55 : Rn r 148 55 [l0, l1, l2, l3, some (vI x)] [vR z0, vL y1, vR z2] h Q ↔ Rn r 148 57 [l0, l1, l2, l3, some (vI x)] [vI x, vR z0, vL y1, vR z2] h Q := Rn_nx pg148 rfl rfl
theorem sX6_isSet_57 (hk : 40 ≤ hK h a1) (hk2 : hK h a1 ≤ 41) (hx : ¬ (x0 < 0 ∨ hL h a1 ≤ x0.toNatClampNeg)) : Rn r 148 57 [l0, l1, l2, l3, l4] [vI x0, vR (some a1), vL y2, vR z3] h Q ↔ Rn r 148 58 [l0, l1, l2, l3, l4] [vI (hI h a1 x0.toNatClampNeg), vL y2, vR z3] h Q := Rn_nx pg148 rfl ((if_pos ⟨hk, hk2⟩).trans (if_neg hx))
theorem sX6_isSet_58 (hk : hK h a2 = 15) : Rn r 148 58 [l0, l1, l2, l3, l4] [vI x0, vL y1, vR (some a2)] h Q ↔ Cl r 107 [vR (some a2), vL y1, vI x0] h (Kt r 148 61 [l0, l1, l2, l3, l4] [] Q) := Rn_call pg148 rfl (by simp only [am_exec, am_inv, am_pop, am_lk, hk]; rfl) pg107 rfl rfl rfl
theorem sX6_isSet_61 : Rn r 148 61 [l0, some (vI x), l2, l3, l4] [vI x0] h Q ↔ Rn r 148 62 [l0, some (vI x), l2, l3, l4] [vI x, vI x0] h Q := Rn_nx pg148 rfl rfl
theorem sX6_isSet_62 : Rn r 148 62 [l0, l1, l2, l3, l4] [vI x0, vI x1] h Q ↔ if x1 ≠ x0 then Rn r 148 69 [l0, l1, l2, l3, l4] [] h Q else Rn r 148 65 [l0, l1, l2, l3, l4] [] h Q := Rn_if pg148 rfl rfl rfl
theorem sX6_isSet_65 : Rn r 148 65 [l0, l1, l2, l3, l4] [] h Q ↔ Rn r 148 66 [l0, l1, l2, l3, l4] [vI 1] h Q := Rn_nx pg148 rfl rfl
theorem sX6_isSet_66 : Rn r 148 66 [l0, l1, l2, l3, l4] [vI x0] h Q ↔ Rn r 148 70 [l0, l1, l2, l3, l4] [vI x0] h Q := Rn_nx pg148 rfl rfl
theorem sX6_isSet_69 : Rn r 148 69 [l0, l1, l2, l3, l4] [] h Q ↔ Rn r 148 70 [l0, l1, l2, l3, l4] [vI 0] h Q := Rn_nx pg148 rfl rfl
theorem sX6_isSet_70 : Rn r 148 70 [l0, l1, l2, l3, l4] [vI x0] h Q ↔ Rn r 148 71 [l0, l1, some (vI x0), l3, l4] [] h Q := Rn_nx pg148 rfl rfl
theorem sX6_isSet_71 : Rn r 148 71 [l0, l1, l2, some (vI x), l4] [] h Q ↔ Rn r 148 74 [l0, l1, l2, some (vI (x + 1)), l4] [] h Q := Rn_nx pg148 rfl rfl
theorem sX6_isSet_74 : Rn r 148 74 [l0, l1, l2, l3, l4] [] h Q ↔ Rn r 148 4 [l0, l1, l2, l3, l4] [] h Q := Rn_nx pg148 rfl rfl
theorem sX6_isSet_77 : Rn r 148 77 [l0, l1, some (vI x), l3, l4] [] h Q ↔ Rn r 148 78 [l0, l1, some (vI x), l3, l4] [vI x] h Q := Rn_nx pg148 rfl rfl
theorem sX6_isSet_78 (hf : am_fit 4 x0 = true) : Rn r 148 78 [l0, l1, l2, l3, l4] [vI x0] h Q ↔ Q (Sum.inl (some (vI x0))) h := Rn_end pg148 rfl (if_pos hf)
/-! 149 ThrowRulesModel.judgeSet(IIZ)V -/
theorem eX6_judgeSet : Cl r 149 [vR z0, vI x1, vI x2, vI x3] h Q ↔ Rn r 149 0 [some (vR z0), some (vI x1), some (vI x2), some (vI x3)] [] h Q := Cl_in pg149 rfl
theorem sX6_judgeSet_0 : Rn r 149 0 [l0, l1, some (vI x), l3] [] h Q ↔ Rn r 149 1 [l0, l1, some (vI x), l3] [vI x] h Q := Rn_nx pg149 rfl rfl
theorem sX6_judgeSet_1 : Rn r 149 1 [l0, l1, l2, l3] [vI x0] h Q ↔ Rn r 149 2 [l0, l1, l2, l3] [vI (-1), vI x0] h Q := Rn_nx pg149 rfl rfl
theorem sX6_judgeSet_2 : Rn r 149 2 [l0, l1, l2, l3] [vI x0, vI x1] h Q ↔ if x1 ≠ x0 then Rn r 149 18 [l0, l1, l2, l3] [] h Q else Rn r 149 5 [l0, l1, l2, l3] [] h Q := Rn_if pg149 rfl rfl rfl
theorem sX6_judgeSet_5 : Rn r 149 5 [some (vR z), l1, l2, l3] [] h Q ↔ Rn r 149 6 [some (vR z), l1, l2, l3] [vR z] h Q := Rn_nx pg149 rfl rfl
theorem sX6_judgeSet_6 : Rn r 149 6 [l0, l1, l2, l3] [vR z0] h Q ↔ Rn r 149 7 [l0, l1, l2, l3] [vI 1, vR z0] h Q := Rn_nx pg149 rfl rfl
theorem sX6_judgeSet_7 : Rn r 149 7 [some (vR z), l1, l2, l3] [vI x0, vR z1] h Q ↔ Rn r 149 8 [some (vR z), l1, l2, l3] [vR z, vI x0, vR z1] h Q := Rn_nx pg149 rfl rfl
theorem sX6_judgeSet_8 (hk : hK h a0 = 15) : Rn r 149 8 [l0, l1, l2, l3] [vR (some a0), vI x1, vR z2] h Q ↔ Rn r 149 11 [l0, l1, l2, l3] [vR (hR h a0 26), vI x1, vR z2] h Q := Rn_nx pg149 rfl (if_pos ⟨(hk ▸ Nat.le_refl _), (hk ▸ Nat.le_refl _)⟩)
theorem sX6_judgeSet_11 : Rn r 149 11 [l0, some (vI x), l2, l3] [vR z0, vI x1, vR z2] h Q ↔ Rn r 149 12 [l0, some (vI x), l2, l3] [vI x, vR z0, vI x1, vR z2] h Q := Rn_nx pg149 rfl rfl
theorem sX6_judgeSet_12 (hk : 40 ≤ hK h a1) (hk2 : hK h a1 ≤ 41) (hx : ¬ (x0 < 0 ∨ hL h a1 ≤ x0.toNatClampNeg)) : Rn r 149 12 [l0, l1, l2, l3] [vI x0, vR (some a1), vI x2, vR z3] h Q ↔ Rn r 149 13 [l0, l1, l2, l3] [vI (hI h a1 x0.toNatClampNeg), vI x2, vR z3] h Q := Rn_nx pg149 rfl ((if_pos ⟨hk, hk2⟩).trans (if_neg hx))
theorem sX6_judgeSet_13 : Rn r 149 13 [l0, l1, l2, l3] [vI x0, vI x1, vR z2] h Q ↔ Rn r 149 14 [l0, l1, l2, l3] [vI (-1), vI x0, vI x1, vR z2] h Q := Rn_nx pg149 rfl rfl
theorem sX6_judgeSet_14 (hk : hK h a3 = 15) : Rn r 149 14 [l0, l1, l2, l3] [vI x0, vI x1, vI x2, vR (some a3)] h Q ↔ Cl r 96 [vR (some a3), vI x2, vI x1, vI x0] h (Kt r 149 17 [l0, l1, l2, l3] [] Q) := Rn_call pg149 rfl (by simp only [am_exec, am_inv, am_pop, am_lk, hk]; rfl) pg96 rfl rfl rfl
theorem sX6_judgeSet_17 : Rn r 149 17 [l0, l1, l2, l3] [] h Q ↔ Q (Sum.inl none) h := Rn_end pg149 rfl rfl
theorem sX6_judgeSet_18 : Rn r 149 18 [some (vR z), l1, l2, l3] [] h Q ↔ Rn r 149 19 [some (vR z), l1, l2, l3] [vR z] h Q := Rn_nx pg149 rfl rfl
theorem sX6_judgeSet_19 (hk : hK h a0 = 15) : Rn r 149 19 [l0, l1, l2, l3] [vR (some a0)] h Q ↔ Rn r 149 22 [l0, l1, l2, l3] [vR (hR h a0 37)] h Q := Rn_nx pg149 rfl (if_pos ⟨(hk ▸ Nat.le_refl _), (hk ▸ Nat.le_refl _)⟩)
theorem sX6_judgeSet_22 : Rn r 149 22 [l0, l1, some (vI x), l3] [vR z0] h Q ↔ Rn r 149 23 [l0, l1, some (vI x), l3] [vI x, vR z0] h Q := Rn_nx pg149 rfl rfl
theorem sX6_judgeSet_23 (hk : 40 ≤ hK h a1) (hk2 : hK h a1 ≤ 41) (hx : ¬ (x0 < 0 ∨ hL h a1 ≤ x0.toNatClampNeg)) : Rn r 149 23 [l0, l1, l2, l3] [vI x0, vR (some a1)] h Q ↔ Rn r 149 24 [l0, l1, l2, l3] [vI (hI h a1 x0.toNatClampNeg)] h Q := Rn_nx pg149 rfl ((if_pos ⟨hk, hk2⟩).trans (if_neg hx))
theorem sX6_judgeSet_24 : Rn r 149 24 [l0, l1, l2, l3] [vI x0] h Q ↔ Rn r 149 25 [l0, l1, l2, l3] [vI 1, vI x0] h Q := Rn_nx pg149 rfl rfl
theorem sX6_judgeSet_25 : Rn r 149 25 [l0, l1, l2, l3] [vI x0, vI x1] h Q ↔ if x1 ≤ x0 then Rn r 149 41 [l0, l1, l2, l3] [] h Q else Rn r 149 28 [l0, l1, l2, l3] [] h Q := Rn_if pg149 rfl rfl rfl
theorem sX6_judgeSet_28 : Rn r 149 28 [some (vR z), l1, l2, l3] [] h Q ↔ Rn r 149 29 [some (vR z), l1, l2, l3] [vR z] h Q := Rn_nx pg149 rfl rfl
theorem sX6_judgeSet_29 : Rn r 149 29 [l0, l1, l2, l3] [vR z0] h Q ↔ Rn r 149 31 [l0, l1, l2, l3] [vI 6, vR z0] h Q := Rn_nx pg149 rfl rfl
theorem sX6_judgeSet_31 : Rn r 149 31 [some (vR z), l1, l2, l3] [vI x0, vR z1] h Q ↔ Rn r 149 32 [some (vR z), l1, l2, l3] [vR z, vI x0, vR z1] h Q := Rn_nx pg149 rfl rfl
theorem sX6_judgeSet_32 (hk : hK h a0 = 15) : Rn r 149 32 [l0, l1, l2, l3] [vR (some a0), vI x1, vR z2] h Q ↔ Rn r 149 35 [l0, l1, l2, l3] [vR (hR h a0 26), vI x1, vR z2] h Q := Rn_nx pg149 rfl (if_pos ⟨(hk ▸ Nat.le_refl _), (hk ▸ Nat.le_refl _)⟩)
theorem sX6_judgeSet_35 : Rn r 149 35 [l0, some (vI x), l2, l3] [vR z0, vI x1, vR z2] h Q ↔ Rn r 149 36 [l0, some (vI x), l2, l3] [vI x, vR z0, vI x1, vR z2] h Q := Rn_nx pg149 rfl rfl
theorem sX6_judgeSet_36 (hk : 40 ≤ hK h a1) (hk2 : hK h a1 ≤ 41) (hx : ¬ (x0 < 0 ∨ hL h a1 ≤ x0.toNatClampNeg)) : Rn r 149 36 [l0, l1, l2, l3] [vI x0, vR (some a1), vI x2, vR z3] h Q ↔ Rn r 149 37 [l0, l1, l2, l3] [vI (hI h a1 x0.toNatClampNeg), vI x2, vR z3] h Q := Rn_nx pg149 rfl ((if_pos ⟨hk, hk2⟩).trans (if_neg hx))
theorem sX6_judgeSet_37 : Rn r 149 37 [l0, l1, l2, l3] [vI x0, vI x1, vR z2] h Q ↔ Rn r 149 38 [l0, l1, l2, l3] [vI (-1), vI x0, vI x1, vR z2] h Q := Rn_nx pg149 rfl rfl
theorem sX6_judgeSet_38 (hk : hK h a3 = 15) : Rn r 149 38 [l0, l1, l2, l3] [vI x0, vI x1, vI x2, vR (some a3)] h Q ↔ Cl r 96 [vR (some a3), vI x2, vI x1, vI x0] h (Kt r 149 41 [l0, l1, l2, l3] [] Q) := Rn_call pg149 rfl (by simp only [am_exec, am_inv, am_pop, am_lk, hk]; rfl) pg96 rfl rfl rfl
theorem sX6_judgeSet_41 : Rn r 149 41 [l0, l1, l2, some (vI x)] [] h Q ↔ Rn r 149 42 [l0, l1, l2, some (vI x)] [vI x] h Q := Rn_nx pg149 rfl rfl
theorem sX6_judgeSet_42 : Rn r 149 42 [l0, l1, l2, l3] [vI x0] h Q ↔ if x0 = 0 then Rn r 149 58 [l0, l1, l2, l3] [] h Q else Rn r 149 45 [l0, l1, l2, l3] [] h Q := Rn_if pg149 rfl rfl rfl
theorem sX6_judgeSet_45 : Rn r 149 45 [some (vR z), l1, l2, l3] [] h Q ↔ Rn r 149 46 [some (vR z), l1, l2, l3] [vR z] h Q := Rn_nx pg149 rfl rfl
theorem sX6_judgeSet_46 : Rn r 149 46 [l0, l1, l2, l3] [vR z0] h Q ↔ Rn r 149 48 [l0, l1, l2, l3] [vI 12, vR z0] h Q := Rn_nx pg149 rfl rfl
theorem sX6_judgeSet_48 : Rn r 149 48 [some (vR z), l1, l2, l3] [vI x0, vR z1] h Q ↔ Rn r 149 49 [some (vR z), l1, l2, l3] [vR z, vI x0, vR z1] h Q := Rn_nx pg149 rfl rfl
theorem sX6_judgeSet_49 (hk : hK h a0 = 15) : Rn r 149 49 [l0, l1, l2, l3] [vR (some a0), vI x1, vR z2] h Q ↔ Rn r 149 52 [l0, l1, l2, l3] [vR (hR h a0 26), vI x1, vR z2] h Q := Rn_nx pg149 rfl (if_pos ⟨(hk ▸ Nat.le_refl _), (hk ▸ Nat.le_refl _)⟩)
theorem sX6_judgeSet_52 : Rn r 149 52 [l0, some (vI x), l2, l3] [vR z0, vI x1, vR z2] h Q ↔ Rn r 149 53 [l0, some (vI x), l2, l3] [vI x, vR z0, vI x1, vR z2] h Q := Rn_nx pg149 rfl rfl
theorem sX6_judgeSet_53 (hk : 40 ≤ hK h a1) (hk2 : hK h a1 ≤ 41) (hx : ¬ (x0 < 0 ∨ hL h a1 ≤ x0.toNatClampNeg)) : Rn r 149 53 [l0, l1, l2, l3] [vI x0, vR (some a1), vI x2, vR z3] h Q ↔ Rn r 149 54 [l0, l1, l2, l3] [vI (hI h a1 x0.toNatClampNeg), vI x2, vR z3] h Q := Rn_nx pg149 rfl ((if_pos ⟨hk, hk2⟩).trans (if_neg hx))
theorem sX6_judgeSet_54 : Rn r 149 54 [l0, l1, l2, l3] [vI x0, vI x1, vR z2] h Q ↔ Rn r 149 55 [l0, l1, l2, l3] [vI (-1), vI x0, vI x1, vR z2] h Q := Rn_nx pg149 rfl rfl
theorem sX6_judgeSet_55 (hk : hK h a3 = 15) : Rn r 149 55 [l0, l1, l2, l3] [vI x0, vI x1, vI x2, vR (some a3)] h Q ↔ Cl r 96 [vR (some a3), vI x2, vI x1, vI x0] h (Kt r 149 58 [l0, l1, l2, l3] [] Q) := Rn_call pg149 rfl (by simp only [am_exec, am_inv, am_pop, am_lk, hk]; rfl) pg96 rfl rfl rfl
theorem sX6_judgeSet_58 : Rn r 149 58 [l0, l1, l2, l3] [] h Q ↔ Q (Sum.inl none) h := Rn_end pg149 rfl rfl
/-! 150 ThrowRulesModel.judgeTry(I)V -/
theorem eX6_judgeTry : Cl r 150 [vR z0, vI x1] h Q ↔ Rn r 150 0 [some (vR z0), some (vI x1), none, none, none, none] [] h Q := Cl_in pg150 rfl
theorem sX6_judgeTry_0 : Rn r 150 0 [l0, l1, l2, l3, l4, l5] [] h Q ↔ Rn r 150 1 [l0, l1, l2, l3, l4, l5] [vI 0] h Q := Rn_nx pg150 rfl rfl
theorem sX6_judgeTry_1 : Rn r 150 1 [l0, l1, l2, l3, l4, l5] [vI x0] h Q ↔ Rn r 150 2 [l0, l1, some (vI x0), l3, l4, l5] [] h Q := Rn_nx pg150 rfl rfl
theorem sX6_judgeTry_2 : Rn r 150 2 [l0, l1, some (vI x), l3, l4, l5] [] h Q ↔ Rn r 150 3 [l0, l1, some (vI x), l3, l4, l5] [vI x] h Q := Rn_nx pg150 rfl rfl
theorem sX6_judgeTry_3 : Rn r 150 3 [some (vR z), l1, l2, l3, l4, l5] [vI x0] h Q ↔ Rn r 150 4 [some (vR z), l1, l2, l3, l4, l5] [vR z, vI x0] h Q := Rn_nx pg150 rfl rfl
theorem sX6_judgeTry_4 (hk : hK h a0 = 15) : Rn r 150 4 [l0, l1, l2, l3, l4, l5] [vR (some a0), vI x1] h Q ↔ Rn r 150 7 [l0, l1, l2, l3, l4, l5] [vR (hR h a0 30), vI x1] h Q := Rn_nx pg150 rfl (if_pos ⟨(hk ▸ Nat.le_refl _), (hk ▸ Nat.le_refl _)⟩)
theorem sX6_judgeTry_7 : Rn r 150 7 [l0, some (vI x), l2, l3, l4, l5] [vR z0, vI x1] h Q ↔ Rn r 150 8 [l0, some (vI x), l2, l3, l4, l5] [vI x, vR z0, vI x1] h Q := Rn_nx pg150 rfl rfl
theorem sX6_judgeTry_8 (hk : 40 ≤ hK h a1) (hk2 : hK h a1 ≤ 41) (hx : ¬ (x0 < 0 ∨ hL h a1 ≤ x0.toNatClampNeg)) : Rn r 150 8 [l0, l1, l2, l3, l4, l5] [vI x0, vR (some a1), vI x2] h Q ↔ Rn r 150 9 [l0, l1, l2, l3, l4, l5] [vI (hI h a1 x0.toNatClampNeg), vI x2] h Q := Rn_nx pg150 rfl ((if_pos ⟨hk, hk2⟩).trans (if_neg hx))
theorem sX6_judgeTry_9 : Rn r 150 9 [l0, l1, l2, l3, l4, l5] [vI x0, vI x1] h Q ↔ if x0 ≤ x1 then Rn r 150 52 [l0, l1, l2, l3, l4, l5] [] h Q else Rn r 150 12 [l0, l1, l2, l3, l4, l5] [] h Q := Rn_if pg150 rfl rfl rfl
theorem sX6_judgeTry_12 : Rn r 150 12 [some (vR z), l1, l2, l3, l4, l5] [] h Q ↔ Rn r 150 13 [some (vR z), l1, l2, l3, l4, l5] [vR z] h Q := Rn_nx pg150 rfl rfl
theorem sX6_judgeTry_13 : Rn r 150 13 [some (vR z), l1, l2, l3, l4, l5] [vR z0] h Q ↔ Rn r 150 14 [some (vR z), l1, l2, l3, l4, l5] [vR z, vR z0] h Q := Rn_nx pg150 rfl rfl
theorem sX6_judgeTry_14 (hk : hK h a0 = 15) : Rn r 150 14 [l0, l1, l2, l3, l4, l5] [vR (some a0), vR z1] h Q ↔ Rn r 150 17 [l0, l1, l2, l3, l4, l5] [vR (hR h a0 31), vR z1] h Q := Rn_nx pg150 rfl (if_pos ⟨(hk ▸ Nat.le_refl _), (hk ▸ Nat.le_refl _)⟩)
theorem sX6_judgeTry_17 : Rn r 150 17 [l0, l1, l2, l3, l4, l5] [vR z0, vR z1] h Q ↔ Rn r 150 18 [l0, l1, l2, l3, l4, l5] [vI 4, vR z0, vR z1] h Q := Rn_nx pg150 rfl rfl
theorem sX6_judgeTry_18 : Rn r 150 18 [l0, some (vI x), l2, l3, l4, l5] [vI x0, vR z1, vR z2] h Q ↔ Rn r 150 19 [l0, some (vI x), l2, l3, l4, l5] [vI x, vI x0, vR z1, vR z2] h Q := Rn_nx pg150 rfl rfl
theorem sX6_judgeTry_19 : Rn r 150 19 [l0, l1, l2, l3, l4, l5] [vI x0, vI x1, vR z2, vR z3] h Q ↔ Rn r 150 20 [l0, l1, l2, l3, l4, l5] [vI (x1 * x0), vR z2, vR z3] h Q := Rn_nx pg150 rfl rfl
theorem sX6_judgeTry_20 : Rn r 150 20 [l0, l1, some (vI x), l3, l4, l5] [vI x0, vR z1, vR z2] h Q ↔ Rn r 150 21 [l0, l1, some (vI x), l3, l4, l5] [vI x, vI x0, vR z1, vR z2] h Q := Rn_nx pg150 rfl rfl
theorem sX6_judgeTry_21 : Rn r 150 21 [l0, l1, l2, l3, l4, l5] [vI x0, vI x1, vR z2, vR z3] h Q ↔ Rn r 150 22 [l0, l1, l2, l3, l4, l5] [vI (x1 + x0), vR z2, vR z3] h Q := Rn_nx pg150 rfl rfl
theorem sX6_judgeTry_22 (hk : hK h a1 = 42) (hx : ¬ (x0 < 0 ∨ hL h a1 ≤ x0.toNatClampNeg)) : Rn r 150 22 [l0, l1, l2, l3, l4, l5] [vI x0, vR (some a1), vR z2] h Q ↔ Rn r 150 23 [l0, l1, l2, l3, l4, l5] [vL (hJ h a1 x0.toNatClampNeg), vR z2] h Q := Rn_nx pg150 rfl ((if_pos ⟨(hk ▸ Nat.le_refl _), (hk ▸ Nat.le_refl _)⟩).trans (if_neg hx))
theorem sX6_judgeTry_23 (hk : hK h a1 = 15) : Rn r 150 23 [l0, l1, l2, l3, l4, l5] [vL y0, vR (some a1)] h Q ↔ Cl r 53 [vR (some a1), vL y0] h (Kt r 150 26 [l0, l1, l2, l3, l4, l5] [] Q) := Rn_call pg150 rfl (by simp only [am_exec, am_inv, am_pop, am_lk, hk]; rfl) pg53 rfl rfl rfl
theorem sX6_judgeTry_26 : Rn r 150 26 [l0, l1, l2, l3, l4, l5] [vI x0] h Q ↔ Rn r 150 27 [l0, l1, l2, l3, l4, l5] [vI (-1), vI x0] h Q := Rn_nx pg150 rfl rfl
theorem sX6_judgeTry_27 : Rn r 150 27 [l0, l1, l2, l3, l4, l5] [vI x0, vI x1] h Q ↔ if x1 ≠ x0 then Rn r 150 46 [l0, l1, l2, l3, l4, l5] [] h Q else Rn r 150 30 [l0, l1, l2, l3, l4, l5] [] h Q := Rn_if pg150 rfl rfl rfl
theorem sX6_judgeTry_30 : Rn r 150 30 [some (vR z), l1, l2, l3, l4, l5] [] h Q ↔ Rn r 150 31 [some (vR z), l1, l2, l3, l4, l5] [vR z] h Q := Rn_nx pg150 rfl rfl
theorem sX6_judgeTry_31 : Rn r 150 31 [l0, l1, l2, l3, l4, l5] [vR z0] h Q ↔ Rn r 150 32 [l0, l1, l2, l3, l4, l5] [vI 1, vR z0] h Q := Rn_nx pg150 rfl rfl
theorem sX6_judgeTry_32 : Rn r 150 32 [some (vR z), l1, l2, l3, l4, l5] [vI x0, vR z1] h Q ↔ Rn r 150 33 [some (vR z), l1, l2, l3, l4, l5] [vR z, vI x0, vR z1] h Q := Rn_nx pg150 rfl rfl
theorem sX6_judgeTry_33 (hk : hK h a0 = 15) : Rn r 150 33 [l0, l1, l2, l3, l4, l5] [vR (some a0), vI x1, vR z2] h Q ↔ Rn r 150 36 [l0, l1, l2, l3, l4, l5] [vR (hR h a0 32), vI x1, vR z2] h Q := Rn_nx pg150 rfl (if_pos ⟨(hk ▸ Nat.le_refl _), (hk ▸ Nat.le_refl _)⟩)
theorem sX6_judgeTry_36 : Rn r 150 36 [l0, l1, l2, l3, l4, l5] [vR z0, vI x1, vR z2] h Q ↔ Rn r 150 37 [l0, l1, l2, l3, l4, l5] [vI 4, vR z0, vI x1, vR z2] h Q := Rn_nx pg150 rfl rfl
theorem sX6_judgeTry_37 : Rn r 150 37 [l0, some (vI x), l2, l3, l4, l5] [vI x0, vR z1, vI x2, vR z3] h Q ↔ Rn r 150 38 [l0, some (vI x), l2, l3, l4, l5] [vI x, vI x0, vR z1, vI x2, vR z3] h Q := Rn_nx pg150 rfl rfl
theorem sX6_judgeTry_38 : Rn r 150 38 [l0, l1, l2, l3, l4, l5] [vI x0, vI x1, vR z2, vI x3, vR z4] h Q ↔ Rn r 150 39 [l0, l1, l2, l3, l4, l5] [vI (x1 * x0), vR z2, vI x3, vR z4] h Q := Rn_nx pg150 rfl rfl
theorem sX6_judgeTry_39 : Rn r 150 39 [l0, l1, some (vI x), l3, l4, l5] [vI x0, vR z1, vI x2, vR z3] h Q ↔ Rn r 150 40 [l0, l1, some (vI x), l3, l4, l5] [vI x, vI x0, vR z1, vI x2, vR z3] h Q := Rn_nx pg150 rfl rfl
theorem sX6_judgeTry_40 : Rn r 150 40 [l0, l1, l2, l3, l4, l5] [vI x0, vI x1, vR z2, vI x3, vR z4] h Q ↔ Rn r 150 41 [l0, l1, l2, l3, l4, l5] [vI (x1 + x0), vR z2, vI x3, vR z4] h Q := Rn_nx pg150 rfl rfl
theorem sX6_judgeTry_41 (hk : 40 ≤ hK h a1) (hk2 : hK h a1 ≤ 41) (hx : ¬ (x0 < 0 ∨ hL h a1 ≤ x0.toNatClampNeg)) : Rn r 150 41 [l0, l1, l2, l3, l4, l5] [vI x0, vR (some a1), vI x2, vR z3] h Q ↔ Rn r 150 42 [l0, l1, l2, l3, l4, l5] [vI (hI h a1 x0.toNatClampNeg), vI x2, vR z3] h Q := Rn_nx pg150 rfl ((if_pos ⟨hk, hk2⟩).trans (if_neg hx))
theorem sX6_judgeTry_42 : Rn r 150 42 [l0, l1, l2, l3, l4, l5] [vI x0, vI x1, vR z2] h Q ↔ Rn r 150 43 [l0, l1, l2, l3, l4, l5] [vI (-1), vI x0, vI x1, vR z2] h Q := Rn_nx pg150 rfl rfl
theorem sX6_judgeTry_43 (hk : hK h a3 = 15) : Rn r 150 43 [l0, l1, l2, l3, l4, l5] [vI x0, vI x1, vI x2, vR (some a3)] h Q ↔ Cl r 96 [vR (some a3), vI x2, vI x1, vI x0] h (Kt r 150 46 [l0, l1, l2, l3, l4, l5] [] Q) := Rn_call pg150 rfl (by simp only [am_exec, am_inv, am_pop, am_lk, hk]; rfl) pg96 rfl rfl rfl
theorem sX6_judgeTry_46 : Rn r 150 46 [l0, l1, some (vI x), l3, l4, l5] [] h Q ↔ Rn r 150 49 [l0, l1, some (vI (x + 1)), l3, l4, l5] [] h Q := Rn_nx pg150 rfl rfl
theorem sX6_judgeTry_49 : Rn r 150 49 [l0, l1, l2, l3, l4, l5] [] h Q ↔ Rn r 150 2 [l0, l1, l2, l3, l4, l5] [] h Q := Rn_nx pg150 rfl rfl
theorem sX6_judgeTry_52 : Rn r 150 52 [some (vR z), l1, l2, l3, l4, l5] [] h Q ↔ Rn r 150 53 [some (vR z), l1, l2, l3, l4, l5] [vR z] h Q := Rn_nx pg150 rfl rfl
theorem sX6_judgeTry_53 : Rn r 150 53 [some (vR z), l1, l2, l3, l4, l5] [vR z0] h Q ↔ Rn r 150 54 [some (vR z), l1, l2, l3, l4, l5] [vR z, vR z0] h Q := Rn_nx pg150 rfl rfl
theorem sX6_judgeTry_54 : Rn r 150 54 [l0, some (vI x), l2, l3, l4, l5] [vR z0, vR z1] h Q ↔ Rn r 150 55 [l0, some (vI x), l2, l3, l4, l5] [vI x, vR z0, vR z1] h Q := Rn_nx pg150 rfl rfl
theorem sX6_judgeTry_55 (hk : hK h a1 = 15) : Rn r 150 55 [l0, l1, l2, l3, l4, l5] [vI x0, vR (some a1), vR z2] h Q ↔ Cl r 182 [vR (some a1), vI x0] h (Kt r 150 58 [l0, l1, l2, l3, l4, l5] [vR z2] Q) := Rn_call pg150 rfl (by simp only [am_exec, am_inv, am_pop, am_lk, hk]; rfl) pg182 rfl rfl rfl
theorem sX6_judgeTry_58 (hk : hK h a1 = 15) : Rn r 150 58 [l0, l1, l2, l3, l4, l5] [vI x0, vR (some a1)] h Q ↔ Cl r 179 [vR (some a1), vI x0] h (Kt r 150 61 [l0, l1, l2, l3, l4, l5] [] Q) := Rn_call pg150 rfl (by simp only [am_exec, am_inv, am_pop, am_lk, hk]; rfl) pg179 rfl rfl rfl
theorem sX6_judgeTry_61 : Rn r 150 61 [l0, l1, l2, l3, l4, l5] [vI x0] h Q ↔ Rn r 150 62 [l0, l1, some (vI x0), l3, l4, l5] [] h Q := Rn_nx pg150 rfl rfl
theorem sX6_judgeTry_62 : Rn r 150 62 [l0, l1, l2, l3, l4, l5] [] h Q ↔ Rn r 150 63 [l0, l1, l2, l3, l4, l5] [vI 0] h Q := Rn_nx pg150 rfl rfl
theorem sX6_judgeTry_63 : Rn r 150 63 [l0, l1, l2, l3, l4, l5] [vI x0] h Q ↔ Rn r 150 64 [l0, l1, l2, some (vI x0), l4, l5] [] h Q := Rn_nx pg150 rfl rfl
theorem sX6_judgeTry_64 : Rn r 150 64 [l0, l1, l2, some (vI x), l4, l5] [] h Q ↔ Rn r 150 65 [l0, l1, l2, some (vI x), l4, l5] [vI x] h Q := Rn_nx pg150 rfl rfl
theorem sX6_judgeTry_65 : Rn r 150 65 [some (vR z), l1, l2, l3, l4, l5] [vI x0] h Q ↔ Rn r 150 66 [some (vR z), l1, l2, l3, l4, l5] [vR z, vI x0] h Q := Rn_nx pg150 rfl rfl
theorem sX6_judgeTry_66 (hk : hK h a0 = 15) : Rn r 150 66 [l0, l1, l2, l3, l4, l5] [vR (some a0), vI x1] h Q ↔ Rn r 150 69 [l0, l1, l2, l3, l4, l5] [vR (hR h a0 33), vI x1] h Q := Rn_nx pg150 rfl (if_pos ⟨(hk ▸ Nat.le_refl _), (hk ▸ Nat.le_refl _)⟩)
theorem sX6_judgeTry_69 : Rn r 150 69 [l0, some (vI x), l2, l3, l4, l5] [vR z0, vI x1] h Q ↔ Rn r 150 70 [l0, some (vI x), l2, l3, l4, l5] [vI x, vR z0, vI x1] h Q := Rn_nx pg150 rfl rfl
theorem sX6_judgeTry_70 (hk : 40 ≤ hK h a1) (hk2 : hK h a1 ≤ 41) (hx : ¬ (x0 < 0 ∨ hL h a1 ≤ x0.toNatClampNeg)) : Rn r 150 70 [l0, l1, l2, l3, l4, l5] [vI x0, vR (some a1), vI x2] h Q ↔ Rn r 150 71 [l0, l1, l2, l3, l4, l5] [vI (hI h a1 x0.toNatClampNeg), vI x2] h Q := Rn_nx pg150 rfl ((if_pos ⟨hk, hk2⟩).trans (if_neg hx))
theorem sX6_judgeTry_71 : Rn r 150 71 [l0, l1, l2, l3, l4, l5] [vI x0, vI x1] h Q ↔ if x0 ≤ x1 then Rn r 150 151 [l0, l1, l2, l3, l4, l5] [] h Q else Rn r 150 74 [l0, l1, l2, l3, l4, l5] [] h Q := Rn_if pg150 rfl rfl rfl
theorem sX6_judgeTry_74 : Rn r 150 74 [l0, l1, l2, l3, l4, l5] [] h Q ↔ Rn r 150 75 [l0, l1, l2, l3, l4, l5] [vI 4] h Q := Rn_nx pg150 rfl rfl
theorem sX6_judgeTry_75 : Rn r 150 75 [l0, some (vI x), l2, l3, l4, l5] [vI x0] h Q ↔ Rn r 150 76 [l0, some (vI x), l2, l3, l4, l5] [vI x, vI x0] h Q := Rn_nx pg150 rfl rfl
theorem sX6_judgeTry_76 : Rn r 150 76 [l0, l1, l2, l3, l4, l5] [vI x0, vI x1] h Q ↔ Rn r 150 77 [l0, l1, l2, l3, l4, l5] [vI (x1 * x0)] h Q := Rn_nx pg150 rfl rfl
theorem sX6_judgeTry_77 : Rn r 150 77 [l0, l1, l2, some (vI x), l4, l5] [vI x0] h Q ↔ Rn r 150 78 [l0, l1, l2, some (vI x), l4, l5] [vI x, vI x0] h Q := Rn_nx pg150 rfl rfl
theorem sX6_judgeTry_78 : Rn r 150 78 [l0, l1, l2, l3, l4, l5] [vI x0, vI x1] h Q ↔ Rn r 150 79 [l0, l1, l2, l3, l4, l5] [vI (x1 + x0)] h Q := Rn_nx pg150 rfl rfl
theorem sX6_judgeTry_79 : Rn r 150 79 [l0, l1, l2, l3, l4, l5] [vI x0] h Q ↔ Rn r 150 81 [l0, l1, l2, l3, some (vI x0), l5] [] h Q := Rn_nx pg150 rfl rfl
theorem sX6_judgeTry_81 : Rn r 150 81 [some (vR z), l1, l2, l3, l4, l5] [] h Q ↔ Rn r 150 82 [some (vR z), l1, l2, l3, l4, l5] [vR z] h Q := Rn_nx pg150 rfl rfl
theorem sX6_judgeTry_82 : Rn r 150 82 [some (vR z), l1, l2, l3, l4, l5] [vR z0] h Q ↔ Rn r 150 83 [some (vR z), l1, l2, l3, l4, l5] [vR z, vR z0] h Q := Rn_nx pg150 rfl rfl
theorem sX6_judgeTry_83 (hk : hK h a0 = 15) : Rn r 150 83 [l0, l1, l2, l3, l4, l5] [vR (some a0), vR z1] h Q ↔ Rn r 150 86 [l0, l1, l2, l3, l4, l5] [vR (hR h a0 35), vR z1] h Q := Rn_nx pg150 rfl (if_pos ⟨(hk ▸ Nat.le_refl _), (hk ▸ Nat.le_refl _)⟩)
theorem sX6_judgeTry_86 : Rn r 150 86 [l0, l1, l2, l3, some (vI x), l5] [vR z0, vR z1] h Q ↔ Rn r 150 88 [l0, l1, l2, l3, some (vI x), l5] [vI x, vR z0, vR z1] h Q := Rn_nx pg150 rfl rfl
theorem sX6_judgeTry_88 (hk : hK h a1 = 42) (hx : ¬ (x0 < 0 ∨ hL h a1 ≤ x0.toNatClampNeg)) : Rn r 150 88 [l0, l1, l2, l3, l4, l5] [vI x0, vR (some a1), vR z2] h Q ↔ Rn r 150 89 [l0, l1, l2, l3, l4, l5] [vL (hJ h a1 x0.toNatClampNeg), vR z2] h Q := Rn_nx pg150 rfl ((if_pos ⟨(hk ▸ Nat.le_refl _), (hk ▸ Nat.le_refl _)⟩).trans (if_neg hx))
theorem sX6_judgeTry_89 : Rn r 150 89 [some (vR z), l1, l2, l3, l4, l5] [vL y0, vR z1] h Q ↔ Rn r 150 90 [some (vR z), l1, l2, l3, l4, l5] [vR z, vL y0, vR z1] h Q := Rn_nx pg150 rfl rfl
theorem sX6_judgeTry_90 (hk : hK h a0 = 15) : Rn r 150 90 [l0, l1, l2, l3, l4, l5] [vR (some a0), vL y1, vR z2] h Q ↔ Rn r 150 93 [l0, l1, l2, l3, l4, l5] [vR (hR h a0 22), vL y1, vR z2] h Q := Rn_nx pg150 rfl (if_pos ⟨(hk ▸ Nat.le_refl _), (hk ▸ Nat.le_refl _)⟩)
theorem sX6_judgeTry_93 : Rn r 150 93 [l0, some (vI x), l2, l3, l4, l5] [vR z0, vL y1, vR z2] h Q ↔ Rn r 150 94 [l0, some (vI x), l2, l3, l4, l5] [vI x, vR z0, vL y1, vR z2] h Q := Rn_nx pg150 rfl rfl
theorem sX6_judgeTry_94 (hk : 40 ≤ hK h a1) (hk2 : hK h a1 ≤ 41) (hx : ¬ (x0 < 0 ∨ hL h a1 ≤ x0.toNatClampNeg)) : Rn r 150 94 [l0, l1, l2, l3, l4, l5] [vI x0, vR (some a1), vL y2, vR z3] h Q ↔ Rn r 150 95 [l0, l1, l2, l3, l4, l5] [vI (hI h a1 x0.toNatClampNeg), vL y2, vR z3] h Q := Rn_nx pg150 rfl ((if_pos ⟨hk, hk2⟩).trans (if_neg hx))
theorem sX6_judgeTry_95 (hk : hK h a2 = 15) : Rn r 150 95 [l0, l1, l2, l3, l4, l5] [vI x0, vL y1, vR (some a2)] h Q ↔ Cl r 107 [vR (some a2), vL y1, vI x0] h (Kt r 150 98 [l0, l1, l2, l3, l4, l5] [] Q) := Rn_call pg150 rfl (by simp only [am_exec, am_inv, am_pop, am_lk, hk]; rfl) pg107 rfl rfl rfl
theorem sX6_judgeTry_98 : Rn r 150 98 [l0, l1, l2, l3, l4, l5] [vI x0] h Q ↔ Rn r 150 99 [l0, l1, l2, l3, l4, l5] [vI (-1), vI x0] h Q := Rn_nx pg150 rfl rfl
theorem sX6_judgeTry_99 : Rn r 150 99 [l0, l1, l2, l3, l4, l5] [vI x0, vI x1] h Q ↔ if x1 = x0 then Rn r 150 115 [l0, l1, l2, l3, l4, l5] [] h Q else Rn r 150 102 [l0, l1, l2, l3, l4, l5] [] h Q := Rn_if pg150 rfl rfl rfl
theorem sX6_judgeTry_102 : Rn r 150 102 [some (vR z), l1, l2, l3, l4, l5] [] h Q ↔ Rn r 150 103 [some (vR z), l1, l2, l3, l4, l5] [vR z] h Q := Rn_nx pg150 rfl rfl
theorem sX6_judgeTry_103 : Rn r 150 103 [l0, l1, l2, l3, l4, l5] [vR z0] h Q ↔ Rn r 150 104 [l0, l1, l2, l3, l4, l5] [vI 2, vR z0] h Q := Rn_nx pg150 rfl rfl
theorem sX6_judgeTry_104 : Rn r 150 104 [some (vR z), l1, l2, l3, l4, l5] [vI x0, vR z1] h Q ↔ Rn r 150 105 [some (vR z), l1, l2, l3, l4, l5] [vR z, vI x0, vR z1] h Q := Rn_nx pg150 rfl rfl
theorem sX6_judgeTry_105 (hk : hK h a0 = 15) : Rn r 150 105 [l0, l1, l2, l3, l4, l5] [vR (some a0), vI x1, vR z2] h Q ↔ Rn r 150 108 [l0, l1, l2, l3, l4, l5] [vR (hR h a0 36), vI x1, vR z2] h Q := Rn_nx pg150 rfl (if_pos ⟨(hk ▸ Nat.le_refl _), (hk ▸ Nat.le_refl _)⟩)
theorem sX6_judgeTry_108 : Rn r 150 108 [l0, l1, l2, l3, some (vI x), l5] [vR z0, vI x1, vR z2] h Q ↔ Rn r 150 110 [l0, l1, l2, l3, some (vI x), l5] [vI x, vR z0, vI x1, vR z2] h Q := Rn_nx pg150 rfl rfl
theorem sX6_judgeTry_110 (hk : 40 ≤ hK h a1) (hk2 : hK h a1 ≤ 41) (hx : ¬ (x0 < 0 ∨ hL h a1 ≤ x0.toNatClampNeg)) : Rn r 150 110 [l0, l1, l2, l3, l4, l5] [vI x0, vR (some a1), vI x2, vR z3] h Q ↔ Rn r 150 111 [l0, l1, l2, l3, l4, l5] [vI (hI h a1 x0.toNatClampNeg), vI x2, vR z3] h Q := Rn_nx pg150 rfl ((if_pos ⟨hk, hk2⟩).trans (if_neg hx))
theorem sX6_judgeTry_111 : Rn r 150 111 [l0, l1, l2, l3, l4, l5] [vI x0, vI x1, vR z2] h Q ↔ Rn r 150 112 [l0, l1, l2, l3, l4, l5] [vI (-1), vI x0, vI x1, vR z2] h Q := Rn_nx pg150 rfl rfl
theorem sX6_judgeTry_112 (hk : hK h a3 = 15) : Rn r 150 112 [l0, l1, l2, l3, l4, l5] [vI x0, vI x1, vI x2, vR (some a3)] h Q ↔ Cl r 96 [vR (some a3), vI x2, vI x1, vI x0] h (Kt r 150 115 [l0, l1, l2, l3, l4, l5] [] Q) := Rn_call pg150 rfl (by simp only [am_exec, am_inv, am_pop, am_lk, hk]; rfl) pg96 rfl rfl rfl
theorem sX6_judgeTry_115 : Rn r 150 115 [l0, l1, l2, l3, l4, l5] [] h Q ↔ Rn r 150 116 [l0, l1, l2, l3, l4, l5] [vI 0] h Q := Rn_nx pg150 rfl rfl
theorem sX6_judgeTry_116 : Rn r 150 116 [l0, l1, l2, l3, l4, l5] [vI x0] h Q ↔ Rn r 150 118 [l0, l1, l2, l3, l4, some (vI x0)] [] h Q := Rn_nx pg150 rfl rfl
theorem sX6_judgeTry_118 : Rn r 150 118 [l0, l1, l2, l3, l4, some (vI x)] [] h Q ↔ Rn r 150 120 [l0, l1, l2, l3, l4, some (vI x)] [vI x] h Q := Rn_nx pg150 rfl rfl
theorem sX6_judgeTry_120 : Rn r 150 120 [some (vR z), l1, l2, l3, l4, l5] [vI x0] h Q ↔ Rn r 150 121 [some (vR z), l1, l2, l3, l4, l5] [vR z, vI x0] h Q := Rn_nx pg150 rfl rfl
theorem sX6_judgeTry_121 (hk : hK h a0 = 15) : Rn r 150 121 [l0, l1, l2, l3, l4, l5] [vR (some a0), vI x1] h Q ↔ Rn r 150 124 [l0, l1, l2, l3, l4, l5] [vR (hR h a0 37), vI x1] h Q := Rn_nx pg150 rfl (if_pos ⟨(hk ▸ Nat.le_refl _), (hk ▸ Nat.le_refl _)⟩)
theorem sX6_judgeTry_124 : Rn r 150 124 [l0, l1, l2, l3, some (vI x), l5] [vR z0, vI x1] h Q ↔ Rn r 150 126 [l0, l1, l2, l3, some (vI x), l5] [vI x, vR z0, vI x1] h Q := Rn_nx pg150 rfl rfl
theorem sX6_judgeTry_126 (hk : 40 ≤ hK h a1) (hk2 : hK h a1 ≤ 41) (hx : ¬ (x0 < 0 ∨ hL h a1 ≤ x0.toNatClampNeg)) : Rn r 150 126 [l0, l1, l2, l3, l4, l5] [vI x0, vR (some a1), vI x2] h Q ↔ Rn r 150 127 [l0, l1, l2, l3, l4, l5] [vI (hI h a1 x0.toNatClampNeg), vI x2] h Q := Rn_nx pg150 rfl ((if_pos ⟨hk, hk2⟩).trans (if_neg hx))
theorem sX6_judgeTry_127 : Rn r 150 127 [l0, l1, l2, l3, l4, l5] [vI x0, vI x1] h Q ↔ if x0 ≤ x1 then Rn r 150 145 [l0, l1, l2, l3, l4, l5] [] h Q else Rn r 150 130 [l0, l1, l2, l3, l4, l5] [] h Q := Rn_if pg150 rfl rfl rfl
theorem sX6_judgeTry_130 : Rn r 150 130 [some (vR z), l1, l2, l3, l4, l5] [] h Q ↔ Rn r 150 131 [some (vR z), l1, l2, l3, l4, l5] [vR z] h Q := Rn_nx pg150 rfl rfl
theorem sX6_judgeTry_131 : Rn r 150 131 [l0, l1, l2, l3, some (vI x), l5] [vR z0] h Q ↔ Rn r 150 133 [l0, l1, l2, l3, some (vI x), l5] [vI x, vR z0] h Q := Rn_nx pg150 rfl rfl
theorem sX6_judgeTry_133 : Rn r 150 133 [l0, l1, l2, l3, l4, some (vI x)] [vI x0, vR z1] h Q ↔ Rn r 150 135 [l0, l1, l2, l3, l4, some (vI x)] [vI x, vI x0, vR z1] h Q := Rn_nx pg150 rfl rfl
theorem sX6_judgeTry_135 : Rn r 150 135 [l0, l1, some (vI x), l3, l4, l5] [vI x0, vI x1, vR z2] h Q ↔ Rn r 150 136 [l0, l1, some (vI x), l3, l4, l5] [vI x, vI x0, vI x1, vR z2] h Q := Rn_nx pg150 rfl rfl
theorem sX6_judgeTry_136 (hk : hK h a3 = 15) : Rn r 150 136 [l0, l1, l2, l3, l4, l5] [vI x0, vI x1, vI x2, vR (some a3)] h Q ↔ Cl r 185 [vR (some a3), vI x2, vI x1, vI x0] h (Kt r 150 139 [l0, l1, l2, l3, l4, l5] [] Q) := Rn_call pg150 rfl (by simp only [am_exec, am_inv, am_pop, am_lk, hk]; rfl) pg185 rfl rfl rfl
theorem sX6_judgeTry_139 : Rn r 150 139 [l0, l1, l2, l3, l4, some (vI x)] [] h Q ↔ Rn r 150 142 [l0, l1, l2, l3, l4, some (vI (x + 1))] [] h Q := Rn_nx pg150 rfl rfl
theorem sX6_judgeTry_142 : Rn r 150 142 [l0, l1, l2, l3, l4, l5] [] h Q ↔ Rn r 150 118 [l0, l1, l2, l3, l4, l5] [] h Q := Rn_nx pg150 rfl rfl
theorem sX6_judgeTry_145 : Rn r 150 145 [l0, l1, l2, some (vI x), l4, l5] [] h Q ↔ Rn r 150 148 [l0, l1, l2, some (vI (x + 1)), l4, l5] [] h Q := Rn_nx pg150 rfl rfl
theorem sX6_judgeTry_148 : Rn r 150 148 [l0, l1, l2, l3, l4, l5] [] h Q ↔ Rn r 150 64 [l0, l1, l2, l3, l4, l5] [] h Q := Rn_nx pg150 rfl rfl
theorem sX6_judgeTry_151 : Rn r 150 151 [l0, l1, l2, l3, l4, l5] [] h Q ↔ Q (Sum.inl none) h := Rn_end pg150 rfl rfl
/-! 151 ThrowRulesModel.namesOf(I)I -/
theorem eX6_namesOf : Cl r 151 [vR z0, vI x1] h Q ↔ Rn r 151 0 [some (vR z0), some (vI x1), none, none] [] h Q := Cl_in pg151 rfl
theorem sX6_namesOf_0 : Rn r 151 0 [l0, l1, l2, l3] [] h Q ↔ Rn r 151 1 [l0, l1, l2, l3] [vI 0] h Q := Rn_nx pg151 rfl rfl
theorem sX6_namesOf_1 : Rn r 151 1 [l0, l1, l2, l3] [vI x0] h Q ↔ Rn r 151 2 [l0, l1, some (vI x0), l3] [] h Q := Rn_nx pg151 rfl rfl
theorem sX6_namesOf_2 : Rn r 151 2 [l0, l1, l2, l3] [] h Q ↔ Rn r 151 3 [l0, l1, l2, l3] [vI 0] h Q := Rn_nx pg151 rfl rfl
theorem sX6_namesOf_3 : Rn r 151 3 [l0, l1, l2, l3] [vI x0] h Q ↔ Rn r 151 4 [l0, l1, l2, some (vI x0)] [] h Q := Rn_nx pg151 rfl rfl
theorem sX6_namesOf_4 : Rn r 151 4 [l0, l1, l2, some (vI x)] [] h Q ↔ Rn r 151 5 [l0, l1, l2, some (vI x)] [vI x] h Q := Rn_nx pg151 rfl rfl
theorem sX6_namesOf_5 : Rn r 151 5 [some (vR z), l1, l2, l3] [vI x0] h Q ↔ Rn r 151 6 [some (vR z), l1, l2, l3] [vR z, vI x0] h Q := Rn_nx pg151 rfl rfl
theorem sX6_namesOf_6 (hk : hK h a0 = 15) : Rn r 151 6 [l0, l1, l2, l3] [vR (some a0), vI x1] h Q ↔ Rn r 151 9 [l0, l1, l2, l3] [vR (hR h a0 30), vI x1] h Q := Rn_nx pg151 rfl (if_pos ⟨(hk ▸ Nat.le_refl _), (hk ▸ Nat.le_refl _)⟩)
theorem sX6_namesOf_9 : Rn r 151 9 [l0, some (vI x), l2, l3] [vR z0, vI x1] h Q ↔ Rn r 151 10 [l0, some (vI x), l2, l3] [vI x, vR z0, vI x1] h Q := Rn_nx pg151 rfl rfl
theorem sX6_namesOf_10 (hk : 40 ≤ hK h a1) (hk2 : hK h a1 ≤ 41) (hx : ¬ (x0 < 0 ∨ hL h a1 ≤ x0.toNatClampNeg)) : Rn r 151 10 [l0, l1, l2, l3] [vI x0, vR (some a1), vI x2] h Q ↔ Rn r 151 11 [l0, l1, l2, l3] [vI (hI h a1 x0.toNatClampNeg), vI x2] h Q := Rn_nx pg151 rfl ((if_pos ⟨hk, hk2⟩).trans (if_neg hx))
theorem sX6_namesOf_11 : Rn r 151 11 [l0, l1, l2, l3] [vI x0, vI x1] h Q ↔ if x0 ≤ x1 then Rn r 151 82 [l0, l1, l2, l3] [] h Q else Rn r 151 14 [l0, l1, l2, l3] [] h Q := Rn_if pg151 rfl rfl rfl
theorem sX6_namesOf_14 : Rn r 151 14 [l0, l1, some (vI x), l3] [] h Q ↔ Rn r 151 15 [l0, l1, some (vI x), l3] [vI x] h Q := Rn_nx pg151 rfl rfl
theorem sX6_namesOf_15 : Rn r 151 15 [some (vR z), l1, l2, l3] [vI x0] h Q ↔ Rn r 151 16 [some (vR z), l1, l2, l3] [vR z, vI x0] h Q := Rn_nx pg151 rfl rfl
theorem sX6_namesOf_16 (hk : hK h a0 = 15) : Rn r 151 16 [l0, l1, l2, l3] [vR (some a0), vI x1] h Q ↔ Rn r 151 19 [l0, l1, l2, l3] [vR (hR h a0 20), vI x1] h Q := Rn_nx pg151 rfl (if_pos ⟨(hk ▸ Nat.le_refl _), (hk ▸ Nat.le_refl _)⟩)
theorem sX6_namesOf_19 : Rn r 151 19 [l0, some (vI x), l2, l3] [vR z0, vI x1] h Q ↔ Rn r 151 20 [l0, some (vI x), l2, l3] [vI x, vR z0, vI x1] h Q := Rn_nx pg151 rfl rfl
theorem sX6_namesOf_20 (hk : 40 ≤ hK h a1) (hk2 : hK h a1 ≤ 41) (hx : ¬ (x0 < 0 ∨ hL h a1 ≤ x0.toNatClampNeg)) : Rn r 151 20 [l0, l1, l2, l3] [vI x0, vR (some a1), vI x2] h Q ↔ Rn r 151 21 [l0, l1, l2, l3] [vI (hI h a1 x0.toNatClampNeg), vI x2] h Q := Rn_nx pg151 rfl ((if_pos ⟨hk, hk2⟩).trans (if_neg hx))
theorem sX6_namesOf_21 : Rn r 151 21 [l0, l1, l2, l3] [vI x0, vI x1] h Q ↔ Rn r 151 23 [l0, l1, l2, l3] [vI 9, vI x0, vI x1] h Q := Rn_nx pg151 rfl rfl
theorem sX6_namesOf_23 : Rn r 151 23 [l0, l1, l2, l3] [vI x0, vI x1, vI x2] h Q ↔ if x1 ≠ x0 then Rn r 151 47 [l0, l1, l2, l3] [vI x2] h Q else Rn r 151 26 [l0, l1, l2, l3] [vI x2] h Q := Rn_if pg151 rfl rfl rfl
theorem sX6_namesOf_26 : Rn r 151 26 [some (vR z), l1, l2, l3] [vI x0] h Q ↔ Rn r 151 27 [some (vR z), l1, l2, l3] [vR z, vI x0] h Q := Rn_nx pg151 rfl rfl
theorem sX6_namesOf_27 : Rn r 151 27 [some (vR z), l1, l2, l3] [vR z0, vI x1] h Q ↔ Rn r 151 28 [some (vR z), l1, l2, l3] [vR z, vR z0, vI x1] h Q := Rn_nx pg151 rfl rfl
theorem sX6_namesOf_28 : Rn r 151 28 [some (vR z), l1, l2, l3] [vR z0, vR z1, vI x2] h Q ↔ Rn r 151 29 [some (vR z), l1, l2, l3] [vR z, vR z0, vR z1, vI x2] h Q := Rn_nx pg151 rfl rfl
theorem sX6_namesOf_29 (hk : hK h a0 = 15) : Rn r 151 29 [l0, l1, l2, l3] [vR (some a0), vR z1, vR z2, vI x3] h Q ↔ Rn r 151 32 [l0, l1, l2, l3] [vR (hR h a0 31), vR z1, vR z2, vI x3] h Q := Rn_nx pg151 rfl (if_pos ⟨(hk ▸ Nat.le_refl _), (hk ▸ Nat.le_refl _)⟩)
theorem sX6_namesOf_32 : Rn r 151 32 [l0, l1, l2, l3] [vR z0, vR z1, vR z2, vI x3] h Q ↔ Rn r 151 33 [l0, l1, l2, l3] [vI 4, vR z0, vR z1, vR z2, vI x3] h Q := Rn_nx pg151 rfl rfl
theorem sX6_namesOf_33 : Rn r 151 33 [l0, some (vI x), l2, l3] [vI x0, vR z1, vR z2, vR z3, vI x4] h Q ↔ Rn r 151 34 [l0, some (vI x), l2, l3] [vI x, vI x0, vR z1, vR z2, vR z3, vI x4] h Q := Rn_nx pg151 rfl rfl
theorem sX6_namesOf_34 : Rn r 151 34 [l0, l1, l2, l3] [vI x0, vI x1, vR z2, vR z3, vR z4, vI x5] h Q ↔ Rn r 151 35 [l0, l1, l2, l3] [vI (x1 * x0), vR z2, vR z3, vR z4, vI x5] h Q := Rn_nx pg151 rfl rfl
theorem sX6_namesOf_35 : Rn r 151 35 [l0, l1, l2, some (vI x)] [vI x0, vR z1, vR z2, vR z3, vI x4] h Q ↔ Rn r 151 36 [l0, l1, l2, some (vI x)] [vI x, vI x0, vR z1, vR z2, vR z3, vI x4] h Q := Rn_nx pg151 rfl rfl
theorem sX6_namesOf_36 : Rn r 151 36 [l0, l1, l2, l3] [vI x0, vI x1, vR z2, vR z3, vR z4, vI x5] h Q ↔ Rn r 151 37 [l0, l1, l2, l3] [vI (x1 + x0), vR z2, vR z3, vR z4, vI x5] h Q := Rn_nx pg151 rfl rfl
theorem sX6_namesOf_37 (hk : hK h a1 = 42) (hx : ¬ (x0 < 0 ∨ hL h a1 ≤ x0.toNatClampNeg)) : Rn r 151 37 [l0, l1, l2, l3] [vI x0, vR (some a1), vR z2, vR z3, vI x4] h Q ↔ Rn r 151 38 [l0, l1, l2, l3] [vL (hJ h a1 x0.toNatClampNeg), vR z2, vR z3, vI x4] h Q := Rn_nx pg151 rfl ((if_pos ⟨(hk ▸ Nat.le_refl _), (hk ▸ Nat.le_refl _)⟩).trans (if_neg hx))
theorem sX6_namesOf_38 (hk : hK h a1 = 15) : Rn r 151 38 [l0, l1, l2, l3] [vL y0, vR (some a1), vR z2, vI x3] h Q ↔ Cl r 53 [vR (some a1), vL y0] h (Kt r 151 41 [l0, l1, l2, l3] [vR z2, vI x3] Q) := Rn_call pg151 rfl (by simp only [am_exec, am_inv, am_pop, am_lk, hk]; rfl) pg53 rfl rfl rfl
theorem sX6_namesOf_41 (hk : hK h a1 = 15) : Rn r 151 41 [l0, l1, l2, l3] [vI x0, vR (some a1), vI x2] h Q ↔ Cl r 51 [vR (some a1), vI x0] h (Kt r 151 44 [l0, l1, l2, l3] [vI x2] Q) := Rn_call pg151 rfl (by simp only [am_exec, am_inv, am_pop, am_lk, hk]; rfl) pg51 rfl rfl rfl
theorem sX6_namesOf_44 : Rn r 151 44 [l0, l1, l2, l3] [vI x0, vI x1] h Q ↔ Rn r 151 74 [l0, l1, l2, l3] [vI x0, vI x1] h Q := Rn_nx pg151 rfl rfl
theorem sX6_namesOf_47 : Rn r 151 47 [some (vR z), l1, l2, l3] [vI x0] h Q ↔ Rn r 151 48 [some (vR z), l1, l2, l3] [vR z, vI x0] h Q := Rn_nx pg151 rfl rfl
theorem sX6_namesOf_48 : Rn r 151 48 [some (vR z), l1, l2, l3] [vR z0, vI x1] h Q ↔ Rn r 151 49 [some (vR z), l1, l2, l3] [vR z, vR z0, vI x1] h Q := Rn_nx pg151 rfl rfl
theorem sX6_namesOf_49 (hk : hK h a0 = 15) : Rn r 151 49 [l0, l1, l2, l3] [vR (some a0), vR z1, vI x2] h Q ↔ Rn r 151 52 [l0, l1, l2, l3] [vR (hR h a0 31), vR z1, vI x2] h Q := Rn_nx pg151 rfl (if_pos ⟨(hk ▸ Nat.le_refl _), (hk ▸ Nat.le_refl _)⟩)
theorem sX6_namesOf_52 : Rn r 151 52 [l0, l1, l2, l3] [vR z0, vR z1, vI x2] h Q ↔ Rn r 151 53 [l0, l1, l2, l3] [vI 4, vR z0, vR z1, vI x2] h Q := Rn_nx pg151 rfl rfl
theorem sX6_namesOf_53 : Rn r 151 53 [l0, some (vI x), l2, l3] [vI x0, vR z1, vR z2, vI x3] h Q ↔ Rn r 151 54 [l0, some (vI x), l2, l3] [vI x, vI x0, vR z1, vR z2, vI x3] h Q := Rn_nx pg151 rfl rfl
theorem sX6_namesOf_54 : Rn r 151 54 [l0, l1, l2, l3] [vI x0, vI x1, vR z2, vR z3, vI x4] h Q ↔ Rn r 151 55 [l0, l1, l2, l3] [vI (x1 * x0), vR z2, vR z3, vI x4] h Q := Rn_nx pg151 rfl rfl
theorem sX6_namesOf_55 : Rn r 151 55 [l0, l1, l2, some (vI x)] [vI x0, vR z1, vR z2, vI x3] h Q ↔ Rn r 151 56 [l0, l1, l2, some (vI x)] [vI x, vI x0, vR z1, vR z2, vI x3] h Q := Rn_nx pg151 rfl rfl
theorem sX6_namesOf_56 : Rn r 151 56 [l0, l1, l2, l3] [vI x0, vI x1, vR z2, vR z3, vI x4] h Q ↔ Rn r 151 57 [l0, l1, l2, l3] [vI (x1 + x0), vR z2, vR z3, vI x4] h Q := Rn_nx pg151 rfl rfl
theorem sX6_namesOf_57 (hk : hK h a1 = 42) (hx : ¬ (x0 < 0 ∨ hL h a1 ≤ x0.toNatClampNeg)) : Rn r 151 57 [l0, l1, l2, l3] [vI x0, vR (some a1), vR z2, vI x3] h Q ↔ Rn r 151 58 [l0, l1, l2, l3] [vL (hJ h a1 x0.toNatClampNeg), vR z2, vI x3] h Q := Rn_nx pg151 rfl ((if_pos ⟨(hk ▸ Nat.le_refl _), (hk ▸ Nat.le_refl _)⟩).trans (if_neg hx))
theorem sX6_namesOf_58 : Rn r 151 58 [some (vR z), l1, l2, l3] [vL y0, vR z1, vI x2] h Q ↔ Rn r 151 59 [some (vR z), l1, l2, l3] [vR z, vL y0, vR z1, vI x2] h Q := Rn_nx pg151 rfl rfl
theorem sX6_namesOf_59 (hk : hK h a0 = 15) : Rn r 151 59 [l0, l1, l2, l3] [vR (some a0), vL y1, vR z2, vI x3] h Q ↔ Rn r 151 62 [l0, l1, l2, l3] [vR (hR h a0 32), vL y1, vR z2, vI x3] h Q := Rn_nx pg151 rfl (if_pos ⟨(hk ▸ Nat.le_refl _), (hk ▸ Nat.le_refl _)⟩)
theorem sX6_namesOf_62 : Rn r 151 62 [l0, l1, l2, l3] [vR z0, vL y1, vR z2, vI x3] h Q ↔ Rn r 151 63 [l0, l1, l2, l3] [vI 4, vR z0, vL y1, vR z2, vI x3] h Q := Rn_nx pg151 rfl rfl
theorem sX6_namesOf_63 : Rn r 151 63 [l0, some (vI x), l2, l3] [vI x0, vR z1, vL y2, vR z3, vI x4] h Q ↔ Rn r 151 64 [l0, some (vI x), l2, l3] [vI x, vI x0, vR z1, vL y2, vR z3, vI x4] h Q := Rn_nx pg151 rfl rfl
theorem sX6_namesOf_64 : Rn r 151 64 [l0, l1, l2, l3] [vI x0, vI x1, vR z2, vL y3, vR z4, vI x5] h Q ↔ Rn r 151 65 [l0, l1, l2, l3] [vI (x1 * x0), vR z2, vL y3, vR z4, vI x5] h Q := Rn_nx pg151 rfl rfl
theorem sX6_namesOf_65 : Rn r 151 65 [l0, l1, l2, some (vI x)] [vI x0, vR z1, vL y2, vR z3, vI x4] h Q ↔ Rn r 151 66 [l0, l1, l2, some (vI x)] [vI x, vI x0, vR z1, vL y2, vR z3, vI x4] h Q := Rn_nx pg151 rfl rfl
theorem sX6_namesOf_66 : Rn r 151 66 [l0, l1, l2, l3] [vI x0, vI x1, vR z2, vL y3, vR z4, vI x5] h Q ↔ Rn r 151 67 [l0, l1, l2, l3] [vI (x1 + x0), vR z2, vL y3, vR z4, vI x5] h Q := Rn_nx pg151 rfl rfl
theorem sX6_namesOf_67 (hk : 40 ≤ hK h a1) (hk2 : hK h a1 ≤ 41) (hx : ¬ (x0 < 0 ∨ hL h a1 ≤ x0.toNatClampNeg)) : Rn r 151 67 [l0, l1, l2, l3] [vI x0, vR (some a1), vL y2, vR z3, vI x4] h Q ↔ Rn r 151 68 [l0, l1, l2, l3] [vI (hI h a1 x0.toNatClampNeg), vL y2, vR z3, vI x4] h Q := Rn_nx pg151 rfl ((if_pos ⟨hk, hk2⟩).trans (if_neg hx))
theorem sX6_namesOf_68 (hk : hK h a2 = 15) : Rn r 151 68 [l0, l1, l2, l3] [vI x0, vL y1, vR (some a2), vI x3] h Q ↔ Cl r 69 [vR (some a2), vL y1, vI x0] h (Kt r 151 71 [l0, l1, l2, l3] [vI x3] Q) := Rn_call pg151 rfl (by simp only [am_exec, am_inv, am_pop, am_lk, hk]; rfl) pg69 rfl rfl rfl
theorem sX6_namesOf_71 : Rn r 151 71 [l0, l1, l2, l3] [vI x0, vI x1] h Q ↔ Cl r 101 [vI x0] h (Kt r 151 74 [l0, l1, l2, l3] [vI x1] Q) := Rn_call pg151 rfl rfl pg101 rfl rfl rfl
theorem sX6_namesOf_74 : Rn r 151 74 [l0, l1, l2, l3] [vI x0, vI x1] h Q ↔ Rn r 151 75 [l0, l1, l2, l3] [vI (x1 ||| x0)] h Q := Rn_nx pg151 rfl rfl
theorem sX6_namesOf_75 : Rn r 151 75 [l0, l1, l2, l3] [vI x0] h Q ↔ Rn r 151 76 [l0, l1, some (vI x0), l3] [] h Q := Rn_nx pg151 rfl rfl
theorem sX6_namesOf_76 : Rn r 151 76 [l0, l1, l2, some (vI x)] [] h Q ↔ Rn r 151 79 [l0, l1, l2, some (vI (x + 1))] [] h Q := Rn_nx pg151 rfl rfl
theorem sX6_namesOf_79 : Rn r 151 79 [l0, l1, l2, l3] [] h Q ↔ Rn r 151 4 [l0, l1, l2, l3] [] h Q := Rn_nx pg151 rfl rfl
theorem sX6_namesOf_82 : Rn r 151 82 [l0, l1, some (vI x), l3] [] h Q ↔ Rn r 151 83 [l0, l1, some (vI x), l3] [vI x] h Q := Rn_nx pg151 rfl rfl
theorem sX6_namesOf_83 : Rn r 151 83 [l0, l1, l2, l3] [vI x0] h Q ↔ Q (Sum.inl (some (vI x0))) h := Rn_end pg151 rfl rfl
/-! 152 jdk/internal/util/Preconditions.checkIndex(IILjava/util/function/BiFunction;)I -/
theorem eJ18_checkIndex : Cl r 152 [vI x0, vI x1, vR z2] h Q ↔ Rn r 152 0 [some (vI x0), some (vI x1), some (vR z2)] [] h Q := Cl_in pg152 rfl
theorem sJ18_checkIndex_0 : Rn r 152 0 [some (vI x), l1, l2] [] h Q ↔ Rn r 152 1 [some (vI x), l1, l2] [vI x] h Q := Rn_nx pg152 rfl rfl
theorem sJ18_checkIndex_1 : Rn r 152 1 [l0, l1, l2] [vI x0] h Q ↔ if x0 < 0 then Rn r 152 9 [l0, l1, l2] [] h Q else Rn r 152 4 [l0, l1, l2] [] h Q := Rn_if pg152 rfl rfl rfl
theorem sJ18_checkIndex_4 : Rn r 152 4 [some (vI x), l1, l2] [] h Q ↔ Rn r 152 5 [some (vI x), l1, l2] [vI x] h Q := Rn_nx pg152 rfl rfl
theorem sJ18_checkIndex_5 : Rn r 152 5 [l0, some (vI x), l2] [vI x0] h Q ↔ Rn r 152 6 [l0, some (vI x), l2] [vI x, vI x0] h Q := Rn_nx pg152 rfl rfl
theorem sJ18_checkIndex_6 : Rn r 152 6 [l0, l1, l2] [vI x0, vI x1] h Q ↔ if x1 < x0 then Rn r 152 16 [l0, l1, l2] [] h Q else Rn r 152 9 [l0, l1, l2] [] h Q := Rn_if pg152 rfl rfl rfl
theorem sJ18_checkIndex_9 : Rn r 152 9 [l0, l1, some (vR z)] [] h Q ↔ Rn r 152 10 [l0, l1, some (vR z)] [vR z] h Q := Rn_nx pg152 rfl rfl
theorem sJ18_checkIndex_10 : Rn r 152 10 [some (vI x), l1, l2] [vR z0] h Q ↔ Rn r 152 11 [some (vI x), l1, l2] [vI x, vR z0] h Q := Rn_nx pg152 rfl rfl
theorem sJ18_checkIndex_11 : Rn r 152 11 [l0, some (vI x), l2] [vI x0, vR z1] h Q ↔ Rn r 152 12 [l0, some (vI x), l2] [vI x, vI x0, vR z1] h Q := Rn_nx pg152 rfl rfl
theorem sJ18_checkIndex_16 : Rn r 152 16 [some (vI x), l1, l2] [] h Q ↔ Rn r 152 17 [some (vI x), l1, l2] [vI x] h Q := Rn_nx pg152 rfl rfl
theorem sJ18_checkIndex_17 : Rn r 152 17 [l0, l1, l2] [vI x0] h Q ↔ Q (Sum.inl (some (vI x0))) h := Rn_end pg152 rfl rfl
/-! 153 java/lang/AbstractStringBuilder.ensureCapacityInternal(I)V -/
theorem eJ22_ensureCapacityInternal : Cl r 153 [vR z0, vI x1] h Q ↔ Rn r 153 0 [some (vR z0), some (vI x1), none] [] h Q := Cl_in pg153 rfl
theorem sJ22_ensureCapacityInternal_0 : Rn r 153 0 [some (vR z), l1, l2] [] h Q ↔ Rn r 153 1 [some (vR z), l1, l2] [vR z] h Q := Rn_nx pg153 rfl rfl
theorem sJ22_ensureCapacityInternal_1 (hk : hK h a0 = 16) : Rn r 153 1 [l0, l1, l2] [vR (some a0)] h Q ↔ Rn r 153 4 [l0, l1, l2] [vR (hR h a0 0)] h Q := Rn_nx pg153 rfl (if_pos ⟨(hk ▸ Nat.le_refl _), (hk ▸ Nat.le_refl _)⟩)
theorem sJ22_ensureCapacityInternal_4 (hk : 40 ≤ hK h a0) (hk2 : hK h a0 ≤ 49) : Rn r 153 4 [l0, l1, l2] [vR (some a0)] h Q ↔ Rn r 153 5 [l0, l1, l2] [vI (nI (hL h a0))] h Q := Rn_nx pg153 rfl (if_pos ⟨hk, hk2⟩)
theorem sJ22_ensureCapacityInternal_5 : Rn r 153 5 [some (vR z), l1, l2] [vI x0] h Q ↔ Rn r 153 6 [some (vR z), l1, l2] [vR z, vI x0] h Q := Rn_nx pg153 rfl rfl
theorem sJ22_ensureCapacityInternal_6 (hk : hK h a0 = 16) : Rn r 153 6 [l0, l1, l2] [vR (some a0), vI x1] h Q ↔ Rn r 153 9 [l0, l1, l2] [vI (hI h a0 1), vI x1] h Q := Rn_nx pg153 rfl (if_pos ⟨(hk ▸ Nat.le_refl _), (hk ▸ Nat.le_refl _)⟩)
theorem sJ22_ensureCapacityInternal_9 : Rn r 153 9 [l0, l1, l2] [vI x0, vI x1] h Q ↔ Rn r 153 10 [l0, l1, l2] [vI (x1 >>> (x0 &&& 31))] h Q := Rn_nx pg153 rfl rfl
theorem sJ22_ensureCapacityInternal_10 : Rn r 153 10 [l0, l1, l2] [vI x0] h Q ↔ Rn r 153 11 [l0, l1, some (vI x0)] [] h Q := Rn_nx pg153 rfl rfl
theorem sJ22_ensureCapacityInternal_11 : Rn r 153 11 [l0, some (vI x), l2] [] h Q ↔ Rn r 153 12 [l0, some (vI x), l2] [vI x] h Q := Rn_nx pg153 rfl rfl
theorem sJ22_ensureCapacityInternal_12 : Rn r 153 12 [l0, l1, some (vI x)] [vI x0] h Q ↔ Rn r 153 13 [l0, l1, some (vI x)] [vI x, vI x0] h Q := Rn_nx pg153 rfl rfl
theorem sJ22_ensureCapacityInternal_13 : Rn r 153 13 [l0, l1, l2] [vI x0, vI x1] h Q ↔ Rn r 153 14 [l0, l1, l2] [vI (x1 - x0)] h Q := Rn_nx pg153 rfl rfl
theorem sJ22_ensureCapacityInternal_14 : Rn r 153 14 [l0, l1, l2] [vI x0] h Q ↔ if x0 ≤ 0 then Rn r 153 38 [l0, l1, l2] [] h Q else Rn r 153 17 [l0, l1, l2] [] h Q := Rn_if pg153 rfl rfl rfl
theorem sJ22_ensureCapacityInternal_17 : Rn r 153 17 [some (vR z), l1, l2] [] h Q ↔ Rn r 153 18 [some (vR z), l1, l2] [vR z] h Q := Rn_nx pg153 rfl rfl
theorem sJ22_ensureCapacityInternal_18 : Rn r 153 18 [some (vR z), l1, l2] [vR z0] h Q ↔ Rn r 153 19 [some (vR z), l1, l2] [vR z, vR z0] h Q := Rn_nx pg153 rfl rfl
theorem sJ22_ensureCapacityInternal_19 (hk : hK h a0 = 16) : Rn r 153 19 [l0, l1, l2] [vR (some a0), vR z1] h Q ↔ Rn r 153 22 [l0, l1, l2] [vR (hR h a0 0), vR z1] h Q := Rn_nx pg153 rfl (if_pos ⟨(hk ▸ Nat.le_refl _), (hk ▸ Nat.le_refl _)⟩)
theorem sJ22_ensureCapacityInternal_22 : Rn r 153 22 [some (vR z), l1, l2] [vR z0, vR z1] h Q ↔ Rn r 153 23 [some (vR z), l1, l2] [vR z, vR z0, vR z1] h Q := Rn_nx pg153 rfl rfl
theorem sJ22_ensureCapacityInternal_23 : Rn r 153 23 [l0, some (vI x), l2] [vR z0, vR z1, vR z2] h Q ↔ Rn r 153 24 [l0, some (vI x), l2] [vI x, vR z0, vR z1, vR z2] h Q := Rn_nx pg153 rfl rfl
theorem sJ22_ensureCapacityInternal_24 (hk : hK h a1 = 16) : Rn r 153 24 [l0, l1, l2] [vI x0, vR (some a1), vR z2, vR z3] h Q ↔ Cl r 186 [vR (some a1), vI x0] h (Kt r 153 27 [l0, l1, l2] [vR z2, vR z3] Q) := Rn_call pg153 rfl (by simp only [am_exec, am_inv, am_pop, am_lk, hk]; rfl) pg186 rfl rfl rfl
theorem sJ22_ensureCapacityInternal_27 : Rn r 153 27 [some (vR z), l1, l2] [vI x0, vR z1, vR z2] h Q ↔ Rn r 153 28 [some (vR z), l1, l2] [vR z, vI x0, vR z1, vR z2] h Q := Rn_nx pg153 rfl rfl
theorem sJ22_ensureCapacityInternal_28 (hk : hK h a0 = 16) : Rn r 153 28 [l0, l1, l2] [vR (some a0), vI x1, vR z2, vR z3] h Q ↔ Rn r 153 31 [l0, l1, l2] [vI (hI h a0 1), vI x1, vR z2, vR z3] h Q := Rn_nx pg153 rfl (if_pos ⟨(hk ▸ Nat.le_refl _), (hk ▸ Nat.le_refl _)⟩)
theorem sJ22_ensureCapacityInternal_31 : Rn r 153 31 [l0, l1, l2] [vI x0, vI x1, vR z2, vR z3] h Q ↔ Rn r 153 32 [l0, l1, l2] [vI (x1 <<< (x0 &&& 31)), vR z2, vR z3] h Q := Rn_nx pg153 rfl rfl
theorem sJ22_ensureCapacityInternal_32 : Rn r 153 32 [l0, l1, l2] [vI x0, vR z1, vR z2] h Q ↔ Cl r 187 [vR z1, vI x0] h (Kt r 153 35 [l0, l1, l2] [vR z2] Q) := Rn_call pg153 rfl rfl pg187 rfl rfl rfl
theorem sJ22_ensureCapacityInternal_35 (hk : hK h a1 = 16) : Rn r 153 35 [l0, l1, l2] [vR z0, vR (some a1)] h Q ↔ Rn r 153 38 [l0, l1, l2] [] (putR h a1 0 z0) Q := Rn_nx pg153 rfl ((if_pos ⟨(hk ▸ Nat.le_refl _), (hk ▸ Nat.le_refl _)⟩).trans rfl)
theorem sJ22_ensureCapacityInternal_38 : Rn r 153 38 [l0, l1, l2] [] h Q ↔ Q (Sum.inl none) h := Rn_end pg153 rfl rfl
/-! 154 java/lang/AbstractStringBuilder.isLatin1()Z -/
theorem eJ22_isLatin1 : Cl r 154 [vR z0] h Q ↔ Rn r 154 0 [some (vR z0)] [] h Q := Cl_in pg154 rfl
theorem sJ22_isLatin1_0 : Rn r 154 0 [l0] [] h Q ↔ Rn r 154 3 [l0] [vI 1] h Q := Rn_nx pg154 rfl rfl
theorem sJ22_isLatin1_3 : Rn r 154 3 [l0] [vI x0] h Q ↔ if x0 = 0 then Rn r 154 17 [l0] [] h Q else Rn r 154 6 [l0] [] h Q := Rn_if pg154 rfl rfl rfl
theorem sJ22_isLatin1_6 : Rn r 154 6 [some (vR z)] [] h Q ↔ Rn r 154 7 [some (vR z)] [vR z] h Q := Rn_nx pg154 rfl rfl
theorem sJ22_isLatin1_7 (hk : hK h a0 = 16) : Rn r 154 7 [l0] [vR (some a0)] h Q ↔ Rn r 154 10 [l0] [vI (hI h a0 1)] h Q := Rn_nx pg154 rfl (if_pos ⟨(hk ▸ Nat.le_refl _), (hk ▸ Nat.le_refl _)⟩)
theorem sJ22_isLatin1_10 : Rn r 154 10 [l0] [vI x0] h Q ↔ if x0 ≠ 0 then Rn r 154 17 [l0] [] h Q else Rn r 154 13 [l0] [] h Q := Rn_if pg154 rfl rfl rfl
theorem sJ22_isLatin1_13 : Rn r 154 13 [l0] [] h Q ↔ Rn r 154 14 [l0] [vI 1] h Q := Rn_nx pg154 rfl rfl
theorem sJ22_isLatin1_14 : Rn r 154 14 [l0] [vI x0] h Q ↔ Rn r 154 18 [l0] [vI x0] h Q := Rn_nx pg154 rfl rfl
theorem sJ22_isLatin1_17 : Rn r 154 17 [l0] [] h Q ↔ Rn r 154 18 [l0] [vI 0] h Q := Rn_nx pg154 rfl rfl
theorem sJ22_isLatin1_18 (hf : am_fit 4 x0 = true) : Rn r 154 18 [l0] [vI x0] h Q ↔ Q (Sum.inl (some (vI x0))) h := Rn_end pg154 rfl (if_pos hf)
/-! 155 java/lang/StringLatin1.canEncode(C)Z -/
theorem eJ14_canEncode : Cl r 155 [vI x0] h Q ↔ Rn r 155 0 [some (vI x0)] [] h Q := Cl_in pg155 rfl
theorem sJ14_canEncode_0 : Rn r 155 0 [some (vI x)] [] h Q ↔ Rn r 155 1 [some (vI x)] [vI x] h Q := Rn_nx pg155 rfl rfl
theorem sJ14_canEncode_1 : Rn r 155 1 [l0] [vI x0] h Q ↔ Rn r 155 4 [l0] [vI 255, vI x0] h Q := Rn_nx pg155 rfl rfl
theorem sJ14_canEncode_4 : Rn r 155 4 [l0] [vI x0, vI x1] h Q ↔ if x0 < x1 then Rn r 155 11 [l0] [] h Q else Rn r 155 7 [l0] [] h Q := Rn_if pg155 rfl rfl rfl
theorem sJ14_canEncode_7 : Rn r 155 7 [l0] [] h Q ↔ Rn r 155 8 [l0] [vI 1] h Q := Rn_nx pg155 rfl rfl
theorem sJ14_canEncode_8 : Rn r 155 8 [l0] [vI x0] h Q ↔ Rn r 155 12 [l0] [vI x0] h Q := Rn_nx pg155 rfl rfl
theorem sJ14_canEncode_11 : Rn r 155 11 [l0] [] h Q ↔ Rn r 155 12 [l0] [vI 0] h Q := Rn_nx pg155 rfl rfl
theorem sJ14_canEncode_12 (hf : am_fit 4 x0 = true) : Rn r 155 12 [l0] [vI x0] h Q ↔ Q (Sum.inl (some (vI x0))) h := Rn_end pg155 rfl (if_pos hf)
/-! 156 java/lang/String.<init>(Ljava/lang/AbstractStringBuilder;Ljava/lang/Void;)V -/
theorem eJ13_init_2 : Cl r 156 [vR z0, vR z1, vR z2] h Q ↔ Rn r 156 0 [some (vR z0), some (vR z1), some (vR z2), none, none] [] h Q := Cl_in pg156 rfl
theorem sJ13_init_2_0 : Rn r 156 0 [some (vR z), l1, l2, l3, l4] [] h Q ↔ Rn r 156 1 [some (vR z), l1, l2, l3, l4] [vR z] h Q := Rn_nx pg156 rfl rfl
theorem sJ13_init_2_1 : Rn r 156 1 [l0, l1, l2, l3, l4] [vR (some a0)] h Q ↔ Rn r 156 4 [l0, l1, l2, l3, l4] [] h Q := Rn_nx pg156 rfl rfl
theorem sJ13_init_2_4 : Rn r 156 4 [l0, some (vR z), l2, l3, l4] [] h Q ↔ Rn r 156 5 [l0, some (vR z), l2, l3, l4] [vR z] h Q := Rn_nx pg156 rfl rfl
theorem sJ13_init_2_5 (hk : hK h a0 = 16) : Rn r 156 5 [l0, l1, l2, l3, l4] [vR (some a0)] h Q ↔ Cl r 188 [vR (some a0)] h (Kt r 156 8 [l0, l1, l2, l3, l4] [] Q) := Rn_call pg156 rfl (by simp only [am_exec, am_inv, am_pop, am_lk, hk]; rfl) pg188 rfl rfl rfl
theorem sJ13_init_2_8 : Rn r 156 8 [l0, l1, l2, l3, l4] [vR z0] h Q ↔ Rn r 156 9 [l0, l1, l2, some (vR z0), l4] [] h Q := Rn_nx pg156 rfl rfl
theorem sJ13_init_2_9 : Rn r 156 9 [l0, some (vR z), l2, l3, l4] [] h Q ↔ Rn r 156 10 [l0, some (vR z), l2, l3, l4] [vR z] h Q := Rn_nx pg156 rfl rfl
theorem sJ13_init_2_10 (hk : hK h a0 = 16) : Rn r 156 10 [l0, l1, l2, l3, l4] [vR (some a0)] h Q ↔ Cl r 189 [vR (some a0)] h (Kt r 156 13 [l0, l1, l2, l3, l4] [] Q) := Rn_call pg156 rfl (by simp only [am_exec, am_inv, am_pop, am_lk, hk]; rfl) pg189 rfl rfl rfl
theorem sJ13_init_2_13 : Rn r 156 13 [l0, l1, l2, l3, l4] [vI x0] h Q ↔ Rn r 156 15 [l0, l1, l2, l3, some (vI x0)] [] h Q := Rn_nx pg156 rfl rfl
theorem sJ13_init_2_15 : Rn r 156 15 [l0, some (vR z), l2, l3, l4] [] h Q ↔ Rn r 156 16 [l0, some (vR z), l2, l3, l4] [vR z] h Q := Rn_nx pg156 rfl rfl
theorem sJ13_init_2_16 (hk : hK h a0 = 16) : Rn r 156 16 [l0, l1, l2, l3, l4] [vR (some a0)] h Q ↔ Cl r 154 [vR (some a0)] h (Kt r 156 19 [l0, l1, l2, l3, l4] [] Q) := Rn_call pg156 rfl (by simp only [am_exec, am_inv, am_pop, am_lk, hk]; rfl) pg154 rfl rfl rfl
theorem sJ13_init_2_19 : Rn r 156 19 [l0, l1, l2, l3, l4] [vI x0] h Q ↔ if x0 = 0 then Rn r 156 41 [l0, l1, l2, l3, l4] [] h Q else Rn r 156 22 [l0, l1, l2, l3, l4] [] h Q := Rn_if pg156 rfl rfl rfl
theorem sJ13_init_2_22 : Rn r 156 22 [some (vR z), l1, l2, l3, l4] [] h Q ↔ Rn r 156 23 [some (vR z), l1, l2, l3, l4] [vR z] h Q := Rn_nx pg156 rfl rfl
theorem sJ13_init_2_23 : Rn r 156 23 [l0, l1, l2, l3, l4] [vR z0] h Q ↔ Rn r 156 24 [l0, l1, l2, l3, l4] [vI 0, vR z0] h Q := Rn_nx pg156 rfl rfl
theorem sJ13_init_2_24 (hk : hK h a1 = 10) (hf : am_fit 5 x0 = true) : Rn r 156 24 [l0, l1, l2, l3, l4] [vI x0, vR (some a1)] h Q ↔ Rn r 156 27 [l0, l1, l2, l3, l4] [] (putI h a1 1 x0) Q := Rn_nx pg156 rfl ((if_pos ⟨(hk ▸ Nat.le_refl _), (hk ▸ Nat.le_refl _)⟩).trans (if_pos hf))
theorem sJ13_init_2_27 : Rn r 156 27 [some (vR z), l1, l2, l3, l4] [] h Q ↔ Rn r 156 28 [some (vR z), l1, l2, l3, l4] [vR z] h Q := Rn_nx pg156 rfl rfl
theorem sJ13_init_2_28 : Rn r 156 28 [l0, l1, l2, some (vR z), l4] [vR z0] h Q ↔ Rn r 156 29 [l0, l1, l2, some (vR z), l4] [vR z, vR z0] h Q := Rn_nx pg156 rfl rfl
theorem sJ13_init_2_29 : Rn r 156 29 [l0, l1, l2, l3, l4] [vR z0, vR z1] h Q ↔ Rn r 156 30 [l0, l1, l2, l3, l4] [vI 0, vR z0, vR z1] h Q := Rn_nx pg156 rfl rfl
theorem sJ13_init_2_30 : Rn r 156 30 [l0, l1, l2, l3, some (vI x)] [vI x0, vR z1, vR z2] h Q ↔ Rn r 156 32 [l0, l1, l2, l3, some (vI x)] [vI x, vI x0, vR z1, vR z2] h Q := Rn_nx pg156 rfl rfl
theorem sJ13_init_2_32 : Rn r 156 32 [l0, l1, l2, l3, l4] [vI x0, vI x1, vR z2, vR z3] h Q ↔ Cl r 190 [vR z2, vI x1, vI x0] h (Kt r 156 35 [l0, l1, l2, l3, l4] [vR z3] Q) := Rn_call pg156 rfl rfl pg190 rfl rfl rfl
theorem sJ13_init_2_35 (hk : hK h a1 = 10) : Rn r 156 35 [l0, l1, l2, l3, l4] [vR z0, vR (some a1)] h Q ↔ Rn r 156 38 [l0, l1, l2, l3, l4] [] (putR h a1 0 z0) Q := Rn_nx pg156 rfl ((if_pos ⟨(hk ▸ Nat.le_refl _), (hk ▸ Nat.le_refl _)⟩).trans rfl)
theorem sJ13_init_2_38 : Rn r 156 38 [l0, l1, l2, l3, l4] [] h Q ↔ Rn r 156 97 [l0, l1, l2, l3, l4] [] h Q := Rn_nx pg156 rfl rfl
theorem sJ13_init_2_41 : Rn r 156 41 [l0, l1, l2, l3, l4] [] h Q ↔ Rn r 156 44 [l0, l1, l2, l3, l4] [vI 1] h Q := Rn_nx pg156 rfl rfl
theorem sJ13_init_2_44 : Rn r 156 44 [l0, l1, l2, l3, l4] [vI x0] h Q ↔ if x0 = 0 then Rn r 156 79 [l0, l1, l2, l3, l4] [] h Q else Rn r 156 47 [l0, l1, l2, l3, l4] [] h Q := Rn_if pg156 rfl rfl rfl
theorem sJ13_init_2_47 : Rn r 156 47 [l0, some (vR z), l2, l3, l4] [] h Q ↔ Rn r 156 48 [l0, some (vR z), l2, l3, l4] [vR z] h Q := Rn_nx pg156 rfl rfl
theorem sJ13_init_2_48 (hk : hK h a0 = 16) : Rn r 156 48 [l0, l1, l2, l3, l4] [vR (some a0)] h Q ↔ Rn r 156 51 [l0, l1, l2, l3, l4] [vI (hI h a0 2)] h Q := Rn_nx pg156 rfl (if_pos ⟨(hk ▸ Nat.le_refl _), (hk ▸ Nat.le_refl _)⟩)
theorem sJ13_init_2_51 : Rn r 156 51 [l0, l1, l2, l3, l4] [vI x0] h Q ↔ if x0 = 0 then Rn r 156 79 [l0, l1, l2, l3, l4] [] h Q else Rn r 156 54 [l0, l1, l2, l3, l4] [] h Q := Rn_if pg156 rfl rfl rfl
theorem sJ13_init_2_54 : Rn r 156 54 [some (vR z), l1, l2, l3, l4] [] h Q ↔ Rn r 156 55 [some (vR z), l1, l2, l3, l4] [vR z] h Q := Rn_nx pg156 rfl rfl
theorem sJ13_init_2_55 : Rn r 156 55 [l0, l1, l2, some (vR z), l4] [vR z0] h Q ↔ Rn r 156 56 [l0, l1, l2, some (vR z), l4] [vR z, vR z0] h Q := Rn_nx pg156 rfl rfl
theorem sJ13_init_2_56 : Rn r 156 56 [l0, l1, l2, l3, l4] [vR z0, vR z1] h Q ↔ Rn r 156 57 [l0, l1, l2, l3, l4] [vI 0, vR z0, vR z1] h Q := Rn_nx pg156 rfl rfl
theorem sJ13_init_2_57 : Rn r 156 57 [l0, l1, l2, l3, some (vI x)] [vI x0, vR z1, vR z2] h Q ↔ Rn r 156 59 [l0, l1, l2, l3, some (vI x)] [vI x, vI x0, vR z1, vR z2] h Q := Rn_nx pg156 rfl rfl
theorem sJ13_init_2_62 (hk : hK h a1 = 10) : Rn r 156 62 [l0, l1, l2, l3, l4] [vR z0, vR (some a1)] h Q ↔ Rn r 156 65 [l0, l1, l2, l3, l4] [] (putR h a1 0 z0) Q := Rn_nx pg156 rfl ((if_pos ⟨(hk ▸ Nat.le_refl _), (hk ▸ Nat.le_refl _)⟩).trans rfl)
theorem sJ13_init_2_65 : Rn r 156 65 [some (vR z), l1, l2, l3, l4] [] h Q ↔ Rn r 156 66 [some (vR z), l1, l2, l3, l4] [vR z] h Q := Rn_nx pg156 rfl rfl
theorem sJ13_init_2_66 : Rn r 156 66 [some (vR z), l1, l2, l3, l4] [vR z0] h Q ↔ Rn r 156 67 [some (vR z), l1, l2, l3, l4] [vR z, vR z0] h Q := Rn_nx pg156 rfl rfl
theorem sJ13_init_2_67 (hk : 10 ≤ hK h a0) (hk2 : hK h a0 ≤ 11) : Rn r 156 67 [l0, l1, l2, l3, l4] [vR (some a0), vR z1] h Q ↔ Rn r 156 70 [l0, l1, l2, l3, l4] [vR (hR h a0 0), vR z1] h Q := Rn_nx pg156 rfl (if_pos ⟨hk, hk2⟩)
theorem sJ13_init_2_70 : Rn r 156 70 [l0, l1, l2, l3, some (vI x)] [vR z0, vR z1] h Q ↔ Rn r 156 72 [l0, l1, l2, l3, some (vI x)] [vI x, vR z0, vR z1] h Q := Rn_nx pg156 rfl rfl
theorem sJ13_init_2_75 (hk : hK h a1 = 10) (hf : am_fit 5 x0 = true) : Rn r 156 75 [l0, l1, l2, l3, l4] [vI x0, vR (some a1)] h Q ↔ Rn r 156 78 [l0, l1, l2, l3, l4] [] (putI h a1 1 x0) Q := Rn_nx pg156 rfl ((if_pos ⟨(hk ▸ Nat.le_refl _), (hk ▸ Nat.le_refl _)⟩).trans (if_pos hf))
theorem sJ13_init_2_78 : Rn r 156 78 [l0, l1, l2, l3, l4] [] h Q ↔ Q (Sum.inl none) h := Rn_end pg156 rfl rfl
theorem sJ13_init_2_79 : Rn r 156 79 [some (vR z), l1, l2, l3, l4] [] h Q ↔ Rn r 156 80 [some (vR z), l1, l2, l3, l4] [vR z] h Q := Rn_nx pg156 rfl rfl
theorem sJ13_init_2_80 : Rn r 156 80 [l0, l1, l2, l3, l4] [vR z0] h Q ↔ Rn r 156 81 [l0, l1, l2, l3, l4] [vI 1, vR z0] h Q := Rn_nx pg156 rfl rfl
theorem sJ13_init_2_81 (hk : hK h a1 = 10) (hf : am_fit 5 x0 = true) : Rn r 156 81 [l0, l1, l2, l3, l4] [vI x0, vR (some a1)] h Q ↔ Rn r 156 84 [l0, l1, l2, l3, l4] [] (putI h a1 1 x0) Q := Rn_nx pg156 rfl ((if_pos ⟨(hk ▸ Nat.le_refl _), (hk ▸ Nat.le_refl _)⟩).trans (if_pos hf))
theorem sJ13_init_2_84 : Rn r 156 84 [some (vR z), l1, l2, l3, l4] [] h Q ↔ Rn r 156 85 [some (vR z), l1, l2, l3, l4] [vR z] h Q := Rn_nx pg156 rfl rfl
theorem sJ13_init_2_85 : Rn r 156 85 [l0, l1, l2, some (vR z), l4] [vR z0] h Q ↔ Rn r 156 86 [l0, l1, l2, some (vR z), l4] [vR z, vR z0] h Q := Rn_nx pg156 rfl rfl
theorem sJ13_init_2_86 : Rn r 156 86 [l0, l1, l2, l3, l4] [vR z0, vR z1] h Q ↔ Rn r 156 87 [l0, l1, l2, l3, l4] [vI 0, vR z0, vR z1] h Q := Rn_nx pg156 rfl rfl
theorem sJ13_init_2_87 : Rn r 156 87 [l0, l1, l2, l3, some (vI x)] [vI x0, vR z1, vR z2] h Q ↔ Rn r 156 89 [l0, l1, l2, l3, some (vI x)] [vI x, vI x0, vR z1, vR z2] h Q := Rn_nx pg156 rfl rfl
theorem sJ13_init_2_89 : Rn r 156 89 [l0, l1, l2, l3, l4] [vI x0, vI x1, vR z2, vR z3] h Q ↔ Rn r 156 90 [l0, l1, l2, l3, l4] [vI 1, vI x0, vI x1, vR z2, vR z3] h Q := Rn_nx pg156 rfl rfl
theorem sJ13_init_2_90 : Rn r 156 90 [l0, l1, l2, l3, l4] [vI x0, vI x1, vI x2, vR z3, vR z4] h Q ↔ Rn r 156 91 [l0, l1, l2, l3, l4] [vI (x1 <<< (x0 &&& 31)), vI x2, vR z3, vR z4] h Q := Rn_nx pg156 rfl rfl
theorem sJ13_init_2_91 : Rn r 156 91 [l0, l1, l2, l3, l4] [vI x0, vI x1, vR z2, vR z3] h Q ↔ Cl r 190 [vR z2, vI x1, vI x0] h (Kt r 156 94 [l0, l1, l2, l3, l4] [vR z3] Q) := Rn_call pg156 rfl rfl pg190 rfl rfl rfl
theorem sJ13_init_2_94 (hk : hK h a1 = 10) : Rn r 156 94 [l0, l1, l2, l3, l4] [vR z0, vR (some a1)] h Q ↔ Rn r 156 97 [l0, l1, l2, l3, l4] [] (putR h a1 0 z0) Q := Rn_nx pg156 rfl ((if_pos ⟨(hk ▸ Nat.le_refl _), (hk ▸ Nat.le_refl _)⟩).trans rfl)
theorem sJ13_init_2_97 : Rn r 156 97 [l0, l1, l2, l3, l4] [] h Q ↔ Q (Sum.inl none) h := Rn_end pg156 rfl rfl
/-! 157 java/util/HashMap.hash(Ljava/lang/Object;)I -/
theorem eJ7_hash : Cl r 157 [vR z0] h Q ↔ Rn r 157 0 [some (vR z0), none] [] h Q := Cl_in pg157 rfl
theorem sJ7_hash_0 : Rn r 157 0 [some (vR z), l1] [] h Q ↔ Rn r 157 1 [some (vR z), l1] [vR z] h Q := Rn_nx pg157 rfl rfl
theorem sJ7_hash_1 : Rn r 157 1 [l0, l1] [vR z0] h Q ↔ if z0 ≠ none then Rn r 157 8 [l0, l1] [] h Q else Rn r 157 4 [l0, l1] [] h Q := Rn_if pg157 rfl rfl rfl
theorem sJ7_hash_4 : Rn r 157 4 [l0, l1] [] h Q ↔ Rn r 157 5 [l0, l1] [vI 0] h Q := Rn_nx pg157 rfl rfl
theorem sJ7_hash_5 : Rn r 157 5 [l0, l1] [vI x0] h Q ↔ Rn r 157 19 [l0, l1] [vI x0] h Q := Rn_nx pg157 rfl rfl
theorem sJ7_hash_8 : Rn r 157 8 [some (vR z), l1] [] h Q ↔ Rn r 157 9 [some (vR z), l1] [vR z] h Q := Rn_nx pg157 rfl rfl
theorem sJ7_hash_9 (hk : 10 ≤ hK h a0) (hk2 : hK h a0 ≤ 11) : Rn r 157 9 [l0, l1] [vR (some a0)] h Q ↔ Cl r 191 [vR (some a0)] h (Kt r 157 12 [l0, l1] [] Q) := Rn_call pg157 rfl (by rcases am_rng2 hk hk2 with q | q <;> simp only [am_exec, am_inv, am_pop, am_lk, q] <;> rfl) pg191 rfl rfl rfl
theorem sJ7_hash_12 : Rn r 157 12 [l0, l1] [vI x0] h Q ↔ Rn r 157 13 [l0, l1] [vI x0, vI x0] h Q := Rn_nx pg157 rfl rfl
theorem sJ7_hash_13 : Rn r 157 13 [l0, l1] [vI x0, vI x1] h Q ↔ Rn r 157 14 [l0, some (vI x0)] [vI x1] h Q := Rn_nx pg157 rfl rfl
theorem sJ7_hash_14 : Rn r 157 14 [l0, some (vI x)] [vI x0] h Q ↔ Rn r 157 15 [l0, some (vI x)] [vI x, vI x0] h Q := Rn_nx pg157 rfl rfl
theorem sJ7_hash_15 : Rn r 157 15 [l0, l1] [vI x0, vI x1] h Q ↔ Rn r 157 17 [l0, l1] [vI 16, vI x0, vI x1] h Q := Rn_nx pg157 rfl rfl
theorem sJ7_hash_17 : Rn r 157 17 [l0, l1] [vI x0, vI x1, vI x2] h Q ↔ Rn r 157 18 [l0, l1] [vI ((x1.toUInt32 >>> (x0.toUInt32 &&& Int32.toUInt32 31)).toInt32), vI x2] h Q := Rn_nx pg157 rfl rfl
theorem sJ7_hash_18 : Rn r 157 18 [l0, l1] [vI x0, vI x1] h Q ↔ Rn r 157 19 [l0, l1] [vI (x1 ^^^ x0)] h Q := Rn_nx pg157 rfl rfl
theorem sJ7_hash_19 : Rn r 157 19 [l0, l1] [vI x0] h Q ↔ Q (Sum.inl (some (vI x0))) h := Rn_end pg157 rfl rfl
/-! 158 java/util/HashMap$TreeNode.getTreeNode(ILjava/lang/Object;)Ljava/util/HashMap$TreeNode; -/
theorem eJ21_getTreeNode : Cl r 158 [vR z0, vI x1, vR z2] h Q ↔ Rn r 158 0 [some (vR z0), some (vI x1), some (vR z2)] [] h Q := Cl_in pg158 rfl
theorem sJ21_getTreeNode_0 : Rn r 158 0 [some (vR z), l1, l2] [] h Q ↔ Rn r 158 1 [some (vR z), l1, l2] [vR z] h Q := Rn_nx pg158 rfl rfl
theorem sJ21_getTreeNode_1 (hk : hK h a0 = 13) : Rn r 158 1 [l0, l1, l2] [vR (some a0)] h Q ↔ Rn r 158 4 [l0, l1, l2] [vR (hR h a0 4)] h Q := Rn_nx pg158 rfl (if_pos ⟨(hk ▸ Nat.le_refl _), (hk ▸ Nat.le_refl _)⟩)
theorem sJ21_getTreeNode_4 : Rn r 158 4 [l0, l1, l2] [vR z0] h Q ↔ if z0 = none then Rn r 158 14 [l0, l1, l2] [] h Q else Rn r 158 7 [l0, l1, l2] [] h Q := Rn_if pg158 rfl rfl rfl
theorem sJ21_getTreeNode_7 : Rn r 158 7 [some (vR z), l1, l2] [] h Q ↔ Rn r 158 8 [some (vR z), l1, l2] [vR z] h Q := Rn_nx pg158 rfl rfl
theorem sJ21_getTreeNode_8 (hk : hK h a0 = 13) : Rn r 158 8 [l0, l1, l2] [vR (some a0)] h Q ↔ Cl r 192 [vR (some a0)] h (Kt r 158 11 [l0, l1, l2] [] Q) := Rn_call pg158 rfl (by simp only [am_exec, am_inv, am_pop, am_lk, hk]; rfl) pg192 rfl rfl rfl
theorem sJ21_getTreeNode_11 : Rn r 158 11 [l0, l1, l2] [vR z0] h Q ↔ Rn r 158 15 [l0, l1, l2] [vR z0] h Q := Rn_nx pg158 rfl rfl
theorem sJ21_getTreeNode_14 : Rn r 158 14 [some (vR z), l1, l2] [] h Q ↔ Rn r 158 15 [some (vR z), l1, l2] [vR z] h Q := Rn_nx pg158 rfl rfl
theorem sJ21_getTreeNode_15 : Rn r 158 15 [l0, some (vI x), l2] [vR z0] h Q ↔ Rn r 158 16 [l0, some (vI x), l2] [vI x, vR z0] h Q := Rn_nx pg158 rfl rfl
theorem sJ21_getTreeNode_16 : Rn r 158 16 [l0, l1, some (vR z)] [vI x0, vR z1] h Q ↔ Rn r 158 17 [l0, l1, some (vR z)] [vR z, vI x0, vR z1] h Q := Rn_nx pg158 rfl rfl
theorem sJ21_getTreeNode_17 : Rn r 158 17 [l0, l1, l2] [vR z0, vI x1, vR z2] h Q ↔ Rn r 158 18 [l0, l1, l2] [vR none, vR z0, vI x1, vR z2] h Q := Rn_nx pg158 rfl rfl
theorem sJ21_getTreeNode_18 (hk : hK h a3 = 13) : Rn (r + 1) 158 18 [l0, l1, l2] [vR z0, vR z1, vI x2, vR (some a3)] h Q ↔ Cl r 193 [vR (some a3), vI x2, vR z1, vR z0] h (Kt (r + 1) 158 21 [l0, l1, l2] [] Q) := Rn_call pg158 rfl (by simp only [am_exec, am_inv, am_pop, am_lk, hk]; rfl) pg193 rfl rfl rfl
theorem sJ21_getTreeNode_21 : Rn r 158 21 [l0, l1, l2] [vR z0] h Q ↔ Q (Sum.inl (some (vR z0))) h := Rn_end pg158 rfl rfl
/-! 159 ThrowRules$Walk.goes()Z -/
theorem eX5_goes : Cl r 159 [vR z0] h Q ↔ Rn r 159 0 [some (vR z0)] [] h Q := Cl_in pg159 rfl
theorem sX5_goes_0 : Rn r 159 0 [some (vR z)] [] h Q ↔ Rn r 159 1 [some (vR z)] [vR z] h Q := Rn_nx pg159 rfl rfl
theorem sX5_goes_1 (hk : hK h a0 = 14) : Rn r 159 1 [l0] [vR (some a0)] h Q ↔ Rn r 159 4 [l0] [vI (hI h a0 0)] h Q := Rn_nx pg159 rfl (if_pos ⟨(hk ▸ Nat.le_refl _), (hk ▸ Nat.le_refl _)⟩)
theorem sX5_goes_4 : Rn r 159 4 [l0] [vI x0] h Q ↔ if x0 ≠ 0 then Rn r 159 11 [l0] [] h Q else Rn r 159 7 [l0] [] h Q := Rn_if pg159 rfl rfl rfl
theorem sX5_goes_7 : Rn r 159 7 [l0] [] h Q ↔ Rn r 159 8 [l0] [vI 1] h Q := Rn_nx pg159 rfl rfl
theorem sX5_goes_8 : Rn r 159 8 [l0] [vI x0] h Q ↔ Rn r 159 12 [l0] [vI x0] h Q := Rn_nx pg159 rfl rfl
theorem sX5_goes_11 : Rn r 159 11 [l0] [] h Q ↔ Rn r 159 12 [l0] [vI 0] h Q := Rn_nx pg159 rfl rfl
theorem sX5_goes_12 (hf : am_fit 4 x0 = true) : Rn r 159 12 [l0] [vI x0] h Q ↔ Q (Sum.inl (some (vI x0))) h := Rn_end pg159 rfl (if_pos hf)
/-! 160 ThrowRules$Statement.step(LThrowRules$Walk;)V -/
theorem eX12_step : Cl r 160 [vR z0, vR z1] h Q ↔ Rn r 160 0 [some (vR z0), some (vR z1)] [] h Q := Cl_in pg160 rfl
theorem sX12_step_0 : Rn r 160 0 [l0, some (vR z)] [] h Q ↔ Rn r 160 1 [l0, some (vR z)] [vR z] h Q := Rn_nx pg160 rfl rfl
theorem sX12_step_1 (hk : hK h a0 = 14) : Rn r 160 1 [l0, l1] [vR (some a0)] h Q ↔ Cl r 194 [vR (some a0)] h (Kt r 160 4 [l0, l1] [] Q) := Rn_call pg160 rfl (by simp only [am_exec, am_inv, am_pop, am_lk, hk]; rfl) pg194 rfl rfl rfl
theorem sX12_step_4 : Rn r 160 4 [l0, l1] [vI x0] h Q ↔ if x0 = 0 then Rn r 160 12 [l0, l1] [] h Q else Rn r 160 7 [l0, l1] [] h Q := Rn_if pg160 rfl rfl rfl
theorem sX12_step_7 : Rn r 160 7 [some (vR z), l1] [] h Q ↔ Rn r 160 8 [some (vR z), l1] [vR z] h Q := Rn_nx pg160 rfl rfl
theorem sX12_step_8 : Rn r 160 8 [l0, some (vR z)] [vR z0] h Q ↔ Rn r 160 9 [l0, some (vR z)] [vR z, vR z0] h Q := Rn_nx pg160 rfl rfl
theorem sX12_step_9_k30 (hk : hK h a1 = 30) : Rn r 160 9 [l0, l1] [vR z0, vR (some a1)] h Q ↔ Cl r 195 [vR (some a1), vR z0] h (Kt r 160 12 [l0, l1] [] Q) := Rn_call pg160 rfl (by simp only [am_exec, am_inv, am_pop, am_lk, hk]; rfl) pg195 rfl rfl rfl
theorem sX12_step_9_k31 (hk : hK h a1 = 31) : Rn r 160 9 [l0, l1] [vR z0, vR (some a1)] h Q ↔ Cl r 196 [vR (some a1), vR z0] h (Kt r 160 12 [l0, l1] [] Q) := Rn_call pg160 rfl (by simp only [am_exec, am_inv, am_pop, am_lk, hk]; rfl) pg196 rfl rfl rfl
theorem sX12_step_9_k32 (hk : hK h a1 = 32) : Rn r 160 9 [l0, l1] [vR z0, vR (some a1)] h Q ↔ Cl r 197 [vR (some a1), vR z0] h (Kt r 160 12 [l0, l1] [] Q) := Rn_call pg160 rfl (by simp only [am_exec, am_inv, am_pop, am_lk, hk]; rfl) pg197 rfl rfl rfl
theorem sX12_step_9_k33 (hk : hK h a1 = 33) : Rn r 160 9 [l0, l1] [vR z0, vR (some a1)] h Q ↔ Cl r 198 [vR (some a1), vR z0] h (Kt r 160 12 [l0, l1] [] Q) := Rn_call pg160 rfl (by simp only [am_exec, am_inv, am_pop, am_lk, hk]; rfl) pg198 rfl rfl rfl
theorem sX12_step_9_k34 (hk : hK h a1 = 34) : Rn r 160 9 [l0, l1] [vR z0, vR (some a1)] h Q ↔ Cl r 199 [vR (some a1), vR z0] h (Kt r 160 12 [l0, l1] [] Q) := Rn_call pg160 rfl (by simp only [am_exec, am_inv, am_pop, am_lk, hk]; rfl) pg199 rfl rfl rfl
theorem sX12_step_9_k35 (hk : hK h a1 = 35) : Rn r 160 9 [l0, l1] [vR z0, vR (some a1)] h Q ↔ Cl r 200 [vR (some a1), vR z0] h (Kt r 160 12 [l0, l1] [] Q) := Rn_call pg160 rfl (by simp only [am_exec, am_inv, am_pop, am_lk, hk]; rfl) pg200 rfl rfl rfl
theorem sX12_step_9_k36 (hk : hK h a1 = 36) : Rn r 160 9 [l0, l1] [vR z0, vR (some a1)] h Q ↔ Cl r 201 [vR (some a1), vR z0] h (Kt r 160 12 [l0, l1] [] Q) := Rn_call pg160 rfl (by simp only [am_exec, am_inv, am_pop, am_lk, hk]; rfl) pg201 rfl rfl rfl
theorem sX12_step_9_k37 (hk : hK h a1 = 37) : Rn r 160 9 [l0, l1] [vR z0, vR (some a1)] h Q ↔ Cl r 202 [vR (some a1), vR z0] h (Kt r 160 12 [l0, l1] [] Q) := Rn_call pg160 rfl (by simp only [am_exec, am_inv, am_pop, am_lk, hk]; rfl) pg202 rfl rfl rfl
theorem sX12_step_9_k38 (hk : hK h a1 = 38) : Rn r 160 9 [l0, l1] [vR z0, vR (some a1)] h Q ↔ Cl r 203 [vR (some a1), vR z0] h (Kt r 160 12 [l0, l1] [] Q) := Rn_call pg160 rfl (by simp only [am_exec, am_inv, am_pop, am_lk, hk]; rfl) pg203 rfl rfl rfl
theorem sX12_step_12 : Rn r 160 12 [l0, l1] [] h Q ↔ Q (Sum.inl none) h := Rn_end pg160 rfl rfl
/-! 161 ThrowRulesModel.caughtBy(I)I -/
theorem eX6_caughtBy : Cl r 161 [vR z0, vI x1] h Q ↔ Rn r 161 0 [some (vR z0), some (vI x1), none, none] [] h Q := Cl_in pg161 rfl
theorem sX6_caughtBy_0 : Rn r 161 0 [l0, l1, l2, l3] [] h Q ↔ Rn r 161 1 [l0, l1, l2, l3] [vI 0] h Q := Rn_nx pg161 rfl rfl
theorem sX6_caughtBy_1 : Rn r 161 1 [l0, l1, l2, l3] [vI x0] h Q ↔ Rn r 161 2 [l0, l1, some (vI x0), l3] [] h Q := Rn_nx pg161 rfl rfl
theorem sX6_caughtBy_2 : Rn r 161 2 [l0, l1, l2, l3] [] h Q ↔ Rn r 161 3 [l0, l1, l2, l3] [vI 0] h Q := Rn_nx pg161 rfl rfl
theorem sX6_caughtBy_3 : Rn r 161 3 [l0, l1, l2, l3] [vI x0] h Q ↔ Rn r 161 4 [l0, l1, l2, some (vI x0)] [] h Q := Rn_nx pg161 rfl rfl
theorem sX6_caughtBy_4 : Rn r 161 4 [l0, l1, l2, some (vI x)] [] h Q ↔ Rn r 161 5 [l0, l1, l2, some (vI x)] [vI x] h Q := Rn_nx pg161 rfl rfl
theorem sX6_caughtBy_5 : Rn r 161 5 [some (vR z), l1, l2, l3] [vI x0] h Q ↔ Rn r 161 6 [some (vR z), l1, l2, l3] [vR z, vI x0] h Q := Rn_nx pg161 rfl rfl
theorem sX6_caughtBy_6 (hk : hK h a0 = 15) : Rn r 161 6 [l0, l1, l2, l3] [vR (some a0), vI x1] h Q ↔ Rn r 161 9 [l0, l1, l2, l3] [vR (hR h a0 37), vI x1] h Q := Rn_nx pg161 rfl (if_pos ⟨(hk ▸ Nat.le_refl _), (hk ▸ Nat.le_refl _)⟩)
theorem sX6_caughtBy_9 : Rn r 161 9 [l0, some (vI x), l2, l3] [vR z0, vI x1] h Q ↔ Rn r 161 10 [l0, some (vI x), l2, l3] [vI x, vR z0, vI x1] h Q := Rn_nx pg161 rfl rfl
theorem sX6_caughtBy_10 (hk : 40 ≤ hK h a1) (hk2 : hK h a1 ≤ 41) (hx : ¬ (x0 < 0 ∨ hL h a1 ≤ x0.toNatClampNeg)) : Rn r 161 10 [l0, l1, l2, l3] [vI x0, vR (some a1), vI x2] h Q ↔ Rn r 161 11 [l0, l1, l2, l3] [vI (hI h a1 x0.toNatClampNeg), vI x2] h Q := Rn_nx pg161 rfl ((if_pos ⟨hk, hk2⟩).trans (if_neg hx))
theorem sX6_caughtBy_11 : Rn r 161 11 [l0, l1, l2, l3] [vI x0, vI x1] h Q ↔ if x0 ≤ x1 then Rn r 161 32 [l0, l1, l2, l3] [] h Q else Rn r 161 14 [l0, l1, l2, l3] [] h Q := Rn_if pg161 rfl rfl rfl
theorem sX6_caughtBy_14 : Rn r 161 14 [l0, l1, some (vI x), l3] [] h Q ↔ Rn r 161 15 [l0, l1, some (vI x), l3] [vI x] h Q := Rn_nx pg161 rfl rfl
theorem sX6_caughtBy_15 : Rn r 161 15 [some (vR z), l1, l2, l3] [vI x0] h Q ↔ Rn r 161 16 [some (vR z), l1, l2, l3] [vR z, vI x0] h Q := Rn_nx pg161 rfl rfl
theorem sX6_caughtBy_16 : Rn r 161 16 [l0, some (vI x), l2, l3] [vR z0, vI x1] h Q ↔ Rn r 161 17 [l0, some (vI x), l2, l3] [vI x, vR z0, vI x1] h Q := Rn_nx pg161 rfl rfl
theorem sX6_caughtBy_17 : Rn r 161 17 [l0, l1, l2, some (vI x)] [vI x0, vR z1, vI x2] h Q ↔ Rn r 161 18 [l0, l1, l2, some (vI x)] [vI x, vI x0, vR z1, vI x2] h Q := Rn_nx pg161 rfl rfl
theorem sX6_caughtBy_18 (hk : hK h a2 = 15) : Rn r 161 18 [l0, l1, l2, l3] [vI x0, vI x1, vR (some a2), vI x3] h Q ↔ Cl r 111 [vR (some a2), vI x1, vI x0] h (Kt r 161 21 [l0, l1, l2, l3] [vI x3] Q) := Rn_call pg161 rfl (by simp only [am_exec, am_inv, am_pop, am_lk, hk]; rfl) pg111 rfl rfl rfl
theorem sX6_caughtBy_21 : Rn r 161 21 [l0, l1, l2, l3] [vI x0, vI x1] h Q ↔ Cl r 101 [vI x0] h (Kt r 161 24 [l0, l1, l2, l3] [vI x1] Q) := Rn_call pg161 rfl rfl pg101 rfl rfl rfl
theorem sX6_caughtBy_24 : Rn r 161 24 [l0, l1, l2, l3] [vI x0, vI x1] h Q ↔ Rn r 161 25 [l0, l1, l2, l3] [vI (x1 ||| x0)] h Q := Rn_nx pg161 rfl rfl
theorem sX6_caughtBy_25 : Rn r 161 25 [l0, l1, l2, l3] [vI x0] h Q ↔ Rn r 161 26 [l0, l1, some (vI x0), l3] [] h Q := Rn_nx pg161 rfl rfl
theorem sX6_caughtBy_26 : Rn r 161 26 [l0, l1, l2, some (vI x)] [] h Q ↔ Rn r 161 29 [l0, l1, l2, some (vI (x + 1))] [] h Q := Rn_nx pg161 rfl rfl
theorem sX6_caughtBy_29 : Rn r 161 29 [l0, l1, l2, l3] [] h Q ↔ Rn r 161 4 [l0, l1, l2, l3] [] h Q := Rn_nx pg161 rfl rfl
theorem sX6_caughtBy_32 : Rn r 161 32 [l0, l1, some (vI x), l3] [] h Q ↔ Rn r 161 33 [l0, l1, some (vI x), l3] [vI x] h Q := Rn_nx pg161 rfl rfl
theorem sX6_caughtBy_33 : Rn r 161 33 [l0, l1, l2, l3] [vI x0] h Q ↔ Q (Sum.inl (some (vI x0))) h := Rn_end pg161 rfl rfl
/-! 162 java/lang/Exception.<init>(Ljava/lang/String;Ljava/lang/Throwable;ZZ)V -/
theorem eJ1_init : Cl r 162 [vR z0, vR z1, vR z2, vI x3, vI x4] h Q ↔ Rn r 162 0 [some (vR z0), some (vR z1), some (vR z2), some (vI x3), some (vI x4)] [] h Q := Cl_in pg162 rfl
theorem sJ1_init_0 : Rn r 162 0 [some (vR z), l1, l2, l3, l4] [] h Q ↔ Rn r 162 1 [some (vR z), l1, l2, l3, l4] [vR z] h Q := Rn_nx pg162 rfl rfl
theorem sJ1_init_1 : Rn r 162 1 [l0, some (vR z), l2, l3, l4] [vR z0] h Q ↔ Rn r 162 2 [l0, some (vR z), l2, l3, l4] [vR z, vR z0] h Q := Rn_nx pg162 rfl rfl
theorem sJ1_init_2 : Rn r 162 2 [l0, l1, some (vR z), l3, l4] [vR z0, vR z1] h Q ↔ Rn r 162 3 [l0, l1, some (vR z), l3, l4] [vR z, vR z0, vR z1] h Q := Rn_nx pg162 rfl rfl
theorem sJ1_init_3 : Rn r 162 3 [l0, l1, l2, some (vI x), l4] [vR z0, vR z1, vR z2] h Q ↔ Rn r 162 4 [l0, l1, l2, some (vI x), l4] [vI x, vR z0, vR z1, vR z2] h Q := Rn_nx pg162 rfl rfl
theorem sJ1_init_4 : Rn r 162 4 [l0, l1, l2, l3, some (vI x)] [vI x0, vR z1, vR z2, vR z3] h Q ↔ Rn r 162 6 [l0, l1, l2, l3, some (vI x)] [vI x, vI x0, vR z1, vR z2, vR z3] h Q := Rn_nx pg162 rfl rfl
theorem sJ1_init_6 (hk : 0 < hK h a4) (hk2 : hK h a4 < 40) : Rn r 162 6 [l0, l1, l2, l3, l4] [vI x0, vI x1, vR z2, vR z3, vR (some a4)] h Q ↔ Cl r 204 [vR (some a4), vR z3, vR z2, vI x1, vI x0] h (Kt r 162 9 [l0, l1, l2, l3, l4] [] Q) := Rn_call pg162 rfl (if_pos ⟨hk, hk2⟩) pg204 rfl rfl rfl
theorem sJ1_init_9 : Rn r 162 9 [l0, l1, l2, l3, l4] [] h Q ↔ Q (Sum.inl none) h := Rn_end pg162 rfl rfl
/-! 163 java/util/AbstractCollection.<init>()V -/
theorem eJ3_init : Cl r 163 [vR z0] h Q ↔ Rn r 163 0 [some (vR z0)] [] h Q := Cl_in pg163 rfl
theorem sJ3_init_0 : Rn r 163 0 [some (vR z)] [] h Q ↔ Rn r 163 1 [some (vR z)] [vR z] h Q := Rn_nx pg163 rfl rfl
theorem sJ3_init_1 : Rn r 163 1 [l0] [vR (some a0)] h Q ↔ Rn r 163 4 [l0] [] h Q := Rn_nx pg163 rfl rfl
theorem sJ3_init_4 : Rn r 163 4 [l0] [] h Q ↔ Q (Sum.inl none) h := Rn_end pg163 rfl rfl
/-! 164 java/util/ArrayList.add(Ljava/lang/Object;[Ljava/lang/Object;I)V -/
theorem eJ5_add_2 : Cl r 164 [vR z0, vR z1, vR z2, vI x3] h Q ↔ Rn r 164 0 [some (vR z0), some (vR z1), some (vR z2), some (vI x3)] [] h Q := Cl_in pg164 rfl
theorem sJ5_add_2_0 : Rn r 164 0 [l0, l1, l2, some (vI x)] [] h Q ↔ Rn r 164 1 [l0, l1, l2, some (vI x)] [vI x] h Q := Rn_nx pg164 rfl rfl
theorem sJ5_add_2_1 : Rn r 164 1 [l0, l1, some (vR z), l3] [vI x0] h Q ↔ Rn r 164 2 [l0, l1, some (vR z), l3] [vR z, vI x0] h Q := Rn_nx pg164 rfl rfl
theorem sJ5_add_2_2 (hk : 40 ≤ hK h a0) (hk2 : hK h a0 ≤ 49) : Rn r 164 2 [l0, l1, l2, l3] [vR (some a0), vI x1] h Q ↔ Rn r 164 3 [l0, l1, l2, l3] [vI (nI (hL h a0)), vI x1] h Q := Rn_nx pg164 rfl (if_pos ⟨hk, hk2⟩)
theorem sJ5_add_2_3 : Rn r 164 3 [l0, l1, l2, l3] [vI x0, vI x1] h Q ↔ if x1 ≠ x0 then Rn r 164 11 [l0, l1, l2, l3] [] h Q else Rn r 164 6 [l0, l1, l2, l3] [] h Q := Rn_if pg164 rfl rfl rfl
theorem sJ5_add_2_6 : Rn r 164 6 [some (vR z), l1, l2, l3] [] h Q ↔ Rn r 164 7 [some (vR z), l1, l2, l3] [vR z] h Q := Rn_nx pg164 rfl rfl
theorem sJ5_add_2_7 (hk : hK h a0 = 4) : Rn r 164 7 [l0, l1, l2, l3] [vR (some a0)] h Q ↔ Cl r 205 [vR (some a0)] h (Kt r 164 10 [l0, l1, l2, l3] [] Q) := Rn_call pg164 rfl (by simp only [am_exec, am_inv, am_pop, am_lk, hk]; rfl) pg205 rfl rfl rfl
theorem sJ5_add_2_10 : Rn r 164 10 [l0, l1, l2, l3] [vR z0] h Q ↔ Rn r 164 11 [l0, l1, some (vR z0), l3] [] h Q := Rn_nx pg164 rfl rfl
theorem sJ5_add_2_11 : Rn r 164 11 [l0, l1, some (vR z), l3] [] h Q ↔ Rn r 164 12 [l0, l1, some (vR z), l3] [vR z] h Q := Rn_nx pg164 rfl rfl
theorem sJ5_add_2_12 : Rn r 164 12 [l0, l1, l2, some (vI x)] [vR z0] h Q ↔ Rn r 164 13 [l0, l1, l2, some (vI x)] [vI x, vR z0] h Q := Rn_nx pg164 rfl rfl
theorem sJ5_add_2_13 : Rn r 164 13 [l0, some (vR z), l2, l3] [vI x0, vR z1] h Q ↔ Rn r 164 14 [l0, some (vR z), l2, l3] [vR z, vI x0, vR z1] h Q := Rn_nx pg164 rfl rfl
theorem sJ5_add_2_14_n (hk : hK h a2 = 46 ∨ hK h a2 = 48) (hx : ¬ (x1 < 0 ∨ hL h a2 ≤ x1.toNatClampNeg)) : Rn r 164 14 [l0, l1, l2, l3] [vR none, vI x1, vR (some a2)] h Q ↔ Rn r 164 15 [l0, l1, l2, l3] [] (putR h a2 x1.toNatClampNeg none) Q := Rn_nx pg164 rfl ((if_pos hk).trans (if_neg hx))
theorem sJ5_add_2_14 (hk : (hK h a2 = 46 ∧ 0 < hK h a0 ∧ hK h a0 < 40) ∨ (hK h a2 = 48 ∧ 12 ≤ hK h a0 ∧ hK h a0 ≤ 13)) (hx : ¬ (x1 < 0 ∨ hL h a2 ≤ x1.toNatClampNeg)) : Rn r 164 14 [l0, l1, l2, l3] [vR (some a0), vI x1, vR (some a2)] h Q ↔ Rn r 164 15 [l0, l1, l2, l3] [] (putR h a2 x1.toNatClampNeg (some a0)) Q := Rn_nx pg164 rfl ((if_pos hk).trans (if_neg hx))
theorem sJ5_add_2_15 : Rn r 164 15 [some (vR z), l1, l2, l3] [] h Q ↔ Rn r 164 16 [some (vR z), l1, l2, l3] [vR z] h Q := Rn_nx pg164 rfl rfl
theorem sJ5_add_2_16 : Rn r 164 16 [l0, l1, l2, some (vI x)] [vR z0] h Q ↔ Rn r 164 17 [l0, l1, l2, some (vI x)] [vI x, vR z0] h Q := Rn_nx pg164 rfl rfl
theorem sJ5_add_2_17 : Rn r 164 17 [l0, l1, l2, l3] [vI x0, vR z1] h Q ↔ Rn r 164 18 [l0, l1, l2, l3] [vI 1, vI x0, vR z1] h Q := Rn_nx pg164 rfl rfl
theorem sJ5_add_2_18 : Rn r 164 18 [l0, l1, l2, l3] [vI x0, vI x1, vR z2] h Q ↔ Rn r 164 19 [l0, l1, l2, l3] [vI (x1 + x0), vR z2] h Q := Rn_nx pg164 rfl rfl
theorem sJ5_add_2_19 (hk : hK h a1 = 4) : Rn r 164 19 [l0, l1, l2, l3] [vI x0, vR (some a1)] h Q ↔ Rn r 164 22 [l0, l1, l2, l3] [] (putI h a1 2 x0) Q := Rn_nx pg164 rfl ((if_pos ⟨(hk ▸ Nat.le_refl _), (hk ▸ Nat.le_refl _)⟩).trans rfl)
theorem sJ5_add_2_22 : Rn r 164 22 [l0, l1, l2, l3] [] h Q ↔ Q (Sum.inl none) h := Rn_end pg164 rfl rfl
/-! 165 java/util/HashMap.putVal(ILjava/lang/Object;Ljava/lang/Object;ZZ)Ljava/lang/Object; -/
theorem eJ7_putVal : Cl r 165 [vR z0, vI x1, vR z2, vR z3, vI x4, vI x5] h Q ↔ Rn r 165 0 [some (vR z0), some (vI x1), some (vR z2), some (vR z3), some (vI x4), some (vI x5), none, none, none, none, none, none, none] [] h Q := Cl_in pg165 rfl
theorem sJ7_putVal_0 : Rn r 165 0 [some (vR z), l1, l2, l3, l4, l5, l6, l7, l8, l9, l10, l11, l12] [] h Q ↔ Rn r 165 1 [some (vR z), l1, l2, l3, l4, l5, l6, l7, l8, l9, l10, l11, l12] [vR z] h Q := Rn_nx pg165 rfl rfl
theorem sJ7_putVal_1 (hk : hK h a0 = 6) : Rn r 165 1 [l0, l1, l2, l3, l4, l5, l6, l7, l8, l9, l10, l11, l12] [vR (some a0)] h Q ↔ Rn r 165 4 [l0, l1, l2, l3, l4, l5, l6, l7, l8, l9, l10, l11, l12] [vR (hR h a0 2)] h Q := Rn_nx pg165 rfl (if_pos ⟨(hk ▸ Nat.le_refl _), (hk ▸ Nat.le_refl _)⟩)
theorem sJ7_putVal_4 : Rn r 165 4 [l0, l1, l2, l3, l4, l5, l6, l7, l8, l9, l10, l11, l12] [vR z0] h Q ↔ Rn r 165 5 [l0, l1, l2, l3, l4, l5, l6, l7, l8, l9, l10, l11, l12] [vR z0, vR z0] h Q := Rn_nx pg165 rfl rfl
theorem sJ7_putVal_5 : Rn r 165 5 [l0, l1, l2, l3, l4, l5, l6, l7, l8, l9, l10, l11, l12] [vR z0, vR z1] h Q ↔ Rn r 165 7 [l0, l1, l2, l3, l4, l5, some (vR z0), l7, l8, l9, l10, l11, l12] [vR z1] h Q := Rn_nx pg165 rfl rfl
theorem sJ7_putVal_7 : Rn r 165 7 [l0, l1, l2, l3, l4, l5, l6, l7, l8, l9, l10, l11, l12] [vR z0] h Q ↔ if z0 = none then Rn r 165 19 [l0, l1, l2, l3, l4, l5, l6, l7, l8, l9, l10, l11, l12] [] h Q else Rn r 165 10 [l0, l1, l2, l3, l4, l5, l6, l7, l8, l9, l10, l11, l12] [] h Q := Rn_if pg165 rfl rfl rfl
theorem sJ7_putVal_10 : Rn r 165 10 [l0, l1, l2, l3, l4, l5, some (vR z), l7, l8, l9, l10, l11, l12] [] h Q ↔ Rn r 165 12 [l0, l1, l2, l3, l4, l5, some (vR z), l7, l8, l9, l10, l11, l12] [vR z] h Q := Rn_nx pg165 rfl rfl
theorem sJ7_putVal_12 (hk : 40 ≤ hK h a0) (hk2 : hK h a0 ≤ 49) : Rn r 165 12 [l0, l1, l2, l3, l4, l5, l6, l7, l8, l9, l10, l11, l12] [vR (some a0)] h Q ↔ Rn r 165 13 [l0, l1, l2, l3, l4, l5, l6, l7, l8, l9, l10, l11, l12] [vI (nI (hL h a0))] h Q := Rn_nx pg165 rfl (if_pos ⟨hk, hk2⟩)
theorem sJ7_putVal_13 : Rn r 165 13 [l0, l1, l2, l3, l4, l5, l6, l7, l8, l9, l10, l11, l12] [vI x0] h Q ↔ Rn r 165 14 [l0, l1, l2, l3, l4, l5, l6, l7, l8, l9, l10, l11, l12] [vI x0, vI x0] h Q := Rn_nx pg165 rfl rfl
theorem sJ7_putVal_14 : Rn r 165 14 [l0, l1, l2, l3, l4, l5, l6, l7, l8, l9, l10, l11, l12] [vI x0, vI x1] h Q ↔ Rn r 165 16 [l0, l1, l2, l3, l4, l5, l6, l7, some (vI x0), l9, l10, l11, l12] [vI x1] h Q := Rn_nx pg165 rfl rfl
theorem sJ7_putVal_16 : Rn r 165 16 [l0, l1, l2, l3, l4, l5, l6, l7, l8, l9, l10, l11, l12] [vI x0] h Q ↔ if x0 ≠ 0 then Rn r 165 29 [l0, l1, l2, l3, l4, l5, l6, l7, l8, l9, l10, l11, l12] [] h Q else Rn r 165 19 [l0, l1, l2, l3, l4, l5, l6, l7, l8, l9, l10, l11, l12] [] h Q := Rn_if pg165 rfl rfl rfl
theorem sJ7_putVal_19 : Rn r 165 19 [some (vR z), l1, l2, l3, l4, l5, l6, l7, l8, l9, l10, l11, l12] [] h Q ↔ Rn r 165 20 [some (vR z), l1, l2, l3, l4, l5, l6, l7, l8, l9, l10, l11, l12] [vR z] h Q := Rn_nx pg165 rfl rfl
theorem sJ7_putVal_20 (hk : hK h a0 = 6) : Rn r 165 20 [l0, l1, l2, l3, l4, l5, l6, l7, l8, l9, l10, l11, l12] [vR (some a0)] h Q ↔ Cl r 206 [vR (some a0)] h (Kt r 165 23 [l0, l1, l2, l3, l4, l5, l6, l7, l8, l9, l10, l11, l12] [] Q) := Rn_call pg165 rfl (by simp only [am_exec, am_inv, am_pop, am_lk, hk]; rfl) pg206 rfl rfl rfl
theorem sJ7_putVal_23 : Rn r 165 23 [l0, l1, l2, l3, l4, l5, l6, l7, l8, l9, l10, l11, l12] [vR z0] h Q ↔ Rn r 165 24 [l0, l1, l2, l3, l4, l5, l6, l7, l8, l9, l10, l11, l12] [vR z0, vR z0] h Q := Rn_nx pg165 rfl rfl
theorem sJ7_putVal_24 : Rn r 165 24 [l0, l1, l2, l3, l4, l5, l6, l7, l8, l9, l10, l11, l12] [vR z0, vR z1] h Q ↔ Rn r 165 26 [l0, l1, l2, l3, l4, l5, some (vR z0), l7, l8, l9, l10, l11, l12] [vR z1] h Q := Rn_nx pg165 rfl rfl
theorem sJ7_putVal_26 (hk : 40 ≤ hK h a0) (hk2 : hK h a0 ≤ 49) : Rn r 165 26 [l0, l1, l2, l3, l4, l5, l6, l7, l8, l9, l10, l11, l12] [vR (some a0)] h Q ↔ Rn r 165 27 [l0, l1, l2, l3, l4, l5, l6, l7, l8, l9, l10, l11, l12] [vI (nI (hL h a0))] h Q := Rn_nx pg165 rfl (if_pos ⟨hk, hk2⟩)
theorem sJ7_putVal_27 : Rn r 165 27 [l0, l1, l2, l3, l4, l5, l6, l7, l8, l9, l10, l11, l12] [vI x0] h Q ↔ Rn r 165 29 [l0, l1, l2, l3, l4, l5, l6, l7, some (vI x0), l9, l10, l11, l12] [] h Q := Rn_nx pg165 rfl rfl
theorem sJ7_putVal_29 : Rn r 165 29 [l0, l1, l2, l3, l4, l5, some (vR z), l7, l8, l9, l10, l11, l12] [] h Q ↔ Rn r 165 31 [l0, l1, l2, l3, l4, l5, some (vR z), l7, l8, l9, l10, l11, l12] [vR z] h Q := Rn_nx pg165 rfl rfl
theorem sJ7_putVal_31 : Rn r 165 31 [l0, l1, l2, l3, l4, l5, l6, l7, some (vI x), l9, l10, l11, l12] [vR z0] h Q ↔ Rn r 165 33 [l0, l1, l2, l3, l4, l5, l6, l7, some (vI x), l9, l10, l11, l12] [vI x, vR z0] h Q := Rn_nx pg165 rfl rfl
theorem sJ7_putVal_33 : Rn r 165 33 [l0, l1, l2, l3, l4, l5, l6, l7, l8, l9, l10, l11, l12] [vI x0, vR z1] h Q ↔ Rn r 165 34 [l0, l1, l2, l3, l4, l5, l6, l7, l8, l9, l10, l11, l12] [vI 1, vI x0, vR z1] h Q := Rn_nx pg165 rfl rfl
theorem sJ7_putVal_34 : Rn r 165 34 [l0, l1, l2, l3, l4, l5, l6, l7, l8, l9, l10, l11, l12] [vI x0, vI x1, vR z2] h Q ↔ Rn r 165 35 [l0, l1, l2, l3, l4, l5, l6, l7, l8, l9, l10, l11, l12] [vI (x1 - x0), vR z2] h Q := Rn_nx pg165 rfl rfl
theorem sJ7_putVal_35 : Rn r 165 35 [l0, some (vI x), l2, l3, l4, l5, l6, l7, l8, l9, l10, l11, l12] [vI x0, vR z1] h Q ↔ Rn r 165 36 [l0, some (vI x), l2, l3, l4, l5, l6, l7, l8, l9, l10, l11, l12] [vI x, vI x0, vR z1] h Q := Rn_nx pg165 rfl rfl
theorem sJ7_putVal_36 : Rn r 165 36 [l0, l1, l2, l3, l4, l5, l6, l7, l8, l9, l10, l11, l12] [vI x0, vI x1, vR z2] h Q ↔ Rn r 165 37 [l0, l1, l2, l3, l4, l5, l6, l7, l8, l9, l10, l11, l12] [vI (x1 &&& x0), vR z2] h Q := Rn_nx pg165 rfl rfl
theorem sJ7_putVal_37 : Rn r 165 37 [l0, l1, l2, l3, l4, l5, l6, l7, l8, l9, l10, l11, l12] [vI x0, vR z1] h Q ↔ Rn r 165 38 [l0, l1, l2, l3, l4, l5, l6, l7, l8, l9, l10, l11, l12] [vI x0, vI x0, vR z1] h Q := Rn_nx pg165 rfl rfl
theorem sJ7_putVal_38 : Rn r 165 38 [l0, l1, l2, l3, l4, l5, l6, l7, l8, l9, l10, l11, l12] [vI x0, vI x1, vR z2] h Q ↔ Rn r 165 40 [l0, l1, l2, l3, l4, l5, l6, l7, l8, some (vI x0), l10, l11, l12] [vI x1, vR z2] h Q := Rn_nx pg165 rfl rfl
theorem sJ7_putVal_40 (hk : 46 ≤ hK h a1) (hk2 : hK h a1 ≤ 49) (hx : ¬ (x0 < 0 ∨ hL h a1 ≤ x0.toNatClampNeg)) : Rn r 165 40 [l0, l1, l2, l3, l4, l5, l6, l7, l8, l9, l10, l11, l12] [vI x0, vR (some a1)] h Q ↔ Rn r 165 41 [l0, l1, l2, l3, l4, l5, l6, l7, l8, l9, l10, l11, l12] [vR (hR h a1 x0.toNatClampNeg)] h Q := Rn_nx pg165 rfl ((if_pos ⟨hk, hk2⟩).trans (if_neg hx))
theorem sJ7_putVal_41 : Rn r 165 41 [l0, l1, l2, l3, l4, l5, l6, l7, l8, l9, l10, l11, l12] [vR z0] h Q ↔ Rn r 165 42 [l0, l1, l2, l3, l4, l5, l6, l7, l8, l9, l10, l11, l12] [vR z0, vR z0] h Q := Rn_nx pg165 rfl rfl
theorem sJ7_putVal_42 : Rn r 165 42 [l0, l1, l2, l3, l4, l5, l6, l7, l8, l9, l10, l11, l12] [vR z0, vR z1] h Q ↔ Rn r 165 44 [l0, l1, l2, l3, l4, l5, l6, some (vR z0), l8, l9, l10, l11, l12] [vR z1] h Q := Rn_nx pg165 rfl rfl
theorem sJ7_putVal_44 : Rn r 165 44 [l0, l1, l2, l3, l4, l5, l6, l7, l8, l9, l10, l11, l12] [vR z0] h Q ↔ if z0 ≠ none then Rn r 165 63 [l0, l1, l2, l3, l4, l5, l6, l7, l8, l9, l10, l11, l12] [] h Q else Rn r 165 47 [l0, l1, l2, l3, l4, l5, l6, l7, l8, l9, l10, l11, l12] [] h Q := Rn_if pg165 rfl rfl rfl
theorem sJ7_putVal_47 : Rn r 165 47 [l0, l1, l2, l3, l4, l5, some (vR z), l7, l8, l9, l10, l11, l12] [] h Q ↔ Rn r 165 49 [l0, l1, l2, l3, l4, l5, some (vR z), l7, l8, l9, l10, l11, l12] [vR z] h Q := Rn_nx pg165 rfl rfl
theorem sJ7_putVal_49 : Rn r 165 49 [l0, l1, l2, l3, l4, l5, l6, l7, l8, some (vI x), l10, l11, l12] [vR z0] h Q ↔ Rn r 165 51 [l0, l1, l2, l3, l4, l5, l6, l7, l8, some (vI x), l10, l11, l12] [vI x, vR z0] h Q := Rn_nx pg165 rfl rfl
theorem sJ7_putVal_51 : Rn r 165 51 [some (vR z), l1, l2, l3, l4, l5, l6, l7, l8, l9, l10, l11, l12] [vI x0, vR z1] h Q ↔ Rn r 165 52 [some (vR z), l1, l2, l3, l4, l5, l6, l7, l8, l9, l10, l11, l12] [vR z, vI x0, vR z1] h Q := Rn_nx pg165 rfl rfl
theorem sJ7_putVal_52 : Rn r 165 52 [l0, some (vI x), l2, l3, l4, l5, l6, l7, l8, l9, l10, l11, l12] [vR z0, vI x1, vR z2] h Q ↔ Rn r 165 53 [l0, some (vI x), l2, l3, l4, l5, l6, l7, l8, l9, l10, l11, l12] [vI x, vR z0, vI x1, vR z2] h Q := Rn_nx pg165 rfl rfl
theorem sJ7_putVal_53 : Rn r 165 53 [l0, l1, some (vR z), l3, l4, l5, l6, l7, l8, l9, l10, l11, l12] [vI x0, vR z1, vI x2, vR z3] h Q ↔ Rn r 165 54 [l0, l1, some (vR z), l3, l4, l5, l6, l7, l8, l9, l10, l11, l12] [vR z, vI x0, vR z1, vI x2, vR z3] h Q := Rn_nx pg165 rfl rfl
theorem sJ7_putVal_54 : Rn r 165 54 [l0, l1, l2, some (vR z), l4, l5, l6, l7, l8, l9, l10, l11, l12] [vR z0, vI x1, vR z2, vI x3, vR z4] h Q ↔ Rn r 165 55 [l0, l1, l2, some (vR z), l4, l5, l6, l7, l8, l9, l10, l11, l12] [vR z, vR z0, vI x1, vR z2, vI x3, vR z4] h Q := Rn_nx pg165 rfl rfl
theorem sJ7_putVal_55 : Rn r 165 55 [l0, l1, l2, l3, l4, l5, l6, l7, l8, l9, l10, l11, l12] [vR z0, vR z1, vI x2, vR z3, vI x4, vR z5] h Q ↔ Rn r 165 56 [l0, l1, l2, l3, l4, l5, l6, l7, l8, l9, l10, l11, l12] [vR none, vR z0, vR z1, vI x2, vR z3, vI x4, vR z5] h Q := Rn_nx pg165 rfl rfl
theorem sJ7_putVal_56 (hk : hK h a4 = 6) : Rn r 165 56 [l0, l1, l2, l3, l4, l5, l6, l7, l8, l9, l10, l11, l12] [vR z0, vR z1, vR z2, vI x3, vR (some a4), vI x5, vR z6] h Q ↔ Cl r 207 [vR (some a4), vI x3, vR z2, vR z1, vR z0] h (Kt r 165 59 [l0, l1, l2, l3, l4, l5, l6, l7, l8, l9, l10, l11, l12] [vI x5, vR z6] Q) := Rn_call pg165 rfl (by simp only [am_exec, am_inv, am_pop, am_lk, hk]; rfl) pg207 rfl rfl rfl
theorem sJ7_putVal_59_n (hk : hK h a2 = 46 ∨ hK h a2 = 48) (hx : ¬ (x1 < 0 ∨ hL h a2 ≤ x1.toNatClampNeg)) : Rn r 165 59 [l0, l1, l2, l3, l4, l5, l6, l7, l8, l9, l10, l11, l12] [vR none, vI x1, vR (some a2)] h Q ↔ Rn r 165 60 [l0, l1, l2, l3, l4, l5, l6, l7, l8, l9, l10, l11, l12] [] (putR h a2 x1.toNatClampNeg none) Q := Rn_nx pg165 rfl ((if_pos hk).trans (if_neg hx))
theorem sJ7_putVal_59 (hk : (hK h a2 = 46 ∧ 0 < hK h a0 ∧ hK h a0 < 40) ∨ (hK h a2 = 48 ∧ 12 ≤ hK h a0 ∧ hK h a0 ≤ 13)) (hx : ¬ (x1 < 0 ∨ hL h a2 ≤ x1.toNatClampNeg)) : Rn r 165 59 [l0, l1, l2, l3, l4, l5, l6, l7, l8, l9, l10, l11, l12] [vR (some a0), vI x1, vR (some a2)] h Q ↔ Rn r 165 60 [l0, l1, l2, l3, l4, l5, l6, l7, l8, l9, l10, l11, l12] [] (putR h a2 x1.toNatClampNeg (some a0)) Q := Rn_nx pg165 rfl ((if_pos hk).trans (if_neg hx))
theorem sJ7_putVal_60 : Rn r 165 60 [l0, l1, l2, l3, l4, l5, l6, l7, l8, l9, l10, l11, l12] [] h Q ↔ Rn r 165 259 [l0, l1, l2, l3, l4, l5, l6, l7, l8, l9, l10, l11, l12] [] h Q := Rn_nx pg165 rfl rfl
theorem sJ7_putVal_63 : Rn r 165 63 [l0, l1, l2, l3, l4, l5, l6, some (vR z), l8, l9, l10, l11, l12] [] h Q ↔ Rn r 165 65 [l0, l1, l2, l3, l4, l5, l6, some (vR z), l8, l9, l10, l11, l12] [vR z] h Q := Rn_nx pg165 rfl rfl
theorem sJ7_putVal_65 (hk : 12 ≤ hK h a0) (hk2 : hK h a0 ≤ 13) : Rn r 165 65 [l0, l1, l2, l3, l4, l5, l6, l7, l8, l9, l10, l11, l12] [vR (some a0)] h Q ↔ Rn r 165 68 [l0, l1, l2, l3, l4, l5, l6, l7, l8, l9, l10, l11, l12] [vI (hI h a0 0)] h Q := Rn_nx pg165 rfl (if_pos ⟨hk, hk2⟩)
theorem sJ7_putVal_68 : Rn r 165 68 [l0, some (vI x), l2, l3, l4, l5, l6, l7, l8, l9, l10, l11, l12] [vI x0] h Q ↔ Rn r 165 69 [l0, some (vI x), l2, l3, l4, l5, l6, l7, l8, l9, l10, l11, l12] [vI x, vI x0] h Q := Rn_nx pg165 rfl rfl
theorem sJ7_putVal_69 : Rn r 165 69 [l0, l1, l2, l3, l4, l5, l6, l7, l8, l9, l10, l11, l12] [vI x0, vI x1] h Q ↔ if x1 ≠ x0 then Rn r 165 104 [l0, l1, l2, l3, l4, l5, l6, l7, l8, l9, l10, l11, l12] [] h Q else Rn r 165 72 [l0, l1, l2, l3, l4, l5, l6, l7, l8, l9, l10, l11, l12] [] h Q := Rn_if pg165 rfl rfl rfl
theorem sJ7_putVal_72 : Rn r 165 72 [l0, l1, l2, l3, l4, l5, l6, some (vR z), l8, l9, l10, l11, l12] [] h Q ↔ Rn r 165 74 [l0, l1, l2, l3, l4, l5, l6, some (vR z), l8, l9, l10, l11, l12] [vR z] h Q := Rn_nx pg165 rfl rfl
theorem sJ7_putVal_74 (hk : 12 ≤ hK h a0) (hk2 : hK h a0 ≤ 13) : Rn r 165 74 [l0, l1, l2, l3, l4, l5, l6, l7, l8, l9, l10, l11, l12] [vR (some a0)] h Q ↔ Rn r 165 77 [l0, l1, l2, l3, l4, l5, l6, l7, l8, l9, l10, l11, l12] [vR (hR h a0 1)] h Q := Rn_nx pg165 rfl (if_pos ⟨hk, hk2⟩)
theorem sJ7_putVal_77 : Rn r 165 77 [l0, l1, l2, l3, l4, l5, l6, l7, l8, l9, l10, l11, l12] [vR z0] h Q ↔ Rn r 165 78 [l0, l1, l2, l3, l4, l5, l6, l7, l8, l9, l10, l11, l12] [vR z0, vR z0] h Q := Rn_nx pg165 rfl rfl
theorem sJ7_putVal_78 : Rn r 165 78 [l0, l1, l2, l3, l4, l5, l6, l7, l8, l9, l10, l11, l12] [vR z0, vR z1] h Q ↔ Rn r 165 80 [l0, l1, l2, l3, l4, l5, l6, l7, l8, l9, l10, some (vR z0), l12] [vR z1] h Q := Rn_nx pg165 rfl rfl
theorem sJ7_putVal_80 : Rn r 165 80 [l0, l1, some (vR z), l3, l4, l5, l6, l7, l8, l9, l10, l11, l12] [vR z0] h Q ↔ Rn r 165 81 [l0, l1, some (vR z), l3, l4, l5, l6, l7, l8, l9, l10, l11, l12] [vR z, vR z0] h Q := Rn_nx pg165 rfl rfl
theorem sJ7_putVal_81 : Rn r 165 81 [l0, l1, l2, l3, l4, l5, l6, l7, l8, l9, l10, l11, l12] [vR z0, vR z1] h Q ↔ if z1 = z0 then Rn r 165 97 [l0, l1, l2, l3, l4, l5, l6, l7, l8, l9, l10, l11, l12] [] h Q else Rn r 165 84 [l0, l1, l2, l3, l4, l5, l6, l7, l8, l9, l10, l11, l12] [] h Q := Rn_if pg165 rfl rfl rfl
theorem sJ7_putVal_84 : Rn r 165 84 [l0, l1, some (vR z), l3, l4, l5, l6, l7, l8, l9, l10, l11, l12] [] h Q ↔ Rn r 165 85 [l0, l1, some (vR z), l3, l4, l5, l6, l7, l8, l9, l10, l11, l12] [vR z] h Q := Rn_nx pg165 rfl rfl
theorem sJ7_putVal_85 : Rn r 165 85 [l0, l1, l2, l3, l4, l5, l6, l7, l8, l9, l10, l11, l12] [vR z0] h Q ↔ if z0 = none then Rn r 165 104 [l0, l1, l2, l3, l4, l5, l6, l7, l8, l9, l10, l11, l12] [] h Q else Rn r 165 88 [l0, l1, l2, l3, l4, l5, l6, l7, l8, l9, l10, l11, l12] [] h Q := Rn_if pg165 rfl rfl rfl
theorem sJ7_putVal_88 : Rn r 165 88 [l0, l1, some (vR z), l3, l4, l5, l6, l7, l8, l9, l10, l11, l12] [] h Q ↔ Rn r 165 89 [l0, l1, some (vR z), l3, l4, l5, l6, l7, l8, l9, l10, l11, l12] [vR z] h Q := Rn_nx pg165 rfl rfl
theorem sJ7_putVal_89 : Rn r 165 89 [l0, l1, l2, l3, l4, l5, l6, l7, l8, l9, l10, some (vR z), l12] [vR z0] h Q ↔ Rn r 165 91 [l0, l1, l2, l3, l4, l5, l6, l7, l8, l9, l10, some (vR z), l12] [vR z, vR z0] h Q := Rn_nx pg165 rfl rfl
theorem sJ7_putVal_91 (hk : 10 ≤ hK h a1) (hk2 : hK h a1 ≤ 11) : Rn r 165 91 [l0, l1, l2, l3, l4, l5, l6, l7, l8, l9, l10, l11, l12] [vR z0, vR (some a1)] h Q ↔ Cl r 125 [vR (some a1), vR z0] h (Kt r 165 94 [l0, l1, l2, l3, l4, l5, l6, l7, l8, l9, l10, l11, l12] [] Q) := Rn_call pg165 rfl (by rcases am_rng2 hk hk2 with q | q <;> simp only [am_exec, am_inv, am_pop, am_lk, q] <;> rfl) pg125 rfl rfl rfl
theorem sJ7_putVal_94 : Rn r 165 94 [l0, l1, l2, l3, l4, l5, l6, l7, l8, l9, l10, l11, l12] [vI x0] h Q ↔ if x0 = 0 then Rn r 165 104 [l0, l1, l2, l3, l4, l5, l6, l7, l8, l9, l10, l11, l12] [] h Q else Rn r 165 97 [l0, l1, l2, l3, l4, l5, l6, l7, l8, l9, l10, l11, l12] [] h Q := Rn_if pg165 rfl rfl rfl
theorem sJ7_putVal_97 : Rn r 165 97 [l0, l1, l2, l3, l4, l5, l6, some (vR z), l8, l9, l10, l11, l12] [] h Q ↔ Rn r 165 99 [l0, l1, l2, l3, l4, l5, l6, some (vR z), l8, l9, l10, l11, l12] [vR z] h Q := Rn_nx pg165 rfl rfl
theorem sJ7_putVal_99 : Rn r 165 99 [l0, l1, l2, l3, l4, l5, l6, l7, l8, l9, l10, l11, l12] [vR z0] h Q ↔ Rn r 165 101 [l0, l1, l2, l3, l4, l5, l6, l7, l8, l9, some (vR z0), l11, l12] [] h Q := Rn_nx pg165 rfl rfl
theorem sJ7_putVal_101 : Rn r 165 101 [l0, l1, l2, l3, l4, l5, l6, l7, l8, l9, l10, l11, l12] [] h Q ↔ Rn r 165 222 [l0, l1, l2, l3, l4, l5, l6, l7, l8, l9, l10, l11, l12] [] h Q := Rn_nx pg165 rfl rfl
theorem sJ7_putVal_104 : Rn r 165 104 [l0, l1, l2, l3, l4, l5, l6, some (vR z), l8, l9, l10, l11, l12] [] h Q ↔ Rn r 165 106 [l0, l1, l2, l3, l4, l5, l6, some (vR z), l8, l9, l10, l11, l12] [vR z] h Q := Rn_nx pg165 rfl rfl
theorem sJ7_putVal_106_n : Rn r 165 106 [l0, l1, l2, l3, l4, l5, l6, l7, l8, l9, l10, l11, l12] [vR none] h Q ↔ Rn r 165 109 [l0, l1, l2, l3, l4, l5, l6, l7, l8, l9, l10, l11, l12] [vI 0] h Q := Rn_nx pg165 rfl rfl
theorem sJ7_putVal_106 (hk : hK h a0 ∈ [13]) : Rn r 165 106 [l0, l1, l2, l3, l4, l5, l6, l7, l8, l9, l10, l11, l12] [vR (some a0)] h Q ↔ Rn r 165 109 [l0, l1, l2, l3, l4, l5, l6, l7, l8, l9, l10, l11, l12] [vI 1] h Q := Rn_nx pg165 rfl (if_pos hk)
theorem sJ7_putVal_106_f (hk : hK h a0 ∉ [13]) (hk2 : am_look (hK h a0) [(12, 0)] = some 0) : Rn r 165 106 [l0, l1, l2, l3, l4, l5, l6, l7, l8, l9, l10, l11, l12] [vR (some a0)] h Q ↔ Rn r 165 109 [l0, l1, l2, l3, l4, l5, l6, l7, l8, l9, l10, l11, l12] [vI 0] h Q := Rn_nx pg165 rfl ((if_neg hk).trans (by rw [hk2]; rfl))
theorem sJ7_putVal_109 : Rn r 165 109 [l0, l1, l2, l3, l4, l5, l6, l7, l8, l9, l10, l11, l12] [vI x0] h Q ↔ if x0 = 0 then Rn r 165 131 [l0, l1, l2, l3, l4, l5, l6, l7, l8, l9, l10, l11, l12] [] h Q else Rn r 165 112 [l0, l1, l2, l3, l4, l5, l6, l7, l8, l9, l10, l11, l12] [] h Q := Rn_if pg165 rfl rfl rfl
theorem sJ7_putVal_112 : Rn r 165 112 [l0, l1, l2, l3, l4, l5, l6, some (vR z), l8, l9, l10, l11, l12] [] h Q ↔ Rn r 165 114 [l0, l1, l2, l3, l4, l5, l6, some (vR z), l8, l9, l10, l11, l12] [vR z] h Q := Rn_nx pg165 rfl rfl
theorem sJ7_putVal_114_n : Rn r 165 114 [l0, l1, l2, l3, l4, l5, l6, l7, l8, l9, l10, l11, l12] [vR none] h Q ↔ Rn r 165 117 [l0, l1, l2, l3, l4, l5, l6, l7, l8, l9, l10, l11, l12] [vR none] h Q := Rn_nx pg165 rfl rfl
theorem sJ7_putVal_114 (hk : hK h a0 ∈ [13]) : Rn r 165 114 [l0, l1, l2, l3, l4, l5, l6, l7, l8, l9, l10, l11, l12] [vR (some a0)] h Q ↔ Rn r 165 117 [l0, l1, l2, l3, l4, l5, l6, l7, l8, l9, l10, l11, l12] [vR (some a0)] h Q := Rn_nx pg165 rfl (if_pos hk)
theorem sJ7_putVal_117 : Rn r 165 117 [some (vR z), l1, l2, l3, l4, l5, l6, l7, l8, l9, l10, l11, l12] [vR z0] h Q ↔ Rn r 165 118 [some (vR z), l1, l2, l3, l4, l5, l6, l7, l8, l9, l10, l11, l12] [vR z, vR z0] h Q := Rn_nx pg165 rfl rfl
theorem sJ7_putVal_118 : Rn r 165 118 [l0, l1, l2, l3, l4, l5, some (vR z), l7, l8, l9, l10, l11, l12] [vR z0, vR z1] h Q ↔ Rn r 165 120 [l0, l1, l2, l3, l4, l5, some (vR z), l7, l8, l9, l10, l11, l12] [vR z, vR z0, vR z1] h Q := Rn_nx pg165 rfl rfl
theorem sJ7_putVal_120 : Rn r 165 120 [l0, some (vI x), l2, l3, l4, l5, l6, l7, l8, l9, l10, l11, l12] [vR z0, vR z1, vR z2] h Q ↔ Rn r 165 121 [l0, some (vI x), l2, l3, l4, l5, l6, l7, l8, l9, l10, l11, l12] [vI x, vR z0, vR z1, vR z2] h Q := Rn_nx pg165 rfl rfl
theorem sJ7_putVal_121 : Rn r 165 121 [l0, l1, some (vR z), l3, l4, l5, l6, l7, l8, l9, l10, l11, l12] [vI x0, vR z1, vR z2, vR z3] h Q ↔ Rn r 165 122 [l0, l1, some (vR z), l3, l4, l5, l6, l7, l8, l9, l10, l11, l12] [vR z, vI x0, vR z1, vR z2, vR z3] h Q := Rn_nx pg165 rfl rfl
theorem sJ7_putVal_122 : Rn r 165 122 [l0, l1, l2, some (vR z), l4, l5, l6, l7, l8, l9, l10, l11, l12] [vR z0, vI x1, vR z2, vR z3, vR z4] h Q ↔ Rn r 165 123 [l0, l1, l2, some (vR z), l4, l5, l6, l7, l8, l9, l10, l11, l12] [vR z, vR z0, vI x1, vR z2, vR z3, vR z4] h Q := Rn_nx pg165 rfl rfl
theorem sJ7_putVal_123 (hk : hK h a5 = 13) : Rn r 165 123 [l0, l1, l2, l3, l4, l5, l6, l7, l8, l9, l10, l11, l12] [vR z0, vR z1, vI x2, vR z3, vR z4, vR (some a5)] h Q ↔ Cl r 208 [vR (some a5), vR z4, vR z3, vI x2, vR z1, vR z0] h (Kt r 165 126 [l0, l1, l2, l3, l4, l5, l6, l7, l8, l9, l10, l11, l12] [] Q) := Rn_call pg165 rfl (by simp only [am_exec, am_inv, am_pop, am_lk, hk]; rfl) pg208 rfl rfl rfl
theorem sJ7_putVal_126 : Rn r 165 126 [l0, l1, l2, l3, l4, l5, l6, l7, l8, l9, l10, l11, l12] [vR z0] h Q ↔ Rn r 165 128 [l0, l1, l2, l3, l4, l5, l6, l7, l8, l9, some (vR z0), l11, l12] [] h Q := Rn_nx pg165 rfl rfl
theorem sJ7_putVal_128 : Rn r 165 128 [l0, l1, l2, l3, l4, l5, l6, l7, l8, l9, l10, l11, l12] [] h Q ↔ Rn r 165 222 [l0, l1, l2, l3, l4, l5, l6, l7, l8, l9, l10, l11, l12] [] h Q := Rn_nx pg165 rfl rfl
theorem sJ7_putVal_131 : Rn r 165 131 [l0, l1, l2, l3, l4, l5, l6, l7, l8, l9, l10, l11, l12] [] h Q ↔ Rn r 165 132 [l0, l1, l2, l3, l4, l5, l6, l7, l8, l9, l10, l11, l12] [vI 0] h Q := Rn_nx pg165 rfl rfl
theorem sJ7_putVal_132 : Rn r 165 132 [l0, l1, l2, l3, l4, l5, l6, l7, l8, l9, l10, l11, l12] [vI x0] h Q ↔ Rn r 165 134 [l0, l1, l2, l3, l4, l5, l6, l7, l8, l9, l10, l11, some (vI x0)] [] h Q := Rn_nx pg165 rfl rfl
theorem sJ7_putVal_134 : Rn r 165 134 [l0, l1, l2, l3, l4, l5, l6, some (vR z), l8, l9, l10, l11, l12] [] h Q ↔ Rn r 165 136 [l0, l1, l2, l3, l4, l5, l6, some (vR z), l8, l9, l10, l11, l12] [vR z] h Q := Rn_nx pg165 rfl rfl
theorem sJ7_putVal_136 (hk : 12 ≤ hK h a0) (hk2 : hK h a0 ≤ 13) : Rn r 165 136 [l0, l1, l2, l3, l4, l5, l6, l7, l8, l9, l10, l11, l12] [vR (some a0)] h Q ↔ Rn r 165 139 [l0, l1, l2, l3, l4, l5, l6, l7, l8, l9, l10, l11, l12] [vR (hR h a0 3)] h Q := Rn_nx pg165 rfl (if_pos ⟨hk, hk2⟩)
theorem sJ7_putVal_139 : Rn r 165 139 [l0, l1, l2, l3, l4, l5, l6, l7, l8, l9, l10, l11, l12] [vR z0] h Q ↔ Rn r 165 140 [l0, l1, l2, l3, l4, l5, l6, l7, l8, l9, l10, l11, l12] [vR z0, vR z0] h Q := Rn_nx pg165 rfl rfl
theorem sJ7_putVal_140 : Rn r 165 140 [l0, l1, l2, l3, l4, l5, l6, l7, l8, l9, l10, l11, l12] [vR z0, vR z1] h Q ↔ Rn r 165 142 [l0, l1, l2, l3, l4, l5, l6, l7, l8, l9, some (vR z0), l11, l12] [vR z1] h Q := Rn_nx pg165 rfl rfl
theorem sJ7_putVal_142 : Rn r 165 142 [l0, l1, l2, l3, l4, l5, l6, l7, l8, l9, l10, l11, l12] [vR z0] h Q ↔ if z0 ≠ none then Rn r 165 175 [l0, l1, l2, l3, l4, l5, l6, l7, l8, l9, l10, l11, l12] [] h Q else Rn r 165 145 [l0, l1, l2, l3, l4, l5, l6, l7, l8, l9, l10, l11, l12] [] h Q := Rn_if pg165 rfl rfl rfl
theorem sJ7_putVal_145 : Rn r 165 145 [l0, l1, l2, l3, l4, l5, l6, some (vR z), l8, l9, l10, l11, l12] [] h Q ↔ Rn r 165 147 [l0, l1, l2, l3, l4, l5, l6, some (vR z), l8, l9, l10, l11, l12] [vR z] h Q := Rn_nx pg165 rfl rfl
theorem sJ7_putVal_147 : Rn r 165 147 [some (vR z), l1, l2, l3, l4, l5, l6, l7, l8, l9, l10, l11, l12] [vR z0] h Q ↔ Rn r 165 148 [some (vR z), l1, l2, l3, l4, l5, l6, l7, l8, l9, l10, l11, l12] [vR z, vR z0] h Q := Rn_nx pg165 rfl rfl
theorem sJ7_putVal_148 : Rn r 165 148 [l0, some (vI x), l2, l3, l4, l5, l6, l7, l8, l9, l10, l11, l12] [vR z0, vR z1] h Q ↔ Rn r 165 149 [l0, some (vI x), l2, l3, l4, l5, l6, l7, l8, l9, l10, l11, l12] [vI x, vR z0, vR z1] h Q := Rn_nx pg165 rfl rfl
theorem sJ7_putVal_149 : Rn r 165 149 [l0, l1, some (vR z), l3, l4, l5, l6, l7, l8, l9, l10, l11, l12] [vI x0, vR z1, vR z2] h Q ↔ Rn r 165 150 [l0, l1, some (vR z), l3, l4, l5, l6, l7, l8, l9, l10, l11, l12] [vR z, vI x0, vR z1, vR z2] h Q := Rn_nx pg165 rfl rfl
theorem sJ7_putVal_150 : Rn r 165 150 [l0, l1, l2, some (vR z), l4, l5, l6, l7, l8, l9, l10, l11, l12] [vR z0, vI x1, vR z2, vR z3] h Q ↔ Rn r 165 151 [l0, l1, l2, some (vR z), l4, l5, l6, l7, l8, l9, l10, l11, l12] [vR z, vR z0, vI x1, vR z2, vR z3] h Q := Rn_nx pg165 rfl rfl
theorem sJ7_putVal_151 : Rn r 165 151 [l0, l1, l2, l3, l4, l5, l6, l7, l8, l9, l10, l11, l12] [vR z0, vR z1, vI x2, vR z3, vR z4] h Q ↔ Rn r 165 152 [l0, l1, l2, l3, l4, l5, l6, l7, l8, l9, l10, l11, l12] [vR none, vR z0, vR z1, vI x2, vR z3, vR z4] h Q := Rn_nx pg165 rfl rfl
theorem sJ7_putVal_152 (hk : hK h a4 = 6) : Rn r 165 152 [l0, l1, l2, l3, l4, l5, l6, l7, l8, l9, l10, l11, l12] [vR z0, vR z1, vR z2, vI x3, vR (some a4), vR z5] h Q ↔ Cl r 207 [vR (some a4), vI x3, vR z2, vR z1, vR z0] h (Kt r 165 155 [l0, l1, l2, l3, l4, l5, l6, l7, l8, l9, l10, l11, l12] [vR z5] Q) := Rn_call pg165 rfl (by simp only [am_exec, am_inv, am_pop, am_lk, hk]; rfl) pg207 rfl rfl rfl
theorem sJ7_putVal_155 (hk : 12 ≤ hK h a1) (hk2 : hK h a1 ≤ 13) : Rn r 165 155 [l0, l1, l2, l3, l4, l5, l6, l7, l8, l9, l10, l11, l12] [vR z0, vR (some a1)] h Q ↔ Rn r 165 158 [l0, l1, l2, l3, l4, l5, l6, l7, l8, l9, l10, l11, l12] [] (putR h a1 3 z0) Q := Rn_nx pg165 rfl ((if_pos ⟨hk, hk2⟩).trans rfl)
theorem sJ7_putVal_158 : Rn r 165 158 [l0, l1, l2, l3, l4, l5, l6, l7, l8, l9, l10, l11, some (vI x)] [] h Q ↔ Rn r 165 160 [l0, l1, l2, l3, l4, l5, l6, l7, l8, l9, l10, l11, some (vI x)] [vI x] h Q := Rn_nx pg165 rfl rfl
theorem sJ7_putVal_160 : Rn r 165 160 [l0, l1, l2, l3, l4, l5, l6, l7, l8, l9, l10, l11, l12] [vI x0] h Q ↔ Rn r 165 162 [l0, l1, l2, l3, l4, l5, l6, l7, l8, l9, l10, l11, l12] [vI 7, vI x0] h Q := Rn_nx pg165 rfl rfl
theorem sJ7_putVal_162 : Rn r 165 162 [l0, l1, l2, l3, l4, l5, l6, l7, l8, l9, l10, l11, l12] [vI x0, vI x1] h Q ↔ if x1 < x0 then Rn r 165 222 [l0, l1, l2, l3, l4, l5, l6, l7, l8, l9, l10, l11, l12] [] h Q else Rn r 165 165 [l0, l1, l2, l3, l4, l5, l6, l7, l8, l9, l10, l11, l12] [] h Q := Rn_if pg165 rfl rfl rfl
theorem sJ7_putVal_165 : Rn r 165 165 [some (vR z), l1, l2, l3, l4, l5, l6, l7, l8, l9, l10, l11, l12] [] h Q ↔ Rn r 165 166 [some (vR z), l1, l2, l3, l4, l5, l6, l7, l8, l9, l10, l11, l12] [vR z] h Q := Rn_nx pg165 rfl rfl
theorem sJ7_putVal_166 : Rn r 165 166 [l0, l1, l2, l3, l4, l5, some (vR z), l7, l8, l9, l10, l11, l12] [vR z0] h Q ↔ Rn r 165 168 [l0, l1, l2, l3, l4, l5, some (vR z), l7, l8, l9, l10, l11, l12] [vR z, vR z0] h Q := Rn_nx pg165 rfl rfl
theorem sJ7_putVal_168 : Rn r 165 168 [l0, some (vI x), l2, l3, l4, l5, l6, l7, l8, l9, l10, l11, l12] [vR z0, vR z1] h Q ↔ Rn r 165 169 [l0, some (vI x), l2, l3, l4, l5, l6, l7, l8, l9, l10, l11, l12] [vI x, vR z0, vR z1] h Q := Rn_nx pg165 rfl rfl
theorem sJ7_putVal_169 (hk : hK h a2 = 6) : Rn r 165 169 [l0, l1, l2, l3, l4, l5, l6, l7, l8, l9, l10, l11, l12] [vI x0, vR z1, vR (some a2)] h Q ↔ Cl r 209 [vR (some a2), vR z1, vI x0] h (Kt r 165 172 [l0, l1, l2, l3, l4, l5, l6, l7, l8, l9, l10, l11, l12] [] Q) := Rn_call pg165 rfl (by simp only [am_exec, am_inv, am_pop, am_lk, hk]; rfl) pg209 rfl rfl rfl
theorem sJ7_putVal_172 : Rn r 165 172 [l0, l1, l2, l3, l4, l5, l6, l7, l8, l9, l10, l11, l12] [] h Q ↔ Rn r 165 222 [l0, l1, l2, l3, l4, l5, l6, l7, l8, l9, l10, l11, l12] [] h Q := Rn_nx pg165 rfl rfl
theorem sJ7_putVal_175 : Rn r 165 175 [l0, l1, l2, l3, l4, l5, l6, l7, l8, l9, some (vR z), l11, l12] [] h Q ↔ Rn r 165 177 [l0, l1, l2, l3, l4, l5, l6, l7, l8, l9, some (vR z), l11, l12] [vR z] h Q := Rn_nx pg165 rfl rfl
theorem sJ7_putVal_177 (hk : 12 ≤ hK h a0) (hk2 : hK h a0 ≤ 13) : Rn r 165 177 [l0, l1, l2, l3, l4, l5, l6, l7, l8, l9, l10, l11, l12] [vR (some a0)] h Q ↔ Rn r 165 180 [l0, l1, l2, l3, l4, l5, l6, l7, l8, l9, l10, l11, l12] [vI (hI h a0 0)] h Q := Rn_nx pg165 rfl (if_pos ⟨hk, hk2⟩)
theorem sJ7_putVal_180 : Rn r 165 180 [l0, some (vI x), l2, l3, l4, l5, l6, l7, l8, l9, l10, l11, l12] [vI x0] h Q ↔ Rn r 165 181 [l0, some (vI x), l2, l3, l4, l5, l6, l7, l8, l9, l10, l11, l12] [vI x, vI x0] h Q := Rn_nx pg165 rfl rfl
theorem sJ7_putVal_181 : Rn r 165 181 [l0, l1, l2, l3, l4, l5, l6, l7, l8, l9, l10, l11, l12] [vI x0, vI x1] h Q ↔ if x1 ≠ x0 then Rn r 165 212 [l0, l1, l2, l3, l4, l5, l6, l7, l8, l9, l10, l11, l12] [] h Q else Rn r 165 184 [l0, l1, l2, l3, l4, l5, l6, l7, l8, l9, l10, l11, l12] [] h Q := Rn_if pg165 rfl rfl rfl
theorem sJ7_putVal_184 : Rn r 165 184 [l0, l1, l2, l3, l4, l5, l6, l7, l8, l9, some (vR z), l11, l12] [] h Q ↔ Rn r 165 186 [l0, l1, l2, l3, l4, l5, l6, l7, l8, l9, some (vR z), l11, l12] [vR z] h Q := Rn_nx pg165 rfl rfl
theorem sJ7_putVal_186 (hk : 12 ≤ hK h a0) (hk2 : hK h a0 ≤ 13) : Rn r 165 186 [l0, l1, l2, l3, l4, l5, l6, l7, l8, l9, l10, l11, l12] [vR (some a0)] h Q ↔ Rn r 165 189 [l0, l1, l2, l3, l4, l5, l6, l7, l8, l9, l10, l11, l12] [vR (hR h a0 1)] h Q := Rn_nx pg165 rfl (if_pos ⟨hk, hk2⟩)
theorem sJ7_putVal_189 : Rn r 165 189 [l0, l1, l2, l3, l4, l5, l6, l7, l8, l9, l10, l11, l12] [vR z0] h Q ↔ Rn r 165 190 [l0, l1, l2, l3, l4, l5, l6, l7, l8, l9, l10, l11, l12] [vR z0, vR z0] h Q := Rn_nx pg165 rfl rfl
theorem sJ7_putVal_190 : Rn r 165 190 [l0, l1, l2, l3, l4, l5, l6, l7, l8, l9, l10, l11, l12] [vR z0, vR z1] h Q ↔ Rn r 165 192 [l0, l1, l2, l3, l4, l5, l6, l7, l8, l9, l10, some (vR z0), l12] [vR z1] h Q := Rn_nx pg165 rfl rfl
theorem sJ7_putVal_192 : Rn r 165 192 [l0, l1, some (vR z), l3, l4, l5, l6, l7, l8, l9, l10, l11, l12] [vR z0] h Q ↔ Rn r 165 193 [l0, l1, some (vR z), l3, l4, l5, l6, l7, l8, l9, l10, l11, l12] [vR z, vR z0] h Q := Rn_nx pg165 rfl rfl
theorem sJ7_putVal_193 : Rn r 165 193 [l0, l1, l2, l3, l4, l5, l6, l7, l8, l9, l10, l11, l12] [vR z0, vR z1] h Q ↔ if z1 = z0 then Rn r 165 222 [l0, l1, l2, l3, l4, l5, l6, l7, l8, l9, l10, l11, l12] [] h Q else Rn r 165 196 [l0, l1, l2, l3, l4, l5, l6, l7, l8, l9, l10, l11, l12] [] h Q := Rn_if pg165 rfl rfl rfl
theorem sJ7_putVal_196 : Rn r 165 196 [l0, l1, some (vR z), l3, l4, l5, l6, l7, l8, l9, l10, l11, l12] [] h Q ↔ Rn r 165 197 [l0, l1, some (vR z), l3, l4, l5, l6, l7, l8, l9, l10, l11, l12] [vR z] h Q := Rn_nx pg165 rfl rfl
theorem sJ7_putVal_197 : Rn r 165 197 [l0, l1, l2, l3, l4, l5, l6, l7, l8, l9, l10, l11, l12] [vR z0] h Q ↔ if z0 = none then Rn r 165 212 [l0, l1, l2, l3, l4, l5, l6, l7, l8, l9, l10, l11, l12] [] h Q else Rn r 165 200 [l0, l1, l2, l3, l4, l5, l6, l7, l8, l9, l10, l11, l12] [] h Q := Rn_if pg165 rfl rfl rfl
theorem sJ7_putVal_200 : Rn r 165 200 [l0, l1, some (vR z), l3, l4, l5, l6, l7, l8, l9, l10, l11, l12] [] h Q ↔ Rn r 165 201 [l0, l1, some (vR z), l3, l4, l5, l6, l7, l8, l9, l10, l11, l12] [vR z] h Q := Rn_nx pg165 rfl rfl
theorem sJ7_putVal_201 : Rn r 165 201 [l0, l1, l2, l3, l4, l5, l6, l7, l8, l9, l10, some (vR z), l12] [vR z0] h Q ↔ Rn r 165 203 [l0, l1, l2, l3, l4, l5, l6, l7, l8, l9, l10, some (vR z), l12] [vR z, vR z0] h Q := Rn_nx pg165 rfl rfl
theorem sJ7_putVal_203 (hk : 10 ≤ hK h a1) (hk2 : hK h a1 ≤ 11) : Rn r 165 203 [l0, l1, l2, l3, l4, l5, l6, l7, l8, l9, l10, l11, l12] [vR z0, vR (some a1)] h Q ↔ Cl r 125 [vR (some a1), vR z0] h (Kt r 165 206 [l0, l1, l2, l3, l4, l5, l6, l7, l8, l9, l10, l11, l12] [] Q) := Rn_call pg165 rfl (by rcases am_rng2 hk hk2 with q | q <;> simp only [am_exec, am_inv, am_pop, am_lk, q] <;> rfl) pg125 rfl rfl rfl
theorem sJ7_putVal_206 : Rn r 165 206 [l0, l1, l2, l3, l4, l5, l6, l7, l8, l9, l10, l11, l12] [vI x0] h Q ↔ if x0 = 0 then Rn r 165 212 [l0, l1, l2, l3, l4, l5, l6, l7, l8, l9, l10, l11, l12] [] h Q else Rn r 165 209 [l0, l1, l2, l3, l4, l5, l6, l7, l8, l9, l10, l11, l12] [] h Q := Rn_if pg165 rfl rfl rfl
theorem sJ7_putVal_209 : Rn r 165 209 [l0, l1, l2, l3, l4, l5, l6, l7, l8, l9, l10, l11, l12] [] h Q ↔ Rn r 165 222 [l0, l1, l2, l3, l4, l5, l6, l7, l8, l9, l10, l11, l12] [] h Q := Rn_nx pg165 rfl rfl
theorem sJ7_putVal_212 : Rn r 165 212 [l0, l1, l2, l3, l4, l5, l6, l7, l8, l9, some (vR z), l11, l12] [] h Q ↔ Rn r 165 214 [l0, l1, l2, l3, l4, l5, l6, l7, l8, l9, some (vR z), l11, l12] [vR z] h Q := Rn_nx pg165 rfl rfl
theorem sJ7_putVal_214 : Rn r 165 214 [l0, l1, l2, l3, l4, l5, l6, l7, l8, l9, l10, l11, l12] [vR z0] h Q ↔ Rn r 165 216 [l0, l1, l2, l3, l4, l5, l6, some (vR z0), l8, l9, l10, l11, l12] [] h Q := Rn_nx pg165 rfl rfl
theorem sJ7_putVal_216 : Rn r 165 216 [l0, l1, l2, l3, l4, l5, l6, l7, l8, l9, l10, l11, some (vI x)] [] h Q ↔ Rn r 165 219 [l0, l1, l2, l3, l4, l5, l6, l7, l8, l9, l10, l11, some (vI (x + 1))] [] h Q := Rn_nx pg165 rfl rfl
theorem sJ7_putVal_219 : Rn r 165 219 [l0, l1, l2, l3, l4, l5, l6, l7, l8, l9, l10, l11, l12] [] h Q ↔ Rn r 165 134 [l0, l1, l2, l3, l4, l5, l6, l7, l8, l9, l10, l11, l12] [] h Q := Rn_nx pg165 rfl rfl
theorem sJ7_putVal_222 : Rn r 165 222 [l0, l1, l2, l3, l4, l5, l6, l7, l8, l9, some (vR z), l11, l12] [] h Q ↔ Rn r 165 224 [l0, l1, l2, l3, l4, l5, l6, l7, l8, l9, some (vR z), l11, l12] [vR z] h Q := Rn_nx pg165 rfl rfl
theorem sJ7_putVal_224 : Rn r 165 224 [l0, l1, l2, l3, l4, l5, l6, l7, l8, l9, l10, l11, l12] [vR z0] h Q ↔ if z0 = none then Rn r 165 259 [l0, l1, l2, l3, l4, l5, l6, l7, l8, l9, l10, l11, l12] [] h Q else Rn r 165 227 [l0, l1, l2, l3, l4, l5, l6, l7, l8, l9, l10, l11, l12] [] h Q := Rn_if pg165 rfl rfl rfl
theorem sJ7_putVal_227 : Rn r 165 227 [l0, l1, l2, l3, l4, l5, l6, l7, l8, l9, some (vR z), l11, l12] [] h Q ↔ Rn r 165 229 [l0, l1, l2, l3, l4, l5, l6, l7, l8, l9, some (vR z), l11, l12] [vR z] h Q := Rn_nx pg165 rfl rfl
theorem sJ7_putVal_229 (hk : 12 ≤ hK h a0) (hk2 : hK h a0 ≤ 13) : Rn r 165 229 [l0, l1, l2, l3, l4, l5, l6, l7, l8, l9, l10, l11, l12] [vR (some a0)] h Q ↔ Rn r 165 232 [l0, l1, l2, l3, l4, l5, l6, l7, l8, l9, l10, l11, l12] [vR (hR h a0 2)] h Q := Rn_nx pg165 rfl (if_pos ⟨hk, hk2⟩)
theorem sJ7_putVal_232 : Rn r 165 232 [l0, l1, l2, l3, l4, l5, l6, l7, l8, l9, l10, l11, l12] [vR z0] h Q ↔ Rn r 165 234 [l0, l1, l2, l3, l4, l5, l6, l7, l8, l9, l10, l11, some (vR z0)] [] h Q := Rn_nx pg165 rfl rfl
theorem sJ7_putVal_234 : Rn r 165 234 [l0, l1, l2, l3, some (vI x), l5, l6, l7, l8, l9, l10, l11, l12] [] h Q ↔ Rn r 165 236 [l0, l1, l2, l3, some (vI x), l5, l6, l7, l8, l9, l10, l11, l12] [vI x] h Q := Rn_nx pg165 rfl rfl
theorem sJ7_putVal_236 : Rn r 165 236 [l0, l1, l2, l3, l4, l5, l6, l7, l8, l9, l10, l11, l12] [vI x0] h Q ↔ if x0 = 0 then Rn r 165 244 [l0, l1, l2, l3, l4, l5, l6, l7, l8, l9, l10, l11, l12] [] h Q else Rn r 165 239 [l0, l1, l2, l3, l4, l5, l6, l7, l8, l9, l10, l11, l12] [] h Q := Rn_if pg165 rfl rfl rfl
theorem sJ7_putVal_239 : Rn r 165 239 [l0, l1, l2, l3, l4, l5, l6, l7, l8, l9, l10, l11, some (vR z)] [] h Q ↔ Rn r 165 241 [l0, l1, l2, l3, l4, l5, l6, l7, l8, l9, l10, l11, some (vR z)] [vR z] h Q := Rn_nx pg165 rfl rfl
theorem sJ7_putVal_241 : Rn r 165 241 [l0, l1, l2, l3, l4, l5, l6, l7, l8, l9, l10, l11, l12] [vR z0] h Q ↔ if z0 ≠ none then Rn r 165 250 [l0, l1, l2, l3, l4, l5, l6, l7, l8, l9, l10, l11, l12] [] h Q else Rn r 165 244 [l0, l1, l2, l3, l4, l5, l6, l7, l8, l9, l10, l11, l12] [] h Q := Rn_if pg165 rfl rfl rfl
theorem sJ7_putVal_244 : Rn r 165 244 [l0, l1, l2, l3, l4, l5, l6, l7, l8, l9, some (vR z), l11, l12] [] h Q ↔ Rn r 165 246 [l0, l1, l2, l3, l4, l5, l6, l7, l8, l9, some (vR z), l11, l12] [vR z] h Q := Rn_nx pg165 rfl rfl
theorem sJ7_putVal_246 : Rn r 165 246 [l0, l1, l2, some (vR z), l4, l5, l6, l7, l8, l9, l10, l11, l12] [vR z0] h Q ↔ Rn r 165 247 [l0, l1, l2, some (vR z), l4, l5, l6, l7, l8, l9, l10, l11, l12] [vR z, vR z0] h Q := Rn_nx pg165 rfl rfl
theorem sJ7_putVal_247 (hk : 12 ≤ hK h a1) (hk2 : hK h a1 ≤ 13) : Rn r 165 247 [l0, l1, l2, l3, l4, l5, l6, l7, l8, l9, l10, l11, l12] [vR z0, vR (some a1)] h Q ↔ Rn r 165 250 [l0, l1, l2, l3, l4, l5, l6, l7, l8, l9, l10, l11, l12] [] (putR h a1 2 z0) Q := Rn_nx pg165 rfl ((if_pos ⟨hk, hk2⟩).trans rfl)
theorem sJ7_putVal_250 : Rn r 165 250 [some (vR z), l1, l2, l3, l4, l5, l6, l7, l8, l9, l10, l11, l12] [] h Q ↔ Rn r 165 251 [some (vR z), l1, l2, l3, l4, l5, l6, l7, l8, l9, l10, l11, l12] [vR z] h Q := Rn_nx pg165 rfl rfl
theorem sJ7_putVal_251 : Rn r 165 251 [l0, l1, l2, l3, l4, l5, l6, l7, l8, l9, some (vR z), l11, l12] [vR z0] h Q ↔ Rn r 165 253 [l0, l1, l2, l3, l4, l5, l6, l7, l8, l9, some (vR z), l11, l12] [vR z, vR z0] h Q := Rn_nx pg165 rfl rfl
theorem sJ7_putVal_253 (hk : hK h a1 = 6) : Rn r 165 253 [l0, l1, l2, l3, l4, l5, l6, l7, l8, l9, l10, l11, l12] [vR z0, vR (some a1)] h Q ↔ Cl r 210 [vR (some a1), vR z0] h (Kt r 165 256 [l0, l1, l2, l3, l4, l5, l6, l7, l8, l9, l10, l11, l12] [] Q) := Rn_call pg165 rfl (by simp only [am_exec, am_inv, am_pop, am_lk, hk]; rfl) pg210 rfl rfl rfl
theorem sJ7_putVal_256 : Rn r 165 256 [l0, l1, l2, l3, l4, l5, l6, l7, l8, l9, l10, l11, some (vR z)] [] h Q ↔ Rn r 165 258 [l0, l1, l2, l3, l4, l5, l6, l7, l8, l9, l10, l11, some (vR z)] [vR z] h Q := Rn_nx pg165 rfl rfl
theorem sJ7_putVal_258 : Rn r 165 258 [l0, l1, l2, l3, l4, l5, l6, l7, l8, l9, l10, l11, l12] [vR z0] h Q ↔ Q (Sum.inl (some (vR z0))) h := Rn_end pg165 rfl rfl
theorem sJ7_putVal_259 : Rn r 165 259 [some (vR z), l1, l2, l3, l4, l5, l6, l7, l8, l9, l10, l11, l12] [] h Q ↔ Rn r 165 260 [some (vR z), l1, l2, l3, l4, l5, l6, l7, l8, l9, l10, l11, l12] [vR z] h Q := Rn_nx pg165 rfl rfl
theorem sJ7_putVal_260 : Rn r 165 260 [l0, l1, l2, l3, l4, l5, l6, l7, l8, l9, l10, l11, l12] [vR z0] h Q ↔ Rn r 165 261 [l0, l1, l2, l3, l4, l5, l6, l7, l8, l9, l10, l11, l12] [vR z0, vR z0] h Q := Rn_nx pg165 rfl rfl
theorem sJ7_putVal_261 (hk : hK h a0 = 6) : Rn r 165 261 [l0, l1, l2, l3, l4, l5, l6, l7, l8, l9, l10, l11, l12] [vR (some a0), vR z1] h Q ↔ Rn r 165 264 [l0, l1, l2, l3, l4, l5, l6, l7, l8, l9, l10, l11, l12] [vI (hI h a0 5), vR z1] h Q := Rn_nx pg165 rfl (if_pos ⟨(hk ▸ Nat.le_refl _), (hk ▸ Nat.le_refl _)⟩)
theorem sJ7_putVal_264 : Rn r 165 264 [l0, l1, l2, l3, l4, l5, l6, l7, l8, l9, l10, l11, l12] [vI x0, vR z1] h Q ↔ Rn r 165 265 [l0, l1, l2, l3, l4, l5, l6, l7, l8, l9, l10, l11, l12] [vI 1, vI x0, vR z1] h Q := Rn_nx pg165 rfl rfl
theorem sJ7_putVal_265 : Rn r 165 265 [l0, l1, l2, l3, l4, l5, l6, l7, l8, l9, l10, l11, l12] [vI x0, vI x1, vR z2] h Q ↔ Rn r 165 266 [l0, l1, l2, l3, l4, l5, l6, l7, l8, l9, l10, l11, l12] [vI (x1 + x0), vR z2] h Q := Rn_nx pg165 rfl rfl
theorem sJ7_putVal_266 (hk : hK h a1 = 6) : Rn r 165 266 [l0, l1, l2, l3, l4, l5, l6, l7, l8, l9, l10, l11, l12] [vI x0, vR (some a1)] h Q ↔ Rn r 165 269 [l0, l1, l2, l3, l4, l5, l6, l7, l8, l9, l10, l11, l12] [] (putI h a1 5 x0) Q := Rn_nx pg165 rfl ((if_pos ⟨(hk ▸ Nat.le_refl _), (hk ▸ Nat.le_refl _)⟩).trans rfl)
theorem sJ7_putVal_269 : Rn r 165 269 [some (vR z), l1, l2, l3, l4, l5, l6, l7, l8, l9, l10, l11, l12] [] h Q ↔ Rn r 165 270 [some (vR z), l1, l2, l3, l4, l5, l6, l7, l8, l9, l10, l11, l12] [vR z] h Q := Rn_nx pg165 rfl rfl
theorem sJ7_putVal_270 : Rn r 165 270 [l0, l1, l2, l3, l4, l5, l6, l7, l8, l9, l10, l11, l12] [vR z0] h Q ↔ Rn r 165 271 [l0, l1, l2, l3, l4, l5, l6, l7, l8, l9, l10, l11, l12] [vR z0, vR z0] h Q := Rn_nx pg165 rfl rfl
theorem sJ7_putVal_271 (hk : hK h a0 = 6) : Rn r 165 271 [l0, l1, l2, l3, l4, l5, l6, l7, l8, l9, l10, l11, l12] [vR (some a0), vR z1] h Q ↔ Rn r 165 274 [l0, l1, l2, l3, l4, l5, l6, l7, l8, l9, l10, l11, l12] [vI (hI h a0 4), vR z1] h Q := Rn_nx pg165 rfl (if_pos ⟨(hk ▸ Nat.le_refl _), (hk ▸ Nat.le_refl _)⟩)
theorem sJ7_putVal_274 : Rn r 165 274 [l0, l1, l2, l3, l4, l5, l6, l7, l8, l9, l10, l11, l12] [vI x0, vR z1] h Q ↔ Rn r 165 275 [l0, l1, l2, l3, l4, l5, l6, l7, l8, l9, l10, l11, l12] [vI 1, vI x0, vR z1] h Q := Rn_nx pg165 rfl rfl
theorem sJ7_putVal_275 : Rn r 165 275 [l0, l1, l2, l3, l4, l5, l6, l7, l8, l9, l10, l11, l12] [vI x0, vI x1, vR z2] h Q ↔ Rn r 165 276 [l0, l1, l2, l3, l4, l5, l6, l7, l8, l9, l10, l11, l12] [vI (x1 + x0), vR z2] h Q := Rn_nx pg165 rfl rfl
theorem sJ7_putVal_276 : Rn r 165 276 [l0, l1, l2, l3, l4, l5, l6, l7, l8, l9, l10, l11, l12] [vI x0, vR z1] h Q ↔ Rn r 165 277 [l0, l1, l2, l3, l4, l5, l6, l7, l8, l9, l10, l11, l12] [vI x0, vR z1, vI x0] h Q := Rn_nx pg165 rfl rfl
theorem sJ7_putVal_277 (hk : hK h a1 = 6) : Rn r 165 277 [l0, l1, l2, l3, l4, l5, l6, l7, l8, l9, l10, l11, l12] [vI x0, vR (some a1), vI x2] h Q ↔ Rn r 165 280 [l0, l1, l2, l3, l4, l5, l6, l7, l8, l9, l10, l11, l12] [vI x2] (putI h a1 4 x0) Q := Rn_nx pg165 rfl ((if_pos ⟨(hk ▸ Nat.le_refl _), (hk ▸ Nat.le_refl _)⟩).trans rfl)
theorem sJ7_putVal_280 : Rn r 165 280 [some (vR z), l1, l2, l3, l4, l5, l6, l7, l8, l9, l10, l11, l12] [vI x0] h Q ↔ Rn r 165 281 [some (vR z), l1, l2, l3, l4, l5, l6, l7, l8, l9, l10, l11, l12] [vR z, vI x0] h Q := Rn_nx pg165 rfl rfl
theorem sJ7_putVal_281 (hk : hK h a0 = 6) : Rn r 165 281 [l0, l1, l2, l3, l4, l5, l6, l7, l8, l9, l10, l11, l12] [vR (some a0), vI x1] h Q ↔ Rn r 165 284 [l0, l1, l2, l3, l4, l5, l6, l7, l8, l9, l10, l11, l12] [vI (hI h a0 6), vI x1] h Q := Rn_nx pg165 rfl (if_pos ⟨(hk ▸ Nat.le_refl _), (hk ▸ Nat.le_refl _)⟩)
theorem sJ7_putVal_284 : Rn r 165 284 [l0, l1, l2, l3, l4, l5, l6, l7, l8, l9, l10, l11, l12] [vI x0, vI x1] h Q ↔ if x1 ≤ x0 then Rn r 165 292 [l0, l1, l2, l3, l4, l5, l6, l7, l8, l9, l10, l11, l12] [] h Q else Rn r 165 287 [l0, l1, l2, l3, l4, l5, l6, l7, l8, l9, l10, l11, l12] [] h Q := Rn_if pg165 rfl rfl rfl
theorem sJ7_putVal_287 : Rn r 165 287 [some (vR z), l1, l2, l3, l4, l5, l6, l7, l8, l9, l10, l11, l12] [] h Q ↔ Rn r 165 288 [some (vR z), l1, l2, l3, l4, l5, l6, l7, l8, l9, l10, l11, l12] [vR z] h Q := Rn_nx pg165 rfl rfl
theorem sJ7_putVal_288 (hk : hK h a0 = 6) : Rn r 165 288 [l0, l1, l2, l3, l4, l5, l6, l7, l8, l9, l10, l11, l12] [vR (some a0)] h Q ↔ Cl r 206 [vR (some a0)] h (Kt r 165 291 [l0, l1, l2, l3, l4, l5, l6, l7, l8, l9, l10, l11, l12] [] Q) := Rn_call pg165 rfl (by simp only [am_exec, am_inv, am_pop, am_lk, hk]; rfl) pg206 rfl rfl rfl
theorem sJ7_putVal_291 : Rn r 165 291 [l0, l1, l2, l3, l4, l5, l6, l7, l8, l9, l10, l11, l12] [vR z0] h Q ↔ Rn r 165 292 [l0, l1, l2, l3, l4, l5, l6, l7, l8, l9, l10, l11, l12] [] h Q := Rn_nx pg165 rfl rfl
theorem sJ7_putVal_292 : Rn r 165 292 [some (vR z), l1, l2, l3, l4, l5, l6, l7, l8, l9, l10, l11, l12] [] h Q ↔ Rn r 165 293 [some (vR z), l1, l2, l3, l4, l5, l6, l7, l8, l9, l10, l11, l12] [vR z] h Q := Rn_nx pg165 rfl rfl
theorem sJ7_putVal_293 : Rn r 165 293 [l0, l1, l2, l3, l4, some (vI x), l6, l7, l8, l9, l10, l11, l12] [vR z0] h Q ↔ Rn r 165 295 [l0, l1, l2, l3, l4, some (vI x), l6, l7, l8, l9, l10, l11, l12] [vI x, vR z0] h Q := Rn_nx pg165 rfl rfl
theorem sJ7_putVal_295 (hk : hK h a1 = 6) : Rn r 165 295 [l0, l1, l2, l3, l4, l5, l6, l7, l8, l9, l10, l11, l12] [vI x0, vR (some a1)] h Q ↔ Cl r 211 [vR (some a1), vI x0] h (Kt r 165 298 [l0, l1, l2, l3, l4, l5, l6, l7, l8, l9, l10, l11, l12] [] Q) := Rn_call pg165 rfl (by simp only [am_exec, am_inv, am_pop, am_lk, hk]; rfl) pg211 rfl rfl rfl
theorem sJ7_putVal_298 : Rn r 165 298 [l0, l1, l2, l3, l4, l5, l6, l7, l8, l9, l10, l11, l12] [] h Q ↔ Rn r 165 299 [l0, l1, l2, l3, l4, l5, l6, l7, l8, l9, l10, l11, l12] [vR none] h Q := Rn_nx pg165 rfl rfl
theorem sJ7_putVal_299 : Rn r 165 299 [l0, l1, l2, l3, l4, l5, l6, l7, l8, l9, l10, l11, l12] [vR z0] h Q ↔ Q (Sum.inl (some (vR z0))) h := Rn_end pg165 rfl rfl
/-! 166 java/lang/String.indexOf(II)I -/
theorem eJ13_indexOf_2 : Cl r 166 [vR z0, vI x1, vI x2] h Q ↔ Rn r 166 0 [some (vR z0), some (vI x1), some (vI x2)] [] h Q := Cl_in pg166 rfl
theorem sJ13_indexOf_2_0 : Rn r 166 0 [some (vR z), l1, l2] [] h Q ↔ Rn r 166 1 [some (vR z), l1, l2] [vR z] h Q := Rn_nx pg166 rfl rfl
theorem sJ13_indexOf_2_1 (hk : 10 ≤ hK h a0) (hk2 : hK h a0 ≤ 11) : Rn r 166 1 [l0, l1, l2] [vR (some a0)] h Q ↔ Cl r 212 [vR (some a0)] h (Kt r 166 4 [l0, l1, l2] [] Q) := Rn_call pg166 rfl (by rcases am_rng2 hk hk2 with q | q <;> simp only [am_exec, am_inv, am_pop, am_lk, q] <;> rfl) pg212 rfl rfl rfl
theorem sJ13_indexOf_2_4 : Rn r 166 4 [l0, l1, l2] [vI x0] h Q ↔ if x0 = 0 then Rn r 166 23 [l0, l1, l2] [] h Q else Rn r 166 7 [l0, l1, l2] [] h Q := Rn_if pg166 rfl rfl rfl
theorem sJ13_indexOf_2_7 : Rn r 166 7 [some (vR z), l1, l2] [] h Q ↔ Rn r 166 8 [some (vR z), l1, l2] [vR z] h Q := Rn_nx pg166 rfl rfl
theorem sJ13_indexOf_2_8 (hk : 10 ≤ hK h a0) (hk2 : hK h a0 ≤ 11) : Rn r 166 8 [l0, l1, l2] [vR (some a0)] h Q ↔ Rn r 166 11 [l0, l1, l2] [vR (hR h a0 0)] h Q := Rn_nx pg166 rfl (if_pos ⟨hk, hk2⟩)
theorem sJ13_indexOf_2_11 : Rn r 166 11 [l0, some (vI x), l2] [vR z0] h Q ↔ Rn r 166 12 [l0, some (vI x), l2] [vI x, vR z0] h Q := Rn_nx pg166 rfl rfl
theorem sJ13_indexOf_2_12 : Rn r 166 12 [l0, l1, some (vI x)] [vI x0, vR z1] h Q ↔ Rn r 166 13 [l0, l1, some (vI x)] [vI x, vI x0, vR z1] h Q := Rn_nx pg166 rfl rfl
theorem sJ13_indexOf_2_13 : Rn r 166 13 [some (vR z), l1, l2] [vI x0, vI x1, vR z2] h Q ↔ Rn r 166 14 [some (vR z), l1, l2] [vR z, vI x0, vI x1, vR z2] h Q := Rn_nx pg166 rfl rfl
theorem sJ13_indexOf_2_14 (hk : 10 ≤ hK h a0) (hk2 : hK h a0 ≤ 11) : Rn r 166 14 [l0, l1, l2] [vR (some a0), vI x1, vI x2, vR z3] h Q ↔ Cl r 213 [vR (some a0)] h (Kt r 166 17 [l0, l1, l2] [vI x1, vI x2, vR z3] Q) := Rn_call pg166 rfl (by rcases am_rng2 hk hk2 with q | q <;> simp only [am_exec, am_inv, am_pop, am_lk, q] <;> rfl) pg213 rfl rfl rfl
theorem sJ13_indexOf_2_17 : Rn r 166 17 [l0, l1, l2] [vI x0, vI x1, vI x2, vR z3] h Q ↔ Cl r 214 [vR z3, vI x2, vI x1, vI x0] h (Kt r 166 20 [l0, l1, l2] [] Q) := Rn_call pg166 rfl rfl pg214 rfl rfl rfl
theorem sJ13_indexOf_2_20 : Rn r 166 20 [l0, l1, l2] [vI x0] h Q ↔ Rn r 166 36 [l0, l1, l2] [vI x0] h Q := Rn_nx pg166 rfl rfl
theorem sJ13_indexOf_2_23 : Rn r 166 23 [some (vR z), l1, l2] [] h Q ↔ Rn r 166 24 [some (vR z), l1, l2] [vR z] h Q := Rn_nx pg166 rfl rfl
theorem sJ13_indexOf_2_24 (hk : 10 ≤ hK h a0) (hk2 : hK h a0 ≤ 11) : Rn r 166 24 [l0, l1, l2] [vR (some a0)] h Q ↔ Rn r 166 27 [l0, l1, l2] [vR (hR h a0 0)] h Q := Rn_nx pg166 rfl (if_pos ⟨hk, hk2⟩)
theorem sJ13_indexOf_2_27 : Rn r 166 27 [l0, some (vI x), l2] [vR z0] h Q ↔ Rn r 166 28 [l0, some (vI x), l2] [vI x, vR z0] h Q := Rn_nx pg166 rfl rfl
theorem sJ13_indexOf_2_28 : Rn r 166 28 [l0, l1, some (vI x)] [vI x0, vR z1] h Q ↔ Rn r 166 29 [l0, l1, some (vI x)] [vI x, vI x0, vR z1] h Q := Rn_nx pg166 rfl rfl
theorem sJ13_indexOf_2_29 : Rn r 166 29 [some (vR z), l1, l2] [vI x0, vI x1, vR z2] h Q ↔ Rn r 166 30 [some (vR z), l1, l2] [vR z, vI x0, vI x1, vR z2] h Q := Rn_nx pg166 rfl rfl
theorem sJ13_indexOf_2_30 (hk : 10 ≤ hK h a0) (hk2 : hK h a0 ≤ 11) : Rn r 166 30 [l0, l1, l2] [vR (some a0), vI x1, vI x2, vR z3] h Q ↔ Cl r 213 [vR (some a0)] h (Kt r 166 33 [l0, l1, l2] [vI x1, vI x2, vR z3] Q) := Rn_call pg166 rfl (by rcases am_rng2 hk hk2 with q | q <;> simp only [am_exec, am_inv, am_pop, am_lk, q] <;> rfl) pg213 rfl rfl rfl
theorem sJ13_indexOf_2_36 : Rn r 166 36 [l0, l1, l2] [vI x0] h Q ↔ Q (Sum.inl (some (vI x0))) h := Rn_end pg166 rfl rfl
/-! 167 java/lang/StringLatin1.equals([B[B)Z -/
theorem eJ14_equals : Cl r 167 [vR z0, vR z1] h Q ↔ Rn r 167 0 [some (vR z0), some (vR z1), none] [] h Q := Cl_in pg167 rfl
theorem sJ14_equals_0 : Rn r 167 0 [some (vR z), l1, l2] [] h Q ↔ Rn r 167 1 [some (vR z), l1, l2] [vR z] h Q := Rn_nx pg167 rfl rfl
theorem sJ14_equals_1 (hk : 40 ≤ hK h a0) (hk2 : hK h a0 ≤ 49) : Rn r 167 1 [l0, l1, l2] [vR (some a0)] h Q ↔ Rn r 167 2 [l0, l1, l2] [vI (nI (hL h a0))] h Q := Rn_nx pg167 rfl (if_pos ⟨hk, hk2⟩)
theorem sJ14_equals_2 : Rn r 167 2 [l0, some (vR z), l2] [vI x0] h Q ↔ Rn r 167 3 [l0, some (vR z), l2] [vR z, vI x0] h Q := Rn_nx pg167 rfl rfl
theorem sJ14_equals_3 (hk : 40 ≤ hK h a0) (hk2 : hK h a0 ≤ 49) : Rn r 167 3 [l0, l1, l2] [vR (some a0), vI x1] h Q ↔ Rn r 167 4 [l0, l1, l2] [vI (nI (hL h a0)), vI x1] h Q := Rn_nx pg167 rfl (if_pos ⟨hk, hk2⟩)
theorem sJ14_equals_4 : Rn r 167 4 [l0, l1, l2] [vI x0, vI x1] h Q ↔ if x1 ≠ x0 then Rn r 167 34 [l0, l1, l2] [] h Q else Rn r 167 7 [l0, l1, l2] [] h Q := Rn_if pg167 rfl rfl rfl
theorem sJ14_equals_7 : Rn r 167 7 [l0, l1, l2] [] h Q ↔ Rn r 167 8 [l0, l1, l2] [vI 0] h Q := Rn_nx pg167 rfl rfl
theorem sJ14_equals_8 : Rn r 167 8 [l0, l1, l2] [vI x0] h Q ↔ Rn r 167 9 [l0, l1, some (vI x0)] [] h Q := Rn_nx pg167 rfl rfl
theorem sJ14_equals_9 : Rn r 167 9 [l0, l1, some (vI x)] [] h Q ↔ Rn r 167 10 [l0, l1, some (vI x)] [vI x] h Q := Rn_nx pg167 rfl rfl
theorem sJ14_equals_10 : Rn r 167 10 [some (vR z), l1, l2] [vI x0] h Q ↔ Rn r 167 11 [some (vR z), l1, l2] [vR z, vI x0] h Q := Rn_nx pg167 rfl rfl
theorem sJ14_equals_11 (hk : 40 ≤ hK h a0) (hk2 : hK h a0 ≤ 49) : Rn r 167 11 [l0, l1, l2] [vR (some a0), vI x1] h Q ↔ Rn r 167 12 [l0, l1, l2] [vI (nI (hL h a0)), vI x1] h Q := Rn_nx pg167 rfl (if_pos ⟨hk, hk2⟩)
theorem sJ14_equals_12 : Rn r 167 12 [l0, l1, l2] [vI x0, vI x1] h Q ↔ if x0 ≤ x1 then Rn r 167 32 [l0, l1, l2] [] h Q else Rn r 167 15 [l0, l1, l2] [] h Q := Rn_if pg167 rfl rfl rfl
theorem sJ14_equals_15 : Rn r 167 15 [some (vR z), l1, l2] [] h Q ↔ Rn r 167 16 [some (vR z), l1, l2] [vR z] h Q := Rn_nx pg167 rfl rfl
theorem sJ14_equals_16 : Rn r 167 16 [l0, l1, some (vI x)] [vR z0] h Q ↔ Rn r 167 17 [l0, l1, some (vI x)] [vI x, vR z0] h Q := Rn_nx pg167 rfl rfl
theorem sJ14_equals_17 (hk : 43 ≤ hK h a1) (hk2 : hK h a1 ≤ 45) (hx : ¬ (x0 < 0 ∨ hL h a1 ≤ x0.toNatClampNeg)) : Rn r 167 17 [l0, l1, l2] [vI x0, vR (some a1)] h Q ↔ Rn r 167 18 [l0, l1, l2] [vI (hI h a1 x0.toNatClampNeg)] h Q := Rn_nx pg167 rfl ((if_pos ⟨hk, hk2⟩).trans (if_neg hx))
theorem sJ14_equals_18 : Rn r 167 18 [l0, some (vR z), l2] [vI x0] h Q ↔ Rn r 167 19 [l0, some (vR z), l2] [vR z, vI x0] h Q := Rn_nx pg167 rfl rfl
theorem sJ14_equals_19 : Rn r 167 19 [l0, l1, some (vI x)] [vR z0, vI x1] h Q ↔ Rn r 167 20 [l0, l1, some (vI x)] [vI x, vR z0, vI x1] h Q := Rn_nx pg167 rfl rfl
theorem sJ14_equals_20 (hk : 43 ≤ hK h a1) (hk2 : hK h a1 ≤ 45) (hx : ¬ (x0 < 0 ∨ hL h a1 ≤ x0.toNatClampNeg)) : Rn r 167 20 [l0, l1, l2] [vI x0, vR (some a1), vI x2] h Q ↔ Rn r 167 21 [l0, l1, l2] [vI (hI h a1 x0.toNatClampNeg), vI x2] h Q := Rn_nx pg167 rfl ((if_pos ⟨hk, hk2⟩).trans (if_neg hx))
theorem sJ14_equals_21 : Rn r 167 21 [l0, l1, l2] [vI x0, vI x1] h Q ↔ if x1 = x0 then Rn r 167 26 [l0, l1, l2] [] h Q else Rn r 167 24 [l0, l1, l2] [] h Q := Rn_if pg167 rfl rfl rfl
theorem sJ14_equals_24 : Rn r 167 24 [l0, l1, l2] [] h Q ↔ Rn r 167 25 [l0, l1, l2] [vI 0] h Q := Rn_nx pg167 rfl rfl
theorem sJ14_equals_25 (hf : am_fit 4 x0 = true) : Rn r 167 25 [l0, l1, l2] [vI x0] h Q ↔ Q (Sum.inl (some (vI x0))) h := Rn_end pg167 rfl (if_pos hf)
theorem sJ14_equals_26 : Rn r 167 26 [l0, l1, some (vI x)] [] h Q ↔ Rn r 167 29 [l0, l1, some (vI (x + 1))] [] h Q := Rn_nx pg167 rfl rfl
theorem sJ14_equals_29 : Rn r 167 29 [l0, l1, l2] [] h Q ↔ Rn r 167 9 [l0, l1, l2] [] h Q := Rn_nx pg167 rfl rfl
theorem sJ14_equals_32 : Rn r 167 32 [l0, l1, l2] [] h Q ↔ Rn r 167 33 [l0, l1, l2] [vI 1] h Q := Rn_nx pg167 rfl rfl
theorem sJ14_equals_33 (hf : am_fit 4 x0 = true) : Rn r 167 33 [l0, l1, l2] [vI x0] h Q ↔ Q (Sum.inl (some (vI x0))) h := Rn_end pg167 rfl (if_pos hf)
theorem sJ14_equals_34 : Rn r 167 34 [l0, l1, l2] [] h Q ↔ Rn r 167 35 [l0, l1, l2] [vI 0] h Q := Rn_nx pg167 rfl rfl
theorem sJ14_equals_35 (hf : am_fit 4 x0 = true) : Rn r 167 35 [l0, l1, l2] [vI x0] h Q ↔ Q (Sum.inl (some (vI x0))) h := Rn_end pg167 rfl (if_pos hf)
/-! 168 ThrowRules$Reader.isKey()Z -/
theorem eX1_isKey : Cl r 168 [vR z0] h Q ↔ Rn r 168 0 [some (vR z0)] [] h Q := Cl_in pg168 rfl
theorem sX1_isKey_0 : Rn r 168 0 [some (vR z)] [] h Q ↔ Rn r 168 1 [some (vR z)] [vR z] h Q := Rn_nx pg168 rfl rfl
theorem sX1_isKey_1 (hk : hK h a0 = 2) : Rn r 168 1 [l0] [vR (some a0)] h Q ↔ Rn r 168 4 [l0] [vR (hR h a0 5)] h Q := Rn_nx pg168 rfl (if_pos ⟨(hk ▸ Nat.le_refl _), (hk ▸ Nat.le_refl _)⟩)
theorem sX1_isKey_4 : Rn r 168 4 [l0] [vR z0] h Q ↔ if z0 = none then Rn r 168 46 [l0] [] h Q else Rn r 168 7 [l0] [] h Q := Rn_if pg168 rfl rfl rfl
theorem sX1_isKey_7 : Rn r 168 7 [l0] [] h Q ↔ Rn r 168 9 [l0] [vR (some (hE h 6))] h Q := Rn_nx pg168 rfl rfl
theorem sX1_isKey_9 : Rn r 168 9 [l0] [vR z0] h Q ↔ Rn r 168 12 [l0] [vR (some (hN h)), vR z0] (newC h 16 4) Q := Rn_nx pg168 rfl rfl
theorem sX1_isKey_12 : Rn r 168 12 [l0] [vR z0, vR z1] h Q ↔ Rn r 168 13 [l0] [vR z0, vR z0, vR z1] h Q := Rn_nx pg168 rfl rfl
theorem sX1_isKey_13 (hk : 0 < hK h a0) (hk2 : hK h a0 < 40) : Rn r 168 13 [l0] [vR (some a0), vR z1, vR z2] h Q ↔ Cl r 215 [vR (some a0)] h (Kt r 168 16 [l0] [vR z1, vR z2] Q) := Rn_call pg168 rfl (if_pos ⟨hk, hk2⟩) pg215 rfl rfl rfl
theorem sX1_isKey_16 : Rn r 168 16 [l0] [vR z0, vR z1] h Q ↔ Rn r 168 18 [l0] [vR (some (hE h 7)), vR z0, vR z1] h Q := Rn_nx pg168 rfl rfl
theorem sX1_isKey_18 (hk : hK h a1 = 16) : Rn r 168 18 [l0] [vR z0, vR (some a1), vR z2] h Q ↔ Cl r 216 [vR (some a1), vR z0] h (Kt r 168 21 [l0] [vR z2] Q) := Rn_call pg168 rfl (by simp only [am_exec, am_inv, am_pop, am_lk, hk]; rfl) pg216 rfl rfl rfl
theorem sX1_isKey_21 : Rn r 168 21 [some (vR z)] [vR z0, vR z1] h Q ↔ Rn r 168 22 [some (vR z)] [vR z, vR z0, vR z1] h Q := Rn_nx pg168 rfl rfl
theorem sX1_isKey_22 (hk : hK h a0 = 2) : Rn r 168 22 [l0] [vR (some a0), vR z1, vR z2] h Q ↔ Rn r 168 25 [l0] [vR (hR h a0 5), vR z1, vR z2] h Q := Rn_nx pg168 rfl (if_pos ⟨(hk ▸ Nat.le_refl _), (hk ▸ Nat.le_refl _)⟩)
theorem sX1_isKey_25 (hk : hK h a1 = 16) : Rn r 168 25 [l0] [vR z0, vR (some a1), vR z2] h Q ↔ Cl r 216 [vR (some a1), vR z0] h (Kt r 168 28 [l0] [vR z2] Q) := Rn_call pg168 rfl (by simp only [am_exec, am_inv, am_pop, am_lk, hk]; rfl) pg216 rfl rfl rfl
theorem sX1_isKey_28 : Rn r 168 28 [l0] [vR z0, vR z1] h Q ↔ Rn r 168 30 [l0] [vR (some (hE h 7)), vR z0, vR z1] h Q := Rn_nx pg168 rfl rfl
theorem sX1_isKey_30 (hk : hK h a1 = 16) : Rn r 168 30 [l0] [vR z0, vR (some a1), vR z2] h Q ↔ Cl r 216 [vR (some a1), vR z0] h (Kt r 168 33 [l0] [vR z2] Q) := Rn_call pg168 rfl (by simp only [am_exec, am_inv, am_pop, am_lk, hk]; rfl) pg216 rfl rfl rfl
theorem sX1_isKey_33 (hk : hK h a0 = 16) : Rn r 168 33 [l0] [vR (some a0), vR z1] h Q ↔ Cl r 65 [vR (some a0)] h (Kt r 168 36 [l0] [vR z1] Q) := Rn_call pg168 rfl (by simp only [am_exec, am_inv, am_pop, am_lk, hk]; rfl) pg65 rfl rfl rfl
theorem sX1_isKey_36 (hk : 10 ≤ hK h a1) (hk2 : hK h a1 ≤ 11) : Rn r 168 36 [l0] [vR z0, vR (some a1)] h Q ↔ Cl r 217 [vR (some a1), vR z0] h (Kt r 168 39 [l0] [] Q) := Rn_call pg168 rfl (by rcases am_rng2 hk hk2 with q | q <;> simp only [am_exec, am_inv, am_pop, am_lk, q] <;> rfl) pg217 rfl rfl rfl
theorem sX1_isKey_39 : Rn r 168 39 [l0] [vI x0] h Q ↔ if x0 = 0 then Rn r 168 46 [l0] [] h Q else Rn r 168 42 [l0] [] h Q := Rn_if pg168 rfl rfl rfl
theorem sX1_isKey_42 : Rn r 168 42 [l0] [] h Q ↔ Rn r 168 43 [l0] [vI 1] h Q := Rn_nx pg168 rfl rfl
theorem sX1_isKey_43 : Rn r 168 43 [l0] [vI x0] h Q ↔ Rn r 168 47 [l0] [vI x0] h Q := Rn_nx pg168 rfl rfl
theorem sX1_isKey_46 : Rn r 168 46 [l0] [] h Q ↔ Rn r 168 47 [l0] [vI 0] h Q := Rn_nx pg168 rfl rfl
theorem sX1_isKey_47 (hf : am_fit 4 x0 = true) : Rn r 168 47 [l0] [vI x0] h Q ↔ Q (Sum.inl (some (vI x0))) h := Rn_end pg168 rfl (if_pos hf)
/-! 169 ThrowRules$Mistake.<init>(III)V -/
theorem eX7_init : Cl r 169 [vR z0, vI x1, vI x2, vI x3] h Q ↔ Rn r 169 0 [some (vR z0), some (vI x1), some (vI x2), some (vI x3)] [] h Q := Cl_in pg169 rfl
theorem sX7_init_0 : Rn r 169 0 [some (vR z), l1, l2, l3] [] h Q ↔ Rn r 169 1 [some (vR z), l1, l2, l3] [vR z] h Q := Rn_nx pg169 rfl rfl
theorem sX7_init_1 (hk : 0 < hK h a0) (hk2 : hK h a0 < 40) : Rn r 169 1 [l0, l1, l2, l3] [vR (some a0)] h Q ↔ Cl r 218 [vR (some a0)] h (Kt r 169 4 [l0, l1, l2, l3] [] Q) := Rn_call pg169 rfl (if_pos ⟨hk, hk2⟩) pg218 rfl rfl rfl
theorem sX7_init_4 : Rn r 169 4 [some (vR z), l1, l2, l3] [] h Q ↔ Rn r 169 5 [some (vR z), l1, l2, l3] [vR z] h Q := Rn_nx pg169 rfl rfl
theorem sX7_init_5 : Rn r 169 5 [l0, some (vI x), l2, l3] [vR z0] h Q ↔ Rn r 169 6 [l0, some (vI x), l2, l3] [vI x, vR z0] h Q := Rn_nx pg169 rfl rfl
theorem sX7_init_6 (hk : hK h a1 = 17) : Rn r 169 6 [l0, l1, l2, l3] [vI x0, vR (some a1)] h Q ↔ Rn r 169 9 [l0, l1, l2, l3] [] (putI h a1 0 x0) Q := Rn_nx pg169 rfl ((if_pos ⟨(hk ▸ Nat.le_refl _), (hk ▸ Nat.le_refl _)⟩).trans rfl)
theorem sX7_init_9 : Rn r 169 9 [some (vR z), l1, l2, l3] [] h Q ↔ Rn r 169 10 [some (vR z), l1, l2, l3] [vR z] h Q := Rn_nx pg169 rfl rfl
theorem sX7_init_10 : Rn r 169 10 [l0, l1, some (vI x), l3] [vR z0] h Q ↔ Rn r 169 11 [l0, l1, some (vI x), l3] [vI x, vR z0] h Q := Rn_nx pg169 rfl rfl
theorem sX7_init_11 (hk : hK h a1 = 17) : Rn r 169 11 [l0, l1, l2, l3] [vI x0, vR (some a1)] h Q ↔ Rn r 169 14 [l0, l1, l2, l3] [] (putI h a1 1 x0) Q := Rn_nx pg169 rfl ((if_pos ⟨(hk ▸ Nat.le_refl _), (hk ▸ Nat.le_refl _)⟩).trans rfl)
theorem sX7_init_14 : Rn r 169 14 [some (vR z), l1, l2, l3] [] h Q ↔ Rn r 169 15 [some (vR z), l1, l2, l3] [vR z] h Q := Rn_nx pg169 rfl rfl
theorem sX7_init_15 : Rn r 169 15 [l0, l1, l2, some (vI x)] [vR z0] h Q ↔ Rn r 169 16 [l0, l1, l2, some (vI x)] [vI x, vR z0] h Q := Rn_nx pg169 rfl rfl
theorem sX7_init_16 (hk : hK h a1 = 17) : Rn r 169 16 [l0, l1, l2, l3] [vI x0, vR (some a1)] h Q ↔ Rn r 169 19 [l0, l1, l2, l3] [] (putI h a1 2 x0) Q := Rn_nx pg169 rfl ((if_pos ⟨(hk ▸ Nat.le_refl _), (hk ▸ Nat.le_refl _)⟩).trans rfl)
theorem sX7_init_19 : Rn r 169 19 [l0, l1, l2, l3] [] h Q ↔ Q (Sum.inl none) h := Rn_end pg169 rfl rfl
/-! 170 ThrowRules$Mistake.isAhead(LThrowRules$Mistake;)Z -/
theorem eX7_isAhead : Cl r 170 [vR z0, vR z1] h Q ↔ Rn r 170 0 [some (vR z0), some (vR z1)] [] h Q := Cl_in pg170 rfl
theorem sX7_isAhead_0 : Rn r 170 0 [some (vR z), l1] [] h Q ↔ Rn r 170 1 [some (vR z), l1] [vR z] h Q := Rn_nx pg170 rfl rfl
theorem sX7_isAhead_1 (hk : hK h a0 = 17) : Rn r 170 1 [l0, l1] [vR (some a0)] h Q ↔ Rn r 170 4 [l0, l1] [vI (hI h a0 1)] h Q := Rn_nx pg170 rfl (if_pos ⟨(hk ▸ Nat.le_refl _), (hk ▸ Nat.le_refl _)⟩)
theorem sX7_isAhead_4 : Rn r 170 4 [l0, some (vR z)] [vI x0] h Q ↔ Rn r 170 5 [l0, some (vR z)] [vR z, vI x0] h Q := Rn_nx pg170 rfl rfl
theorem sX7_isAhead_5 (hk : hK h a0 = 17) : Rn r 170 5 [l0, l1] [vR (some a0), vI x1] h Q ↔ Rn r 170 8 [l0, l1] [vI (hI h a0 1), vI x1] h Q := Rn_nx pg170 rfl (if_pos ⟨(hk ▸ Nat.le_refl _), (hk ▸ Nat.le_refl _)⟩)
theorem sX7_isAhead_8 : Rn r 170 8 [l0, l1] [vI x0, vI x1] h Q ↔ if x1 = x0 then Rn r 170 30 [l0, l1] [] h Q else Rn r 170 11 [l0, l1] [] h Q := Rn_if pg170 rfl rfl rfl
theorem sX7_isAhead_11 : Rn r 170 11 [some (vR z), l1] [] h Q ↔ Rn r 170 12 [some (vR z), l1] [vR z] h Q := Rn_nx pg170 rfl rfl
theorem sX7_isAhead_12 (hk : hK h a0 = 17) : Rn r 170 12 [l0, l1] [vR (some a0)] h Q ↔ Rn r 170 15 [l0, l1] [vI (hI h a0 1)] h Q := Rn_nx pg170 rfl (if_pos ⟨(hk ▸ Nat.le_refl _), (hk ▸ Nat.le_refl _)⟩)
theorem sX7_isAhead_15 : Rn r 170 15 [l0, some (vR z)] [vI x0] h Q ↔ Rn r 170 16 [l0, some (vR z)] [vR z, vI x0] h Q := Rn_nx pg170 rfl rfl
theorem sX7_isAhead_16 (hk : hK h a0 = 17) : Rn r 170 16 [l0, l1] [vR (some a0), vI x1] h Q ↔ Rn r 170 19 [l0, l1] [vI (hI h a0 1), vI x1] h Q := Rn_nx pg170 rfl (if_pos ⟨(hk ▸ Nat.le_refl _), (hk ▸ Nat.le_refl _)⟩)
theorem sX7_isAhead_19 : Rn r 170 19 [l0, l1] [vI x0, vI x1] h Q ↔ if x0 ≤ x1 then Rn r 170 26 [l0, l1] [] h Q else Rn r 170 22 [l0, l1] [] h Q := Rn_if pg170 rfl rfl rfl
theorem sX7_isAhead_22 : Rn r 170 22 [l0, l1] [] h Q ↔ Rn r 170 23 [l0, l1] [vI 1] h Q := Rn_nx pg170 rfl rfl
theorem sX7_isAhead_23 : Rn r 170 23 [l0, l1] [vI x0] h Q ↔ Rn r 170 76 [l0, l1] [vI x0] h Q := Rn_nx pg170 rfl rfl
theorem sX7_isAhead_26 : Rn r 170 26 [l0, l1] [] h Q ↔ Rn r 170 27 [l0, l1] [vI 0] h Q := Rn_nx pg170 rfl rfl
theorem sX7_isAhead_27 : Rn r 170 27 [l0, l1] [vI x0] h Q ↔ Rn r 170 76 [l0, l1] [vI x0] h Q := Rn_nx pg170 rfl rfl
theorem sX7_isAhead_30 : Rn r 170 30 [some (vR z), l1] [] h Q ↔ Rn r 170 31 [some (vR z), l1] [vR z] h Q := Rn_nx pg170 rfl rfl
theorem sX7_isAhead_31 (hk : hK h a0 = 17) : Rn r 170 31 [l0, l1] [vR (some a0)] h Q ↔ Rn r 170 34 [l0, l1] [vI (hI h a0 0)] h Q := Rn_nx pg170 rfl (if_pos ⟨(hk ▸ Nat.le_refl _), (hk ▸ Nat.le_refl _)⟩)
theorem sX7_isAhead_34 : Rn r 170 34 [l0, some (vR z)] [vI x0] h Q ↔ Rn r 170 35 [l0, some (vR z)] [vR z, vI x0] h Q := Rn_nx pg170 rfl rfl
theorem sX7_isAhead_35 (hk : hK h a0 = 17) : Rn r 170 35 [l0, l1] [vR (some a0), vI x1] h Q ↔ Rn r 170 38 [l0, l1] [vI (hI h a0 0), vI x1] h Q := Rn_nx pg170 rfl (if_pos ⟨(hk ▸ Nat.le_refl _), (hk ▸ Nat.le_refl _)⟩)
theorem sX7_isAhead_38 : Rn r 170 38 [l0, l1] [vI x0, vI x1] h Q ↔ if x1 = x0 then Rn r 170 60 [l0, l1] [] h Q else Rn r 170 41 [l0, l1] [] h Q := Rn_if pg170 rfl rfl rfl
theorem sX7_isAhead_41 : Rn r 170 41 [some (vR z), l1] [] h Q ↔ Rn r 170 42 [some (vR z), l1] [vR z] h Q := Rn_nx pg170 rfl rfl
theorem sX7_isAhead_42 (hk : hK h a0 = 17) : Rn r 170 42 [l0, l1] [vR (some a0)] h Q ↔ Rn r 170 45 [l0, l1] [vI (hI h a0 0)] h Q := Rn_nx pg170 rfl (if_pos ⟨(hk ▸ Nat.le_refl _), (hk ▸ Nat.le_refl _)⟩)
theorem sX7_isAhead_45 : Rn r 170 45 [l0, some (vR z)] [vI x0] h Q ↔ Rn r 170 46 [l0, some (vR z)] [vR z, vI x0] h Q := Rn_nx pg170 rfl rfl
theorem sX7_isAhead_46 (hk : hK h a0 = 17) : Rn r 170 46 [l0, l1] [vR (some a0), vI x1] h Q ↔ Rn r 170 49 [l0, l1] [vI (hI h a0 0), vI x1] h Q := Rn_nx pg170 rfl (if_pos ⟨(hk ▸ Nat.le_refl _), (hk ▸ Nat.le_refl _)⟩)
theorem sX7_isAhead_49 : Rn r 170 49 [l0, l1] [vI x0, vI x1] h Q ↔ if x0 ≤ x1 then Rn r 170 56 [l0, l1] [] h Q else Rn r 170 52 [l0, l1] [] h Q := Rn_if pg170 rfl rfl rfl
theorem sX7_isAhead_52 : Rn r 170 52 [l0, l1] [] h Q ↔ Rn r 170 53 [l0, l1] [vI 1] h Q := Rn_nx pg170 rfl rfl
theorem sX7_isAhead_53 : Rn r 170 53 [l0, l1] [vI x0] h Q ↔ Rn r 170 76 [l0, l1] [vI x0] h Q := Rn_nx pg170 rfl rfl
theorem sX7_isAhead_56 : Rn r 170 56 [l0, l1] [] h Q ↔ Rn r 170 57 [l0, l1] [vI 0] h Q := Rn_nx pg170 rfl rfl
theorem sX7_isAhead_57 : Rn r 170 57 [l0, l1] [vI x0] h Q ↔ Rn r 170 76 [l0, l1] [vI x0] h Q := Rn_nx pg170 rfl rfl
theorem sX7_isAhead_60 : Rn r 170 60 [some (vR z), l1] [] h Q ↔ Rn r 170 61 [some (vR z), l1] [vR z] h Q := Rn_nx pg170 rfl rfl
theorem sX7_isAhead_61 (hk : hK h a0 = 17) : Rn r 170 61 [l0, l1] [vR (some a0)] h Q ↔ Rn r 170 64 [l0, l1] [vI (hI h a0 2)] h Q := Rn_nx pg170 rfl (if_pos ⟨(hk ▸ Nat.le_refl _), (hk ▸ Nat.le_refl _)⟩)
theorem sX7_isAhead_64 : Rn r 170 64 [l0, some (vR z)] [vI x0] h Q ↔ Rn r 170 65 [l0, some (vR z)] [vR z, vI x0] h Q := Rn_nx pg170 rfl rfl
theorem sX7_isAhead_65 (hk : hK h a0 = 17) : Rn r 170 65 [l0, l1] [vR (some a0), vI x1] h Q ↔ Rn r 170 68 [l0, l1] [vI (hI h a0 2), vI x1] h Q := Rn_nx pg170 rfl (if_pos ⟨(hk ▸ Nat.le_refl _), (hk ▸ Nat.le_refl _)⟩)
theorem sX7_isAhead_68 : Rn r 170 68 [l0, l1] [vI x0, vI x1] h Q ↔ if x0 ≤ x1 then Rn r 170 75 [l0, l1] [] h Q else Rn r 170 71 [l0, l1] [] h Q := Rn_if pg170 rfl rfl rfl
theorem sX7_isAhead_71 : Rn r 170 71 [l0, l1] [] h Q ↔ Rn r 170 72 [l0, l1] [vI 1] h Q := Rn_nx pg170 rfl rfl
theorem sX7_isAhead_72 : Rn r 170 72 [l0, l1] [vI x0] h Q ↔ Rn r 170 76 [l0, l1] [vI x0] h Q := Rn_nx pg170 rfl rfl
theorem sX7_isAhead_75 : Rn r 170 75 [l0, l1] [] h Q ↔ Rn r 170 76 [l0, l1] [vI 0] h Q := Rn_nx pg170 rfl rfl
theorem sX7_isAhead_76 (hf : am_fit 4 x0 = true) : Rn r 170 76 [l0, l1] [vI x0] h Q ↔ Q (Sum.inl (some (vI x0))) h := Rn_end pg170 rfl (if_pos hf)
/-! 171 java/util/ArrayList.add(ILjava/lang/Object;)V -/
theorem eJ5_add_3 : Cl r 171 [vR z0, vI x1, vR z2] h Q ↔ Rn r 171 0 [some (vR z0), some (vI x1), some (vR z2), none, none] [] h Q := Cl_in pg171 rfl
theorem sJ5_add_3_0 : Rn r 171 0 [some (vR z), l1, l2, l3, l4] [] h Q ↔ Rn r 171 1 [some (vR z), l1, l2, l3, l4] [vR z] h Q := Rn_nx pg171 rfl rfl
theorem sJ5_add_3_1 : Rn r 171 1 [l0, some (vI x), l2, l3, l4] [vR z0] h Q ↔ Rn r 171 2 [l0, some (vI x), l2, l3, l4] [vI x, vR z0] h Q := Rn_nx pg171 rfl rfl
theorem sJ5_add_3_2 (hk : hK h a1 = 4) : Rn r 171 2 [l0, l1, l2, l3, l4] [vI x0, vR (some a1)] h Q ↔ Cl r 219 [vR (some a1), vI x0] h (Kt r 171 5 [l0, l1, l2, l3, l4] [] Q) := Rn_call pg171 rfl (by simp only [am_exec, am_inv, am_pop, am_lk, hk]; rfl) pg219 rfl rfl rfl
theorem sJ5_add_3_5 : Rn r 171 5 [some (vR z), l1, l2, l3, l4] [] h Q ↔ Rn r 171 6 [some (vR z), l1, l2, l3, l4] [vR z] h Q := Rn_nx pg171 rfl rfl
theorem sJ5_add_3_6 : Rn r 171 6 [l0, l1, l2, l3, l4] [vR z0] h Q ↔ Rn r 171 7 [l0, l1, l2, l3, l4] [vR z0, vR z0] h Q := Rn_nx pg171 rfl rfl
theorem sJ5_add_3_7 (hk : hK h a0 = 4) : Rn r 171 7 [l0, l1, l2, l3, l4] [vR (some a0), vR z1] h Q ↔ Rn r 171 10 [l0, l1, l2, l3, l4] [vI (hI h a0 0), vR z1] h Q := Rn_nx pg171 rfl (if_pos ⟨(hk ▸ Nat.le_refl _), (hk ▸ Nat.le_refl _)⟩)
theorem sJ5_add_3_10 : Rn r 171 10 [l0, l1, l2, l3, l4] [vI x0, vR z1] h Q ↔ Rn r 171 11 [l0, l1, l2, l3, l4] [vI 1, vI x0, vR z1] h Q := Rn_nx pg171 rfl rfl
theorem sJ5_add_3_11 : Rn r 171 11 [l0, l1, l2, l3, l4] [vI x0, vI x1, vR z2] h Q ↔ Rn r 171 12 [l0, l1, l2, l3, l4] [vI (x1 + x0), vR z2] h Q := Rn_nx pg171 rfl rfl
theorem sJ5_add_3_12 (hk : hK h a1 = 4) : Rn r 171 12 [l0, l1, l2, l3, l4] [vI x0, vR (some a1)] h Q ↔ Rn r 171 15 [l0, l1, l2, l3, l4] [] (putI h a1 0 x0) Q := Rn_nx pg171 rfl ((if_pos ⟨(hk ▸ Nat.le_refl _), (hk ▸ Nat.le_refl _)⟩).trans rfl)
theorem sJ5_add_3_15 : Rn r 171 15 [some (vR z), l1, l2, l3, l4] [] h Q ↔ Rn r 171 16 [some (vR z), l1, l2, l3, l4] [vR z] h Q := Rn_nx pg171 rfl rfl
theorem sJ5_add_3_16 (hk : hK h a0 = 4) : Rn r 171 16 [l0, l1, l2, l3, l4] [vR (some a0)] h Q ↔ Rn r 171 19 [l0, l1, l2, l3, l4] [vI (hI h a0 2)] h Q := Rn_nx pg171 rfl (if_pos ⟨(hk ▸ Nat.le_refl _), (hk ▸ Nat.le_refl _)⟩)
theorem sJ5_add_3_19 : Rn r 171 19 [l0, l1, l2, l3, l4] [vI x0] h Q ↔ Rn r 171 20 [l0, l1, l2, l3, l4] [vI x0, vI x0] h Q := Rn_nx pg171 rfl rfl
theorem sJ5_add_3_20 : Rn r 171 20 [l0, l1, l2, l3, l4] [vI x0, vI x1] h Q ↔ Rn r 171 21 [l0, l1, l2, some (vI x0), l4] [vI x1] h Q := Rn_nx pg171 rfl rfl
theorem sJ5_add_3_21 : Rn r 171 21 [some (vR z), l1, l2, l3, l4] [vI x0] h Q ↔ Rn r 171 22 [some (vR z), l1, l2, l3, l4] [vR z, vI x0] h Q := Rn_nx pg171 rfl rfl
theorem sJ5_add_3_22 (hk : hK h a0 = 4) : Rn r 171 22 [l0, l1, l2, l3, l4] [vR (some a0), vI x1] h Q ↔ Rn r 171 25 [l0, l1, l2, l3, l4] [vR (hR h a0 1), vI x1] h Q := Rn_nx pg171 rfl (if_pos ⟨(hk ▸ Nat.le_refl _), (hk ▸ Nat.le_refl _)⟩)
theorem sJ5_add_3_25 : Rn r 171 25 [l0, l1, l2, l3, l4] [vR z0, vI x1] h Q ↔ Rn r 171 26 [l0, l1, l2, l3, l4] [vR z0, vR z0, vI x1] h Q := Rn_nx pg171 rfl rfl
theorem sJ5_add_3_26 : Rn r 171 26 [l0, l1, l2, l3, l4] [vR z0, vR z1, vI x2] h Q ↔ Rn r 171 28 [l0, l1, l2, l3, some (vR z0)] [vR z1, vI x2] h Q := Rn_nx pg171 rfl rfl
theorem sJ5_add_3_28 (hk : 40 ≤ hK h a0) (hk2 : hK h a0 ≤ 49) : Rn r 171 28 [l0, l1, l2, l3, l4] [vR (some a0), vI x1] h Q ↔ Rn r 171 29 [l0, l1, l2, l3, l4] [vI (nI (hL h a0)), vI x1] h Q := Rn_nx pg171 rfl (if_pos ⟨hk, hk2⟩)
theorem sJ5_add_3_29 : Rn r 171 29 [l0, l1, l2, l3, l4] [vI x0, vI x1] h Q ↔ if x1 ≠ x0 then Rn r 171 38 [l0, l1, l2, l3, l4] [] h Q else Rn r 171 32 [l0, l1, l2, l3, l4] [] h Q := Rn_if pg171 rfl rfl rfl
theorem sJ5_add_3_32 : Rn r 171 32 [some (vR z), l1, l2, l3, l4] [] h Q ↔ Rn r 171 33 [some (vR z), l1, l2, l3, l4] [vR z] h Q := Rn_nx pg171 rfl rfl
theorem sJ5_add_3_33 (hk : hK h a0 = 4) : Rn r 171 33 [l0, l1, l2, l3, l4] [vR (some a0)] h Q ↔ Cl r 205 [vR (some a0)] h (Kt r 171 36 [l0, l1, l2, l3, l4] [] Q) := Rn_call pg171 rfl (by simp only [am_exec, am_inv, am_pop, am_lk, hk]; rfl) pg205 rfl rfl rfl
theorem sJ5_add_3_36 : Rn r 171 36 [l0, l1, l2, l3, l4] [vR z0] h Q ↔ Rn r 171 38 [l0, l1, l2, l3, some (vR z0)] [] h Q := Rn_nx pg171 rfl rfl
theorem sJ5_add_3_38 : Rn r 171 38 [l0, l1, l2, l3, some (vR z)] [] h Q ↔ Rn r 171 40 [l0, l1, l2, l3, some (vR z)] [vR z] h Q := Rn_nx pg171 rfl rfl
theorem sJ5_add_3_40 : Rn r 171 40 [l0, some (vI x), l2, l3, l4] [vR z0] h Q ↔ Rn r 171 41 [l0, some (vI x), l2, l3, l4] [vI x, vR z0] h Q := Rn_nx pg171 rfl rfl
theorem sJ5_add_3_41 : Rn r 171 41 [l0, l1, l2, l3, some (vR z)] [vI x0, vR z1] h Q ↔ Rn r 171 43 [l0, l1, l2, l3, some (vR z)] [vR z, vI x0, vR z1] h Q := Rn_nx pg171 rfl rfl
theorem sJ5_add_3_43 : Rn r 171 43 [l0, some (vI x), l2, l3, l4] [vR z0, vI x1, vR z2] h Q ↔ Rn r 171 44 [l0, some (vI x), l2, l3, l4] [vI x, vR z0, vI x1, vR z2] h Q := Rn_nx pg171 rfl rfl
theorem sJ5_add_3_44 : Rn r 171 44 [l0, l1, l2, l3, l4] [vI x0, vR z1, vI x2, vR z3] h Q ↔ Rn r 171 45 [l0, l1, l2, l3, l4] [vI 1, vI x0, vR z1, vI x2, vR z3] h Q := Rn_nx pg171 rfl rfl
theorem sJ5_add_3_45 : Rn r 171 45 [l0, l1, l2, l3, l4] [vI x0, vI x1, vR z2, vI x3, vR z4] h Q ↔ Rn r 171 46 [l0, l1, l2, l3, l4] [vI (x1 + x0), vR z2, vI x3, vR z4] h Q := Rn_nx pg171 rfl rfl
theorem sJ5_add_3_46 : Rn r 171 46 [l0, l1, l2, some (vI x), l4] [vI x0, vR z1, vI x2, vR z3] h Q ↔ Rn r 171 47 [l0, l1, l2, some (vI x), l4] [vI x, vI x0, vR z1, vI x2, vR z3] h Q := Rn_nx pg171 rfl rfl
theorem sJ5_add_3_47 : Rn r 171 47 [l0, some (vI x), l2, l3, l4] [vI x0, vI x1, vR z2, vI x3, vR z4] h Q ↔ Rn r 171 48 [l0, some (vI x), l2, l3, l4] [vI x, vI x0, vI x1, vR z2, vI x3, vR z4] h Q := Rn_nx pg171 rfl rfl
theorem sJ5_add_3_48 : Rn r 171 48 [l0, l1, l2, l3, l4] [vI x0, vI x1, vI x2, vR z3, vI x4, vR z5] h Q ↔ Rn r 171 49 [l0, l1, l2, l3, l4] [vI (x1 - x0), vI x2, vR z3, vI x4, vR z5] h Q := Rn_nx pg171 rfl rfl
theorem sJ5_add_3_49 (h0 : 0 ≤ x0 ∧ 0 ≤ x3 ∧ 0 ≤ x1 ∧ x3.toNatClampNeg + x0.toNatClampNeg ≤ hL h a4 ∧ x1.toNatClampNeg + x0.toNatClampNeg ≤ hL h a2) (hk : (hK h a4 = 44 ∨ hK h a4 = 45) ∧ hK h a2 = 44) : Rn r 171 49 [l0, l1, l2, l3, l4] [vI x0, vI x1, vR (some a2), vI x3, vR (some a4)] h Q ↔ Rn r 171 52 [l0, l1, l2, l3, l4] [] (cpyI h a4 x3.toNatClampNeg a2 x1.toNatClampNeg x0.toNatClampNeg) Q := Rn_nx pg171 rfl ((if_pos ⟨by decide, h0⟩).trans (if_pos hk))
theorem sJ5_add_3_49_r (h0 : 0 ≤ x0 ∧ 0 ≤ x3 ∧ 0 ≤ x1 ∧ x3.toNatClampNeg + x0.toNatClampNeg ≤ hL h a4 ∧ x1.toNatClampNeg + x0.toNatClampNeg ≤ hL h a2) (hk : (hK h a4 = 46 ∨ hK h a4 = 47) ∧ hK h a2 = 46) : Rn r 171 49 [l0, l1, l2, l3, l4] [vI x0, vI x1, vR (some a2), vI x3, vR (some a4)] h Q ↔ Rn r 171 52 [l0, l1, l2, l3, l4] [] (cpyR h a4 x3.toNatClampNeg a2 x1.toNatClampNeg x0.toNatClampNeg) Q := Rn_nx pg171 rfl ((if_pos ⟨by decide, h0⟩).trans ((if_neg (fun q => by rw [hk.2] at q; exact absurd q.2 (by decide))).trans (if_pos hk)))
theorem sJ5_add_3_52 : Rn r 171 52 [l0, l1, l2, l3, some (vR z)] [] h Q ↔ Rn r 171 54 [l0, l1, l2, l3, some (vR z)] [vR z] h Q := Rn_nx pg171 rfl rfl
theorem sJ5_add_3_54 : Rn r 171 54 [l0, some (vI x), l2, l3, l4] [vR z0] h Q ↔ Rn r 171 55 [l0, some (vI x), l2, l3, l4] [vI x, vR z0] h Q := Rn_nx pg171 rfl rfl
theorem sJ5_add_3_55 : Rn r 171 55 [l0, l1, some (vR z), l3, l4] [vI x0, vR z1] h Q ↔ Rn r 171 56 [l0, l1, some (vR z), l3, l4] [vR z, vI x0, vR z1] h Q := Rn_nx pg171 rfl rfl
theorem sJ5_add_3_56_n (hk : hK h a2 = 46 ∨ hK h a2 = 48) (hx : ¬ (x1 < 0 ∨ hL h a2 ≤ x1.toNatClampNeg)) : Rn r 171 56 [l0, l1, l2, l3, l4] [vR none, vI x1, vR (some a2)] h Q ↔ Rn r 171 57 [l0, l1, l2, l3, l4] [] (putR h a2 x1.toNatClampNeg none) Q := Rn_nx pg171 rfl ((if_pos hk).trans (if_neg hx))
theorem sJ5_add_3_56 (hk : (hK h a2 = 46 ∧ 0 < hK h a0 ∧ hK h a0 < 40) ∨ (hK h a2 = 48 ∧ 12 ≤ hK h a0 ∧ hK h a0 ≤ 13)) (hx : ¬ (x1 < 0 ∨ hL h a2 ≤ x1.toNatClampNeg)) : Rn r 171 56 [l0, l1, l2, l3, l4] [vR (some a0), vI x1, vR (some a2)] h Q ↔ Rn r 171 57 [l0, l1, l2, l3, l4] [] (putR h a2 x1.toNatClampNeg (some a0)) Q := Rn_nx pg171 rfl ((if_pos hk).trans (if_neg hx))
theorem sJ5_add_3_57 : Rn r 171 57 [some (vR z), l1, l2, l3, l4] [] h Q ↔ Rn r 171 58 [some (vR z), l1, l2, l3, l4] [vR z] h Q := Rn_nx pg171 rfl rfl
theorem sJ5_add_3_58 : Rn r 171 58 [l0, l1, l2, some (vI x), l4] [vR z0] h Q ↔ Rn r 171 59 [l0, l1, l2, some (vI x), l4] [vI x, vR z0] h Q := Rn_nx pg171 rfl rfl
theorem sJ5_add_3_59 : Rn r 171 59 [l0, l1, l2, l3, l4] [vI x0, vR z1] h Q ↔ Rn r 171 60 [l0, l1, l2, l3, l4] [vI 1, vI x0, vR z1] h Q := Rn_nx pg171 rfl rfl
theorem sJ5_add_3_60 : Rn r 171 60 [l0, l1, l2, l3, l4] [vI x0, vI x1, vR z2] h Q ↔ Rn r 171 61 [l0, l1, l2, l3, l4] [vI (x1 + x0), vR z2] h Q := Rn_nx pg171 rfl rfl
theorem sJ5_add_3_61 (hk : hK h a1 = 4) : Rn r 171 61 [l0, l1, l2, l3, l4] [vI x0, vR (some a1)] h Q ↔ Rn r 171 64 [l0, l1, l2, l3, l4] [] (putI h a1 2 x0) Q := Rn_nx pg171 rfl ((if_pos ⟨(hk ▸ Nat.le_refl _), (hk ▸ Nat.le_refl _)⟩).trans rfl)
theorem sJ5_add_3_64 : Rn r 171 64 [l0, l1, l2, l3, l4] [] h Q ↔ Q (Sum.inl none) h := Rn_end pg171 rfl rfl
/-! 172 java/util/ArrayList.<init>(I)V -/
theorem eJ5_init_2 : Cl r 172 [vR z0, vI x1] h Q ↔ Rn r 172 0 [some (vR z0), some (vI x1)] [] h Q := Cl_in pg172 rfl
theorem sJ5_init_2_0 : Rn r 172 0 [some (vR z), l1] [] h Q ↔ Rn r 172 1 [some (vR z), l1] [vR z] h Q := Rn_nx pg172 rfl rfl
theorem sJ5_init_2_1 (hk : 0 < hK h a0) (hk2 : hK h a0 < 40) : Rn r 172 1 [l0, l1] [vR (some a0)] h Q ↔ Cl r 116 [vR (some a0)] h (Kt r 172 4 [l0, l1] [] Q) := Rn_call pg172 rfl (if_pos ⟨hk, hk2⟩) pg116 rfl rfl rfl
theorem sJ5_init_2_4 : Rn r 172 4 [l0, some (vI x)] [] h Q ↔ Rn r 172 5 [l0, some (vI x)] [vI x] h Q := Rn_nx pg172 rfl rfl
theorem sJ5_init_2_5 : Rn r 172 5 [l0, l1] [vI x0] h Q ↔ if x0 ≤ 0 then Rn r 172 19 [l0, l1] [] h Q else Rn r 172 8 [l0, l1] [] h Q := Rn_if pg172 rfl rfl rfl
theorem sJ5_init_2_8 : Rn r 172 8 [some (vR z), l1] [] h Q ↔ Rn r 172 9 [some (vR z), l1] [vR z] h Q := Rn_nx pg172 rfl rfl
theorem sJ5_init_2_9 : Rn r 172 9 [l0, some (vI x)] [vR z0] h Q ↔ Rn r 172 10 [l0, some (vI x)] [vI x, vR z0] h Q := Rn_nx pg172 rfl rfl
theorem sJ5_init_2_10 (hn : ¬ (x0 < 0 ∨ 65536 < x0.toNatClampNeg)) : Rn r 172 10 [l0, l1] [vI x0, vR z1] h Q ↔ Rn r 172 13 [l0, l1] [vR (some (hN h)), vR z1] (newC h 46 x0.toNatClampNeg) Q := Rn_nx pg172 rfl (if_neg hn)
theorem sJ5_init_2_13 (hk : hK h a1 = 4) : Rn r 172 13 [l0, l1] [vR z0, vR (some a1)] h Q ↔ Rn r 172 16 [l0, l1] [] (putR h a1 1 z0) Q := Rn_nx pg172 rfl ((if_pos ⟨(hk ▸ Nat.le_refl _), (hk ▸ Nat.le_refl _)⟩).trans rfl)
theorem sJ5_init_2_16 : Rn r 172 16 [l0, l1] [] h Q ↔ Rn r 172 60 [l0, l1] [] h Q := Rn_nx pg172 rfl rfl
theorem sJ5_init_2_19 : Rn r 172 19 [l0, some (vI x)] [] h Q ↔ Rn r 172 20 [l0, some (vI x)] [vI x] h Q := Rn_nx pg172 rfl rfl
theorem sJ5_init_2_20 : Rn r 172 20 [l0, l1] [vI x0] h Q ↔ if x0 ≠ 0 then Rn r 172 33 [l0, l1] [] h Q else Rn r 172 23 [l0, l1] [] h Q := Rn_if pg172 rfl rfl rfl
theorem sJ5_init_2_23 : Rn r 172 23 [some (vR z), l1] [] h Q ↔ Rn r 172 24 [some (vR z), l1] [vR z] h Q := Rn_nx pg172 rfl rfl
theorem sJ5_init_2_24 : Rn r 172 24 [l0, l1] [vR z0] h Q ↔ Rn r 172 27 [l0, l1] [vR (some (hE h 30)), vR z0] h Q := Rn_nx pg172 rfl rfl
theorem sJ5_init_2_27 (hk : hK h a1 = 4) : Rn r 172 27 [l0, l1] [vR z0, vR (some a1)] h Q ↔ Rn r 172 30 [l0, l1] [] (putR h a1 1 z0) Q := Rn_nx pg172 rfl ((if_pos ⟨(hk ▸ Nat.le_refl _), (hk ▸ Nat.le_refl _)⟩).trans rfl)
theorem sJ5_init_2_30 : Rn r 172 30 [l0, l1] [] h Q ↔ Rn r 172 60 [l0, l1] [] h Q := Rn_nx pg172 rfl rfl
theorem sJ5_init_2_36 : Rn r 172 36 [l0, l1] [vR z0] h Q ↔ Rn r 172 37 [l0, l1] [vR z0, vR z0] h Q := Rn_nx pg172 rfl rfl
theorem sJ5_init_2_40 : Rn r 172 40 [l0, l1] [vR z0, vR z1, vR z2] h Q ↔ Rn r 172 41 [l0, l1] [vR z0, vR z0, vR z1, vR z2] h Q := Rn_nx pg172 rfl rfl
theorem sJ5_init_2_60 : Rn r 172 60 [l0, l1] [] h Q ↔ Q (Sum.inl none) h := Rn_end pg172 rfl rfl
/-! 173 ThrowRules$Named.<init>(LThrowRules$Kind;I)V -/
theorem eX9_init : Cl r 173 [vR z0, vR z1, vI x2] h Q ↔ Rn r 173 0 [some (vR z0), some (vR z1), some (vI x2)] [] h Q := Cl_in pg173 rfl
theorem sX9_init_0 : Rn r 173 0 [some (vR z), l1, l2] [] h Q ↔ Rn r 173 1 [some (vR z), l1, l2] [vR z] h Q := Rn_nx pg173 rfl rfl
theorem sX9_init_1 (hk : 0 < hK h a0) (hk2 : hK h a0 < 40) : Rn r 173 1 [l0, l1, l2] [vR (some a0)] h Q ↔ Cl r 218 [vR (some a0)] h (Kt r 173 4 [l0, l1, l2] [] Q) := Rn_call pg173 rfl (if_pos ⟨hk, hk2⟩) pg218 rfl rfl rfl
theorem sX9_init_4 : Rn r 173 4 [some (vR z), l1, l2] [] h Q ↔ Rn r 173 5 [some (vR z), l1, l2] [vR z] h Q := Rn_nx pg173 rfl rfl
theorem sX9_init_5 : Rn r 173 5 [l0, some (vR z), l2] [vR z0] h Q ↔ Rn r 173 6 [l0, some (vR z), l2] [vR z, vR z0] h Q := Rn_nx pg173 rfl rfl
theorem sX9_init_6 (hk : hK h a1 = 19) : Rn r 173 6 [l0, l1, l2] [vR z0, vR (some a1)] h Q ↔ Rn r 173 9 [l0, l1, l2] [] (putR h a1 0 z0) Q := Rn_nx pg173 rfl ((if_pos ⟨(hk ▸ Nat.le_refl _), (hk ▸ Nat.le_refl _)⟩).trans rfl)
theorem sX9_init_9 : Rn r 173 9 [some (vR z), l1, l2] [] h Q ↔ Rn r 173 10 [some (vR z), l1, l2] [vR z] h Q := Rn_nx pg173 rfl rfl
theorem sX9_init_10 : Rn r 173 10 [l0, l1, some (vI x)] [vR z0] h Q ↔ Rn r 173 11 [l0, l1, some (vI x)] [vI x, vR z0] h Q := Rn_nx pg173 rfl rfl
theorem sX9_init_11 (hk : hK h a1 = 19) : Rn r 173 11 [l0, l1, l2] [vI x0, vR (some a1)] h Q ↔ Rn r 173 14 [l0, l1, l2] [] (putI h a1 1 x0) Q := Rn_nx pg173 rfl ((if_pos ⟨(hk ▸ Nat.le_refl _), (hk ▸ Nat.le_refl _)⟩).trans rfl)
theorem sX9_init_14 : Rn r 173 14 [l0, l1, l2] [] h Q ↔ Q (Sum.inl none) h := Rn_end pg173 rfl rfl
/-! 174 ThrowRules$Block.<init>()V -/
theorem eX11_init : Cl r 174 [vR z0] h Q ↔ Rn r 174 0 [some (vR z0)] [] h Q := Cl_in pg174 rfl
theorem sX11_init_0 : Rn r 174 0 [some (vR z)] [] h Q ↔ Rn r 174 1 [some (vR z)] [vR z] h Q := Rn_nx pg174 rfl rfl
theorem sX11_init_1 : Rn r 174 1 [l0] [vR (some a0)] h Q ↔ Rn r 174 4 [l0] [] h Q := Rn_nx pg174 rfl rfl
theorem sX11_init_4 : Rn r 174 4 [some (vR z)] [] h Q ↔ Rn r 174 5 [some (vR z)] [vR z] h Q := Rn_nx pg174 rfl rfl
theorem sX11_init_5 : Rn r 174 5 [l0] [vR z0] h Q ↔ Rn r 174 8 [l0] [vR (some (hN h)), vR z0] (newC h 4 3) Q := Rn_nx pg174 rfl rfl
theorem sX11_init_8 : Rn r 174 8 [l0] [vR z0, vR z1] h Q ↔ Rn r 174 9 [l0] [vR z0, vR z0, vR z1] h Q := Rn_nx pg174 rfl rfl
theorem sX11_init_9 : Rn r 174 9 [l0] [vR z0, vR z1, vR z2] h Q ↔ Rn r 174 10 [l0] [vI 3, vR z0, vR z1, vR z2] h Q := Rn_nx pg174 rfl rfl
theorem sX11_init_10 (hk : 0 < hK h a1) (hk2 : hK h a1 < 40) : Rn r 174 10 [l0] [vI x0, vR (some a1), vR z2, vR z3] h Q ↔ Cl r 172 [vR (some a1), vI x0] h (Kt r 174 13 [l0] [vR z2, vR z3] Q) := Rn_call pg174 rfl (if_pos ⟨hk, hk2⟩) pg172 rfl rfl rfl
theorem sX11_init_13 (hk : hK h a1 = 21) : Rn r 174 13 [l0] [vR z0, vR (some a1)] h Q ↔ Rn r 174 16 [l0] [] (putR h a1 0 z0) Q := Rn_nx pg174 rfl ((if_pos ⟨(hk ▸ Nat.le_refl _), (hk ▸ Nat.le_refl _)⟩).trans rfl)
theorem sX11_init_16 : Rn r 174 16 [l0] [] h Q ↔ Q (Sum.inl none) h := Rn_end pg174 rfl rfl
/-! 175 ThrowRules$Reader.statement(LThrowRules$Around;)LThrowRules$Statement; -/
theorem eX1_statement : Cl r 175 [vR z0, vR z1] h Q ↔ Rn r 175 0 [some (vR z0), some (vR z1), none, none, none, none, none, none, none, none, none, none, none] [] h Q := Cl_in pg175 rfl
theorem sX1_statement_0 : Rn r 175 0 [some (vR z), l1, l2, l3, l4, l5, l6, l7, l8, l9, l10, l11, l12] [] h Q ↔ Rn r 175 1 [some (vR z), l1, l2, l3, l4, l5, l6, l7, l8, l9, l10, l11, l12] [vR z] h Q := Rn_nx pg175 rfl rfl
theorem sX1_statement_1 (hk : hK h a0 = 2) : Rn r 175 1 [l0, l1, l2, l3, l4, l5, l6, l7, l8, l9, l10, l11, l12] [vR (some a0)] h Q ↔ Rn r 175 4 [l0, l1, l2, l3, l4, l5, l6, l7, l8, l9, l10, l11, l12] [vI (hI h a0 6)] h Q := Rn_nx pg175 rfl (if_pos ⟨(hk ▸ Nat.le_refl _), (hk ▸ Nat.le_refl _)⟩)
theorem sX1_statement_4 : Rn r 175 4 [l0, l1, l2, l3, l4, l5, l6, l7, l8, l9, l10, l11, l12] [vI x0] h Q ↔ Rn r 175 6 [l0, l1, l2, l3, l4, l5, l6, l7, l8, l9, l10, l11, l12] [vI 123, vI x0] h Q := Rn_nx pg175 rfl rfl
theorem sX1_statement_6 : Rn r 175 6 [l0, l1, l2, l3, l4, l5, l6, l7, l8, l9, l10, l11, l12] [vI x0, vI x1] h Q ↔ if x1 = x0 then Rn r 175 52 [l0, l1, l2, l3, l4, l5, l6, l7, l8, l9, l10, l11, l12] [] h Q else Rn r 175 9 [l0, l1, l2, l3, l4, l5, l6, l7, l8, l9, l10, l11, l12] [] h Q := Rn_if pg175 rfl rfl rfl
theorem sX1_statement_9 : Rn r 175 9 [some (vR z), l1, l2, l3, l4, l5, l6, l7, l8, l9, l10, l11, l12] [] h Q ↔ Rn r 175 10 [some (vR z), l1, l2, l3, l4, l5, l6, l7, l8, l9, l10, l11, l12] [vR z] h Q := Rn_nx pg175 rfl rfl
theorem sX1_statement_10 (hk : hK h a0 = 2) : Rn r 175 10 [l0, l1, l2, l3, l4, l5, l6, l7, l8, l9, l10, l11, l12] [vR (some a0)] h Q ↔ Rn r 175 13 [l0, l1, l2, l3, l4, l5, l6, l7, l8, l9, l10, l11, l12] [vR (hR h a0 5)] h Q := Rn_nx pg175 rfl (if_pos ⟨(hk ▸ Nat.le_refl _), (hk ▸ Nat.le_refl _)⟩)
theorem sX1_statement_13 : Rn r 175 13 [l0, l1, l2, l3, l4, l5, l6, l7, l8, l9, l10, l11, l12] [vR z0] h Q ↔ if z0 = none then Rn r 175 56 [l0, l1, l2, l3, l4, l5, l6, l7, l8, l9, l10, l11, l12] [] h Q else Rn r 175 16 [l0, l1, l2, l3, l4, l5, l6, l7, l8, l9, l10, l11, l12] [] h Q := Rn_if pg175 rfl rfl rfl
theorem sX1_statement_16 : Rn r 175 16 [l0, l1, l2, l3, l4, l5, l6, l7, l8, l9, l10, l11, l12] [] h Q ↔ Rn r 175 19 [l0, l1, l2, l3, l4, l5, l6, l7, l8, l9, l10, l11, l12] [vR (some (hE h 13))] h Q := Rn_nx pg175 rfl rfl
theorem sX1_statement_19 : Rn r 175 19 [l0, l1, l2, l3, l4, l5, l6, l7, l8, l9, l10, l11, l12] [vR z0] h Q ↔ Rn r 175 22 [l0, l1, l2, l3, l4, l5, l6, l7, l8, l9, l10, l11, l12] [vR (some (hN h)), vR z0] (newC h 16 4) Q := Rn_nx pg175 rfl rfl
theorem sX1_statement_22 : Rn r 175 22 [l0, l1, l2, l3, l4, l5, l6, l7, l8, l9, l10, l11, l12] [vR z0, vR z1] h Q ↔ Rn r 175 23 [l0, l1, l2, l3, l4, l5, l6, l7, l8, l9, l10, l11, l12] [vR z0, vR z0, vR z1] h Q := Rn_nx pg175 rfl rfl
theorem sX1_statement_23 (hk : 0 < hK h a0) (hk2 : hK h a0 < 40) : Rn r 175 23 [l0, l1, l2, l3, l4, l5, l6, l7, l8, l9, l10, l11, l12] [vR (some a0), vR z1, vR z2] h Q ↔ Cl r 215 [vR (some a0)] h (Kt r 175 26 [l0, l1, l2, l3, l4, l5, l6, l7, l8, l9, l10, l11, l12] [vR z1, vR z2] Q) := Rn_call pg175 rfl (if_pos ⟨hk, hk2⟩) pg215 rfl rfl rfl
theorem sX1_statement_26 : Rn r 175 26 [l0, l1, l2, l3, l4, l5, l6, l7, l8, l9, l10, l11, l12] [vR z0, vR z1] h Q ↔ Rn r 175 28 [l0, l1, l2, l3, l4, l5, l6, l7, l8, l9, l10, l11, l12] [vR (some (hE h 7)), vR z0, vR z1] h Q := Rn_nx pg175 rfl rfl
theorem sX1_statement_28 (hk : hK h a1 = 16) : Rn r 175 28 [l0, l1, l2, l3, l4, l5, l6, l7, l8, l9, l10, l11, l12] [vR z0, vR (some a1), vR z2] h Q ↔ Cl r 216 [vR (some a1), vR z0] h (Kt r 175 31 [l0, l1, l2, l3, l4, l5, l6, l7, l8, l9, l10, l11, l12] [vR z2] Q) := Rn_call pg175 rfl (by simp only [am_exec, am_inv, am_pop, am_lk, hk]; rfl) pg216 rfl rfl rfl
theorem sX1_statement_31 : Rn r 175 31 [some (vR z), l1, l2, l3, l4, l5, l6, l7, l8, l9, l10, l11, l12] [vR z0, vR z1] h Q ↔ Rn r 175 32 [some (vR z), l1, l2, l3, l4, l5, l6, l7, l8, l9, l10, l11, l12] [vR z, vR z0, vR z1] h Q := Rn_nx pg175 rfl rfl
theorem sX1_statement_32 (hk : hK h a0 = 2) : Rn r 175 32 [l0, l1, l2, l3, l4, l5, l6, l7, l8, l9, l10, l11, l12] [vR (some a0), vR z1, vR z2] h Q ↔ Rn r 175 35 [l0, l1, l2, l3, l4, l5, l6, l7, l8, l9, l10, l11, l12] [vR (hR h a0 5), vR z1, vR z2] h Q := Rn_nx pg175 rfl (if_pos ⟨(hk ▸ Nat.le_refl _), (hk ▸ Nat.le_refl _)⟩)
theorem sX1_statement_35 (hk : hK h a1 = 16) : Rn r 175 35 [l0, l1, l2, l3, l4, l5, l6, l7, l8, l9, l10, l11, l12] [vR z0, vR (some a1), vR z2] h Q ↔ Cl r 216 [vR (some a1), vR z0] h (Kt r 175 38 [l0, l1, l2, l3, l4, l5, l6, l7, l8, l9, l10, l11, l12] [vR z2] Q) := Rn_call pg175 rfl (by simp only [am_exec, am_inv, am_pop, am_lk, hk]; rfl) pg216 rfl rfl rfl
theorem sX1_statement_38 : Rn r 175 38 [l0, l1, l2, l3, l4, l5, l6, l7, l8, l9, l10, l11, l12] [vR z0, vR z1] h Q ↔ Rn r 175 40 [l0, l1, l2, l3, l4, l5, l6, l7, l8, l9, l10, l11, l12] [vR (some (hE h 7)), vR z0, vR z1] h Q := Rn_nx pg175 rfl rfl
theorem sX1_statement_40 (hk : hK h a1 = 16) : Rn r 175 40 [l0, l1, l2, l3, l4, l5, l6, l7, l8, l9, l10, l11, l12] [vR z0, vR (some a1), vR z2] h Q ↔ Cl r 216 [vR (some a1), vR z0] h (Kt r 175 43 [l0, l1, l2, l3, l4, l5, l6, l7, l8, l9, l10, l11, l12] [vR z2] Q) := Rn_call pg175 rfl (by simp only [am_exec, am_inv, am_pop, am_lk, hk]; rfl) pg216 rfl rfl rfl
theorem sX1_statement_43 (hk : hK h a0 = 16) : Rn r 175 43 [l0, l1, l2, l3, l4, l5, l6, l7, l8, l9, l10, l11, l12] [vR (some a0), vR z1] h Q ↔ Cl r 65 [vR (some a0)] h (Kt r 175 46 [l0, l1, l2, l3, l4, l5, l6, l7, l8, l9, l10, l11, l12] [vR z1] Q) := Rn_call pg175 rfl (by simp only [am_exec, am_inv, am_pop, am_lk, hk]; rfl) pg65 rfl rfl rfl
theorem sX1_statement_46 (hk : 10 ≤ hK h a1) (hk2 : hK h a1 ≤ 11) : Rn r 175 46 [l0, l1, l2, l3, l4, l5, l6, l7, l8, l9, l10, l11, l12] [vR z0, vR (some a1)] h Q ↔ Cl r 217 [vR (some a1), vR z0] h (Kt r 175 49 [l0, l1, l2, l3, l4, l5, l6, l7, l8, l9, l10, l11, l12] [] Q) := Rn_call pg175 rfl (by rcases am_rng2 hk hk2 with q | q <;> simp only [am_exec, am_inv, am_pop, am_lk, q] <;> rfl) pg217 rfl rfl rfl
theorem sX1_statement_49 : Rn r 175 49 [l0, l1, l2, l3, l4, l5, l6, l7, l8, l9, l10, l11, l12] [vI x0] h Q ↔ if x0 = 0 then Rn r 175 56 [l0, l1, l2, l3, l4, l5, l6, l7, l8, l9, l10, l11, l12] [] h Q else Rn r 175 52 [l0, l1, l2, l3, l4, l5, l6, l7, l8, l9, l10, l11, l12] [] h Q := Rn_if pg175 rfl rfl rfl
theorem sX1_statement_52 : Rn r 175 52 [l0, l1, l2, l3, l4, l5, l6, l7, l8, l9, l10, l11, l12] [] h Q ↔ Rn r 175 53 [l0, l1, l2, l3, l4, l5, l6, l7, l8, l9, l10, l11, l12] [vI 1] h Q := Rn_nx pg175 rfl rfl
theorem sX1_statement_53 : Rn r 175 53 [l0, l1, l2, l3, l4, l5, l6, l7, l8, l9, l10, l11, l12] [vI x0] h Q ↔ Rn r 175 57 [l0, l1, l2, l3, l4, l5, l6, l7, l8, l9, l10, l11, l12] [vI x0] h Q := Rn_nx pg175 rfl rfl
theorem sX1_statement_56 : Rn r 175 56 [l0, l1, l2, l3, l4, l5, l6, l7, l8, l9, l10, l11, l12] [] h Q ↔ Rn r 175 57 [l0, l1, l2, l3, l4, l5, l6, l7, l8, l9, l10, l11, l12] [vI 0] h Q := Rn_nx pg175 rfl rfl
theorem sX1_statement_57 : Rn r 175 57 [l0, l1, l2, l3, l4, l5, l6, l7, l8, l9, l10, l11, l12] [vI x0] h Q ↔ Rn r 175 58 [l0, l1, some (vI x0), l3, l4, l5, l6, l7, l8, l9, l10, l11, l12] [] h Q := Rn_nx pg175 rfl rfl
theorem sX1_statement_58 : Rn r 175 58 [some (vR z), l1, l2, l3, l4, l5, l6, l7, l8, l9, l10, l11, l12] [] h Q ↔ Rn r 175 59 [some (vR z), l1, l2, l3, l4, l5, l6, l7, l8, l9, l10, l11, l12] [vR z] h Q := Rn_nx pg175 rfl rfl
theorem sX1_statement_59 : Rn r 175 59 [l0, l1, some (vI x), l3, l4, l5, l6, l7, l8, l9, l10, l11, l12] [vR z0] h Q ↔ Rn r 175 60 [l0, l1, some (vI x), l3, l4, l5, l6, l7, l8, l9, l10, l11, l12] [vI x, vR z0] h Q := Rn_nx pg175 rfl rfl
theorem sX1_statement_60 : Rn r 175 60 [l0, l1, l2, l3, l4, l5, l6, l7, l8, l9, l10, l11, l12] [vI x0, vR z1] h Q ↔ if x0 = 0 then Rn r 175 82 [l0, l1, l2, l3, l4, l5, l6, l7, l8, l9, l10, l11, l12] [vR z1] h Q else Rn r 175 63 [l0, l1, l2, l3, l4, l5, l6, l7, l8, l9, l10, l11, l12] [vR z1] h Q := Rn_if pg175 rfl rfl rfl
theorem sX1_statement_63 : Rn r 175 63 [some (vR z), l1, l2, l3, l4, l5, l6, l7, l8, l9, l10, l11, l12] [vR z0] h Q ↔ Rn r 175 64 [some (vR z), l1, l2, l3, l4, l5, l6, l7, l8, l9, l10, l11, l12] [vR z, vR z0] h Q := Rn_nx pg175 rfl rfl
theorem sX1_statement_64 (hk : hK h a0 = 2) : Rn r 175 64 [l0, l1, l2, l3, l4, l5, l6, l7, l8, l9, l10, l11, l12] [vR (some a0), vR z1] h Q ↔ Rn r 175 67 [l0, l1, l2, l3, l4, l5, l6, l7, l8, l9, l10, l11, l12] [vR (hR h a0 7), vR z1] h Q := Rn_nx pg175 rfl (if_pos ⟨(hk ▸ Nat.le_refl _), (hk ▸ Nat.le_refl _)⟩)
theorem sX1_statement_67 (hk : hK h a0 = 5) : Rn r 175 67 [l0, l1, l2, l3, l4, l5, l6, l7, l8, l9, l10, l11, l12] [vR (some a0), vR z1] h Q ↔ Rn r 175 70 [l0, l1, l2, l3, l4, l5, l6, l7, l8, l9, l10, l11, l12] [vR (hR h a0 4), vR z1] h Q := Rn_nx pg175 rfl (if_pos ⟨(hk ▸ Nat.le_refl _), (hk ▸ Nat.le_refl _)⟩)
theorem sX1_statement_70 (hk : hK h a0 = 4) : Rn r 175 70 [l0, l1, l2, l3, l4, l5, l6, l7, l8, l9, l10, l11, l12] [vR (some a0), vR z1] h Q ↔ Cl r 34 [vR (some a0)] h (Kt r 175 73 [l0, l1, l2, l3, l4, l5, l6, l7, l8, l9, l10, l11, l12] [vR z1] Q) := Rn_call pg175 rfl (by simp only [am_exec, am_inv, am_pop, am_lk, hk]; rfl) pg34 rfl rfl rfl
theorem sX1_statement_73 : Rn r 175 73 [l0, l1, l2, l3, l4, l5, l6, l7, l8, l9, l10, l11, l12] [vI x0, vR z1] h Q ↔ Rn r 175 75 [l0, l1, l2, l3, l4, l5, l6, l7, l8, l9, l10, l11, l12] [vI 120, vI x0, vR z1] h Q := Rn_nx pg175 rfl rfl
theorem sX1_statement_75 : Rn r 175 75 [l0, l1, l2, l3, l4, l5, l6, l7, l8, l9, l10, l11, l12] [vI x0, vI x1, vR z2] h Q ↔ if x0 ≤ x1 then Rn r 175 82 [l0, l1, l2, l3, l4, l5, l6, l7, l8, l9, l10, l11, l12] [vR z2] h Q else Rn r 175 78 [l0, l1, l2, l3, l4, l5, l6, l7, l8, l9, l10, l11, l12] [vR z2] h Q := Rn_if pg175 rfl rfl rfl
theorem sX1_statement_78 : Rn r 175 78 [l0, l1, l2, l3, l4, l5, l6, l7, l8, l9, l10, l11, l12] [vR z0] h Q ↔ Rn r 175 79 [l0, l1, l2, l3, l4, l5, l6, l7, l8, l9, l10, l11, l12] [vI 1, vR z0] h Q := Rn_nx pg175 rfl rfl
theorem sX1_statement_79 : Rn r 175 79 [l0, l1, l2, l3, l4, l5, l6, l7, l8, l9, l10, l11, l12] [vI x0, vR z1] h Q ↔ Rn r 175 83 [l0, l1, l2, l3, l4, l5, l6, l7, l8, l9, l10, l11, l12] [vI x0, vR z1] h Q := Rn_nx pg175 rfl rfl
theorem sX1_statement_82 : Rn r 175 82 [l0, l1, l2, l3, l4, l5, l6, l7, l8, l9, l10, l11, l12] [vR z0] h Q ↔ Rn r 175 83 [l0, l1, l2, l3, l4, l5, l6, l7, l8, l9, l10, l11, l12] [vI 0, vR z0] h Q := Rn_nx pg175 rfl rfl
theorem sX1_statement_83 (hk : hK h a1 = 2) : Rn r 175 83 [l0, l1, l2, l3, l4, l5, l6, l7, l8, l9, l10, l11, l12] [vI x0, vR (some a1)] h Q ↔ Cl r 83 [vR (some a1), vI x0] h (Kt r 175 86 [l0, l1, l2, l3, l4, l5, l6, l7, l8, l9, l10, l11, l12] [] Q) := Rn_call pg175 rfl (by simp only [am_exec, am_inv, am_pop, am_lk, hk]; rfl) pg83 rfl rfl rfl
theorem sX1_statement_86 : Rn r 175 86 [some (vR z), l1, l2, l3, l4, l5, l6, l7, l8, l9, l10, l11, l12] [] h Q ↔ Rn r 175 87 [some (vR z), l1, l2, l3, l4, l5, l6, l7, l8, l9, l10, l11, l12] [vR z] h Q := Rn_nx pg175 rfl rfl
theorem sX1_statement_87 (hk : hK h a0 = 2) : Rn r 175 87 [l0, l1, l2, l3, l4, l5, l6, l7, l8, l9, l10, l11, l12] [vR (some a0)] h Q ↔ Cl r 220 [vR (some a0)] h (Kt r 175 90 [l0, l1, l2, l3, l4, l5, l6, l7, l8, l9, l10, l11, l12] [] Q) := Rn_call pg175 rfl (by simp only [am_exec, am_inv, am_pop, am_lk, hk]; rfl) pg220 rfl rfl rfl
theorem sX1_statement_90 : Rn r 175 90 [l0, l1, l2, l3, l4, l5, l6, l7, l8, l9, l10, l11, l12] [vR z0] h Q ↔ Rn r 175 91 [l0, l1, l2, some (vR z0), l4, l5, l6, l7, l8, l9, l10, l11, l12] [] h Q := Rn_nx pg175 rfl rfl
theorem sX1_statement_91 : Rn r 175 91 [l0, l1, l2, some (vR z), l4, l5, l6, l7, l8, l9, l10, l11, l12] [] h Q ↔ Rn r 175 92 [l0, l1, l2, some (vR z), l4, l5, l6, l7, l8, l9, l10, l11, l12] [vR z] h Q := Rn_nx pg175 rfl rfl
theorem sX1_statement_92 : Rn r 175 92 [some (vR z), l1, l2, l3, l4, l5, l6, l7, l8, l9, l10, l11, l12] [vR z0] h Q ↔ Rn r 175 93 [some (vR z), l1, l2, l3, l4, l5, l6, l7, l8, l9, l10, l11, l12] [vR z, vR z0] h Q := Rn_nx pg175 rfl rfl
theorem sX1_statement_93 (hk : hK h a0 = 2) : Rn r 175 93 [l0, l1, l2, l3, l4, l5, l6, l7, l8, l9, l10, l11, l12] [vR (some a0), vR z1] h Q ↔ Rn r 175 96 [l0, l1, l2, l3, l4, l5, l6, l7, l8, l9, l10, l11, l12] [vR (hR h a0 7), vR z1] h Q := Rn_nx pg175 rfl (if_pos ⟨(hk ▸ Nat.le_refl _), (hk ▸ Nat.le_refl _)⟩)
theorem sX1_statement_96 (hk : hK h a0 = 5) : Rn r 175 96 [l0, l1, l2, l3, l4, l5, l6, l7, l8, l9, l10, l11, l12] [vR (some a0), vR z1] h Q ↔ Rn r 175 99 [l0, l1, l2, l3, l4, l5, l6, l7, l8, l9, l10, l11, l12] [vR (hR h a0 4), vR z1] h Q := Rn_nx pg175 rfl (if_pos ⟨(hk ▸ Nat.le_refl _), (hk ▸ Nat.le_refl _)⟩)
theorem sX1_statement_99 (hk : hK h a0 = 4) : Rn r 175 99 [l0, l1, l2, l3, l4, l5, l6, l7, l8, l9, l10, l11, l12] [vR (some a0), vR z1] h Q ↔ Cl r 34 [vR (some a0)] h (Kt r 175 102 [l0, l1, l2, l3, l4, l5, l6, l7, l8, l9, l10, l11, l12] [vR z1] Q) := Rn_call pg175 rfl (by simp only [am_exec, am_inv, am_pop, am_lk, hk]; rfl) pg34 rfl rfl rfl
theorem sX1_statement_102 (hk : 30 ≤ hK h a1) (hk2 : hK h a1 ≤ 38) : Rn r 175 102 [l0, l1, l2, l3, l4, l5, l6, l7, l8, l9, l10, l11, l12] [vI x0, vR (some a1)] h Q ↔ Rn r 175 105 [l0, l1, l2, l3, l4, l5, l6, l7, l8, l9, l10, l11, l12] [] (putI h a1 0 x0) Q := Rn_nx pg175 rfl ((if_pos ⟨hk, hk2⟩).trans rfl)
theorem sX1_statement_105 : Rn r 175 105 [l0, l1, l2, some (vR z), l4, l5, l6, l7, l8, l9, l10, l11, l12] [] h Q ↔ Rn r 175 106 [l0, l1, l2, some (vR z), l4, l5, l6, l7, l8, l9, l10, l11, l12] [vR z] h Q := Rn_nx pg175 rfl rfl
theorem sX1_statement_106 : Rn r 175 106 [some (vR z), l1, l2, l3, l4, l5, l6, l7, l8, l9, l10, l11, l12] [vR z0] h Q ↔ Rn r 175 107 [some (vR z), l1, l2, l3, l4, l5, l6, l7, l8, l9, l10, l11, l12] [vR z, vR z0] h Q := Rn_nx pg175 rfl rfl
theorem sX1_statement_107 (hk : hK h a0 = 2) : Rn r 175 107 [l0, l1, l2, l3, l4, l5, l6, l7, l8, l9, l10, l11, l12] [vR (some a0), vR z1] h Q ↔ Rn r 175 110 [l0, l1, l2, l3, l4, l5, l6, l7, l8, l9, l10, l11, l12] [vI (hI h a0 4), vR z1] h Q := Rn_nx pg175 rfl (if_pos ⟨(hk ▸ Nat.le_refl _), (hk ▸ Nat.le_refl _)⟩)
theorem sX1_statement_110 (hk : 30 ≤ hK h a1) (hk2 : hK h a1 ≤ 38) : Rn r 175 110 [l0, l1, l2, l3, l4, l5, l6, l7, l8, l9, l10, l11, l12] [vI x0, vR (some a1)] h Q ↔ Rn r 175 113 [l0, l1, l2, l3, l4, l5, l6, l7, l8, l9, l10, l11, l12] [] (putI h a1 1 x0) Q := Rn_nx pg175 rfl ((if_pos ⟨hk, hk2⟩).trans rfl)
theorem sX1_statement_113 : Rn r 175 113 [l0, l1, l2, some (vR z), l4, l5, l6, l7, l8, l9, l10, l11, l12] [] h Q ↔ Rn r 175 114 [l0, l1, l2, some (vR z), l4, l5, l6, l7, l8, l9, l10, l11, l12] [vR z] h Q := Rn_nx pg175 rfl rfl
theorem sX1_statement_114 : Rn r 175 114 [some (vR z), l1, l2, l3, l4, l5, l6, l7, l8, l9, l10, l11, l12] [vR z0] h Q ↔ Rn r 175 115 [some (vR z), l1, l2, l3, l4, l5, l6, l7, l8, l9, l10, l11, l12] [vR z, vR z0] h Q := Rn_nx pg175 rfl rfl
theorem sX1_statement_115 (hk : hK h a0 = 2) : Rn r 175 115 [l0, l1, l2, l3, l4, l5, l6, l7, l8, l9, l10, l11, l12] [vR (some a0), vR z1] h Q ↔ Rn r 175 118 [l0, l1, l2, l3, l4, l5, l6, l7, l8, l9, l10, l11, l12] [vR (hR h a0 8), vR z1] h Q := Rn_nx pg175 rfl (if_pos ⟨(hk ▸ Nat.le_refl _), (hk ▸ Nat.le_refl _)⟩)
theorem sX1_statement_118 (hk : 30 ≤ hK h a1) (hk2 : hK h a1 ≤ 38) : Rn r 175 118 [l0, l1, l2, l3, l4, l5, l6, l7, l8, l9, l10, l11, l12] [vR z0, vR (some a1)] h Q ↔ Rn r 175 121 [l0, l1, l2, l3, l4, l5, l6, l7, l8, l9, l10, l11, l12] [] (putR h a1 2 z0) Q := Rn_nx pg175 rfl ((if_pos ⟨hk, hk2⟩).trans rfl)
theorem sX1_statement_121 : Rn r 175 121 [some (vR z), l1, l2, l3, l4, l5, l6, l7, l8, l9, l10, l11, l12] [] h Q ↔ Rn r 175 122 [some (vR z), l1, l2, l3, l4, l5, l6, l7, l8, l9, l10, l11, l12] [vR z] h Q := Rn_nx pg175 rfl rfl
theorem sX1_statement_122 (hk : hK h a0 = 2) : Rn r 175 122 [l0, l1, l2, l3, l4, l5, l6, l7, l8, l9, l10, l11, l12] [vR (some a0)] h Q ↔ Rn r 175 125 [l0, l1, l2, l3, l4, l5, l6, l7, l8, l9, l10, l11, l12] [vR (hR h a0 7)] h Q := Rn_nx pg175 rfl (if_pos ⟨(hk ▸ Nat.le_refl _), (hk ▸ Nat.le_refl _)⟩)
theorem sX1_statement_125 (hk : hK h a0 = 5) : Rn r 175 125 [l0, l1, l2, l3, l4, l5, l6, l7, l8, l9, l10, l11, l12] [vR (some a0)] h Q ↔ Rn r 175 128 [l0, l1, l2, l3, l4, l5, l6, l7, l8, l9, l10, l11, l12] [vR (hR h a0 4)] h Q := Rn_nx pg175 rfl (if_pos ⟨(hk ▸ Nat.le_refl _), (hk ▸ Nat.le_refl _)⟩)
theorem sX1_statement_128 : Rn r 175 128 [l0, l1, l2, some (vR z), l4, l5, l6, l7, l8, l9, l10, l11, l12] [vR z0] h Q ↔ Rn r 175 129 [l0, l1, l2, some (vR z), l4, l5, l6, l7, l8, l9, l10, l11, l12] [vR z, vR z0] h Q := Rn_nx pg175 rfl rfl
theorem sX1_statement_129 (hk : hK h a1 = 4) : Rn r 175 129 [l0, l1, l2, l3, l4, l5, l6, l7, l8, l9, l10, l11, l12] [vR z0, vR (some a1)] h Q ↔ Cl r 119 [vR (some a1), vR z0] h (Kt r 175 132 [l0, l1, l2, l3, l4, l5, l6, l7, l8, l9, l10, l11, l12] [] Q) := Rn_call pg175 rfl (by simp only [am_exec, am_inv, am_pop, am_lk, hk]; rfl) pg119 rfl rfl rfl
theorem sX1_statement_132 : Rn r 175 132 [l0, l1, l2, l3, l4, l5, l6, l7, l8, l9, l10, l11, l12] [vI x0] h Q ↔ Rn r 175 133 [l0, l1, l2, l3, l4, l5, l6, l7, l8, l9, l10, l11, l12] [] h Q := Rn_nx pg175 rfl rfl
theorem sX1_statement_133 : Rn r 175 133 [l0, l1, l2, some (vR z), l4, l5, l6, l7, l8, l9, l10, l11, l12] [] h Q ↔ Rn r 175 134 [l0, l1, l2, some (vR z), l4, l5, l6, l7, l8, l9, l10, l11, l12] [vR z] h Q := Rn_nx pg175 rfl rfl
theorem sX1_statement_134_n : Rn r 175 134 [l0, l1, l2, l3, l4, l5, l6, l7, l8, l9, l10, l11, l12] [vR none] h Q ↔ Rn r 175 137 [l0, l1, l2, l3, l4, l5, l6, l7, l8, l9, l10, l11, l12] [vI 0] h Q := Rn_nx pg175 rfl rfl
theorem sX1_statement_134 (hk : hK h a0 ∈ [38]) : Rn r 175 134 [l0, l1, l2, l3, l4, l5, l6, l7, l8, l9, l10, l11, l12] [vR (some a0)] h Q ↔ Rn r 175 137 [l0, l1, l2, l3, l4, l5, l6, l7, l8, l9, l10, l11, l12] [vI 1] h Q := Rn_nx pg175 rfl (if_pos hk)
theorem sX1_statement_134_f (hk : hK h a0 ∉ [38]) (hk2 : am_look (hK h a0) [(30, 0), (31, 0), (32, 0), (33, 0), (34, 0), (35, 0), (36, 0), (37, 0)] = some 0) : Rn r 175 134 [l0, l1, l2, l3, l4, l5, l6, l7, l8, l9, l10, l11, l12] [vR (some a0)] h Q ↔ Rn r 175 137 [l0, l1, l2, l3, l4, l5, l6, l7, l8, l9, l10, l11, l12] [vI 0] h Q := Rn_nx pg175 rfl ((if_neg hk).trans (by rw [hk2]; rfl))
theorem sX1_statement_137 : Rn r 175 137 [l0, l1, l2, l3, l4, l5, l6, l7, l8, l9, l10, l11, l12] [vI x0] h Q ↔ if x0 = 0 then Rn r 175 158 [l0, l1, l2, l3, l4, l5, l6, l7, l8, l9, l10, l11, l12] [] h Q else Rn r 175 140 [l0, l1, l2, l3, l4, l5, l6, l7, l8, l9, l10, l11, l12] [] h Q := Rn_if pg175 rfl rfl rfl
theorem sX1_statement_140 : Rn r 175 140 [l0, l1, l2, some (vR z), l4, l5, l6, l7, l8, l9, l10, l11, l12] [] h Q ↔ Rn r 175 141 [l0, l1, l2, some (vR z), l4, l5, l6, l7, l8, l9, l10, l11, l12] [vR z] h Q := Rn_nx pg175 rfl rfl
theorem sX1_statement_141_n : Rn r 175 141 [l0, l1, l2, l3, l4, l5, l6, l7, l8, l9, l10, l11, l12] [vR none] h Q ↔ Rn r 175 144 [l0, l1, l2, l3, l4, l5, l6, l7, l8, l9, l10, l11, l12] [vR none] h Q := Rn_nx pg175 rfl rfl
theorem sX1_statement_141 (hk : hK h a0 ∈ [38]) : Rn r 175 141 [l0, l1, l2, l3, l4, l5, l6, l7, l8, l9, l10, l11, l12] [vR (some a0)] h Q ↔ Rn r 175 144 [l0, l1, l2, l3, l4, l5, l6, l7, l8, l9, l10, l11, l12] [vR (some a0)] h Q := Rn_nx pg175 rfl (if_pos hk)
theorem sX1_statement_144 : Rn r 175 144 [l0, l1, l2, l3, l4, l5, l6, l7, l8, l9, l10, l11, l12] [vR z0] h Q ↔ Rn r 175 146 [l0, l1, l2, l3, some (vR z0), l5, l6, l7, l8, l9, l10, l11, l12] [] h Q := Rn_nx pg175 rfl rfl
theorem sX1_statement_146 : Rn r 175 146 [l0, l1, l2, l3, some (vR z), l5, l6, l7, l8, l9, l10, l11, l12] [] h Q ↔ Rn r 175 148 [l0, l1, l2, l3, some (vR z), l5, l6, l7, l8, l9, l10, l11, l12] [vR z] h Q := Rn_nx pg175 rfl rfl
theorem sX1_statement_148 : Rn r 175 148 [some (vR z), l1, l2, l3, l4, l5, l6, l7, l8, l9, l10, l11, l12] [vR z0] h Q ↔ Rn r 175 149 [some (vR z), l1, l2, l3, l4, l5, l6, l7, l8, l9, l10, l11, l12] [vR z, vR z0] h Q := Rn_nx pg175 rfl rfl
theorem sX1_statement_149 : Rn r 175 149 [l0, some (vR z), l2, l3, l4, l5, l6, l7, l8, l9, l10, l11, l12] [vR z0, vR z1] h Q ↔ Rn r 175 150 [l0, some (vR z), l2, l3, l4, l5, l6, l7, l8, l9, l10, l11, l12] [vR z, vR z0, vR z1] h Q := Rn_nx pg175 rfl rfl
theorem sX1_statement_150 (hk : hK h a1 = 2) : Rn (r + 1) 175 150 [l0, l1, l2, l3, l4, l5, l6, l7, l8, l9, l10, l11, l12] [vR z0, vR (some a1), vR z2] h Q ↔ Cl r 134 [vR (some a1), vR z0] h (Kt (r + 1) 175 153 [l0, l1, l2, l3, l4, l5, l6, l7, l8, l9, l10, l11, l12] [vR z2] Q) := Rn_call pg175 rfl (by simp only [am_exec, am_inv, am_pop, am_lk, hk]; rfl) pg134 rfl rfl rfl
theorem sX1_statement_153 (hk : hK h a1 = 38) : Rn r 175 153 [l0, l1, l2, l3, l4, l5, l6, l7, l8, l9, l10, l11, l12] [vR z0, vR (some a1)] h Q ↔ Rn r 175 156 [l0, l1, l2, l3, l4, l5, l6, l7, l8, l9, l10, l11, l12] [] (putR h a1 5 z0) Q := Rn_nx pg175 rfl ((if_pos ⟨(hk ▸ Nat.le_refl _), (hk ▸ Nat.le_refl _)⟩).trans rfl)
theorem sX1_statement_156 : Rn r 175 156 [l0, l1, l2, some (vR z), l4, l5, l6, l7, l8, l9, l10, l11, l12] [] h Q ↔ Rn r 175 157 [l0, l1, l2, some (vR z), l4, l5, l6, l7, l8, l9, l10, l11, l12] [vR z] h Q := Rn_nx pg175 rfl rfl
theorem sX1_statement_157 : Rn r 175 157 [l0, l1, l2, l3, l4, l5, l6, l7, l8, l9, l10, l11, l12] [vR z0] h Q ↔ Q (Sum.inl (some (vR z0))) h := Rn_end pg175 rfl rfl
theorem sX1_statement_158 : Rn r 175 158 [some (vR z), l1, l2, l3, l4, l5, l6, l7, l8, l9, l10, l11, l12] [] h Q ↔ Rn r 175 159 [some (vR z), l1, l2, l3, l4, l5, l6, l7, l8, l9, l10, l11, l12] [vR z] h Q := Rn_nx pg175 rfl rfl
theorem sX1_statement_159 (hk : hK h a0 = 2) : Rn r 175 159 [l0, l1, l2, l3, l4, l5, l6, l7, l8, l9, l10, l11, l12] [vR (some a0)] h Q ↔ Cl r 80 [vR (some a0)] h (Kt r 175 162 [l0, l1, l2, l3, l4, l5, l6, l7, l8, l9, l10, l11, l12] [] Q) := Rn_call pg175 rfl (by simp only [am_exec, am_inv, am_pop, am_lk, hk]; rfl) pg80 rfl rfl rfl
theorem sX1_statement_162 : Rn r 175 162 [l0, l1, l2, some (vR z), l4, l5, l6, l7, l8, l9, l10, l11, l12] [] h Q ↔ Rn r 175 163 [l0, l1, l2, some (vR z), l4, l5, l6, l7, l8, l9, l10, l11, l12] [vR z] h Q := Rn_nx pg175 rfl rfl
theorem sX1_statement_163_n : Rn r 175 163 [l0, l1, l2, l3, l4, l5, l6, l7, l8, l9, l10, l11, l12] [vR none] h Q ↔ Rn r 175 166 [l0, l1, l2, l3, l4, l5, l6, l7, l8, l9, l10, l11, l12] [vI 0] h Q := Rn_nx pg175 rfl rfl
theorem sX1_statement_163 (hk : hK h a0 ∈ [30]) : Rn r 175 163 [l0, l1, l2, l3, l4, l5, l6, l7, l8, l9, l10, l11, l12] [vR (some a0)] h Q ↔ Rn r 175 166 [l0, l1, l2, l3, l4, l5, l6, l7, l8, l9, l10, l11, l12] [vI 1] h Q := Rn_nx pg175 rfl (if_pos hk)
theorem sX1_statement_163_f (hk : hK h a0 ∉ [30]) (hk2 : am_look (hK h a0) [(31, 0), (32, 0), (33, 0), (34, 0), (35, 0), (36, 0), (37, 0), (38, 0)] = some 0) : Rn r 175 163 [l0, l1, l2, l3, l4, l5, l6, l7, l8, l9, l10, l11, l12] [vR (some a0)] h Q ↔ Rn r 175 166 [l0, l1, l2, l3, l4, l5, l6, l7, l8, l9, l10, l11, l12] [vI 0] h Q := Rn_nx pg175 rfl ((if_neg hk).trans (by rw [hk2]; rfl))
theorem sX1_statement_166 : Rn r 175 166 [l0, l1, l2, l3, l4, l5, l6, l7, l8, l9, l10, l11, l12] [vI x0] h Q ↔ if x0 = 0 then Rn r 175 185 [l0, l1, l2, l3, l4, l5, l6, l7, l8, l9, l10, l11, l12] [] h Q else Rn r 175 169 [l0, l1, l2, l3, l4, l5, l6, l7, l8, l9, l10, l11, l12] [] h Q := Rn_if pg175 rfl rfl rfl
theorem sX1_statement_169 : Rn r 175 169 [l0, l1, l2, some (vR z), l4, l5, l6, l7, l8, l9, l10, l11, l12] [] h Q ↔ Rn r 175 170 [l0, l1, l2, some (vR z), l4, l5, l6, l7, l8, l9, l10, l11, l12] [vR z] h Q := Rn_nx pg175 rfl rfl
theorem sX1_statement_170_n : Rn r 175 170 [l0, l1, l2, l3, l4, l5, l6, l7, l8, l9, l10, l11, l12] [vR none] h Q ↔ Rn r 175 173 [l0, l1, l2, l3, l4, l5, l6, l7, l8, l9, l10, l11, l12] [vR none] h Q := Rn_nx pg175 rfl rfl
theorem sX1_statement_170 (hk : hK h a0 ∈ [30]) : Rn r 175 170 [l0, l1, l2, l3, l4, l5, l6, l7, l8, l9, l10, l11, l12] [vR (some a0)] h Q ↔ Rn r 175 173 [l0, l1, l2, l3, l4, l5, l6, l7, l8, l9, l10, l11, l12] [vR (some a0)] h Q := Rn_nx pg175 rfl (if_pos hk)
theorem sX1_statement_173 : Rn r 175 173 [l0, l1, l2, l3, l4, l5, l6, l7, l8, l9, l10, l11, l12] [vR z0] h Q ↔ Rn r 175 175 [l0, l1, l2, l3, some (vR z0), l5, l6, l7, l8, l9, l10, l11, l12] [] h Q := Rn_nx pg175 rfl rfl
theorem sX1_statement_175 : Rn r 175 175 [some (vR z), l1, l2, l3, l4, l5, l6, l7, l8, l9, l10, l11, l12] [] h Q ↔ Rn r 175 176 [some (vR z), l1, l2, l3, l4, l5, l6, l7, l8, l9, l10, l11, l12] [vR z] h Q := Rn_nx pg175 rfl rfl
theorem sX1_statement_176 : Rn r 175 176 [l0, l1, l2, l3, some (vR z), l5, l6, l7, l8, l9, l10, l11, l12] [vR z0] h Q ↔ Rn r 175 178 [l0, l1, l2, l3, some (vR z), l5, l6, l7, l8, l9, l10, l11, l12] [vR z, vR z0] h Q := Rn_nx pg175 rfl rfl
theorem sX1_statement_178 : Rn r 175 178 [l0, some (vR z), l2, l3, l4, l5, l6, l7, l8, l9, l10, l11, l12] [vR z0, vR z1] h Q ↔ Rn r 175 179 [l0, some (vR z), l2, l3, l4, l5, l6, l7, l8, l9, l10, l11, l12] [vR z, vR z0, vR z1] h Q := Rn_nx pg175 rfl rfl
theorem sX1_statement_179 (hk : hK h a2 = 2) : Rn r 175 179 [l0, l1, l2, l3, l4, l5, l6, l7, l8, l9, l10, l11, l12] [vR z0, vR z1, vR (some a2)] h Q ↔ Cl r 221 [vR (some a2), vR z1, vR z0] h (Kt r 175 182 [l0, l1, l2, l3, l4, l5, l6, l7, l8, l9, l10, l11, l12] [] Q) := Rn_call pg175 rfl (by simp only [am_exec, am_inv, am_pop, am_lk, hk]; rfl) pg221 rfl rfl rfl
theorem sX1_statement_182 : Rn r 175 182 [l0, l1, l2, l3, l4, l5, l6, l7, l8, l9, l10, l11, l12] [] h Q ↔ Rn r 175 432 [l0, l1, l2, l3, l4, l5, l6, l7, l8, l9, l10, l11, l12] [] h Q := Rn_nx pg175 rfl rfl
theorem sX1_statement_185 : Rn r 175 185 [l0, l1, l2, some (vR z), l4, l5, l6, l7, l8, l9, l10, l11, l12] [] h Q ↔ Rn r 175 186 [l0, l1, l2, some (vR z), l4, l5, l6, l7, l8, l9, l10, l11, l12] [vR z] h Q := Rn_nx pg175 rfl rfl
theorem sX1_statement_186_n : Rn r 175 186 [l0, l1, l2, l3, l4, l5, l6, l7, l8, l9, l10, l11, l12] [vR none] h Q ↔ Rn r 175 189 [l0, l1, l2, l3, l4, l5, l6, l7, l8, l9, l10, l11, l12] [vI 0] h Q := Rn_nx pg175 rfl rfl
theorem sX1_statement_186 (hk : hK h a0 ∈ [31]) : Rn r 175 186 [l0, l1, l2, l3, l4, l5, l6, l7, l8, l9, l10, l11, l12] [vR (some a0)] h Q ↔ Rn r 175 189 [l0, l1, l2, l3, l4, l5, l6, l7, l8, l9, l10, l11, l12] [vI 1] h Q := Rn_nx pg175 rfl (if_pos hk)
theorem sX1_statement_186_f (hk : hK h a0 ∉ [31]) (hk2 : am_look (hK h a0) [(30, 0), (32, 0), (33, 0), (34, 0), (35, 0), (36, 0), (37, 0), (38, 0)] = some 0) : Rn r 175 186 [l0, l1, l2, l3, l4, l5, l6, l7, l8, l9, l10, l11, l12] [vR (some a0)] h Q ↔ Rn r 175 189 [l0, l1, l2, l3, l4, l5, l6, l7, l8, l9, l10, l11, l12] [vI 0] h Q := Rn_nx pg175 rfl ((if_neg hk).trans (by rw [hk2]; rfl))
theorem sX1_statement_189 : Rn r 175 189 [l0, l1, l2, l3, l4, l5, l6, l7, l8, l9, l10, l11, l12] [vI x0] h Q ↔ if x0 = 0 then Rn r 175 208 [l0, l1, l2, l3, l4, l5, l6, l7, l8, l9, l10, l11, l12] [] h Q else Rn r 175 192 [l0, l1, l2, l3, l4, l5, l6, l7, l8, l9, l10, l11, l12] [] h Q := Rn_if pg175 rfl rfl rfl
theorem sX1_statement_192 : Rn r 175 192 [l0, l1, l2, some (vR z), l4, l5, l6, l7, l8, l9, l10, l11, l12] [] h Q ↔ Rn r 175 193 [l0, l1, l2, some (vR z), l4, l5, l6, l7, l8, l9, l10, l11, l12] [vR z] h Q := Rn_nx pg175 rfl rfl
theorem sX1_statement_193_n : Rn r 175 193 [l0, l1, l2, l3, l4, l5, l6, l7, l8, l9, l10, l11, l12] [vR none] h Q ↔ Rn r 175 196 [l0, l1, l2, l3, l4, l5, l6, l7, l8, l9, l10, l11, l12] [vR none] h Q := Rn_nx pg175 rfl rfl
theorem sX1_statement_193 (hk : hK h a0 ∈ [31]) : Rn r 175 193 [l0, l1, l2, l3, l4, l5, l6, l7, l8, l9, l10, l11, l12] [vR (some a0)] h Q ↔ Rn r 175 196 [l0, l1, l2, l3, l4, l5, l6, l7, l8, l9, l10, l11, l12] [vR (some a0)] h Q := Rn_nx pg175 rfl (if_pos hk)
theorem sX1_statement_196 : Rn r 175 196 [l0, l1, l2, l3, l4, l5, l6, l7, l8, l9, l10, l11, l12] [vR z0] h Q ↔ Rn r 175 198 [l0, l1, l2, l3, l4, some (vR z0), l6, l7, l8, l9, l10, l11, l12] [] h Q := Rn_nx pg175 rfl rfl
theorem sX1_statement_198 : Rn r 175 198 [some (vR z), l1, l2, l3, l4, l5, l6, l7, l8, l9, l10, l11, l12] [] h Q ↔ Rn r 175 199 [some (vR z), l1, l2, l3, l4, l5, l6, l7, l8, l9, l10, l11, l12] [vR z] h Q := Rn_nx pg175 rfl rfl
theorem sX1_statement_199 : Rn r 175 199 [l0, l1, l2, l3, l4, some (vR z), l6, l7, l8, l9, l10, l11, l12] [vR z0] h Q ↔ Rn r 175 201 [l0, l1, l2, l3, l4, some (vR z), l6, l7, l8, l9, l10, l11, l12] [vR z, vR z0] h Q := Rn_nx pg175 rfl rfl
theorem sX1_statement_201 : Rn r 175 201 [l0, some (vR z), l2, l3, l4, l5, l6, l7, l8, l9, l10, l11, l12] [vR z0, vR z1] h Q ↔ Rn r 175 202 [l0, some (vR z), l2, l3, l4, l5, l6, l7, l8, l9, l10, l11, l12] [vR z, vR z0, vR z1] h Q := Rn_nx pg175 rfl rfl
theorem sX1_statement_202 (hk : hK h a2 = 2) : Rn r 175 202 [l0, l1, l2, l3, l4, l5, l6, l7, l8, l9, l10, l11, l12] [vR z0, vR z1, vR (some a2)] h Q ↔ Cl r 222 [vR (some a2), vR z1, vR z0] h (Kt r 175 205 [l0, l1, l2, l3, l4, l5, l6, l7, l8, l9, l10, l11, l12] [] Q) := Rn_call pg175 rfl (by simp only [am_exec, am_inv, am_pop, am_lk, hk]; rfl) pg222 rfl rfl rfl
theorem sX1_statement_205 : Rn r 175 205 [l0, l1, l2, l3, l4, l5, l6, l7, l8, l9, l10, l11, l12] [] h Q ↔ Rn r 175 432 [l0, l1, l2, l3, l4, l5, l6, l7, l8, l9, l10, l11, l12] [] h Q := Rn_nx pg175 rfl rfl
theorem sX1_statement_208 : Rn r 175 208 [l0, l1, l2, some (vR z), l4, l5, l6, l7, l8, l9, l10, l11, l12] [] h Q ↔ Rn r 175 209 [l0, l1, l2, some (vR z), l4, l5, l6, l7, l8, l9, l10, l11, l12] [vR z] h Q := Rn_nx pg175 rfl rfl
theorem sX1_statement_209_n : Rn r 175 209 [l0, l1, l2, l3, l4, l5, l6, l7, l8, l9, l10, l11, l12] [vR none] h Q ↔ Rn r 175 212 [l0, l1, l2, l3, l4, l5, l6, l7, l8, l9, l10, l11, l12] [vI 0] h Q := Rn_nx pg175 rfl rfl
theorem sX1_statement_209 (hk : hK h a0 ∈ [32]) : Rn r 175 209 [l0, l1, l2, l3, l4, l5, l6, l7, l8, l9, l10, l11, l12] [vR (some a0)] h Q ↔ Rn r 175 212 [l0, l1, l2, l3, l4, l5, l6, l7, l8, l9, l10, l11, l12] [vI 1] h Q := Rn_nx pg175 rfl (if_pos hk)
theorem sX1_statement_209_f (hk : hK h a0 ∉ [32]) (hk2 : am_look (hK h a0) [(30, 0), (31, 0), (33, 0), (34, 0), (35, 0), (36, 0), (37, 0), (38, 0)] = some 0) : Rn r 175 209 [l0, l1, l2, l3, l4, l5, l6, l7, l8, l9, l10, l11, l12] [vR (some a0)] h Q ↔ Rn r 175 212 [l0, l1, l2, l3, l4, l5, l6, l7, l8, l9, l10, l11, l12] [vI 0] h Q := Rn_nx pg175 rfl ((if_neg hk).trans (by rw [hk2]; rfl))
theorem sX1_statement_212 : Rn r 175 212 [l0, l1, l2, l3, l4, l5, l6, l7, l8, l9, l10, l11, l12] [vI x0] h Q ↔ if x0 = 0 then Rn r 175 231 [l0, l1, l2, l3, l4, l5, l6, l7, l8, l9, l10, l11, l12] [] h Q else Rn r 175 215 [l0, l1, l2, l3, l4, l5, l6, l7, l8, l9, l10, l11, l12] [] h Q := Rn_if pg175 rfl rfl rfl
theorem sX1_statement_215 : Rn r 175 215 [l0, l1, l2, some (vR z), l4, l5, l6, l7, l8, l9, l10, l11, l12] [] h Q ↔ Rn r 175 216 [l0, l1, l2, some (vR z), l4, l5, l6, l7, l8, l9, l10, l11, l12] [vR z] h Q := Rn_nx pg175 rfl rfl
theorem sX1_statement_216_n : Rn r 175 216 [l0, l1, l2, l3, l4, l5, l6, l7, l8, l9, l10, l11, l12] [vR none] h Q ↔ Rn r 175 219 [l0, l1, l2, l3, l4, l5, l6, l7, l8, l9, l10, l11, l12] [vR none] h Q := Rn_nx pg175 rfl rfl
theorem sX1_statement_216 (hk : hK h a0 ∈ [32]) : Rn r 175 216 [l0, l1, l2, l3, l4, l5, l6, l7, l8, l9, l10, l11, l12] [vR (some a0)] h Q ↔ Rn r 175 219 [l0, l1, l2, l3, l4, l5, l6, l7, l8, l9, l10, l11, l12] [vR (some a0)] h Q := Rn_nx pg175 rfl (if_pos hk)
theorem sX1_statement_219 : Rn r 175 219 [l0, l1, l2, l3, l4, l5, l6, l7, l8, l9, l10, l11, l12] [vR z0] h Q ↔ Rn r 175 221 [l0, l1, l2, l3, l4, l5, some (vR z0), l7, l8, l9, l10, l11, l12] [] h Q := Rn_nx pg175 rfl rfl
theorem sX1_statement_221 : Rn r 175 221 [some (vR z), l1, l2, l3, l4, l5, l6, l7, l8, l9, l10, l11, l12] [] h Q ↔ Rn r 175 222 [some (vR z), l1, l2, l3, l4, l5, l6, l7, l8, l9, l10, l11, l12] [vR z] h Q := Rn_nx pg175 rfl rfl
theorem sX1_statement_222 : Rn r 175 222 [l0, l1, l2, l3, l4, l5, some (vR z), l7, l8, l9, l10, l11, l12] [vR z0] h Q ↔ Rn r 175 224 [l0, l1, l2, l3, l4, l5, some (vR z), l7, l8, l9, l10, l11, l12] [vR z, vR z0] h Q := Rn_nx pg175 rfl rfl
theorem sX1_statement_224 : Rn r 175 224 [l0, some (vR z), l2, l3, l4, l5, l6, l7, l8, l9, l10, l11, l12] [vR z0, vR z1] h Q ↔ Rn r 175 225 [l0, some (vR z), l2, l3, l4, l5, l6, l7, l8, l9, l10, l11, l12] [vR z, vR z0, vR z1] h Q := Rn_nx pg175 rfl rfl
theorem sX1_statement_225 (hk : hK h a2 = 2) : Rn r 175 225 [l0, l1, l2, l3, l4, l5, l6, l7, l8, l9, l10, l11, l12] [vR z0, vR z1, vR (some a2)] h Q ↔ Cl r 223 [vR (some a2), vR z1, vR z0] h (Kt r 175 228 [l0, l1, l2, l3, l4, l5, l6, l7, l8, l9, l10, l11, l12] [] Q) := Rn_call pg175 rfl (by simp only [am_exec, am_inv, am_pop, am_lk, hk]; rfl) pg223 rfl rfl rfl
theorem sX1_statement_228 : Rn r 175 228 [l0, l1, l2, l3, l4, l5, l6, l7, l8, l9, l10, l11, l12] [] h Q ↔ Rn r 175 432 [l0, l1, l2, l3, l4, l5, l6, l7, l8, l9, l10, l11, l12] [] h Q := Rn_nx pg175 rfl rfl
theorem sX1_statement_231 : Rn r 175 231 [l0, l1, l2, some (vR z), l4, l5, l6, l7, l8, l9, l10, l11, l12] [] h Q ↔ Rn r 175 232 [l0, l1, l2, some (vR z), l4, l5, l6, l7, l8, l9, l10, l11, l12] [vR z] h Q := Rn_nx pg175 rfl rfl
theorem sX1_statement_232_n : Rn r 175 232 [l0, l1, l2, l3, l4, l5, l6, l7, l8, l9, l10, l11, l12] [vR none] h Q ↔ Rn r 175 235 [l0, l1, l2, l3, l4, l5, l6, l7, l8, l9, l10, l11, l12] [vI 0] h Q := Rn_nx pg175 rfl rfl
theorem sX1_statement_232 (hk : hK h a0 ∈ [33]) : Rn r 175 232 [l0, l1, l2, l3, l4, l5, l6, l7, l8, l9, l10, l11, l12] [vR (some a0)] h Q ↔ Rn r 175 235 [l0, l1, l2, l3, l4, l5, l6, l7, l8, l9, l10, l11, l12] [vI 1] h Q := Rn_nx pg175 rfl (if_pos hk)
theorem sX1_statement_232_f (hk : hK h a0 ∉ [33]) (hk2 : am_look (hK h a0) [(30, 0), (31, 0), (32, 0), (34, 0), (35, 0), (36, 0), (37, 0), (38, 0)] = some 0) : Rn r 175 232 [l0, l1, l2, l3, l4, l5, l6, l7, l8, l9, l10, l11, l12] [vR (some a0)] h Q ↔ Rn r 175 235 [l0, l1, l2, l3, l4, l5, l6, l7, l8, l9, l10, l11, l12] [vI 0] h Q := Rn_nx pg175 rfl ((if_neg hk).trans (by rw [hk2]; rfl))
theorem sX1_statement_235 : Rn r 175 235 [l0, l1, l2, l3, l4, l5, l6, l7, l8, l9, l10, l11, l12] [vI x0] h Q ↔ if x0 = 0 then Rn r 175 281 [l0, l1, l2, l3, l4, l5, l6, l7, l8, l9, l10, l11, l12] [] h Q else Rn r 175 238 [l0, l1, l2, l3, l4, l5, l6, l7, l8, l9, l10, l11, l12] [] h Q := Rn_if pg175 rfl rfl rfl
theorem sX1_statement_238 : Rn r 175 238 [l0, l1, l2, some (vR z), l4, l5, l6, l7, l8, l9, l10, l11, l12] [] h Q ↔ Rn r 175 239 [l0, l1, l2, some (vR z), l4, l5, l6, l7, l8, l9, l10, l11, l12] [vR z] h Q := Rn_nx pg175 rfl rfl
theorem sX1_statement_239_n : Rn r 175 239 [l0, l1, l2, l3, l4, l5, l6, l7, l8, l9, l10, l11, l12] [vR none] h Q ↔ Rn r 175 242 [l0, l1, l2, l3, l4, l5, l6, l7, l8, l9, l10, l11, l12] [vR none] h Q := Rn_nx pg175 rfl rfl
theorem sX1_statement_239 (hk : hK h a0 ∈ [33]) : Rn r 175 239 [l0, l1, l2, l3, l4, l5, l6, l7, l8, l9, l10, l11, l12] [vR (some a0)] h Q ↔ Rn r 175 242 [l0, l1, l2, l3, l4, l5, l6, l7, l8, l9, l10, l11, l12] [vR (some a0)] h Q := Rn_nx pg175 rfl (if_pos hk)
theorem sX1_statement_242 : Rn r 175 242 [l0, l1, l2, l3, l4, l5, l6, l7, l8, l9, l10, l11, l12] [vR z0] h Q ↔ Rn r 175 244 [l0, l1, l2, l3, l4, l5, l6, some (vR z0), l8, l9, l10, l11, l12] [] h Q := Rn_nx pg175 rfl rfl
theorem sX1_statement_244 : Rn r 175 244 [l0, l1, l2, l3, l4, l5, l6, some (vR z), l8, l9, l10, l11, l12] [] h Q ↔ Rn r 175 246 [l0, l1, l2, l3, l4, l5, l6, some (vR z), l8, l9, l10, l11, l12] [vR z] h Q := Rn_nx pg175 rfl rfl
theorem sX1_statement_246 : Rn r 175 246 [some (vR z), l1, l2, l3, l4, l5, l6, l7, l8, l9, l10, l11, l12] [vR z0] h Q ↔ Rn r 175 247 [some (vR z), l1, l2, l3, l4, l5, l6, l7, l8, l9, l10, l11, l12] [vR z, vR z0] h Q := Rn_nx pg175 rfl rfl
theorem sX1_statement_247 : Rn r 175 247 [l0, some (vR z), l2, l3, l4, l5, l6, l7, l8, l9, l10, l11, l12] [vR z0, vR z1] h Q ↔ Rn r 175 248 [l0, some (vR z), l2, l3, l4, l5, l6, l7, l8, l9, l10, l11, l12] [vR z, vR z0, vR z1] h Q := Rn_nx pg175 rfl rfl
theorem sX1_statement_248 (hk : hK h a1 = 2) : Rn (r + 1) 175 248 [l0, l1, l2, l3, l4, l5, l6, l7, l8, l9, l10, l11, l12] [vR z0, vR (some a1), vR z2] h Q ↔ Cl r 134 [vR (some a1), vR z0] h (Kt (r + 1) 175 251 [l0, l1, l2, l3, l4, l5, l6, l7, l8, l9, l10, l11, l12] [vR z2] Q) := Rn_call pg175 rfl (by simp only [am_exec, am_inv, am_pop, am_lk, hk]; rfl) pg134 rfl rfl rfl
theorem sX1_statement_251 (hk : hK h a1 = 33) : Rn r 175 251 [l0, l1, l2, l3, l4, l5, l6, l7, l8, l9, l10, l11, l12] [vR z0, vR (some a1)] h Q ↔ Rn r 175 254 [l0, l1, l2, l3, l4, l5, l6, l7, l8, l9, l10, l11, l12] [] (putR h a1 5 z0) Q := Rn_nx pg175 rfl ((if_pos ⟨(hk ▸ Nat.le_refl _), (hk ▸ Nat.le_refl _)⟩).trans rfl)
theorem sX1_statement_254 : Rn r 175 254 [some (vR z), l1, l2, l3, l4, l5, l6, l7, l8, l9, l10, l11, l12] [] h Q ↔ Rn r 175 255 [some (vR z), l1, l2, l3, l4, l5, l6, l7, l8, l9, l10, l11, l12] [vR z] h Q := Rn_nx pg175 rfl rfl
theorem sX1_statement_255 : Rn r 175 255 [l0, l1, l2, l3, l4, l5, l6, l7, l8, l9, l10, l11, l12] [vR z0] h Q ↔ Rn r 175 258 [l0, l1, l2, l3, l4, l5, l6, l7, l8, l9, l10, l11, l12] [vR (some (hE h 24)), vR z0] h Q := Rn_nx pg175 rfl rfl
theorem sX1_statement_258 (hk : hK h a1 = 2) : Rn r 175 258 [l0, l1, l2, l3, l4, l5, l6, l7, l8, l9, l10, l11, l12] [vR z0, vR (some a1)] h Q ↔ Cl r 81 [vR (some a1), vR z0] h (Kt r 175 261 [l0, l1, l2, l3, l4, l5, l6, l7, l8, l9, l10, l11, l12] [] Q) := Rn_call pg175 rfl (by simp only [am_exec, am_inv, am_pop, am_lk, hk]; rfl) pg81 rfl rfl rfl
theorem sX1_statement_261 : Rn r 175 261 [l0, l1, l2, l3, l4, l5, l6, l7, l8, l9, l10, l11, l12] [vI x0] h Q ↔ if x0 = 0 then Rn r 175 432 [l0, l1, l2, l3, l4, l5, l6, l7, l8, l9, l10, l11, l12] [] h Q else Rn r 175 264 [l0, l1, l2, l3, l4, l5, l6, l7, l8, l9, l10, l11, l12] [] h Q := Rn_if pg175 rfl rfl rfl
theorem sX1_statement_264 : Rn r 175 264 [some (vR z), l1, l2, l3, l4, l5, l6, l7, l8, l9, l10, l11, l12] [] h Q ↔ Rn r 175 265 [some (vR z), l1, l2, l3, l4, l5, l6, l7, l8, l9, l10, l11, l12] [vR z] h Q := Rn_nx pg175 rfl rfl
theorem sX1_statement_265 (hk : hK h a0 = 2) : Rn r 175 265 [l0, l1, l2, l3, l4, l5, l6, l7, l8, l9, l10, l11, l12] [vR (some a0)] h Q ↔ Cl r 80 [vR (some a0)] h (Kt r 175 268 [l0, l1, l2, l3, l4, l5, l6, l7, l8, l9, l10, l11, l12] [] Q) := Rn_call pg175 rfl (by simp only [am_exec, am_inv, am_pop, am_lk, hk]; rfl) pg80 rfl rfl rfl
theorem sX1_statement_268 : Rn r 175 268 [l0, l1, l2, l3, l4, l5, l6, some (vR z), l8, l9, l10, l11, l12] [] h Q ↔ Rn r 175 270 [l0, l1, l2, l3, l4, l5, l6, some (vR z), l8, l9, l10, l11, l12] [vR z] h Q := Rn_nx pg175 rfl rfl
theorem sX1_statement_270 : Rn r 175 270 [some (vR z), l1, l2, l3, l4, l5, l6, l7, l8, l9, l10, l11, l12] [vR z0] h Q ↔ Rn r 175 271 [some (vR z), l1, l2, l3, l4, l5, l6, l7, l8, l9, l10, l11, l12] [vR z, vR z0] h Q := Rn_nx pg175 rfl rfl
theorem sX1_statement_271 : Rn r 175 271 [l0, some (vR z), l2, l3, l4, l5, l6, l7, l8, l9, l10, l11, l12] [vR z0, vR z1] h Q ↔ Rn r 175 272 [l0, some (vR z), l2, l3, l4, l5, l6, l7, l8, l9, l10, l11, l12] [vR z, vR z0, vR z1] h Q := Rn_nx pg175 rfl rfl
theorem sX1_statement_272 (hk : hK h a1 = 2) : Rn (r + 1) 175 272 [l0, l1, l2, l3, l4, l5, l6, l7, l8, l9, l10, l11, l12] [vR z0, vR (some a1), vR z2] h Q ↔ Cl r 134 [vR (some a1), vR z0] h (Kt (r + 1) 175 275 [l0, l1, l2, l3, l4, l5, l6, l7, l8, l9, l10, l11, l12] [vR z2] Q) := Rn_call pg175 rfl (by simp only [am_exec, am_inv, am_pop, am_lk, hk]; rfl) pg134 rfl rfl rfl
theorem sX1_statement_275 (hk : hK h a1 = 33) : Rn r 175 275 [l0, l1, l2, l3, l4, l5, l6, l7, l8, l9, l10, l11, l12] [vR z0, vR (some a1)] h Q ↔ Rn r 175 278 [l0, l1, l2, l3, l4, l5, l6, l7, l8, l9, l10, l11, l12] [] (putR h a1 6 z0) Q := Rn_nx pg175 rfl ((if_pos ⟨(hk ▸ Nat.le_refl _), (hk ▸ Nat.le_refl _)⟩).trans rfl)
theorem sX1_statement_278 : Rn r 175 278 [l0, l1, l2, l3, l4, l5, l6, l7, l8, l9, l10, l11, l12] [] h Q ↔ Rn r 175 432 [l0, l1, l2, l3, l4, l5, l6, l7, l8, l9, l10, l11, l12] [] h Q := Rn_nx pg175 rfl rfl
theorem sX1_statement_281 : Rn r 175 281 [l0, l1, l2, some (vR z), l4, l5, l6, l7, l8, l9, l10, l11, l12] [] h Q ↔ Rn r 175 282 [l0, l1, l2, some (vR z), l4, l5, l6, l7, l8, l9, l10, l11, l12] [vR z] h Q := Rn_nx pg175 rfl rfl
theorem sX1_statement_282_n : Rn r 175 282 [l0, l1, l2, l3, l4, l5, l6, l7, l8, l9, l10, l11, l12] [vR none] h Q ↔ Rn r 175 285 [l0, l1, l2, l3, l4, l5, l6, l7, l8, l9, l10, l11, l12] [vI 0] h Q := Rn_nx pg175 rfl rfl
theorem sX1_statement_282 (hk : hK h a0 ∈ [34]) : Rn r 175 282 [l0, l1, l2, l3, l4, l5, l6, l7, l8, l9, l10, l11, l12] [vR (some a0)] h Q ↔ Rn r 175 285 [l0, l1, l2, l3, l4, l5, l6, l7, l8, l9, l10, l11, l12] [vI 1] h Q := Rn_nx pg175 rfl (if_pos hk)
theorem sX1_statement_282_f (hk : hK h a0 ∉ [34]) (hk2 : am_look (hK h a0) [(30, 0), (31, 0), (32, 0), (33, 0), (35, 0), (36, 0), (37, 0), (38, 0)] = some 0) : Rn r 175 282 [l0, l1, l2, l3, l4, l5, l6, l7, l8, l9, l10, l11, l12] [vR (some a0)] h Q ↔ Rn r 175 285 [l0, l1, l2, l3, l4, l5, l6, l7, l8, l9, l10, l11, l12] [vI 0] h Q := Rn_nx pg175 rfl ((if_neg hk).trans (by rw [hk2]; rfl))
theorem sX1_statement_285 : Rn r 175 285 [l0, l1, l2, l3, l4, l5, l6, l7, l8, l9, l10, l11, l12] [vI x0] h Q ↔ if x0 = 0 then Rn r 175 325 [l0, l1, l2, l3, l4, l5, l6, l7, l8, l9, l10, l11, l12] [] h Q else Rn r 175 288 [l0, l1, l2, l3, l4, l5, l6, l7, l8, l9, l10, l11, l12] [] h Q := Rn_if pg175 rfl rfl rfl
theorem sX1_statement_288 : Rn r 175 288 [l0, l1, l2, some (vR z), l4, l5, l6, l7, l8, l9, l10, l11, l12] [] h Q ↔ Rn r 175 289 [l0, l1, l2, some (vR z), l4, l5, l6, l7, l8, l9, l10, l11, l12] [vR z] h Q := Rn_nx pg175 rfl rfl
theorem sX1_statement_289_n : Rn r 175 289 [l0, l1, l2, l3, l4, l5, l6, l7, l8, l9, l10, l11, l12] [vR none] h Q ↔ Rn r 175 292 [l0, l1, l2, l3, l4, l5, l6, l7, l8, l9, l10, l11, l12] [vR none] h Q := Rn_nx pg175 rfl rfl
theorem sX1_statement_289 (hk : hK h a0 ∈ [34]) : Rn r 175 289 [l0, l1, l2, l3, l4, l5, l6, l7, l8, l9, l10, l11, l12] [vR (some a0)] h Q ↔ Rn r 175 292 [l0, l1, l2, l3, l4, l5, l6, l7, l8, l9, l10, l11, l12] [vR (some a0)] h Q := Rn_nx pg175 rfl (if_pos hk)
theorem sX1_statement_292 : Rn r 175 292 [l0, l1, l2, l3, l4, l5, l6, l7, l8, l9, l10, l11, l12] [vR z0] h Q ↔ Rn r 175 294 [l0, l1, l2, l3, l4, l5, l6, l7, some (vR z0), l9, l10, l11, l12] [] h Q := Rn_nx pg175 rfl rfl
theorem sX1_statement_294 : Rn r 175 294 [l0, l1, l2, l3, l4, l5, l6, l7, l8, l9, l10, l11, l12] [] h Q ↔ Rn r 175 297 [l0, l1, l2, l3, l4, l5, l6, l7, l8, l9, l10, l11, l12] [vR (some (hN h))] (newC h 20 5) Q := Rn_nx pg175 rfl rfl
theorem sX1_statement_297 : Rn r 175 297 [l0, l1, l2, l3, l4, l5, l6, l7, l8, l9, l10, l11, l12] [vR z0] h Q ↔ Rn r 175 298 [l0, l1, l2, l3, l4, l5, l6, l7, l8, l9, l10, l11, l12] [vR z0, vR z0] h Q := Rn_nx pg175 rfl rfl
theorem sX1_statement_298 : Rn r 175 298 [l0, some (vR z), l2, l3, l4, l5, l6, l7, l8, l9, l10, l11, l12] [vR z0, vR z1] h Q ↔ Rn r 175 299 [l0, some (vR z), l2, l3, l4, l5, l6, l7, l8, l9, l10, l11, l12] [vR z, vR z0, vR z1] h Q := Rn_nx pg175 rfl rfl
theorem sX1_statement_299 (hk : 0 < hK h a1) (hk2 : hK h a1 < 40) : Rn r 175 299 [l0, l1, l2, l3, l4, l5, l6, l7, l8, l9, l10, l11, l12] [vR z0, vR (some a1), vR z2] h Q ↔ Cl r 133 [vR (some a1), vR z0] h (Kt r 175 302 [l0, l1, l2, l3, l4, l5, l6, l7, l8, l9, l10, l11, l12] [vR z2] Q) := Rn_call pg175 rfl (if_pos ⟨hk, hk2⟩) pg133 rfl rfl rfl
theorem sX1_statement_302 : Rn r 175 302 [l0, l1, l2, l3, l4, l5, l6, l7, l8, l9, l10, l11, l12] [vR z0] h Q ↔ Rn r 175 304 [l0, l1, l2, l3, l4, l5, l6, l7, l8, l9, l10, l11, some (vR z0)] [] h Q := Rn_nx pg175 rfl rfl
theorem sX1_statement_304 : Rn r 175 304 [l0, l1, l2, l3, l4, l5, l6, l7, l8, l9, l10, l11, some (vR z)] [] h Q ↔ Rn r 175 306 [l0, l1, l2, l3, l4, l5, l6, l7, l8, l9, l10, l11, some (vR z)] [vR z] h Q := Rn_nx pg175 rfl rfl
theorem sX1_statement_306 : Rn r 175 306 [l0, l1, l2, l3, l4, l5, l6, l7, some (vR z), l9, l10, l11, l12] [vR z0] h Q ↔ Rn r 175 308 [l0, l1, l2, l3, l4, l5, l6, l7, some (vR z), l9, l10, l11, l12] [vR z, vR z0] h Q := Rn_nx pg175 rfl rfl
theorem sX1_statement_308 (hk : hK h a1 = 20) : Rn r 175 308 [l0, l1, l2, l3, l4, l5, l6, l7, l8, l9, l10, l11, l12] [vR z0, vR (some a1)] h Q ↔ Rn r 175 311 [l0, l1, l2, l3, l4, l5, l6, l7, l8, l9, l10, l11, l12] [] (putR h a1 1 z0) Q := Rn_nx pg175 rfl ((if_pos ⟨(hk ▸ Nat.le_refl _), (hk ▸ Nat.le_refl _)⟩).trans rfl)
theorem sX1_statement_311 : Rn r 175 311 [l0, l1, l2, l3, l4, l5, l6, l7, some (vR z), l9, l10, l11, l12] [] h Q ↔ Rn r 175 313 [l0, l1, l2, l3, l4, l5, l6, l7, some (vR z), l9, l10, l11, l12] [vR z] h Q := Rn_nx pg175 rfl rfl
theorem sX1_statement_313 : Rn r 175 313 [some (vR z), l1, l2, l3, l4, l5, l6, l7, l8, l9, l10, l11, l12] [vR z0] h Q ↔ Rn r 175 314 [some (vR z), l1, l2, l3, l4, l5, l6, l7, l8, l9, l10, l11, l12] [vR z, vR z0] h Q := Rn_nx pg175 rfl rfl
theorem sX1_statement_314 : Rn r 175 314 [l0, l1, l2, l3, l4, l5, l6, l7, l8, l9, l10, l11, some (vR z)] [vR z0, vR z1] h Q ↔ Rn r 175 316 [l0, l1, l2, l3, l4, l5, l6, l7, l8, l9, l10, l11, some (vR z)] [vR z, vR z0, vR z1] h Q := Rn_nx pg175 rfl rfl
theorem sX1_statement_316 (hk : hK h a1 = 2) : Rn (r + 1) 175 316 [l0, l1, l2, l3, l4, l5, l6, l7, l8, l9, l10, l11, l12] [vR z0, vR (some a1), vR z2] h Q ↔ Cl r 134 [vR (some a1), vR z0] h (Kt (r + 1) 175 319 [l0, l1, l2, l3, l4, l5, l6, l7, l8, l9, l10, l11, l12] [vR z2] Q) := Rn_call pg175 rfl (by simp only [am_exec, am_inv, am_pop, am_lk, hk]; rfl) pg134 rfl rfl rfl
theorem sX1_statement_319 (hk : hK h a1 = 34) : Rn r 175 319 [l0, l1, l2, l3, l4, l5, l6, l7, l8, l9, l10, l11, l12] [vR z0, vR (some a1)] h Q ↔ Rn r 175 322 [l0, l1, l2, l3, l4, l5, l6, l7, l8, l9, l10, l11, l12] [] (putR h a1 6 z0) Q := Rn_nx pg175 rfl ((if_pos ⟨(hk ▸ Nat.le_refl _), (hk ▸ Nat.le_refl _)⟩).trans rfl)
theorem sX1_statement_322 : Rn r 175 322 [l0, l1, l2, l3, l4, l5, l6, l7, l8, l9, l10, l11, l12] [] h Q ↔ Rn r 175 432 [l0, l1, l2, l3, l4, l5, l6, l7, l8, l9, l10, l11, l12] [] h Q := Rn_nx pg175 rfl rfl
theorem sX1_statement_325 : Rn r 175 325 [l0, l1, l2, some (vR z), l4, l5, l6, l7, l8, l9, l10, l11, l12] [] h Q ↔ Rn r 175 326 [l0, l1, l2, some (vR z), l4, l5, l6, l7, l8, l9, l10, l11, l12] [vR z] h Q := Rn_nx pg175 rfl rfl
theorem sX1_statement_326_n : Rn r 175 326 [l0, l1, l2, l3, l4, l5, l6, l7, l8, l9, l10, l11, l12] [vR none] h Q ↔ Rn r 175 329 [l0, l1, l2, l3, l4, l5, l6, l7, l8, l9, l10, l11, l12] [vI 0] h Q := Rn_nx pg175 rfl rfl
theorem sX1_statement_326 (hk : hK h a0 ∈ [35]) : Rn r 175 326 [l0, l1, l2, l3, l4, l5, l6, l7, l8, l9, l10, l11, l12] [vR (some a0)] h Q ↔ Rn r 175 329 [l0, l1, l2, l3, l4, l5, l6, l7, l8, l9, l10, l11, l12] [vI 1] h Q := Rn_nx pg175 rfl (if_pos hk)
theorem sX1_statement_326_f (hk : hK h a0 ∉ [35]) (hk2 : am_look (hK h a0) [(30, 0), (31, 0), (32, 0), (33, 0), (34, 0), (36, 0), (37, 0), (38, 0)] = some 0) : Rn r 175 326 [l0, l1, l2, l3, l4, l5, l6, l7, l8, l9, l10, l11, l12] [vR (some a0)] h Q ↔ Rn r 175 329 [l0, l1, l2, l3, l4, l5, l6, l7, l8, l9, l10, l11, l12] [vI 0] h Q := Rn_nx pg175 rfl ((if_neg hk).trans (by rw [hk2]; rfl))
theorem sX1_statement_329 : Rn r 175 329 [l0, l1, l2, l3, l4, l5, l6, l7, l8, l9, l10, l11, l12] [vI x0] h Q ↔ if x0 = 0 then Rn r 175 354 [l0, l1, l2, l3, l4, l5, l6, l7, l8, l9, l10, l11, l12] [] h Q else Rn r 175 332 [l0, l1, l2, l3, l4, l5, l6, l7, l8, l9, l10, l11, l12] [] h Q := Rn_if pg175 rfl rfl rfl
theorem sX1_statement_332 : Rn r 175 332 [l0, l1, l2, some (vR z), l4, l5, l6, l7, l8, l9, l10, l11, l12] [] h Q ↔ Rn r 175 333 [l0, l1, l2, some (vR z), l4, l5, l6, l7, l8, l9, l10, l11, l12] [vR z] h Q := Rn_nx pg175 rfl rfl
theorem sX1_statement_333_n : Rn r 175 333 [l0, l1, l2, l3, l4, l5, l6, l7, l8, l9, l10, l11, l12] [vR none] h Q ↔ Rn r 175 336 [l0, l1, l2, l3, l4, l5, l6, l7, l8, l9, l10, l11, l12] [vR none] h Q := Rn_nx pg175 rfl rfl
theorem sX1_statement_333 (hk : hK h a0 ∈ [35]) : Rn r 175 333 [l0, l1, l2, l3, l4, l5, l6, l7, l8, l9, l10, l11, l12] [vR (some a0)] h Q ↔ Rn r 175 336 [l0, l1, l2, l3, l4, l5, l6, l7, l8, l9, l10, l11, l12] [vR (some a0)] h Q := Rn_nx pg175 rfl (if_pos hk)
theorem sX1_statement_336 : Rn r 175 336 [l0, l1, l2, l3, l4, l5, l6, l7, l8, l9, l10, l11, l12] [vR z0] h Q ↔ Rn r 175 338 [l0, l1, l2, l3, l4, l5, l6, l7, l8, some (vR z0), l10, l11, l12] [] h Q := Rn_nx pg175 rfl rfl
theorem sX1_statement_338 : Rn r 175 338 [some (vR z), l1, l2, l3, l4, l5, l6, l7, l8, l9, l10, l11, l12] [] h Q ↔ Rn r 175 339 [some (vR z), l1, l2, l3, l4, l5, l6, l7, l8, l9, l10, l11, l12] [vR z] h Q := Rn_nx pg175 rfl rfl
theorem sX1_statement_339 : Rn r 175 339 [l0, l1, l2, l3, l4, l5, l6, l7, l8, l9, l10, l11, l12] [vR z0] h Q ↔ Rn r 175 341 [l0, l1, l2, l3, l4, l5, l6, l7, l8, l9, l10, l11, l12] [vI 59, vR z0] h Q := Rn_nx pg175 rfl rfl
theorem sX1_statement_341 (hk : hK h a1 = 2) : Rn r 175 341 [l0, l1, l2, l3, l4, l5, l6, l7, l8, l9, l10, l11, l12] [vI x0, vR (some a1)] h Q ↔ Cl r 128 [vR (some a1), vI x0] h (Kt r 175 344 [l0, l1, l2, l3, l4, l5, l6, l7, l8, l9, l10, l11, l12] [] Q) := Rn_call pg175 rfl (by simp only [am_exec, am_inv, am_pop, am_lk, hk]; rfl) pg128 rfl rfl rfl
theorem sX1_statement_344 : Rn r 175 344 [some (vR z), l1, l2, l3, l4, l5, l6, l7, l8, l9, l10, l11, l12] [] h Q ↔ Rn r 175 345 [some (vR z), l1, l2, l3, l4, l5, l6, l7, l8, l9, l10, l11, l12] [vR z] h Q := Rn_nx pg175 rfl rfl
theorem sX1_statement_345 : Rn r 175 345 [l0, l1, l2, l3, l4, l5, l6, l7, l8, some (vR z), l10, l11, l12] [vR z0] h Q ↔ Rn r 175 347 [l0, l1, l2, l3, l4, l5, l6, l7, l8, some (vR z), l10, l11, l12] [vR z, vR z0] h Q := Rn_nx pg175 rfl rfl
theorem sX1_statement_347 : Rn r 175 347 [l0, some (vR z), l2, l3, l4, l5, l6, l7, l8, l9, l10, l11, l12] [vR z0, vR z1] h Q ↔ Rn r 175 348 [l0, some (vR z), l2, l3, l4, l5, l6, l7, l8, l9, l10, l11, l12] [vR z, vR z0, vR z1] h Q := Rn_nx pg175 rfl rfl
theorem sX1_statement_348 (hk : hK h a2 = 2) : Rn r 175 348 [l0, l1, l2, l3, l4, l5, l6, l7, l8, l9, l10, l11, l12] [vR z0, vR z1, vR (some a2)] h Q ↔ Cl r 224 [vR (some a2), vR z1, vR z0] h (Kt r 175 351 [l0, l1, l2, l3, l4, l5, l6, l7, l8, l9, l10, l11, l12] [] Q) := Rn_call pg175 rfl (by simp only [am_exec, am_inv, am_pop, am_lk, hk]; rfl) pg224 rfl rfl rfl
theorem sX1_statement_351 : Rn r 175 351 [l0, l1, l2, l3, l4, l5, l6, l7, l8, l9, l10, l11, l12] [] h Q ↔ Rn r 175 432 [l0, l1, l2, l3, l4, l5, l6, l7, l8, l9, l10, l11, l12] [] h Q := Rn_nx pg175 rfl rfl
theorem sX1_statement_354 : Rn r 175 354 [l0, l1, l2, some (vR z), l4, l5, l6, l7, l8, l9, l10, l11, l12] [] h Q ↔ Rn r 175 355 [l0, l1, l2, some (vR z), l4, l5, l6, l7, l8, l9, l10, l11, l12] [vR z] h Q := Rn_nx pg175 rfl rfl
theorem sX1_statement_355_n : Rn r 175 355 [l0, l1, l2, l3, l4, l5, l6, l7, l8, l9, l10, l11, l12] [vR none] h Q ↔ Rn r 175 358 [l0, l1, l2, l3, l4, l5, l6, l7, l8, l9, l10, l11, l12] [vI 0] h Q := Rn_nx pg175 rfl rfl
theorem sX1_statement_355 (hk : hK h a0 ∈ [36]) : Rn r 175 355 [l0, l1, l2, l3, l4, l5, l6, l7, l8, l9, l10, l11, l12] [vR (some a0)] h Q ↔ Rn r 175 358 [l0, l1, l2, l3, l4, l5, l6, l7, l8, l9, l10, l11, l12] [vI 1] h Q := Rn_nx pg175 rfl (if_pos hk)
theorem sX1_statement_355_f (hk : hK h a0 ∉ [36]) (hk2 : am_look (hK h a0) [(30, 0), (31, 0), (32, 0), (33, 0), (34, 0), (35, 0), (37, 0), (38, 0)] = some 0) : Rn r 175 355 [l0, l1, l2, l3, l4, l5, l6, l7, l8, l9, l10, l11, l12] [vR (some a0)] h Q ↔ Rn r 175 358 [l0, l1, l2, l3, l4, l5, l6, l7, l8, l9, l10, l11, l12] [vI 0] h Q := Rn_nx pg175 rfl ((if_neg hk).trans (by rw [hk2]; rfl))
theorem sX1_statement_358 : Rn r 175 358 [l0, l1, l2, l3, l4, l5, l6, l7, l8, l9, l10, l11, l12] [vI x0] h Q ↔ if x0 = 0 then Rn r 175 377 [l0, l1, l2, l3, l4, l5, l6, l7, l8, l9, l10, l11, l12] [] h Q else Rn r 175 361 [l0, l1, l2, l3, l4, l5, l6, l7, l8, l9, l10, l11, l12] [] h Q := Rn_if pg175 rfl rfl rfl
theorem sX1_statement_361 : Rn r 175 361 [l0, l1, l2, some (vR z), l4, l5, l6, l7, l8, l9, l10, l11, l12] [] h Q ↔ Rn r 175 362 [l0, l1, l2, some (vR z), l4, l5, l6, l7, l8, l9, l10, l11, l12] [vR z] h Q := Rn_nx pg175 rfl rfl
theorem sX1_statement_362_n : Rn r 175 362 [l0, l1, l2, l3, l4, l5, l6, l7, l8, l9, l10, l11, l12] [vR none] h Q ↔ Rn r 175 365 [l0, l1, l2, l3, l4, l5, l6, l7, l8, l9, l10, l11, l12] [vR none] h Q := Rn_nx pg175 rfl rfl
theorem sX1_statement_362 (hk : hK h a0 ∈ [36]) : Rn r 175 362 [l0, l1, l2, l3, l4, l5, l6, l7, l8, l9, l10, l11, l12] [vR (some a0)] h Q ↔ Rn r 175 365 [l0, l1, l2, l3, l4, l5, l6, l7, l8, l9, l10, l11, l12] [vR (some a0)] h Q := Rn_nx pg175 rfl (if_pos hk)
theorem sX1_statement_365 : Rn r 175 365 [l0, l1, l2, l3, l4, l5, l6, l7, l8, l9, l10, l11, l12] [vR z0] h Q ↔ Rn r 175 367 [l0, l1, l2, l3, l4, l5, l6, l7, l8, l9, some (vR z0), l11, l12] [] h Q := Rn_nx pg175 rfl rfl
theorem sX1_statement_367 : Rn r 175 367 [some (vR z), l1, l2, l3, l4, l5, l6, l7, l8, l9, l10, l11, l12] [] h Q ↔ Rn r 175 368 [some (vR z), l1, l2, l3, l4, l5, l6, l7, l8, l9, l10, l11, l12] [vR z] h Q := Rn_nx pg175 rfl rfl
theorem sX1_statement_368 : Rn r 175 368 [l0, l1, l2, l3, l4, l5, l6, l7, l8, l9, some (vR z), l11, l12] [vR z0] h Q ↔ Rn r 175 370 [l0, l1, l2, l3, l4, l5, l6, l7, l8, l9, some (vR z), l11, l12] [vR z, vR z0] h Q := Rn_nx pg175 rfl rfl
theorem sX1_statement_370 : Rn r 175 370 [l0, some (vR z), l2, l3, l4, l5, l6, l7, l8, l9, l10, l11, l12] [vR z0, vR z1] h Q ↔ Rn r 175 371 [l0, some (vR z), l2, l3, l4, l5, l6, l7, l8, l9, l10, l11, l12] [vR z, vR z0, vR z1] h Q := Rn_nx pg175 rfl rfl
theorem sX1_statement_371 (hk : hK h a2 = 2) : Rn r 175 371 [l0, l1, l2, l3, l4, l5, l6, l7, l8, l9, l10, l11, l12] [vR z0, vR z1, vR (some a2)] h Q ↔ Cl r 225 [vR (some a2), vR z1, vR z0] h (Kt r 175 374 [l0, l1, l2, l3, l4, l5, l6, l7, l8, l9, l10, l11, l12] [] Q) := Rn_call pg175 rfl (by simp only [am_exec, am_inv, am_pop, am_lk, hk]; rfl) pg225 rfl rfl rfl
theorem sX1_statement_374 : Rn r 175 374 [l0, l1, l2, l3, l4, l5, l6, l7, l8, l9, l10, l11, l12] [] h Q ↔ Rn r 175 432 [l0, l1, l2, l3, l4, l5, l6, l7, l8, l9, l10, l11, l12] [] h Q := Rn_nx pg175 rfl rfl
theorem sX1_statement_377 : Rn r 175 377 [l0, l1, l2, some (vR z), l4, l5, l6, l7, l8, l9, l10, l11, l12] [] h Q ↔ Rn r 175 378 [l0, l1, l2, some (vR z), l4, l5, l6, l7, l8, l9, l10, l11, l12] [vR z] h Q := Rn_nx pg175 rfl rfl
theorem sX1_statement_378_n : Rn r 175 378 [l0, l1, l2, l3, l4, l5, l6, l7, l8, l9, l10, l11, l12] [vR none] h Q ↔ Rn r 175 381 [l0, l1, l2, l3, l4, l5, l6, l7, l8, l9, l10, l11, l12] [vI 0] h Q := Rn_nx pg175 rfl rfl
theorem sX1_statement_378 (hk : hK h a0 ∈ [37]) : Rn r 175 378 [l0, l1, l2, l3, l4, l5, l6, l7, l8, l9, l10, l11, l12] [vR (some a0)] h Q ↔ Rn r 175 381 [l0, l1, l2, l3, l4, l5, l6, l7, l8, l9, l10, l11, l12] [vI 1] h Q := Rn_nx pg175 rfl (if_pos hk)
theorem sX1_statement_378_f (hk : hK h a0 ∉ [37]) (hk2 : am_look (hK h a0) [(30, 0), (31, 0), (32, 0), (33, 0), (34, 0), (35, 0), (36, 0), (38, 0)] = some 0) : Rn r 175 378 [l0, l1, l2, l3, l4, l5, l6, l7, l8, l9, l10, l11, l12] [vR (some a0)] h Q ↔ Rn r 175 381 [l0, l1, l2, l3, l4, l5, l6, l7, l8, l9, l10, l11, l12] [vI 0] h Q := Rn_nx pg175 rfl ((if_neg hk).trans (by rw [hk2]; rfl))
theorem sX1_statement_381 : Rn r 175 381 [l0, l1, l2, l3, l4, l5, l6, l7, l8, l9, l10, l11, l12] [vI x0] h Q ↔ if x0 = 0 then Rn r 175 432 [l0, l1, l2, l3, l4, l5, l6, l7, l8, l9, l10, l11, l12] [] h Q else Rn r 175 384 [l0, l1, l2, l3, l4, l5, l6, l7, l8, l9, l10, l11, l12] [] h Q := Rn_if pg175 rfl rfl rfl
theorem sX1_statement_384 : Rn r 175 384 [l0, l1, l2, some (vR z), l4, l5, l6, l7, l8, l9, l10, l11, l12] [] h Q ↔ Rn r 175 385 [l0, l1, l2, some (vR z), l4, l5, l6, l7, l8, l9, l10, l11, l12] [vR z] h Q := Rn_nx pg175 rfl rfl
theorem sX1_statement_385_n : Rn r 175 385 [l0, l1, l2, l3, l4, l5, l6, l7, l8, l9, l10, l11, l12] [vR none] h Q ↔ Rn r 175 388 [l0, l1, l2, l3, l4, l5, l6, l7, l8, l9, l10, l11, l12] [vR none] h Q := Rn_nx pg175 rfl rfl
theorem sX1_statement_385 (hk : hK h a0 ∈ [37]) : Rn r 175 385 [l0, l1, l2, l3, l4, l5, l6, l7, l8, l9, l10, l11, l12] [vR (some a0)] h Q ↔ Rn r 175 388 [l0, l1, l2, l3, l4, l5, l6, l7, l8, l9, l10, l11, l12] [vR (some a0)] h Q := Rn_nx pg175 rfl (if_pos hk)
theorem sX1_statement_388 : Rn r 175 388 [l0, l1, l2, l3, l4, l5, l6, l7, l8, l9, l10, l11, l12] [vR z0] h Q ↔ Rn r 175 390 [l0, l1, l2, l3, l4, l5, l6, l7, l8, l9, l10, some (vR z0), l12] [] h Q := Rn_nx pg175 rfl rfl
theorem sX1_statement_390 : Rn r 175 390 [l0, l1, l2, l3, l4, l5, l6, l7, l8, l9, l10, l11, l12] [] h Q ↔ Rn r 175 393 [l0, l1, l2, l3, l4, l5, l6, l7, l8, l9, l10, l11, l12] [vR (some (hN h))] (newC h 20 5) Q := Rn_nx pg175 rfl rfl
theorem sX1_statement_393 : Rn r 175 393 [l0, l1, l2, l3, l4, l5, l6, l7, l8, l9, l10, l11, l12] [vR z0] h Q ↔ Rn r 175 394 [l0, l1, l2, l3, l4, l5, l6, l7, l8, l9, l10, l11, l12] [vR z0, vR z0] h Q := Rn_nx pg175 rfl rfl
theorem sX1_statement_394 : Rn r 175 394 [l0, some (vR z), l2, l3, l4, l5, l6, l7, l8, l9, l10, l11, l12] [vR z0, vR z1] h Q ↔ Rn r 175 395 [l0, some (vR z), l2, l3, l4, l5, l6, l7, l8, l9, l10, l11, l12] [vR z, vR z0, vR z1] h Q := Rn_nx pg175 rfl rfl
theorem sX1_statement_395 (hk : 0 < hK h a1) (hk2 : hK h a1 < 40) : Rn r 175 395 [l0, l1, l2, l3, l4, l5, l6, l7, l8, l9, l10, l11, l12] [vR z0, vR (some a1), vR z2] h Q ↔ Cl r 133 [vR (some a1), vR z0] h (Kt r 175 398 [l0, l1, l2, l3, l4, l5, l6, l7, l8, l9, l10, l11, l12] [vR z2] Q) := Rn_call pg175 rfl (if_pos ⟨hk, hk2⟩) pg133 rfl rfl rfl
theorem sX1_statement_398 : Rn r 175 398 [l0, l1, l2, l3, l4, l5, l6, l7, l8, l9, l10, l11, l12] [vR z0] h Q ↔ Rn r 175 400 [l0, l1, l2, l3, l4, l5, l6, l7, l8, l9, l10, l11, some (vR z0)] [] h Q := Rn_nx pg175 rfl rfl
theorem sX1_statement_400 : Rn r 175 400 [l0, l1, l2, l3, l4, l5, l6, l7, l8, l9, l10, l11, some (vR z)] [] h Q ↔ Rn r 175 402 [l0, l1, l2, l3, l4, l5, l6, l7, l8, l9, l10, l11, some (vR z)] [vR z] h Q := Rn_nx pg175 rfl rfl
theorem sX1_statement_402 : Rn r 175 402 [l0, l1, l2, l3, l4, l5, l6, l7, l8, l9, l10, l11, l12] [vR z0] h Q ↔ Rn r 175 403 [l0, l1, l2, l3, l4, l5, l6, l7, l8, l9, l10, l11, l12] [vI 1, vR z0] h Q := Rn_nx pg175 rfl rfl
theorem sX1_statement_403 (hk : hK h a1 = 20) (hf : am_fit 4 x0 = true) : Rn r 175 403 [l0, l1, l2, l3, l4, l5, l6, l7, l8, l9, l10, l11, l12] [vI x0, vR (some a1)] h Q ↔ Rn r 175 406 [l0, l1, l2, l3, l4, l5, l6, l7, l8, l9, l10, l11, l12] [] (putI h a1 3 x0) Q := Rn_nx pg175 rfl ((if_pos ⟨(hk ▸ Nat.le_refl _), (hk ▸ Nat.le_refl _)⟩).trans (if_pos hf))
theorem sX1_statement_406 : Rn r 175 406 [l0, l1, l2, l3, l4, l5, l6, l7, l8, l9, l10, some (vR z), l12] [] h Q ↔ Rn r 175 408 [l0, l1, l2, l3, l4, l5, l6, l7, l8, l9, l10, some (vR z), l12] [vR z] h Q := Rn_nx pg175 rfl rfl
theorem sX1_statement_408 : Rn r 175 408 [some (vR z), l1, l2, l3, l4, l5, l6, l7, l8, l9, l10, l11, l12] [vR z0] h Q ↔ Rn r 175 409 [some (vR z), l1, l2, l3, l4, l5, l6, l7, l8, l9, l10, l11, l12] [vR z, vR z0] h Q := Rn_nx pg175 rfl rfl
theorem sX1_statement_409 : Rn r 175 409 [l0, l1, l2, l3, l4, l5, l6, l7, l8, l9, l10, l11, some (vR z)] [vR z0, vR z1] h Q ↔ Rn r 175 411 [l0, l1, l2, l3, l4, l5, l6, l7, l8, l9, l10, l11, some (vR z)] [vR z, vR z0, vR z1] h Q := Rn_nx pg175 rfl rfl
theorem sX1_statement_411 (hk : hK h a1 = 2) : Rn (r + 1) 175 411 [l0, l1, l2, l3, l4, l5, l6, l7, l8, l9, l10, l11, l12] [vR z0, vR (some a1), vR z2] h Q ↔ Cl r 134 [vR (some a1), vR z0] h (Kt (r + 1) 175 414 [l0, l1, l2, l3, l4, l5, l6, l7, l8, l9, l10, l11, l12] [vR z2] Q) := Rn_call pg175 rfl (by simp only [am_exec, am_inv, am_pop, am_lk, hk]; rfl) pg134 rfl rfl rfl
theorem sX1_statement_414 (hk : hK h a1 = 37) : Rn r 175 414 [l0, l1, l2, l3, l4, l5, l6, l7, l8, l9, l10, l11, l12] [vR z0, vR (some a1)] h Q ↔ Rn r 175 417 [l0, l1, l2, l3, l4, l5, l6, l7, l8, l9, l10, l11, l12] [] (putR h a1 5 z0) Q := Rn_nx pg175 rfl ((if_pos ⟨(hk ▸ Nat.le_refl _), (hk ▸ Nat.le_refl _)⟩).trans rfl)
theorem sX1_statement_417 : Rn r 175 417 [l0, l1, l2, l3, l4, l5, l6, l7, l8, l9, l10, some (vR z), l12] [] h Q ↔ Rn r 175 419 [l0, l1, l2, l3, l4, l5, l6, l7, l8, l9, l10, some (vR z), l12] [vR z] h Q := Rn_nx pg175 rfl rfl
theorem sX1_statement_419 : Rn r 175 419 [some (vR z), l1, l2, l3, l4, l5, l6, l7, l8, l9, l10, l11, l12] [vR z0] h Q ↔ Rn r 175 420 [some (vR z), l1, l2, l3, l4, l5, l6, l7, l8, l9, l10, l11, l12] [vR z, vR z0] h Q := Rn_nx pg175 rfl rfl
theorem sX1_statement_420 (hk : hK h a0 = 2) : Rn r 175 420 [l0, l1, l2, l3, l4, l5, l6, l7, l8, l9, l10, l11, l12] [vR (some a0), vR z1] h Q ↔ Cl r 132 [vR (some a0)] h (Kt r 175 423 [l0, l1, l2, l3, l4, l5, l6, l7, l8, l9, l10, l11, l12] [vR z1] Q) := Rn_call pg175 rfl (by simp only [am_exec, am_inv, am_pop, am_lk, hk]; rfl) pg132 rfl rfl rfl
theorem sX1_statement_423 (hk : hK h a1 = 37) : Rn r 175 423 [l0, l1, l2, l3, l4, l5, l6, l7, l8, l9, l10, l11, l12] [vR z0, vR (some a1)] h Q ↔ Rn r 175 426 [l0, l1, l2, l3, l4, l5, l6, l7, l8, l9, l10, l11, l12] [] (putR h a1 6 z0) Q := Rn_nx pg175 rfl ((if_pos ⟨(hk ▸ Nat.le_refl _), (hk ▸ Nat.le_refl _)⟩).trans rfl)
theorem sX1_statement_426 : Rn r 175 426 [some (vR z), l1, l2, l3, l4, l5, l6, l7, l8, l9, l10, l11, l12] [] h Q ↔ Rn r 175 427 [some (vR z), l1, l2, l3, l4, l5, l6, l7, l8, l9, l10, l11, l12] [vR z] h Q := Rn_nx pg175 rfl rfl
theorem sX1_statement_427 : Rn r 175 427 [l0, l1, l2, l3, l4, l5, l6, l7, l8, l9, l10, l11, l12] [vR z0] h Q ↔ Rn r 175 429 [l0, l1, l2, l3, l4, l5, l6, l7, l8, l9, l10, l11, l12] [vI 59, vR z0] h Q := Rn_nx pg175 rfl rfl
theorem sX1_statement_429 (hk : hK h a1 = 2) : Rn r 175 429 [l0, l1, l2, l3, l4, l5, l6, l7, l8, l9, l10, l11, l12] [vI x0, vR (some a1)] h Q ↔ Cl r 128 [vR (some a1), vI x0] h (Kt r 175 432 [l0, l1, l2, l3, l4, l5, l6, l7, l8, l9, l10, l11, l12] [] Q) := Rn_call pg175 rfl (by simp only [am_exec, am_inv, am_pop, am_lk, hk]; rfl) pg128 rfl rfl rfl
theorem sX1_statement_432 : Rn r 175 432 [l0, l1, l2, some (vR z), l4, l5, l6, l7, l8, l9, l10, l11, l12] [] h Q ↔ Rn r 175 433 [l0, l1, l2, some (vR z), l4, l5, l6, l7, l8, l9, l10, l11, l12] [vR z] h Q := Rn_nx pg175 rfl rfl
theorem sX1_statement_433 : Rn r 175 433 [l0, l1, l2, l3, l4, l5, l6, l7, l8, l9, l10, l11, l12] [vR z0] h Q ↔ Q (Sum.inl (some (vR z0))) h := Rn_end pg175 rfl rfl
/-! 176 ThrowRules$Statement.judge(LThrowRules$Unit;)V -/
theorem eX12_judge : Cl r 176 [vR z0, vR z1] h Q ↔ Rn r 176 0 [some (vR z0), some (vR z1)] [] h Q := Cl_in pg176 rfl
theorem sX12_judge_0 : Rn r 176 0 [some (vR z), l1] [] h Q ↔ Rn r 176 1 [some (vR z), l1] [vR z] h Q := Rn_nx pg176 rfl rfl
theorem sX12_judge_1 : Rn r 176 1 [some (vR z), l1] [vR z0] h Q ↔ Rn r 176 2 [some (vR z), l1] [vR z, vR z0] h Q := Rn_nx pg176 rfl rfl
theorem sX12_judge_2 : Rn r 176 2 [l0, some (vR z)] [vR z0, vR z1] h Q ↔ Rn r 176 3 [l0, some (vR z)] [vR z, vR z0, vR z1] h Q := Rn_nx pg176 rfl rfl
theorem sX12_judge_3_k30 (hk : hK h a1 = 30) : Rn r 176 3 [l0, l1] [vR z0, vR (some a1), vR z2] h Q ↔ Cl r 226 [vR (some a1), vR z0] h (Kt r 176 6 [l0, l1] [vR z2] Q) := Rn_call pg176 rfl (by simp only [am_exec, am_inv, am_pop, am_lk, hk]; rfl) pg226 rfl rfl rfl
theorem sX12_judge_3_k31 (hk : hK h a1 = 31) : Rn r 176 3 [l0, l1] [vR z0, vR (some a1), vR z2] h Q ↔ Cl r 227 [vR (some a1), vR z0] h (Kt r 176 6 [l0, l1] [vR z2] Q) := Rn_call pg176 rfl (by simp only [am_exec, am_inv, am_pop, am_lk, hk]; rfl) pg227 rfl rfl rfl
theorem sX12_judge_3_k32 (hk : hK h a1 = 32) : Rn r 176 3 [l0, l1] [vR z0, vR (some a1), vR z2] h Q ↔ Cl r 228 [vR (some a1), vR z0] h (Kt r 176 6 [l0, l1] [vR z2] Q) := Rn_call pg176 rfl (by simp only [am_exec, am_inv, am_pop, am_lk, hk]; rfl) pg228 rfl rfl rfl
theorem sX12_judge_3_k33 (hk : hK h a1 = 33) : Rn r 176 3 [l0, l1] [vR z0, vR (some a1), vR z2] h Q ↔ Cl r 229 [vR (some a1), vR z0] h (Kt r 176 6 [l0, l1] [vR z2] Q) := Rn_call pg176 rfl (by simp only [am_exec, am_inv, am_pop, am_lk, hk]; rfl) pg229 rfl rfl rfl
theorem sX12_judge_3_k34 (hk : hK h a1 = 34) : Rn r 176 3 [l0, l1] [vR z0, vR (some a1), vR z2] h Q ↔ Cl r 230 [vR (some a1), vR z0] h (Kt r 176 6 [l0, l1] [vR z2] Q) := Rn_call pg176 rfl (by simp only [am_exec, am_inv, am_pop, am_lk, hk]; rfl) pg230 rfl rfl rfl
theorem sX12_judge_3_k35 (hk : hK h a1 = 35) : Rn r 176 3 [l0, l1] [vR z0, vR (some a1), vR z2] h Q ↔ Cl r 231 [vR (some a1), vR z0] h (Kt r 176 6 [l0, l1] [vR z2] Q) := Rn_call pg176 rfl (by simp only [am_exec, am_inv, am_pop, am_lk, hk]; rfl) pg231 rfl rfl rfl
theorem sX12_judge_3_k36 (hk : hK h a1 = 36) : Rn r 176 3 [l0, l1] [vR z0, vR (some a1), vR z2] h Q ↔ Cl r 232 [vR (some a1), vR z0] h (Kt r 176 6 [l0, l1] [vR z2] Q) := Rn_call pg176 rfl (by simp only [am_exec, am_inv, am_pop, am_lk, hk]; rfl) pg232 rfl rfl rfl
theorem sX12_judge_3_k37 (hk : hK h a1 = 37) : Rn r 176 3 [l0, l1] [vR z0, vR (some a1), vR z2] h Q ↔ Cl r 233 [vR (some a1), vR z0] h (Kt r 176 6 [l0, l1] [vR z2] Q) := Rn_call pg176 rfl (by simp only [am_exec, am_inv, am_pop, am_lk, hk]; rfl) pg233 rfl rfl rfl
theorem sX12_judge_3_k38 (hk : hK h a1 = 38) : Rn r 176 3 [l0, l1] [vR z0, vR (some a1), vR z2] h Q ↔ Cl r 234 [vR (some a1), vR z0] h (Kt r 176 6 [l0, l1] [vR z2] Q) := Rn_call pg176 rfl (by simp only [am_exec, am_inv, am_pop, am_lk, hk]; rfl) pg234 rfl rfl rfl
theorem sX12_judge_6 (hk : 30 ≤ hK h a1) (hk2 : hK h a1 ≤ 38) : Rn r 176 6 [l0, l1] [vI x0, vR (some a1)] h Q ↔ Rn r 176 9 [l0, l1] [] (putI h a1 3 x0) Q := Rn_nx pg176 rfl ((if_pos ⟨hk, hk2⟩).trans rfl)
theorem sX12_judge_9 : Rn r 176 9 [some (vR z), l1] [] h Q ↔ Rn r 176 10 [some (vR z), l1] [vR z] h Q := Rn_nx pg176 rfl rfl
theorem sX12_judge_10 : Rn r 176 10 [some (vR z), l1] [vR z0] h Q ↔ Rn r 176 11 [some (vR z), l1] [vR z, vR z0] h Q := Rn_nx pg176 rfl rfl
theorem sX12_judge_11 : Rn r 176 11 [l0, some (vR z)] [vR z0, vR z1] h Q ↔ Rn r 176 12 [l0, some (vR z)] [vR z, vR z0, vR z1] h Q := Rn_nx pg176 rfl rfl
theorem sX12_judge_12_k30 (hk : hK h a1 = 30) : Rn r 176 12 [l0, l1] [vR z0, vR (some a1), vR z2] h Q ↔ Cl r 235 [vR (some a1), vR z0] h (Kt r 176 15 [l0, l1] [vR z2] Q) := Rn_call pg176 rfl (by simp only [am_exec, am_inv, am_pop, am_lk, hk]; rfl) pg235 rfl rfl rfl
theorem sX12_judge_12_k31 (hk : hK h a1 = 31) : Rn r 176 12 [l0, l1] [vR z0, vR (some a1), vR z2] h Q ↔ Cl r 236 [vR (some a1), vR z0] h (Kt r 176 15 [l0, l1] [vR z2] Q) := Rn_call pg176 rfl (by simp only [am_exec, am_inv, am_pop, am_lk, hk]; rfl) pg236 rfl rfl rfl
theorem sX12_judge_12_k32 (hk : hK h a1 = 32) : Rn r 176 12 [l0, l1] [vR z0, vR (some a1), vR z2] h Q ↔ Cl r 237 [vR (some a1), vR z0] h (Kt r 176 15 [l0, l1] [vR z2] Q) := Rn_call pg176 rfl (by simp only [am_exec, am_inv, am_pop, am_lk, hk]; rfl) pg237 rfl rfl rfl
theorem sX12_judge_12_k33 (hk : hK h a1 = 33) : Rn r 176 12 [l0, l1] [vR z0, vR (some a1), vR z2] h Q ↔ Cl r 238 [vR (some a1), vR z0] h (Kt r 176 15 [l0, l1] [vR z2] Q) := Rn_call pg176 rfl (by simp only [am_exec, am_inv, am_pop, am_lk, hk]; rfl) pg238 rfl rfl rfl
theorem sX12_judge_12_k34 (hk : hK h a1 = 34) : Rn r 176 12 [l0, l1] [vR z0, vR (some a1), vR z2] h Q ↔ Cl r 239 [vR (some a1), vR z0] h (Kt r 176 15 [l0, l1] [vR z2] Q) := Rn_call pg176 rfl (by simp only [am_exec, am_inv, am_pop, am_lk, hk]; rfl) pg239 rfl rfl rfl
theorem sX12_judge_12_k35 (hk : hK h a1 = 35) : Rn r 176 12 [l0, l1] [vR z0, vR (some a1), vR z2] h Q ↔ Cl r 240 [vR (some a1), vR z0] h (Kt r 176 15 [l0, l1] [vR z2] Q) := Rn_call pg176 rfl (by simp only [am_exec, am_inv, am_pop, am_lk, hk]; rfl) pg240 rfl rfl rfl
theorem sX12_judge_12_k36 (hk : hK h a1 = 36) : Rn r 176 12 [l0, l1] [vR z0, vR (some a1), vR z2] h Q ↔ Cl r 241 [vR (some a1), vR z0] h (Kt r 176 15 [l0, l1] [vR z2] Q) := Rn_call pg176 rfl (by simp only [am_exec, am_inv, am_pop, am_lk, hk]; rfl) pg241 rfl rfl rfl
theorem sX12_judge_12_k37 (hk : hK h a1 = 37) : Rn r 176 12 [l0, l1] [vR z0, vR (some a1), vR z2] h Q ↔ Cl r 242 [vR (some a1), vR z0] h (Kt r 176 15 [l0, l1] [vR z2] Q) := Rn_call pg176 rfl (by simp only [am_exec, am_inv, am_pop, am_lk, hk]; rfl) pg242 rfl rfl rfl
theorem sX12_judge_12_k38 (hk : hK h a1 = 38) : Rn r 176 12 [l0, l1] [vR z0, vR (some a1), vR z2] h Q ↔ Cl r 243 [vR (some a1), vR z0] h (Kt r 176 15 [l0, l1] [vR z2] Q) := Rn_call pg176 rfl (by simp only [am_exec, am_inv, am_pop, am_lk, hk]; rfl) pg243 rfl rfl rfl
theorem sX12_judge_15 (hk : 30 ≤ hK h a1) (hk2 : hK h a1 ≤ 38) (hf : am_fit 4 x0 = true) : Rn r 176 15 [l0, l1] [vI x0, vR (some a1)] h Q ↔ Rn r 176 18 [l0, l1] [] (putI h a1 4 x0) Q := Rn_nx pg176 rfl ((if_pos ⟨hk, hk2⟩).trans (if_pos hf))
theorem sX12_judge_18 : Rn r 176 18 [l0, l1] [] h Q ↔ Q (Sum.inl none) h := Rn_end pg176 rfl rfl
/-! 177 ThrowRules$Unit.checked(I)I -/
theorem eX3_checked : Cl r 177 [vR z0, vI x1] h Q ↔ Rn r 177 0 [some (vR z0), some (vI x1), none, none] [] h Q := Cl_in pg177 rfl
theorem sX3_checked_0 : Rn r 177 0 [l0, l1, l2, l3] [] h Q ↔ Rn r 177 1 [l0, l1, l2, l3] [vI 0] h Q := Rn_nx pg177 rfl rfl
theorem sX3_checked_1 : Rn r 177 1 [l0, l1, l2, l3] [vI x0] h Q ↔ Rn r 177 2 [l0, l1, some (vI x0), l3] [] h Q := Rn_nx pg177 rfl rfl
theorem sX3_checked_2 : Rn r 177 2 [l0, l1, l2, l3] [] h Q ↔ Rn r 177 3 [l0, l1, l2, l3] [vI 0] h Q := Rn_nx pg177 rfl rfl
theorem sX3_checked_3 : Rn r 177 3 [l0, l1, l2, l3] [vI x0] h Q ↔ Rn r 177 4 [l0, l1, l2, some (vI x0)] [] h Q := Rn_nx pg177 rfl rfl
theorem sX3_checked_4 : Rn r 177 4 [l0, l1, l2, some (vI x)] [] h Q ↔ Rn r 177 5 [l0, l1, l2, some (vI x)] [vI x] h Q := Rn_nx pg177 rfl rfl
theorem sX3_checked_5 : Rn r 177 5 [some (vR z), l1, l2, l3] [vI x0] h Q ↔ Rn r 177 6 [some (vR z), l1, l2, l3] [vR z, vI x0] h Q := Rn_nx pg177 rfl rfl
theorem sX3_checked_6 (hk : hK h a0 = 5) : Rn r 177 6 [l0, l1, l2, l3] [vR (some a0), vI x1] h Q ↔ Rn r 177 9 [l0, l1, l2, l3] [vR (hR h a0 0), vI x1] h Q := Rn_nx pg177 rfl (if_pos ⟨(hk ▸ Nat.le_refl _), (hk ▸ Nat.le_refl _)⟩)
theorem sX3_checked_9 (hk : hK h a0 = 4) : Rn r 177 9 [l0, l1, l2, l3] [vR (some a0), vI x1] h Q ↔ Cl r 34 [vR (some a0)] h (Kt r 177 12 [l0, l1, l2, l3] [vI x1] Q) := Rn_call pg177 rfl (by simp only [am_exec, am_inv, am_pop, am_lk, hk]; rfl) pg34 rfl rfl rfl
theorem sX3_checked_12 : Rn r 177 12 [l0, l1, l2, l3] [vI x0, vI x1] h Q ↔ if x0 ≤ x1 then Rn r 177 58 [l0, l1, l2, l3] [] h Q else Rn r 177 15 [l0, l1, l2, l3] [] h Q := Rn_if pg177 rfl rfl rfl
theorem sX3_checked_15 : Rn r 177 15 [l0, l1, some (vI x), l3] [] h Q ↔ Rn r 177 16 [l0, l1, some (vI x), l3] [vI x] h Q := Rn_nx pg177 rfl rfl
theorem sX3_checked_16 : Rn r 177 16 [l0, some (vI x), l2, l3] [vI x0] h Q ↔ Rn r 177 17 [l0, some (vI x), l2, l3] [vI x, vI x0] h Q := Rn_nx pg177 rfl rfl
theorem sX3_checked_17 : Rn r 177 17 [l0, l1, l2, some (vI x)] [vI x0, vI x1] h Q ↔ Rn r 177 18 [l0, l1, l2, some (vI x)] [vI x, vI x0, vI x1] h Q := Rn_nx pg177 rfl rfl
theorem sX3_checked_18 : Rn r 177 18 [l0, l1, l2, l3] [vI x0, vI x1, vI x2] h Q ↔ Rn r 177 19 [l0, l1, l2, l3] [vI (x1 >>> (x0 &&& 31)), vI x2] h Q := Rn_nx pg177 rfl rfl
theorem sX3_checked_19 : Rn r 177 19 [l0, l1, l2, l3] [vI x0, vI x1] h Q ↔ Rn r 177 20 [l0, l1, l2, l3] [vI 1, vI x0, vI x1] h Q := Rn_nx pg177 rfl rfl
theorem sX3_checked_20 : Rn r 177 20 [l0, l1, l2, l3] [vI x0, vI x1, vI x2] h Q ↔ Rn r 177 21 [l0, l1, l2, l3] [vI (x1 &&& x0), vI x2] h Q := Rn_nx pg177 rfl rfl
theorem sX3_checked_21 : Rn r 177 21 [l0, l1, l2, l3] [vI x0, vI x1] h Q ↔ Rn r 177 22 [l0, l1, l2, l3] [vI 1, vI x0, vI x1] h Q := Rn_nx pg177 rfl rfl
theorem sX3_checked_22 : Rn r 177 22 [l0, l1, l2, l3] [vI x0, vI x1, vI x2] h Q ↔ if x1 ≠ x0 then Rn r 177 49 [l0, l1, l2, l3] [vI x2] h Q else Rn r 177 25 [l0, l1, l2, l3] [vI x2] h Q := Rn_if pg177 rfl rfl rfl
theorem sX3_checked_25 : Rn r 177 25 [some (vR z), l1, l2, l3] [vI x0] h Q ↔ Rn r 177 26 [some (vR z), l1, l2, l3] [vR z, vI x0] h Q := Rn_nx pg177 rfl rfl
theorem sX3_checked_26 : Rn r 177 26 [some (vR z), l1, l2, l3] [vR z0, vI x1] h Q ↔ Rn r 177 27 [some (vR z), l1, l2, l3] [vR z, vR z0, vI x1] h Q := Rn_nx pg177 rfl rfl
theorem sX3_checked_27 (hk : hK h a0 = 5) : Rn r 177 27 [l0, l1, l2, l3] [vR (some a0), vR z1, vI x2] h Q ↔ Rn r 177 30 [l0, l1, l2, l3] [vR (hR h a0 0), vR z1, vI x2] h Q := Rn_nx pg177 rfl (if_pos ⟨(hk ▸ Nat.le_refl _), (hk ▸ Nat.le_refl _)⟩)
theorem sX3_checked_30 : Rn r 177 30 [l0, l1, l2, some (vI x)] [vR z0, vR z1, vI x2] h Q ↔ Rn r 177 31 [l0, l1, l2, some (vI x)] [vI x, vR z0, vR z1, vI x2] h Q := Rn_nx pg177 rfl rfl
theorem sX3_checked_31 (hk : hK h a1 = 4) : Rn r 177 31 [l0, l1, l2, l3] [vI x0, vR (some a1), vR z2, vI x3] h Q ↔ Cl r 43 [vR (some a1), vI x0] h (Kt r 177 34 [l0, l1, l2, l3] [vR z2, vI x3] Q) := Rn_call pg177 rfl (by simp only [am_exec, am_inv, am_pop, am_lk, hk]; rfl) pg43 rfl rfl rfl
theorem sX3_checked_34_n : Rn r 177 34 [l0, l1, l2, l3] [vR none, vR z1, vI x2] h Q ↔ Rn r 177 37 [l0, l1, l2, l3] [vR none, vR z1, vI x2] h Q := Rn_nx pg177 rfl rfl
theorem sX3_checked_34 (hk : hK h a0 ∈ [7]) : Rn r 177 34 [l0, l1, l2, l3] [vR (some a0), vR z1, vI x2] h Q ↔ Rn r 177 37 [l0, l1, l2, l3] [vR (some a0), vR z1, vI x2] h Q := Rn_nx pg177 rfl (if_pos hk)
theorem sX3_checked_37 (hk : hK h a1 = 5) : Rn r 177 37 [l0, l1, l2, l3] [vR z0, vR (some a1), vI x2] h Q ↔ Cl r 44 [vR (some a1), vR z0] h (Kt r 177 40 [l0, l1, l2, l3] [vI x2] Q) := Rn_call pg177 rfl (by simp only [am_exec, am_inv, am_pop, am_lk, hk]; rfl) pg44 rfl rfl rfl
theorem sX3_checked_40 : Rn r 177 40 [l0, l1, l2, l3] [vI x0, vI x1] h Q ↔ if x0 = 0 then Rn r 177 49 [l0, l1, l2, l3] [vI x1] h Q else Rn r 177 43 [l0, l1, l2, l3] [vI x1] h Q := Rn_if pg177 rfl rfl rfl
theorem sX3_checked_43 : Rn r 177 43 [l0, l1, l2, l3] [vI x0] h Q ↔ Rn r 177 44 [l0, l1, l2, l3] [vI 1, vI x0] h Q := Rn_nx pg177 rfl rfl
theorem sX3_checked_44 : Rn r 177 44 [l0, l1, l2, some (vI x)] [vI x0, vI x1] h Q ↔ Rn r 177 45 [l0, l1, l2, some (vI x)] [vI x, vI x0, vI x1] h Q := Rn_nx pg177 rfl rfl
theorem sX3_checked_45 : Rn r 177 45 [l0, l1, l2, l3] [vI x0, vI x1, vI x2] h Q ↔ Rn r 177 46 [l0, l1, l2, l3] [vI (x1 <<< (x0 &&& 31)), vI x2] h Q := Rn_nx pg177 rfl rfl
theorem sX3_checked_46 : Rn r 177 46 [l0, l1, l2, l3] [vI x0, vI x1] h Q ↔ Rn r 177 50 [l0, l1, l2, l3] [vI x0, vI x1] h Q := Rn_nx pg177 rfl rfl
theorem sX3_checked_49 : Rn r 177 49 [l0, l1, l2, l3] [vI x0] h Q ↔ Rn r 177 50 [l0, l1, l2, l3] [vI 0, vI x0] h Q := Rn_nx pg177 rfl rfl
theorem sX3_checked_50 : Rn r 177 50 [l0, l1, l2, l3] [vI x0, vI x1] h Q ↔ Rn r 177 51 [l0, l1, l2, l3] [vI (x1 ||| x0)] h Q := Rn_nx pg177 rfl rfl
theorem sX3_checked_51 : Rn r 177 51 [l0, l1, l2, l3] [vI x0] h Q ↔ Rn r 177 52 [l0, l1, some (vI x0), l3] [] h Q := Rn_nx pg177 rfl rfl
theorem sX3_checked_52 : Rn r 177 52 [l0, l1, l2, some (vI x)] [] h Q ↔ Rn r 177 55 [l0, l1, l2, some (vI (x + 1))] [] h Q := Rn_nx pg177 rfl rfl
theorem sX3_checked_55 : Rn r 177 55 [l0, l1, l2, l3] [] h Q ↔ Rn r 177 4 [l0, l1, l2, l3] [] h Q := Rn_nx pg177 rfl rfl
theorem sX3_checked_58 : Rn r 177 58 [l0, l1, some (vI x), l3] [] h Q ↔ Rn r 177 59 [l0, l1, some (vI x), l3] [vI x] h Q := Rn_nx pg177 rfl rfl
theorem sX3_checked_59 : Rn r 177 59 [l0, l1, l2, l3] [vI x0] h Q ↔ Q (Sum.inl (some (vI x0))) h := Rn_end pg177 rfl rfl
/-! 178 ThrowRules$Unit.without(II)I -/
theorem eX3_without : Cl r 178 [vR z0, vI x1, vI x2] h Q ↔ Rn r 178 0 [some (vR z0), some (vI x1), some (vI x2), none, none] [] h Q := Cl_in pg178 rfl
theorem sX3_without_0 : Rn r 178 0 [l0, l1, l2, l3, l4] [] h Q ↔ Rn r 178 1 [l0, l1, l2, l3, l4] [vI 0] h Q := Rn_nx pg178 rfl rfl
theorem sX3_without_1 : Rn r 178 1 [l0, l1, l2, l3, l4] [vI x0] h Q ↔ Rn r 178 2 [l0, l1, l2, some (vI x0), l4] [] h Q := Rn_nx pg178 rfl rfl
theorem sX3_without_2 : Rn r 178 2 [l0, l1, l2, l3, l4] [] h Q ↔ Rn r 178 3 [l0, l1, l2, l3, l4] [vI 0] h Q := Rn_nx pg178 rfl rfl
theorem sX3_without_3 : Rn r 178 3 [l0, l1, l2, l3, l4] [vI x0] h Q ↔ Rn r 178 5 [l0, l1, l2, l3, some (vI x0)] [] h Q := Rn_nx pg178 rfl rfl
theorem sX3_without_5 : Rn r 178 5 [l0, l1, l2, l3, some (vI x)] [] h Q ↔ Rn r 178 7 [l0, l1, l2, l3, some (vI x)] [vI x] h Q := Rn_nx pg178 rfl rfl
theorem sX3_without_7 : Rn r 178 7 [some (vR z), l1, l2, l3, l4] [vI x0] h Q ↔ Rn r 178 8 [some (vR z), l1, l2, l3, l4] [vR z, vI x0] h Q := Rn_nx pg178 rfl rfl
theorem sX3_without_8 (hk : hK h a0 = 5) : Rn r 178 8 [l0, l1, l2, l3, l4] [vR (some a0), vI x1] h Q ↔ Rn r 178 11 [l0, l1, l2, l3, l4] [vR (hR h a0 0), vI x1] h Q := Rn_nx pg178 rfl (if_pos ⟨(hk ▸ Nat.le_refl _), (hk ▸ Nat.le_refl _)⟩)
theorem sX3_without_11 (hk : hK h a0 = 4) : Rn r 178 11 [l0, l1, l2, l3, l4] [vR (some a0), vI x1] h Q ↔ Cl r 34 [vR (some a0)] h (Kt r 178 14 [l0, l1, l2, l3, l4] [vI x1] Q) := Rn_call pg178 rfl (by simp only [am_exec, am_inv, am_pop, am_lk, hk]; rfl) pg34 rfl rfl rfl
theorem sX3_without_14 : Rn r 178 14 [l0, l1, l2, l3, l4] [vI x0, vI x1] h Q ↔ if x0 ≤ x1 then Rn r 178 64 [l0, l1, l2, l3, l4] [] h Q else Rn r 178 17 [l0, l1, l2, l3, l4] [] h Q := Rn_if pg178 rfl rfl rfl
theorem sX3_without_17 : Rn r 178 17 [l0, l1, l2, some (vI x), l4] [] h Q ↔ Rn r 178 18 [l0, l1, l2, some (vI x), l4] [vI x] h Q := Rn_nx pg178 rfl rfl
theorem sX3_without_18 : Rn r 178 18 [l0, some (vI x), l2, l3, l4] [vI x0] h Q ↔ Rn r 178 19 [l0, some (vI x), l2, l3, l4] [vI x, vI x0] h Q := Rn_nx pg178 rfl rfl
theorem sX3_without_19 : Rn r 178 19 [l0, l1, l2, l3, some (vI x)] [vI x0, vI x1] h Q ↔ Rn r 178 21 [l0, l1, l2, l3, some (vI x)] [vI x, vI x0, vI x1] h Q := Rn_nx pg178 rfl rfl
theorem sX3_without_21 : Rn r 178 21 [l0, l1, l2, l3, l4] [vI x0, vI x1, vI x2] h Q ↔ Rn r 178 22 [l0, l1, l2, l3, l4] [vI (x1 >>> (x0 &&& 31)), vI x2] h Q := Rn_nx pg178 rfl rfl
theorem sX3_without_22 : Rn r 178 22 [l0, l1, l2, l3, l4] [vI x0, vI x1] h Q ↔ Rn r 178 23 [l0, l1, l2, l3, l4] [vI 1, vI x0, vI x1] h Q := Rn_nx pg178 rfl rfl
theorem sX3_without_23 : Rn r 178 23 [l0, l1, l2, l3, l4] [vI x0, vI x1, vI x2] h Q ↔ Rn r 178 24 [l0, l1, l2, l3, l4] [vI (x1 &&& x0), vI x2] h Q := Rn_nx pg178 rfl rfl
theorem sX3_without_24 : Rn r 178 24 [l0, l1, l2, l3, l4] [vI x0, vI x1] h Q ↔ Rn r 178 25 [l0, l1, l2, l3, l4] [vI 1, vI x0, vI x1] h Q := Rn_nx pg178 rfl rfl
theorem sX3_without_25 : Rn r 178 25 [l0, l1, l2, l3, l4] [vI x0, vI x1, vI x2] h Q ↔ if x1 ≠ x0 then Rn r 178 55 [l0, l1, l2, l3, l4] [vI x2] h Q else Rn r 178 28 [l0, l1, l2, l3, l4] [vI x2] h Q := Rn_if pg178 rfl rfl rfl
theorem sX3_without_28 : Rn r 178 28 [some (vR z), l1, l2, l3, l4] [vI x0] h Q ↔ Rn r 178 29 [some (vR z), l1, l2, l3, l4] [vR z, vI x0] h Q := Rn_nx pg178 rfl rfl
theorem sX3_without_29 : Rn r 178 29 [some (vR z), l1, l2, l3, l4] [vR z0, vI x1] h Q ↔ Rn r 178 30 [some (vR z), l1, l2, l3, l4] [vR z, vR z0, vI x1] h Q := Rn_nx pg178 rfl rfl
theorem sX3_without_30 (hk : hK h a0 = 5) : Rn r 178 30 [l0, l1, l2, l3, l4] [vR (some a0), vR z1, vI x2] h Q ↔ Rn r 178 33 [l0, l1, l2, l3, l4] [vR (hR h a0 0), vR z1, vI x2] h Q := Rn_nx pg178 rfl (if_pos ⟨(hk ▸ Nat.le_refl _), (hk ▸ Nat.le_refl _)⟩)
theorem sX3_without_33 : Rn r 178 33 [l0, l1, l2, l3, some (vI x)] [vR z0, vR z1, vI x2] h Q ↔ Rn r 178 35 [l0, l1, l2, l3, some (vI x)] [vI x, vR z0, vR z1, vI x2] h Q := Rn_nx pg178 rfl rfl
theorem sX3_without_35 (hk : hK h a1 = 4) : Rn r 178 35 [l0, l1, l2, l3, l4] [vI x0, vR (some a1), vR z2, vI x3] h Q ↔ Cl r 43 [vR (some a1), vI x0] h (Kt r 178 38 [l0, l1, l2, l3, l4] [vR z2, vI x3] Q) := Rn_call pg178 rfl (by simp only [am_exec, am_inv, am_pop, am_lk, hk]; rfl) pg43 rfl rfl rfl
theorem sX3_without_38_n : Rn r 178 38 [l0, l1, l2, l3, l4] [vR none, vR z1, vI x2] h Q ↔ Rn r 178 41 [l0, l1, l2, l3, l4] [vR none, vR z1, vI x2] h Q := Rn_nx pg178 rfl rfl
theorem sX3_without_38 (hk : hK h a0 ∈ [7]) : Rn r 178 38 [l0, l1, l2, l3, l4] [vR (some a0), vR z1, vI x2] h Q ↔ Rn r 178 41 [l0, l1, l2, l3, l4] [vR (some a0), vR z1, vI x2] h Q := Rn_nx pg178 rfl (if_pos hk)
theorem sX3_without_41 : Rn r 178 41 [l0, l1, some (vI x), l3, l4] [vR z0, vR z1, vI x2] h Q ↔ Rn r 178 42 [l0, l1, some (vI x), l3, l4] [vI x, vR z0, vR z1, vI x2] h Q := Rn_nx pg178 rfl rfl
theorem sX3_without_42 (hk : hK h a2 = 5) : Rn r 178 42 [l0, l1, l2, l3, l4] [vI x0, vR z1, vR (some a2), vI x3] h Q ↔ Cl r 139 [vR (some a2), vR z1, vI x0] h (Kt r 178 45 [l0, l1, l2, l3, l4] [vI x3] Q) := Rn_call pg178 rfl (by simp only [am_exec, am_inv, am_pop, am_lk, hk]; rfl) pg139 rfl rfl rfl
theorem sX3_without_45 : Rn r 178 45 [l0, l1, l2, l3, l4] [vI x0, vI x1] h Q ↔ if x0 ≠ 0 then Rn r 178 55 [l0, l1, l2, l3, l4] [vI x1] h Q else Rn r 178 48 [l0, l1, l2, l3, l4] [vI x1] h Q := Rn_if pg178 rfl rfl rfl
theorem sX3_without_48 : Rn r 178 48 [l0, l1, l2, l3, l4] [vI x0] h Q ↔ Rn r 178 49 [l0, l1, l2, l3, l4] [vI 1, vI x0] h Q := Rn_nx pg178 rfl rfl
theorem sX3_without_49 : Rn r 178 49 [l0, l1, l2, l3, some (vI x)] [vI x0, vI x1] h Q ↔ Rn r 178 51 [l0, l1, l2, l3, some (vI x)] [vI x, vI x0, vI x1] h Q := Rn_nx pg178 rfl rfl
theorem sX3_without_51 : Rn r 178 51 [l0, l1, l2, l3, l4] [vI x0, vI x1, vI x2] h Q ↔ Rn r 178 52 [l0, l1, l2, l3, l4] [vI (x1 <<< (x0 &&& 31)), vI x2] h Q := Rn_nx pg178 rfl rfl
theorem sX3_without_52 : Rn r 178 52 [l0, l1, l2, l3, l4] [vI x0, vI x1] h Q ↔ Rn r 178 56 [l0, l1, l2, l3, l4] [vI x0, vI x1] h Q := Rn_nx pg178 rfl rfl
theorem sX3_without_55 : Rn r 178 55 [l0, l1, l2, l3, l4] [vI x0] h Q ↔ Rn r 178 56 [l0, l1, l2, l3, l4] [vI 0, vI x0] h Q := Rn_nx pg178 rfl rfl
theorem sX3_without_56 : Rn r 178 56 [l0, l1, l2, l3, l4] [vI x0, vI x1] h Q ↔ Rn r 178 57 [l0, l1, l2, l3, l4] [vI (x1 ||| x0)] h Q := Rn_nx pg178 rfl rfl
theorem sX3_without_57 : Rn r 178 57 [l0, l1, l2, l3, l4] [vI x0] h Q ↔ Rn r 178 58 [l0, l1, l2, some (vI x0), l4] [] h Q := Rn_nx pg178 rfl rfl
theorem sX3_without_58 : Rn r 178 58 [l0, l1, l2, l3, some (vI x)] [] h Q ↔ Rn r 178 61 [l0, l1, l2, l3, some (vI (x + 1))] [] h Q := Rn_nx pg178 rfl rfl
theorem sX3_without_61 : Rn r 178 61 [l0, l1, l2, l3, l4] [] h Q ↔ Rn r 178 5 [l0, l1, l2, l3, l4] [] h Q := Rn_nx pg178 rfl rfl
theorem sX3_without_64 : Rn r 178 64 [l0, l1, l2, some (vI x), l4] [] h Q ↔ Rn r 178 65 [l0, l1, l2, some (vI x), l4] [vI x] h Q := Rn_nx pg178 rfl rfl
theorem sX3_without_65 : Rn r 178 65 [l0, l1, l2, l3, l4] [vI x0] h Q ↔ Q (Sum.inl (some (vI x0))) h := Rn_end pg178 rfl rfl
/-! 179 ThrowRulesModel.checkedOf(I)I -/
theorem eX6_checkedOf : Cl r 179 [vR z0, vI x1] h Q ↔ Rn r 179 0 [some (vR z0), some (vI x1), none, none] [] h Q := Cl_in pg179 rfl
theorem sX6_checkedOf_0 : Rn r 179 0 [l0, l1, l2, l3] [] h Q ↔ Rn r 179 1 [l0, l1, l2, l3] [vI 0] h Q := Rn_nx pg179 rfl rfl
theorem sX6_checkedOf_1 : Rn r 179 1 [l0, l1, l2, l3] [vI x0] h Q ↔ Rn r 179 2 [l0, l1, some (vI x0), l3] [] h Q := Rn_nx pg179 rfl rfl
theorem sX6_checkedOf_2 : Rn r 179 2 [l0, l1, l2, l3] [] h Q ↔ Rn r 179 3 [l0, l1, l2, l3] [vI 0] h Q := Rn_nx pg179 rfl rfl
theorem sX6_checkedOf_3 : Rn r 179 3 [l0, l1, l2, l3] [vI x0] h Q ↔ Rn r 179 4 [l0, l1, l2, some (vI x0)] [] h Q := Rn_nx pg179 rfl rfl
theorem sX6_checkedOf_4 : Rn r 179 4 [l0, l1, l2, some (vI x)] [] h Q ↔ Rn r 179 5 [l0, l1, l2, some (vI x)] [vI x] h Q := Rn_nx pg179 rfl rfl
theorem sX6_checkedOf_5 : Rn r 179 5 [some (vR z), l1, l2, l3] [vI x0] h Q ↔ Rn r 179 6 [some (vR z), l1, l2, l3] [vR z, vI x0] h Q := Rn_nx pg179 rfl rfl
theorem sX6_checkedOf_6 (hk : hK h a0 = 15) : Rn r 179 6 [l0, l1, l2, l3] [vR (some a0), vI x1] h Q ↔ Rn r 179 9 [l0, l1, l2, l3] [vR (hR h a0 3), vI x1] h Q := Rn_nx pg179 rfl (if_pos ⟨(hk ▸ Nat.le_refl _), (hk ▸ Nat.le_refl _)⟩)
theorem sX6_checkedOf_9 : Rn r 179 9 [some (vR z), l1, l2, l3] [vR z0, vI x1] h Q ↔ Rn r 179 10 [some (vR z), l1, l2, l3] [vR z, vR z0, vI x1] h Q := Rn_nx pg179 rfl rfl
theorem sX6_checkedOf_10 (hk : hK h a0 = 15) : Rn r 179 10 [l0, l1, l2, l3] [vR (some a0), vR z1, vI x2] h Q ↔ Rn r 179 13 [l0, l1, l2, l3] [vI (hI h a0 2), vR z1, vI x2] h Q := Rn_nx pg179 rfl (if_pos ⟨(hk ▸ Nat.le_refl _), (hk ▸ Nat.le_refl _)⟩)
theorem sX6_checkedOf_13 (hk : 40 ≤ hK h a1) (hk2 : hK h a1 ≤ 41) (hx : ¬ (x0 < 0 ∨ hL h a1 ≤ x0.toNatClampNeg)) : Rn r 179 13 [l0, l1, l2, l3] [vI x0, vR (some a1), vI x2] h Q ↔ Rn r 179 14 [l0, l1, l2, l3] [vI (hI h a1 x0.toNatClampNeg), vI x2] h Q := Rn_nx pg179 rfl ((if_pos ⟨hk, hk2⟩).trans (if_neg hx))
theorem sX6_checkedOf_14 : Rn r 179 14 [l0, l1, l2, l3] [vI x0, vI x1] h Q ↔ if x0 ≤ x1 then Rn r 179 50 [l0, l1, l2, l3] [] h Q else Rn r 179 17 [l0, l1, l2, l3] [] h Q := Rn_if pg179 rfl rfl rfl
theorem sX6_checkedOf_17 : Rn r 179 17 [l0, l1, some (vI x), l3] [] h Q ↔ Rn r 179 18 [l0, l1, some (vI x), l3] [vI x] h Q := Rn_nx pg179 rfl rfl
theorem sX6_checkedOf_18 : Rn r 179 18 [l0, some (vI x), l2, l3] [vI x0] h Q ↔ Rn r 179 19 [l0, some (vI x), l2, l3] [vI x, vI x0] h Q := Rn_nx pg179 rfl rfl
theorem sX6_checkedOf_19 : Rn r 179 19 [l0, l1, l2, some (vI x)] [vI x0, vI x1] h Q ↔ Rn r 179 20 [l0, l1, l2, some (vI x)] [vI x, vI x0, vI x1] h Q := Rn_nx pg179 rfl rfl
theorem sX6_checkedOf_20 : Rn r 179 20 [l0, l1, l2, l3] [vI x0, vI x1, vI x2] h Q ↔ Cl r 184 [vI x1, vI x0] h (Kt r 179 23 [l0, l1, l2, l3] [vI x2] Q) := Rn_call pg179 rfl rfl pg184 rfl rfl rfl
theorem sX6_checkedOf_23 : Rn r 179 23 [l0, l1, l2, l3] [vI x0, vI x1] h Q ↔ if x0 = 0 then Rn r 179 41 [l0, l1, l2, l3] [vI x1] h Q else Rn r 179 26 [l0, l1, l2, l3] [vI x1] h Q := Rn_if pg179 rfl rfl rfl
theorem sX6_checkedOf_26 : Rn r 179 26 [some (vR z), l1, l2, l3] [vI x0] h Q ↔ Rn r 179 27 [some (vR z), l1, l2, l3] [vR z, vI x0] h Q := Rn_nx pg179 rfl rfl
theorem sX6_checkedOf_27 : Rn r 179 27 [l0, l1, l2, some (vI x)] [vR z0, vI x1] h Q ↔ Rn r 179 28 [l0, l1, l2, some (vI x)] [vI x, vR z0, vI x1] h Q := Rn_nx pg179 rfl rfl
theorem sX6_checkedOf_28 (hk : hK h a1 = 15) : Rn r 179 28 [l0, l1, l2, l3] [vI x0, vR (some a1), vI x2] h Q ↔ Cl r 46 [vR (some a1), vI x0] h (Kt r 179 31 [l0, l1, l2, l3] [vI x2] Q) := Rn_call pg179 rfl (by simp only [am_exec, am_inv, am_pop, am_lk, hk]; rfl) pg46 rfl rfl rfl
theorem sX6_checkedOf_31 : Rn r 179 31 [l0, l1, l2, l3] [vI x0, vI x1] h Q ↔ if x0 = 0 then Rn r 179 41 [l0, l1, l2, l3] [vI x1] h Q else Rn r 179 34 [l0, l1, l2, l3] [vI x1] h Q := Rn_if pg179 rfl rfl rfl
theorem sX6_checkedOf_34 : Rn r 179 34 [l0, l1, l2, some (vI x)] [vI x0] h Q ↔ Rn r 179 35 [l0, l1, l2, some (vI x)] [vI x, vI x0] h Q := Rn_nx pg179 rfl rfl
theorem sX6_checkedOf_35 : Rn r 179 35 [l0, l1, l2, l3] [vI x0, vI x1] h Q ↔ Cl r 101 [vI x0] h (Kt r 179 38 [l0, l1, l2, l3] [vI x1] Q) := Rn_call pg179 rfl rfl pg101 rfl rfl rfl
theorem sX6_checkedOf_38 : Rn r 179 38 [l0, l1, l2, l3] [vI x0, vI x1] h Q ↔ Rn r 179 42 [l0, l1, l2, l3] [vI x0, vI x1] h Q := Rn_nx pg179 rfl rfl
theorem sX6_checkedOf_41 : Rn r 179 41 [l0, l1, l2, l3] [vI x0] h Q ↔ Rn r 179 42 [l0, l1, l2, l3] [vI 0, vI x0] h Q := Rn_nx pg179 rfl rfl
theorem sX6_checkedOf_42 : Rn r 179 42 [l0, l1, l2, l3] [vI x0, vI x1] h Q ↔ Rn r 179 43 [l0, l1, l2, l3] [vI (x1 ||| x0)] h Q := Rn_nx pg179 rfl rfl
theorem sX6_checkedOf_43 : Rn r 179 43 [l0, l1, l2, l3] [vI x0] h Q ↔ Rn r 179 44 [l0, l1, some (vI x0), l3] [] h Q := Rn_nx pg179 rfl rfl
theorem sX6_checkedOf_44 : Rn r 179 44 [l0, l1, l2, some (vI x)] [] h Q ↔ Rn r 179 47 [l0, l1, l2, some (vI (x + 1))] [] h Q := Rn_nx pg179 rfl rfl
theorem sX6_checkedOf_47 : Rn r 179 47 [l0, l1, l2, l3] [] h Q ↔ Rn r 179 4 [l0, l1, l2, l3] [] h Q := Rn_nx pg179 rfl rfl
theorem sX6_checkedOf_50 : Rn r 179 50 [l0, l1, some (vI x), l3] [] h Q ↔ Rn r 179 51 [l0, l1, some (vI x), l3] [vI x] h Q := Rn_nx pg179 rfl rfl
theorem sX6_checkedOf_51 : Rn r 179 51 [l0, l1, l2, l3] [vI x0] h Q ↔ Q (Sum.inl (some (vI x0))) h := Rn_end pg179 rfl rfl
/-! 180 ThrowRulesModel.over(I)I -/
theorem eX6_over : Cl r 180 [vR z0, vI x1] h Q ↔ Rn r 180 0 [some (vR z0), some (vI x1), none, none, none, none] [] h Q := Cl_in pg180 rfl
theorem sX6_over_0 : Rn r 180 0 [l0, l1, l2, l3, l4, l5] [] h Q ↔ Rn r 180 1 [l0, l1, l2, l3, l4, l5] [vI 0] h Q := Rn_nx pg180 rfl rfl
theorem sX6_over_1 : Rn r 180 1 [l0, l1, l2, l3, l4, l5] [vI x0] h Q ↔ Rn r 180 2 [l0, l1, some (vI x0), l3, l4, l5] [] h Q := Rn_nx pg180 rfl rfl
theorem sX6_over_2 : Rn r 180 2 [l0, l1, l2, l3, l4, l5] [] h Q ↔ Rn r 180 3 [l0, l1, l2, l3, l4, l5] [vI 1] h Q := Rn_nx pg180 rfl rfl
theorem sX6_over_3 : Rn r 180 3 [l0, l1, l2, l3, l4, l5] [vI x0] h Q ↔ Rn r 180 4 [l0, l1, l2, some (vI x0), l4, l5] [] h Q := Rn_nx pg180 rfl rfl
theorem sX6_over_4 : Rn r 180 4 [l0, l1, l2, some (vI x), l4, l5] [] h Q ↔ Rn r 180 5 [l0, l1, l2, some (vI x), l4, l5] [vI x] h Q := Rn_nx pg180 rfl rfl
theorem sX6_over_5 : Rn r 180 5 [some (vR z), l1, l2, l3, l4, l5] [vI x0] h Q ↔ Rn r 180 6 [some (vR z), l1, l2, l3, l4, l5] [vR z, vI x0] h Q := Rn_nx pg180 rfl rfl
theorem sX6_over_6 (hk : hK h a0 = 15) : Rn r 180 6 [l0, l1, l2, l3, l4, l5] [vR (some a0), vI x1] h Q ↔ Rn r 180 9 [l0, l1, l2, l3, l4, l5] [vR (hR h a0 3), vI x1] h Q := Rn_nx pg180 rfl (if_pos ⟨(hk ▸ Nat.le_refl _), (hk ▸ Nat.le_refl _)⟩)
theorem sX6_over_9 : Rn r 180 9 [some (vR z), l1, l2, l3, l4, l5] [vR z0, vI x1] h Q ↔ Rn r 180 10 [some (vR z), l1, l2, l3, l4, l5] [vR z, vR z0, vI x1] h Q := Rn_nx pg180 rfl rfl
theorem sX6_over_10 (hk : hK h a0 = 15) : Rn r 180 10 [l0, l1, l2, l3, l4, l5] [vR (some a0), vR z1, vI x2] h Q ↔ Rn r 180 13 [l0, l1, l2, l3, l4, l5] [vI (hI h a0 2), vR z1, vI x2] h Q := Rn_nx pg180 rfl (if_pos ⟨(hk ▸ Nat.le_refl _), (hk ▸ Nat.le_refl _)⟩)
theorem sX6_over_13 (hk : 40 ≤ hK h a1) (hk2 : hK h a1 ≤ 41) (hx : ¬ (x0 < 0 ∨ hL h a1 ≤ x0.toNatClampNeg)) : Rn r 180 13 [l0, l1, l2, l3, l4, l5] [vI x0, vR (some a1), vI x2] h Q ↔ Rn r 180 14 [l0, l1, l2, l3, l4, l5] [vI (hI h a1 x0.toNatClampNeg), vI x2] h Q := Rn_nx pg180 rfl ((if_pos ⟨hk, hk2⟩).trans (if_neg hx))
theorem sX6_over_14 : Rn r 180 14 [l0, l1, l2, l3, l4, l5] [vI x0, vI x1] h Q ↔ if x0 ≤ x1 then Rn r 180 96 [l0, l1, l2, l3, l4, l5] [] h Q else Rn r 180 17 [l0, l1, l2, l3, l4, l5] [] h Q := Rn_if pg180 rfl rfl rfl
theorem sX6_over_17 : Rn r 180 17 [some (vR z), l1, l2, l3, l4, l5] [] h Q ↔ Rn r 180 18 [some (vR z), l1, l2, l3, l4, l5] [vR z] h Q := Rn_nx pg180 rfl rfl
theorem sX6_over_18 : Rn r 180 18 [l0, l1, l2, some (vI x), l4, l5] [vR z0] h Q ↔ Rn r 180 19 [l0, l1, l2, some (vI x), l4, l5] [vI x, vR z0] h Q := Rn_nx pg180 rfl rfl
theorem sX6_over_19 : Rn r 180 19 [l0, l1, some (vI x), l3, l4, l5] [vI x0, vR z1] h Q ↔ Rn r 180 20 [l0, l1, some (vI x), l3, l4, l5] [vI x, vI x0, vR z1] h Q := Rn_nx pg180 rfl rfl
theorem sX6_over_20 (hk : hK h a2 = 15) : Rn r 180 20 [l0, l1, l2, l3, l4, l5] [vI x0, vI x1, vR (some a2)] h Q ↔ Cl r 48 [vR (some a2), vI x1, vI x0] h (Kt r 180 23 [l0, l1, l2, l3, l4, l5] [] Q) := Rn_call pg180 rfl (by simp only [am_exec, am_inv, am_pop, am_lk, hk]; rfl) pg48 rfl rfl rfl
theorem sX6_over_23 : Rn r 180 23 [l0, l1, l2, l3, l4, l5] [vI x0] h Q ↔ Rn r 180 25 [l0, l1, l2, l3, some (vI x0), l5] [] h Q := Rn_nx pg180 rfl rfl
theorem sX6_over_25 : Rn r 180 25 [l0, l1, l2, l3, l4, l5] [] h Q ↔ Rn r 180 26 [l0, l1, l2, l3, l4, l5] [vI 0] h Q := Rn_nx pg180 rfl rfl
theorem sX6_over_26 : Rn r 180 26 [l0, l1, l2, l3, l4, l5] [vI x0] h Q ↔ Rn r 180 28 [l0, l1, l2, l3, l4, some (vI x0)] [] h Q := Rn_nx pg180 rfl rfl
theorem sX6_over_28 : Rn r 180 28 [l0, l1, l2, l3, l4, some (vI x)] [] h Q ↔ Rn r 180 30 [l0, l1, l2, l3, l4, some (vI x)] [vI x] h Q := Rn_nx pg180 rfl rfl
theorem sX6_over_30 : Rn r 180 30 [some (vR z), l1, l2, l3, l4, l5] [vI x0] h Q ↔ Rn r 180 31 [some (vR z), l1, l2, l3, l4, l5] [vR z, vI x0] h Q := Rn_nx pg180 rfl rfl
theorem sX6_over_31 (hk : hK h a0 = 15) : Rn r 180 31 [l0, l1, l2, l3, l4, l5] [vR (some a0), vI x1] h Q ↔ Rn r 180 34 [l0, l1, l2, l3, l4, l5] [vR (hR h a0 3), vI x1] h Q := Rn_nx pg180 rfl (if_pos ⟨(hk ▸ Nat.le_refl _), (hk ▸ Nat.le_refl _)⟩)
theorem sX6_over_34 : Rn r 180 34 [some (vR z), l1, l2, l3, l4, l5] [vR z0, vI x1] h Q ↔ Rn r 180 35 [some (vR z), l1, l2, l3, l4, l5] [vR z, vR z0, vI x1] h Q := Rn_nx pg180 rfl rfl
theorem sX6_over_35 (hk : hK h a0 = 15) : Rn r 180 35 [l0, l1, l2, l3, l4, l5] [vR (some a0), vR z1, vI x2] h Q ↔ Rn r 180 38 [l0, l1, l2, l3, l4, l5] [vI (hI h a0 2), vR z1, vI x2] h Q := Rn_nx pg180 rfl (if_pos ⟨(hk ▸ Nat.le_refl _), (hk ▸ Nat.le_refl _)⟩)
theorem sX6_over_38 (hk : 40 ≤ hK h a1) (hk2 : hK h a1 ≤ 41) (hx : ¬ (x0 < 0 ∨ hL h a1 ≤ x0.toNatClampNeg)) : Rn r 180 38 [l0, l1, l2, l3, l4, l5] [vI x0, vR (some a1), vI x2] h Q ↔ Rn r 180 39 [l0, l1, l2, l3, l4, l5] [vI (hI h a1 x0.toNatClampNeg), vI x2] h Q := Rn_nx pg180 rfl ((if_pos ⟨hk, hk2⟩).trans (if_neg hx))
theorem sX6_over_39 : Rn r 180 39 [l0, l1, l2, l3, l4, l5] [vI x0, vI x1] h Q ↔ if x0 ≤ x1 then Rn r 180 79 [l0, l1, l2, l3, l4, l5] [] h Q else Rn r 180 42 [l0, l1, l2, l3, l4, l5] [] h Q := Rn_if pg180 rfl rfl rfl
theorem sX6_over_42 : Rn r 180 42 [l0, l1, l2, l3, some (vI x), l5] [] h Q ↔ Rn r 180 44 [l0, l1, l2, l3, some (vI x), l5] [vI x] h Q := Rn_nx pg180 rfl rfl
theorem sX6_over_44 : Rn r 180 44 [l0, l1, l2, l3, l4, l5] [vI x0] h Q ↔ if x0 = 0 then Rn r 180 70 [l0, l1, l2, l3, l4, l5] [] h Q else Rn r 180 47 [l0, l1, l2, l3, l4, l5] [] h Q := Rn_if pg180 rfl rfl rfl
theorem sX6_over_47 : Rn r 180 47 [l0, some (vI x), l2, l3, l4, l5] [] h Q ↔ Rn r 180 48 [l0, some (vI x), l2, l3, l4, l5] [vI x] h Q := Rn_nx pg180 rfl rfl
theorem sX6_over_48 : Rn r 180 48 [l0, l1, l2, l3, l4, some (vI x)] [vI x0] h Q ↔ Rn r 180 50 [l0, l1, l2, l3, l4, some (vI x)] [vI x, vI x0] h Q := Rn_nx pg180 rfl rfl
theorem sX6_over_50 : Rn r 180 50 [l0, l1, l2, l3, l4, l5] [vI x0, vI x1] h Q ↔ Cl r 184 [vI x1, vI x0] h (Kt r 180 53 [l0, l1, l2, l3, l4, l5] [] Q) := Rn_call pg180 rfl rfl pg184 rfl rfl rfl
theorem sX6_over_53 : Rn r 180 53 [l0, l1, l2, l3, l4, l5] [vI x0] h Q ↔ if x0 = 0 then Rn r 180 66 [l0, l1, l2, l3, l4, l5] [] h Q else Rn r 180 56 [l0, l1, l2, l3, l4, l5] [] h Q := Rn_if pg180 rfl rfl rfl
theorem sX6_over_56 : Rn r 180 56 [some (vR z), l1, l2, l3, l4, l5] [] h Q ↔ Rn r 180 57 [some (vR z), l1, l2, l3, l4, l5] [vR z] h Q := Rn_nx pg180 rfl rfl
theorem sX6_over_57 : Rn r 180 57 [l0, l1, l2, l3, l4, some (vI x)] [vR z0] h Q ↔ Rn r 180 59 [l0, l1, l2, l3, l4, some (vI x)] [vI x, vR z0] h Q := Rn_nx pg180 rfl rfl
theorem sX6_over_59 : Rn r 180 59 [l0, l1, l2, some (vI x), l4, l5] [vI x0, vR z1] h Q ↔ Rn r 180 60 [l0, l1, l2, some (vI x), l4, l5] [vI x, vI x0, vR z1] h Q := Rn_nx pg180 rfl rfl
theorem sX6_over_60 (hk : hK h a2 = 15) : Rn r 180 60 [l0, l1, l2, l3, l4, l5] [vI x0, vI x1, vR (some a2)] h Q ↔ Cl r 48 [vR (some a2), vI x1, vI x0] h (Kt r 180 63 [l0, l1, l2, l3, l4, l5] [] Q) := Rn_call pg180 rfl (by simp only [am_exec, am_inv, am_pop, am_lk, hk]; rfl) pg48 rfl rfl rfl
theorem sX6_over_63 : Rn r 180 63 [l0, l1, l2, l3, l4, l5] [vI x0] h Q ↔ if x0 = 0 then Rn r 180 70 [l0, l1, l2, l3, l4, l5] [] h Q else Rn r 180 66 [l0, l1, l2, l3, l4, l5] [] h Q := Rn_if pg180 rfl rfl rfl
theorem sX6_over_66 : Rn r 180 66 [l0, l1, l2, l3, l4, l5] [] h Q ↔ Rn r 180 67 [l0, l1, l2, l3, l4, l5] [vI 1] h Q := Rn_nx pg180 rfl rfl
theorem sX6_over_67 : Rn r 180 67 [l0, l1, l2, l3, l4, l5] [vI x0] h Q ↔ Rn r 180 71 [l0, l1, l2, l3, l4, l5] [vI x0] h Q := Rn_nx pg180 rfl rfl
theorem sX6_over_70 : Rn r 180 70 [l0, l1, l2, l3, l4, l5] [] h Q ↔ Rn r 180 71 [l0, l1, l2, l3, l4, l5] [vI 0] h Q := Rn_nx pg180 rfl rfl
theorem sX6_over_71 : Rn r 180 71 [l0, l1, l2, l3, l4, l5] [vI x0] h Q ↔ Rn r 180 73 [l0, l1, l2, l3, some (vI x0), l5] [] h Q := Rn_nx pg180 rfl rfl
theorem sX6_over_73 : Rn r 180 73 [l0, l1, l2, l3, l4, some (vI x)] [] h Q ↔ Rn r 180 76 [l0, l1, l2, l3, l4, some (vI (x + 1))] [] h Q := Rn_nx pg180 rfl rfl
theorem sX6_over_76 : Rn r 180 76 [l0, l1, l2, l3, l4, l5] [] h Q ↔ Rn r 180 28 [l0, l1, l2, l3, l4, l5] [] h Q := Rn_nx pg180 rfl rfl
theorem sX6_over_79 : Rn r 180 79 [l0, l1, l2, l3, some (vI x), l5] [] h Q ↔ Rn r 180 81 [l0, l1, l2, l3, some (vI x), l5] [vI x] h Q := Rn_nx pg180 rfl rfl
theorem sX6_over_81 : Rn r 180 81 [l0, l1, l2, l3, l4, l5] [vI x0] h Q ↔ if x0 = 0 then Rn r 180 88 [l0, l1, l2, l3, l4, l5] [] h Q else Rn r 180 84 [l0, l1, l2, l3, l4, l5] [] h Q := Rn_if pg180 rfl rfl rfl
theorem sX6_over_84 : Rn r 180 84 [l0, l1, l2, some (vI x), l4, l5] [] h Q ↔ Rn r 180 85 [l0, l1, l2, some (vI x), l4, l5] [vI x] h Q := Rn_nx pg180 rfl rfl
theorem sX6_over_85 : Rn r 180 85 [l0, l1, l2, l3, l4, l5] [vI x0] h Q ↔ Rn r 180 89 [l0, l1, l2, l3, l4, l5] [vI x0] h Q := Rn_nx pg180 rfl rfl
theorem sX6_over_88 : Rn r 180 88 [l0, l1, some (vI x), l3, l4, l5] [] h Q ↔ Rn r 180 89 [l0, l1, some (vI x), l3, l4, l5] [vI x] h Q := Rn_nx pg180 rfl rfl
theorem sX6_over_89 : Rn r 180 89 [l0, l1, l2, l3, l4, l5] [vI x0] h Q ↔ Rn r 180 90 [l0, l1, some (vI x0), l3, l4, l5] [] h Q := Rn_nx pg180 rfl rfl
theorem sX6_over_90 : Rn r 180 90 [l0, l1, l2, some (vI x), l4, l5] [] h Q ↔ Rn r 180 93 [l0, l1, l2, some (vI (x + 1)), l4, l5] [] h Q := Rn_nx pg180 rfl rfl
theorem sX6_over_93 : Rn r 180 93 [l0, l1, l2, l3, l4, l5] [] h Q ↔ Rn r 180 4 [l0, l1, l2, l3, l4, l5] [] h Q := Rn_nx pg180 rfl rfl
theorem sX6_over_96 : Rn r 180 96 [l0, l1, some (vI x), l3, l4, l5] [] h Q ↔ Rn r 180 97 [l0, l1, some (vI x), l3, l4, l5] [vI x] h Q := Rn_nx pg180 rfl rfl
theorem sX6_over_97 : Rn r 180 97 [l0, l1, l2, l3, l4, l5] [vI x0] h Q ↔ Q (Sum.inl (some (vI x0))) h := Rn_end pg180 rfl rfl
/-! 181 ThrowRulesModel.again(I)I -/
theorem eX6_again : Cl r 181 [vR z0, vI x1] h Q ↔ Rn r 181 0 [some (vR z0), some (vI x1), none, none, none, none, none] [] h Q := Cl_in pg181 rfl
theorem sX6_again_0 : Rn r 181 0 [some (vR z), l1, l2, l3, l4, l5, l6] [] h Q ↔ Rn r 181 1 [some (vR z), l1, l2, l3, l4, l5, l6] [vR z] h Q := Rn_nx pg181 rfl rfl
theorem sX6_again_1 : Rn r 181 1 [some (vR z), l1, l2, l3, l4, l5, l6] [vR z0] h Q ↔ Rn r 181 2 [some (vR z), l1, l2, l3, l4, l5, l6] [vR z, vR z0] h Q := Rn_nx pg181 rfl rfl
theorem sX6_again_2 : Rn r 181 2 [l0, some (vI x), l2, l3, l4, l5, l6] [vR z0, vR z1] h Q ↔ Rn r 181 3 [l0, some (vI x), l2, l3, l4, l5, l6] [vI x, vR z0, vR z1] h Q := Rn_nx pg181 rfl rfl
theorem sX6_again_3 : Rn r 181 3 [l0, l1, l2, l3, l4, l5, l6] [vI x0, vR z1, vR z2] h Q ↔ Rn r 181 4 [l0, l1, l2, l3, l4, l5, l6] [vI 4, vI x0, vR z1, vR z2] h Q := Rn_nx pg181 rfl rfl
theorem sX6_again_4 (hz : ¬ x0 = 0) : Rn r 181 4 [l0, l1, l2, l3, l4, l5, l6] [vI x0, vI x1, vR z2, vR z3] h Q ↔ Rn r 181 5 [l0, l1, l2, l3, l4, l5, l6] [vI (x1 / x0), vR z2, vR z3] h Q := Rn_nx pg181 rfl (if_neg hz)
theorem sX6_again_5 (hk : hK h a1 = 15) : Rn r 181 5 [l0, l1, l2, l3, l4, l5, l6] [vI x0, vR (some a1), vR z2] h Q ↔ Cl r 182 [vR (some a1), vI x0] h (Kt r 181 8 [l0, l1, l2, l3, l4, l5, l6] [vR z2] Q) := Rn_call pg181 rfl (by simp only [am_exec, am_inv, am_pop, am_lk, hk]; rfl) pg182 rfl rfl rfl
theorem sX6_again_8 : Rn r 181 8 [l0, l1, l2, l3, l4, l5, l6] [vI x0, vR z1] h Q ↔ Rn r 181 10 [l0, l1, l2, l3, l4, l5, l6] [vI 12, vI x0, vR z1] h Q := Rn_nx pg181 rfl rfl
theorem sX6_again_10 : Rn r 181 10 [l0, l1, l2, l3, l4, l5, l6] [vI x0, vI x1, vR z2] h Q ↔ Rn r 181 11 [l0, l1, l2, l3, l4, l5, l6] [vI (x1 ||| x0), vR z2] h Q := Rn_nx pg181 rfl rfl
theorem sX6_again_11 : Rn r 181 11 [some (vR z), l1, l2, l3, l4, l5, l6] [vI x0, vR z1] h Q ↔ Rn r 181 12 [some (vR z), l1, l2, l3, l4, l5, l6] [vR z, vI x0, vR z1] h Q := Rn_nx pg181 rfl rfl
theorem sX6_again_12 : Rn r 181 12 [l0, some (vI x), l2, l3, l4, l5, l6] [vR z0, vI x1, vR z2] h Q ↔ Rn r 181 13 [l0, some (vI x), l2, l3, l4, l5, l6] [vI x, vR z0, vI x1, vR z2] h Q := Rn_nx pg181 rfl rfl
theorem sX6_again_13 (hk : hK h a1 = 15) : Rn r 181 13 [l0, l1, l2, l3, l4, l5, l6] [vI x0, vR (some a1), vI x2, vR z3] h Q ↔ Cl r 244 [vR (some a1), vI x0] h (Kt r 181 16 [l0, l1, l2, l3, l4, l5, l6] [vI x2, vR z3] Q) := Rn_call pg181 rfl (by simp only [am_exec, am_inv, am_pop, am_lk, hk]; rfl) pg244 rfl rfl rfl
theorem sX6_again_16 (hk : hK h a2 = 15) : Rn r 181 16 [l0, l1, l2, l3, l4, l5, l6] [vI x0, vI x1, vR (some a2)] h Q ↔ Cl r 183 [vR (some a2), vI x1, vI x0] h (Kt r 181 19 [l0, l1, l2, l3, l4, l5, l6] [] Q) := Rn_call pg181 rfl (by simp only [am_exec, am_inv, am_pop, am_lk, hk]; rfl) pg183 rfl rfl rfl
theorem sX6_again_19 : Rn r 181 19 [l0, l1, l2, l3, l4, l5, l6] [vI x0] h Q ↔ Rn r 181 20 [l0, l1, some (vI x0), l3, l4, l5, l6] [] h Q := Rn_nx pg181 rfl rfl
theorem sX6_again_20 : Rn r 181 20 [some (vR z), l1, l2, l3, l4, l5, l6] [] h Q ↔ Rn r 181 21 [some (vR z), l1, l2, l3, l4, l5, l6] [vR z] h Q := Rn_nx pg181 rfl rfl
theorem sX6_again_21 : Rn r 181 21 [l0, some (vI x), l2, l3, l4, l5, l6] [vR z0] h Q ↔ Rn r 181 22 [l0, some (vI x), l2, l3, l4, l5, l6] [vI x, vR z0] h Q := Rn_nx pg181 rfl rfl
theorem sX6_again_22 (hk : hK h a1 = 15) : Rn r 181 22 [l0, l1, l2, l3, l4, l5, l6] [vI x0, vR (some a1)] h Q ↔ Cl r 161 [vR (some a1), vI x0] h (Kt r 181 25 [l0, l1, l2, l3, l4, l5, l6] [] Q) := Rn_call pg181 rfl (by simp only [am_exec, am_inv, am_pop, am_lk, hk]; rfl) pg161 rfl rfl rfl
theorem sX6_again_25 : Rn r 181 25 [l0, l1, l2, l3, l4, l5, l6] [vI x0] h Q ↔ Rn r 181 26 [l0, l1, l2, some (vI x0), l4, l5, l6] [] h Q := Rn_nx pg181 rfl rfl
theorem sX6_again_26 : Rn r 181 26 [l0, l1, l2, l3, l4, l5, l6] [] h Q ↔ Rn r 181 27 [l0, l1, l2, l3, l4, l5, l6] [vI 0] h Q := Rn_nx pg181 rfl rfl
theorem sX6_again_27 : Rn r 181 27 [l0, l1, l2, l3, l4, l5, l6] [vI x0] h Q ↔ Rn r 181 29 [l0, l1, l2, l3, some (vI x0), l5, l6] [] h Q := Rn_nx pg181 rfl rfl
theorem sX6_again_29 : Rn r 181 29 [l0, l1, l2, l3, l4, l5, l6] [] h Q ↔ Rn r 181 30 [l0, l1, l2, l3, l4, l5, l6] [vI 0] h Q := Rn_nx pg181 rfl rfl
theorem sX6_again_30 : Rn r 181 30 [l0, l1, l2, l3, l4, l5, l6] [vI x0] h Q ↔ Rn r 181 32 [l0, l1, l2, l3, l4, some (vI x0), l6] [] h Q := Rn_nx pg181 rfl rfl
theorem sX6_again_32 : Rn r 181 32 [l0, l1, l2, l3, l4, some (vI x), l6] [] h Q ↔ Rn r 181 34 [l0, l1, l2, l3, l4, some (vI x), l6] [vI x] h Q := Rn_nx pg181 rfl rfl
theorem sX6_again_34 : Rn r 181 34 [some (vR z), l1, l2, l3, l4, l5, l6] [vI x0] h Q ↔ Rn r 181 35 [some (vR z), l1, l2, l3, l4, l5, l6] [vR z, vI x0] h Q := Rn_nx pg181 rfl rfl
theorem sX6_again_35 (hk : hK h a0 = 15) : Rn r 181 35 [l0, l1, l2, l3, l4, l5, l6] [vR (some a0), vI x1] h Q ↔ Rn r 181 38 [l0, l1, l2, l3, l4, l5, l6] [vR (hR h a0 3), vI x1] h Q := Rn_nx pg181 rfl (if_pos ⟨(hk ▸ Nat.le_refl _), (hk ▸ Nat.le_refl _)⟩)
theorem sX6_again_38 : Rn r 181 38 [some (vR z), l1, l2, l3, l4, l5, l6] [vR z0, vI x1] h Q ↔ Rn r 181 39 [some (vR z), l1, l2, l3, l4, l5, l6] [vR z, vR z0, vI x1] h Q := Rn_nx pg181 rfl rfl
theorem sX6_again_39 (hk : hK h a0 = 15) : Rn r 181 39 [l0, l1, l2, l3, l4, l5, l6] [vR (some a0), vR z1, vI x2] h Q ↔ Rn r 181 42 [l0, l1, l2, l3, l4, l5, l6] [vI (hI h a0 2), vR z1, vI x2] h Q := Rn_nx pg181 rfl (if_pos ⟨(hk ▸ Nat.le_refl _), (hk ▸ Nat.le_refl _)⟩)
theorem sX6_again_42 (hk : 40 ≤ hK h a1) (hk2 : hK h a1 ≤ 41) (hx : ¬ (x0 < 0 ∨ hL h a1 ≤ x0.toNatClampNeg)) : Rn r 181 42 [l0, l1, l2, l3, l4, l5, l6] [vI x0, vR (some a1), vI x2] h Q ↔ Rn r 181 43 [l0, l1, l2, l3, l4, l5, l6] [vI (hI h a1 x0.toNatClampNeg), vI x2] h Q := Rn_nx pg181 rfl ((if_pos ⟨hk, hk2⟩).trans (if_neg hx))
theorem sX6_again_43 : Rn r 181 43 [l0, l1, l2, l3, l4, l5, l6] [vI x0, vI x1] h Q ↔ if x0 ≤ x1 then Rn r 181 137 [l0, l1, l2, l3, l4, l5, l6] [] h Q else Rn r 181 46 [l0, l1, l2, l3, l4, l5, l6] [] h Q := Rn_if pg181 rfl rfl rfl
theorem sX6_again_46 : Rn r 181 46 [l0, l1, l2, l3, l4, l5, l6] [] h Q ↔ Rn r 181 47 [l0, l1, l2, l3, l4, l5, l6] [vI 0] h Q := Rn_nx pg181 rfl rfl
theorem sX6_again_47 : Rn r 181 47 [l0, l1, l2, l3, l4, l5, l6] [vI x0] h Q ↔ Rn r 181 49 [l0, l1, l2, l3, l4, l5, some (vI x0)] [] h Q := Rn_nx pg181 rfl rfl
theorem sX6_again_49 : Rn r 181 49 [l0, l1, l2, l3, l4, l5, some (vI x)] [] h Q ↔ Rn r 181 51 [l0, l1, l2, l3, l4, l5, some (vI x)] [vI x] h Q := Rn_nx pg181 rfl rfl
theorem sX6_again_51 : Rn r 181 51 [some (vR z), l1, l2, l3, l4, l5, l6] [vI x0] h Q ↔ Rn r 181 52 [some (vR z), l1, l2, l3, l4, l5, l6] [vR z, vI x0] h Q := Rn_nx pg181 rfl rfl
theorem sX6_again_52 (hk : hK h a0 = 15) : Rn r 181 52 [l0, l1, l2, l3, l4, l5, l6] [vR (some a0), vI x1] h Q ↔ Rn r 181 55 [l0, l1, l2, l3, l4, l5, l6] [vR (hR h a0 3), vI x1] h Q := Rn_nx pg181 rfl (if_pos ⟨(hk ▸ Nat.le_refl _), (hk ▸ Nat.le_refl _)⟩)
theorem sX6_again_55 : Rn r 181 55 [some (vR z), l1, l2, l3, l4, l5, l6] [vR z0, vI x1] h Q ↔ Rn r 181 56 [some (vR z), l1, l2, l3, l4, l5, l6] [vR z, vR z0, vI x1] h Q := Rn_nx pg181 rfl rfl
theorem sX6_again_56 (hk : hK h a0 = 15) : Rn r 181 56 [l0, l1, l2, l3, l4, l5, l6] [vR (some a0), vR z1, vI x2] h Q ↔ Rn r 181 59 [l0, l1, l2, l3, l4, l5, l6] [vI (hI h a0 2), vR z1, vI x2] h Q := Rn_nx pg181 rfl (if_pos ⟨(hk ▸ Nat.le_refl _), (hk ▸ Nat.le_refl _)⟩)
theorem sX6_again_59 (hk : 40 ≤ hK h a1) (hk2 : hK h a1 ≤ 41) (hx : ¬ (x0 < 0 ∨ hL h a1 ≤ x0.toNatClampNeg)) : Rn r 181 59 [l0, l1, l2, l3, l4, l5, l6] [vI x0, vR (some a1), vI x2] h Q ↔ Rn r 181 60 [l0, l1, l2, l3, l4, l5, l6] [vI (hI h a1 x0.toNatClampNeg), vI x2] h Q := Rn_nx pg181 rfl ((if_pos ⟨hk, hk2⟩).trans (if_neg hx))
theorem sX6_again_60 : Rn r 181 60 [l0, l1, l2, l3, l4, l5, l6] [vI x0, vI x1] h Q ↔ if x0 ≤ x1 then Rn r 181 131 [l0, l1, l2, l3, l4, l5, l6] [] h Q else Rn r 181 63 [l0, l1, l2, l3, l4, l5, l6] [] h Q := Rn_if pg181 rfl rfl rfl
theorem sX6_again_63 : Rn r 181 63 [l0, l1, some (vI x), l3, l4, l5, l6] [] h Q ↔ Rn r 181 64 [l0, l1, some (vI x), l3, l4, l5, l6] [vI x] h Q := Rn_nx pg181 rfl rfl
theorem sX6_again_64 : Rn r 181 64 [l0, l1, l2, l3, l4, some (vI x), l6] [vI x0] h Q ↔ Rn r 181 66 [l0, l1, l2, l3, l4, some (vI x), l6] [vI x, vI x0] h Q := Rn_nx pg181 rfl rfl
theorem sX6_again_66 : Rn r 181 66 [l0, l1, l2, l3, l4, l5, l6] [vI x0, vI x1] h Q ↔ Cl r 184 [vI x1, vI x0] h (Kt r 181 69 [l0, l1, l2, l3, l4, l5, l6] [] Q) := Rn_call pg181 rfl rfl pg184 rfl rfl rfl
theorem sX6_again_69 : Rn r 181 69 [l0, l1, l2, l3, l4, l5, l6] [vI x0] h Q ↔ if x0 = 0 then Rn r 181 125 [l0, l1, l2, l3, l4, l5, l6] [] h Q else Rn r 181 72 [l0, l1, l2, l3, l4, l5, l6] [] h Q := Rn_if pg181 rfl rfl rfl
theorem sX6_again_72 : Rn r 181 72 [l0, l1, l2, some (vI x), l4, l5, l6] [] h Q ↔ Rn r 181 73 [l0, l1, l2, some (vI x), l4, l5, l6] [vI x] h Q := Rn_nx pg181 rfl rfl
theorem sX6_again_73 : Rn r 181 73 [l0, l1, l2, l3, l4, l5, some (vI x)] [vI x0] h Q ↔ Rn r 181 75 [l0, l1, l2, l3, l4, l5, some (vI x)] [vI x, vI x0] h Q := Rn_nx pg181 rfl rfl
theorem sX6_again_75 : Rn r 181 75 [l0, l1, l2, l3, l4, l5, l6] [vI x0, vI x1] h Q ↔ Cl r 184 [vI x1, vI x0] h (Kt r 181 78 [l0, l1, l2, l3, l4, l5, l6] [] Q) := Rn_call pg181 rfl rfl pg184 rfl rfl rfl
theorem sX6_again_78 : Rn r 181 78 [l0, l1, l2, l3, l4, l5, l6] [vI x0] h Q ↔ if x0 = 0 then Rn r 181 125 [l0, l1, l2, l3, l4, l5, l6] [] h Q else Rn r 181 81 [l0, l1, l2, l3, l4, l5, l6] [] h Q := Rn_if pg181 rfl rfl rfl
theorem sX6_again_81 : Rn r 181 81 [l0, l1, l2, l3, some (vI x), l5, l6] [] h Q ↔ Rn r 181 83 [l0, l1, l2, l3, some (vI x), l5, l6] [vI x] h Q := Rn_nx pg181 rfl rfl
theorem sX6_again_83 : Rn r 181 83 [some (vR z), l1, l2, l3, l4, l5, l6] [vI x0] h Q ↔ Rn r 181 84 [some (vR z), l1, l2, l3, l4, l5, l6] [vR z, vI x0] h Q := Rn_nx pg181 rfl rfl
theorem sX6_again_84 : Rn r 181 84 [l0, l1, l2, l3, l4, some (vI x), l6] [vR z0, vI x1] h Q ↔ Rn r 181 86 [l0, l1, l2, l3, l4, some (vI x), l6] [vI x, vR z0, vI x1] h Q := Rn_nx pg181 rfl rfl
theorem sX6_again_86 : Rn r 181 86 [l0, l1, l2, l3, l4, l5, some (vI x)] [vI x0, vR z1, vI x2] h Q ↔ Rn r 181 88 [l0, l1, l2, l3, l4, l5, some (vI x)] [vI x, vI x0, vR z1, vI x2] h Q := Rn_nx pg181 rfl rfl
theorem sX6_again_88 (hk : hK h a2 = 15) : Rn r 181 88 [l0, l1, l2, l3, l4, l5, l6] [vI x0, vI x1, vR (some a2), vI x3] h Q ↔ Cl r 48 [vR (some a2), vI x1, vI x0] h (Kt r 181 91 [l0, l1, l2, l3, l4, l5, l6] [vI x3] Q) := Rn_call pg181 rfl (by simp only [am_exec, am_inv, am_pop, am_lk, hk]; rfl) pg48 rfl rfl rfl
theorem sX6_again_91 : Rn r 181 91 [l0, l1, l2, l3, l4, l5, l6] [vI x0, vI x1] h Q ↔ if x0 = 0 then Rn r 181 102 [l0, l1, l2, l3, l4, l5, l6] [vI x1] h Q else Rn r 181 94 [l0, l1, l2, l3, l4, l5, l6] [vI x1] h Q := Rn_if pg181 rfl rfl rfl
theorem sX6_again_94 : Rn r 181 94 [l0, l1, l2, l3, l4, some (vI x), l6] [vI x0] h Q ↔ Rn r 181 96 [l0, l1, l2, l3, l4, some (vI x), l6] [vI x, vI x0] h Q := Rn_nx pg181 rfl rfl
theorem sX6_again_96 : Rn r 181 96 [l0, l1, l2, l3, l4, l5, l6] [vI x0, vI x1] h Q ↔ Cl r 101 [vI x0] h (Kt r 181 99 [l0, l1, l2, l3, l4, l5, l6] [vI x1] Q) := Rn_call pg181 rfl rfl pg101 rfl rfl rfl
theorem sX6_again_99 : Rn r 181 99 [l0, l1, l2, l3, l4, l5, l6] [vI x0, vI x1] h Q ↔ Rn r 181 122 [l0, l1, l2, l3, l4, l5, l6] [vI x0, vI x1] h Q := Rn_nx pg181 rfl rfl
theorem sX6_again_102 : Rn r 181 102 [some (vR z), l1, l2, l3, l4, l5, l6] [vI x0] h Q ↔ Rn r 181 103 [some (vR z), l1, l2, l3, l4, l5, l6] [vR z, vI x0] h Q := Rn_nx pg181 rfl rfl
theorem sX6_again_103 : Rn r 181 103 [l0, l1, l2, l3, l4, l5, some (vI x)] [vR z0, vI x1] h Q ↔ Rn r 181 105 [l0, l1, l2, l3, l4, l5, some (vI x)] [vI x, vR z0, vI x1] h Q := Rn_nx pg181 rfl rfl
theorem sX6_again_105 : Rn r 181 105 [l0, l1, l2, l3, l4, some (vI x), l6] [vI x0, vR z1, vI x2] h Q ↔ Rn r 181 107 [l0, l1, l2, l3, l4, some (vI x), l6] [vI x, vI x0, vR z1, vI x2] h Q := Rn_nx pg181 rfl rfl
theorem sX6_again_107 (hk : hK h a2 = 15) : Rn r 181 107 [l0, l1, l2, l3, l4, l5, l6] [vI x0, vI x1, vR (some a2), vI x3] h Q ↔ Cl r 48 [vR (some a2), vI x1, vI x0] h (Kt r 181 110 [l0, l1, l2, l3, l4, l5, l6] [vI x3] Q) := Rn_call pg181 rfl (by simp only [am_exec, am_inv, am_pop, am_lk, hk]; rfl) pg48 rfl rfl rfl
theorem sX6_again_110 : Rn r 181 110 [l0, l1, l2, l3, l4, l5, l6] [vI x0, vI x1] h Q ↔ if x0 = 0 then Rn r 181 121 [l0, l1, l2, l3, l4, l5, l6] [vI x1] h Q else Rn r 181 113 [l0, l1, l2, l3, l4, l5, l6] [vI x1] h Q := Rn_if pg181 rfl rfl rfl
theorem sX6_again_113 : Rn r 181 113 [l0, l1, l2, l3, l4, l5, some (vI x)] [vI x0] h Q ↔ Rn r 181 115 [l0, l1, l2, l3, l4, l5, some (vI x)] [vI x, vI x0] h Q := Rn_nx pg181 rfl rfl
theorem sX6_again_115 : Rn r 181 115 [l0, l1, l2, l3, l4, l5, l6] [vI x0, vI x1] h Q ↔ Cl r 101 [vI x0] h (Kt r 181 118 [l0, l1, l2, l3, l4, l5, l6] [vI x1] Q) := Rn_call pg181 rfl rfl pg101 rfl rfl rfl
theorem sX6_again_118 : Rn r 181 118 [l0, l1, l2, l3, l4, l5, l6] [vI x0, vI x1] h Q ↔ Rn r 181 122 [l0, l1, l2, l3, l4, l5, l6] [vI x0, vI x1] h Q := Rn_nx pg181 rfl rfl
theorem sX6_again_121 : Rn r 181 121 [l0, l1, l2, l3, l4, l5, l6] [vI x0] h Q ↔ Rn r 181 122 [l0, l1, l2, l3, l4, l5, l6] [vI 0, vI x0] h Q := Rn_nx pg181 rfl rfl
theorem sX6_again_122 : Rn r 181 122 [l0, l1, l2, l3, l4, l5, l6] [vI x0, vI x1] h Q ↔ Rn r 181 123 [l0, l1, l2, l3, l4, l5, l6] [vI (x1 ||| x0)] h Q := Rn_nx pg181 rfl rfl
theorem sX6_again_123 : Rn r 181 123 [l0, l1, l2, l3, l4, l5, l6] [vI x0] h Q ↔ Rn r 181 125 [l0, l1, l2, l3, some (vI x0), l5, l6] [] h Q := Rn_nx pg181 rfl rfl
theorem sX6_again_125 : Rn r 181 125 [l0, l1, l2, l3, l4, l5, some (vI x)] [] h Q ↔ Rn r 181 128 [l0, l1, l2, l3, l4, l5, some (vI (x + 1))] [] h Q := Rn_nx pg181 rfl rfl
theorem sX6_again_128 : Rn r 181 128 [l0, l1, l2, l3, l4, l5, l6] [] h Q ↔ Rn r 181 49 [l0, l1, l2, l3, l4, l5, l6] [] h Q := Rn_nx pg181 rfl rfl
theorem sX6_again_131 : Rn r 181 131 [l0, l1, l2, l3, l4, some (vI x), l6] [] h Q ↔ Rn r 181 134 [l0, l1, l2, l3, l4, some (vI (x + 1)), l6] [] h Q := Rn_nx pg181 rfl rfl
theorem sX6_again_134 : Rn r 181 134 [l0, l1, l2, l3, l4, l5, l6] [] h Q ↔ Rn r 181 32 [l0, l1, l2, l3, l4, l5, l6] [] h Q := Rn_nx pg181 rfl rfl
theorem sX6_again_137 : Rn r 181 137 [l0, l1, l2, l3, some (vI x), l5, l6] [] h Q ↔ Rn r 181 139 [l0, l1, l2, l3, some (vI x), l5, l6] [vI x] h Q := Rn_nx pg181 rfl rfl
theorem sX6_again_139 : Rn r 181 139 [l0, l1, l2, l3, l4, l5, l6] [vI x0] h Q ↔ Q (Sum.inl (some (vI x0))) h := Rn_end pg181 rfl rfl
/-! 182 ThrowRulesModel.inside(I)I -/
theorem eX6_inside : Cl r 182 [vR z0, vI x1] h Q ↔ Rn r 182 0 [some (vR z0), some (vI x1)] [] h Q := Cl_in pg182 rfl
theorem sX6_inside_0 : Rn r 182 0 [some (vR z), l1] [] h Q ↔ Rn r 182 1 [some (vR z), l1] [vR z] h Q := Rn_nx pg182 rfl rfl
theorem sX6_inside_1 : Rn r 182 1 [some (vR z), l1] [vR z0] h Q ↔ Rn r 182 2 [some (vR z), l1] [vR z, vR z0] h Q := Rn_nx pg182 rfl rfl
theorem sX6_inside_2 (hk : hK h a0 = 15) : Rn r 182 2 [l0, l1] [vR (some a0), vR z1] h Q ↔ Rn r 182 5 [l0, l1] [vR (hR h a0 27), vR z1] h Q := Rn_nx pg182 rfl (if_pos ⟨(hk ▸ Nat.le_refl _), (hk ▸ Nat.le_refl _)⟩)
theorem sX6_inside_5 : Rn r 182 5 [l0, some (vI x)] [vR z0, vR z1] h Q ↔ Rn r 182 6 [l0, some (vI x)] [vI x, vR z0, vR z1] h Q := Rn_nx pg182 rfl rfl
theorem sX6_inside_6 (hk : 40 ≤ hK h a1) (hk2 : hK h a1 ≤ 41) (hx : ¬ (x0 < 0 ∨ hL h a1 ≤ x0.toNatClampNeg)) : Rn r 182 6 [l0, l1] [vI x0, vR (some a1), vR z2] h Q ↔ Rn r 182 7 [l0, l1] [vI (hI h a1 x0.toNatClampNeg), vR z2] h Q := Rn_nx pg182 rfl ((if_pos ⟨hk, hk2⟩).trans (if_neg hx))
theorem sX6_inside_7 (hk : hK h a1 = 15) : Rn r 182 7 [l0, l1] [vI x0, vR (some a1)] h Q ↔ Cl r 50 [vR (some a1), vI x0] h (Kt r 182 10 [l0, l1] [] Q) := Rn_call pg182 rfl (by simp only [am_exec, am_inv, am_pop, am_lk, hk]; rfl) pg50 rfl rfl rfl
theorem sX6_inside_10 : Rn r 182 10 [some (vR z), l1] [vI x0] h Q ↔ Rn r 182 11 [some (vR z), l1] [vR z, vI x0] h Q := Rn_nx pg182 rfl rfl
theorem sX6_inside_11 : Rn r 182 11 [l0, some (vI x)] [vR z0, vI x1] h Q ↔ Rn r 182 12 [l0, some (vI x)] [vI x, vR z0, vI x1] h Q := Rn_nx pg182 rfl rfl
theorem sX6_inside_12 (hk : hK h a1 = 15) : Rn r 182 12 [l0, l1] [vI x0, vR (some a1), vI x2] h Q ↔ Cl r 151 [vR (some a1), vI x0] h (Kt r 182 15 [l0, l1] [vI x2] Q) := Rn_call pg182 rfl (by simp only [am_exec, am_inv, am_pop, am_lk, hk]; rfl) pg151 rfl rfl rfl
theorem sX6_inside_15 : Rn r 182 15 [l0, l1] [vI x0, vI x1] h Q ↔ Rn r 182 16 [l0, l1] [vI (x1 ||| x0)] h Q := Rn_nx pg182 rfl rfl
theorem sX6_inside_16 : Rn r 182 16 [l0, l1] [vI x0] h Q ↔ Q (Sum.inl (some (vI x0))) h := Rn_end pg182 rfl rfl
/-! 183 ThrowRulesModel.without(II)I -/
theorem eX6_without : Cl r 183 [vR z0, vI x1, vI x2] h Q ↔ Rn r 183 0 [some (vR z0), some (vI x1), some (vI x2), none, none] [] h Q := Cl_in pg183 rfl
theorem sX6_without_0 : Rn r 183 0 [l0, l1, l2, l3, l4] [] h Q ↔ Rn r 183 1 [l0, l1, l2, l3, l4] [vI 0] h Q := Rn_nx pg183 rfl rfl
theorem sX6_without_1 : Rn r 183 1 [l0, l1, l2, l3, l4] [vI x0] h Q ↔ Rn r 183 2 [l0, l1, l2, some (vI x0), l4] [] h Q := Rn_nx pg183 rfl rfl
theorem sX6_without_2 : Rn r 183 2 [l0, l1, l2, l3, l4] [] h Q ↔ Rn r 183 3 [l0, l1, l2, l3, l4] [vI 0] h Q := Rn_nx pg183 rfl rfl
theorem sX6_without_3 : Rn r 183 3 [l0, l1, l2, l3, l4] [vI x0] h Q ↔ Rn r 183 5 [l0, l1, l2, l3, some (vI x0)] [] h Q := Rn_nx pg183 rfl rfl
theorem sX6_without_5 : Rn r 183 5 [l0, l1, l2, l3, some (vI x)] [] h Q ↔ Rn r 183 7 [l0, l1, l2, l3, some (vI x)] [vI x] h Q := Rn_nx pg183 rfl rfl
theorem sX6_without_7 : Rn r 183 7 [some (vR z), l1, l2, l3, l4] [vI x0] h Q ↔ Rn r 183 8 [some (vR z), l1, l2, l3, l4] [vR z, vI x0] h Q := Rn_nx pg183 rfl rfl
theorem sX6_without_8 (hk : hK h a0 = 15) : Rn r 183 8 [l0, l1, l2, l3, l4] [vR (some a0), vI x1] h Q ↔ Rn r 183 11 [l0, l1, l2, l3, l4] [vR (hR h a0 3), vI x1] h Q := Rn_nx pg183 rfl (if_pos ⟨(hk ▸ Nat.le_refl _), (hk ▸ Nat.le_refl _)⟩)
theorem sX6_without_11 : Rn r 183 11 [some (vR z), l1, l2, l3, l4] [vR z0, vI x1] h Q ↔ Rn r 183 12 [some (vR z), l1, l2, l3, l4] [vR z, vR z0, vI x1] h Q := Rn_nx pg183 rfl rfl
theorem sX6_without_12 (hk : hK h a0 = 15) : Rn r 183 12 [l0, l1, l2, l3, l4] [vR (some a0), vR z1, vI x2] h Q ↔ Rn r 183 15 [l0, l1, l2, l3, l4] [vI (hI h a0 2), vR z1, vI x2] h Q := Rn_nx pg183 rfl (if_pos ⟨(hk ▸ Nat.le_refl _), (hk ▸ Nat.le_refl _)⟩)
theorem sX6_without_15 (hk : 40 ≤ hK h a1) (hk2 : hK h a1 ≤ 41) (hx : ¬ (x0 < 0 ∨ hL h a1 ≤ x0.toNatClampNeg)) : Rn r 183 15 [l0, l1, l2, l3, l4] [vI x0, vR (some a1), vI x2] h Q ↔ Rn r 183 16 [l0, l1, l2, l3, l4] [vI (hI h a1 x0.toNatClampNeg), vI x2] h Q := Rn_nx pg183 rfl ((if_pos ⟨hk, hk2⟩).trans (if_neg hx))
theorem sX6_without_16 : Rn r 183 16 [l0, l1, l2, l3, l4] [vI x0, vI x1] h Q ↔ if x0 ≤ x1 then Rn r 183 56 [l0, l1, l2, l3, l4] [] h Q else Rn r 183 19 [l0, l1, l2, l3, l4] [] h Q := Rn_if pg183 rfl rfl rfl
theorem sX6_without_19 : Rn r 183 19 [l0, l1, l2, some (vI x), l4] [] h Q ↔ Rn r 183 20 [l0, l1, l2, some (vI x), l4] [vI x] h Q := Rn_nx pg183 rfl rfl
theorem sX6_without_20 : Rn r 183 20 [l0, some (vI x), l2, l3, l4] [vI x0] h Q ↔ Rn r 183 21 [l0, some (vI x), l2, l3, l4] [vI x, vI x0] h Q := Rn_nx pg183 rfl rfl
theorem sX6_without_21 : Rn r 183 21 [l0, l1, l2, l3, some (vI x)] [vI x0, vI x1] h Q ↔ Rn r 183 23 [l0, l1, l2, l3, some (vI x)] [vI x, vI x0, vI x1] h Q := Rn_nx pg183 rfl rfl
theorem sX6_without_23 : Rn r 183 23 [l0, l1, l2, l3, l4] [vI x0, vI x1, vI x2] h Q ↔ Cl r 184 [vI x1, vI x0] h (Kt r 183 26 [l0, l1, l2, l3, l4] [vI x2] Q) := Rn_call pg183 rfl rfl pg184 rfl rfl rfl
theorem sX6_without_26 : Rn r 183 26 [l0, l1, l2, l3, l4] [vI x0, vI x1] h Q ↔ if x0 = 0 then Rn r 183 47 [l0, l1, l2, l3, l4] [vI x1] h Q else Rn r 183 29 [l0, l1, l2, l3, l4] [vI x1] h Q := Rn_if pg183 rfl rfl rfl
theorem sX6_without_29 : Rn r 183 29 [some (vR z), l1, l2, l3, l4] [vI x0] h Q ↔ Rn r 183 30 [some (vR z), l1, l2, l3, l4] [vR z, vI x0] h Q := Rn_nx pg183 rfl rfl
theorem sX6_without_30 : Rn r 183 30 [l0, l1, l2, l3, some (vI x)] [vR z0, vI x1] h Q ↔ Rn r 183 32 [l0, l1, l2, l3, some (vI x)] [vI x, vR z0, vI x1] h Q := Rn_nx pg183 rfl rfl
theorem sX6_without_32 : Rn r 183 32 [l0, l1, some (vI x), l3, l4] [vI x0, vR z1, vI x2] h Q ↔ Rn r 183 33 [l0, l1, some (vI x), l3, l4] [vI x, vI x0, vR z1, vI x2] h Q := Rn_nx pg183 rfl rfl
theorem sX6_without_33 (hk : hK h a2 = 15) : Rn r 183 33 [l0, l1, l2, l3, l4] [vI x0, vI x1, vR (some a2), vI x3] h Q ↔ Cl r 146 [vR (some a2), vI x1, vI x0] h (Kt r 183 36 [l0, l1, l2, l3, l4] [vI x3] Q) := Rn_call pg183 rfl (by simp only [am_exec, am_inv, am_pop, am_lk, hk]; rfl) pg146 rfl rfl rfl
theorem sX6_without_36 : Rn r 183 36 [l0, l1, l2, l3, l4] [vI x0, vI x1] h Q ↔ if x0 ≠ 0 then Rn r 183 47 [l0, l1, l2, l3, l4] [vI x1] h Q else Rn r 183 39 [l0, l1, l2, l3, l4] [vI x1] h Q := Rn_if pg183 rfl rfl rfl
theorem sX6_without_39 : Rn r 183 39 [l0, l1, l2, l3, some (vI x)] [vI x0] h Q ↔ Rn r 183 41 [l0, l1, l2, l3, some (vI x)] [vI x, vI x0] h Q := Rn_nx pg183 rfl rfl
theorem sX6_without_41 : Rn r 183 41 [l0, l1, l2, l3, l4] [vI x0, vI x1] h Q ↔ Cl r 101 [vI x0] h (Kt r 183 44 [l0, l1, l2, l3, l4] [vI x1] Q) := Rn_call pg183 rfl rfl pg101 rfl rfl rfl
theorem sX6_without_44 : Rn r 183 44 [l0, l1, l2, l3, l4] [vI x0, vI x1] h Q ↔ Rn r 183 48 [l0, l1, l2, l3, l4] [vI x0, vI x1] h Q := Rn_nx pg183 rfl rfl
theorem sX6_without_47 : Rn r 183 47 [l0, l1, l2, l3, l4] [vI x0] h Q ↔ Rn r 183 48 [l0, l1, l2, l3, l4] [vI 0, vI x0] h Q := Rn_nx pg183 rfl rfl
theorem sX6_without_48 : Rn r 183 48 [l0, l1, l2, l3, l4] [vI x0, vI x1] h Q ↔ Rn r 183 49 [l0, l1, l2, l3, l4] [vI (x1 ||| x0)] h Q := Rn_nx pg183 rfl rfl
theorem sX6_without_49 : Rn r 183 49 [l0, l1, l2, l3, l4] [vI x0] h Q ↔ Rn r 183 50 [l0, l1, l2, some (vI x0), l4] [] h Q := Rn_nx pg183 rfl rfl
theorem sX6_without_50 : Rn r 183 50 [l0, l1, l2, l3, some (vI x)] [] h Q ↔ Rn r 183 53 [l0, l1, l2, l3, some (vI (x + 1))] [] h Q := Rn_nx pg183 rfl rfl
theorem sX6_without_53 : Rn r 183 53 [l0, l1, l2, l3, l4] [] h Q ↔ Rn r 183 5 [l0, l1, l2, l3, l4] [] h Q := Rn_nx pg183 rfl rfl
theorem sX6_without_56 : Rn r 183 56 [l0, l1, l2, some (vI x), l4] [] h Q ↔ Rn r 183 57 [l0, l1, l2, some (vI x), l4] [vI x] h Q := Rn_nx pg183 rfl rfl
theorem sX6_without_57 : Rn r 183 57 [l0, l1, l2, l3, l4] [vI x0] h Q ↔ Q (Sum.inl (some (vI x0))) h := Rn_end pg183 rfl rfl
/-! 184 ThrowRulesModel.has(II)Z -/
theorem eX6_has : Cl r 184 [vI x0, vI x1] h Q ↔ Rn r 184 0 [some (vI x0), some (vI x1)] [] h Q := Cl_in pg184 rfl
theorem sX6_has_0 : Rn r 184 0 [some (vI x), l1] [] h Q ↔ Rn r 184 1 [some (vI x), l1] [vI x] h Q := Rn_nx pg184 rfl rfl
theorem sX6_has_1 : Rn r 184 1 [l0, some (vI x)] [vI x0] h Q ↔ Rn r 184 2 [l0, some (vI x)] [vI x, vI x0] h Q := Rn_nx pg184 rfl rfl
theorem sX6_has_2 : Rn r 184 2 [l0, l1] [vI x0, vI x1] h Q ↔ Rn r 184 3 [l0, l1] [vI (x1 >>> (x0 &&& 31))] h Q := Rn_nx pg184 rfl rfl
theorem sX6_has_3 : Rn r 184 3 [l0, l1] [vI x0] h Q ↔ Rn r 184 4 [l0, l1] [vI 1, vI x0] h Q := Rn_nx pg184 rfl rfl
theorem sX6_has_4 : Rn r 184 4 [l0, l1] [vI x0, vI x1] h Q ↔ Rn r 184 5 [l0, l1] [vI (x1 &&& x0)] h Q := Rn_nx pg184 rfl rfl
theorem sX6_has_5 : Rn r 184 5 [l0, l1] [vI x0] h Q ↔ Rn r 184 6 [l0, l1] [vI 1, vI x0] h Q := Rn_nx pg184 rfl rfl
theorem sX6_has_6 : Rn r 184 6 [l0, l1] [vI x0, vI x1] h Q ↔ if x1 ≠ x0 then Rn r 184 13 [l0, l1] [] h Q else Rn r 184 9 [l0, l1] [] h Q := Rn_if pg184 rfl rfl rfl
theorem sX6_has_9 : Rn r 184 9 [l0, l1] [] h Q ↔ Rn r 184 10 [l0, l1] [vI 1] h Q := Rn_nx pg184 rfl rfl
theorem sX6_has_10 : Rn r 184 10 [l0, l1] [vI x0] h Q ↔ Rn r 184 14 [l0, l1] [vI x0] h Q := Rn_nx pg184 rfl rfl
theorem sX6_has_13 : Rn r 184 13 [l0, l1] [] h Q ↔ Rn r 184 14 [l0, l1] [vI 0] h Q := Rn_nx pg184 rfl rfl
theorem sX6_has_14 (hf : am_fit 4 x0 = true) : Rn r 184 14 [l0, l1] [vI x0] h Q ↔ Q (Sum.inl (some (vI x0))) h := Rn_end pg184 rfl (if_pos hf)
/-! 185 ThrowRulesModel.judgeCaught(III)V -/
theorem eX6_judgeCaught : Cl r 185 [vR z0, vI x1, vI x2, vI x3] h Q ↔ Rn r 185 0 [some (vR z0), some (vI x1), some (vI x2), some (vI x3), none, none, none, none, none, none] [] h Q := Cl_in pg185 rfl
theorem sX6_judgeCaught_0 : Rn r 185 0 [some (vR z), l1, l2, l3, l4, l5, l6, l7, l8, l9] [] h Q ↔ Rn r 185 1 [some (vR z), l1, l2, l3, l4, l5, l6, l7, l8, l9] [vR z] h Q := Rn_nx pg185 rfl rfl
theorem sX6_judgeCaught_1 : Rn r 185 1 [l0, some (vI x), l2, l3, l4, l5, l6, l7, l8, l9] [vR z0] h Q ↔ Rn r 185 2 [l0, some (vI x), l2, l3, l4, l5, l6, l7, l8, l9] [vI x, vR z0] h Q := Rn_nx pg185 rfl rfl
theorem sX6_judgeCaught_2 : Rn r 185 2 [l0, l1, some (vI x), l3, l4, l5, l6, l7, l8, l9] [vI x0, vR z1] h Q ↔ Rn r 185 3 [l0, l1, some (vI x), l3, l4, l5, l6, l7, l8, l9] [vI x, vI x0, vR z1] h Q := Rn_nx pg185 rfl rfl
theorem sX6_judgeCaught_3 (hk : hK h a2 = 15) : Rn r 185 3 [l0, l1, l2, l3, l4, l5, l6, l7, l8, l9] [vI x0, vI x1, vR (some a2)] h Q ↔ Cl r 111 [vR (some a2), vI x1, vI x0] h (Kt r 185 6 [l0, l1, l2, l3, l4, l5, l6, l7, l8, l9] [] Q) := Rn_call pg185 rfl (by simp only [am_exec, am_inv, am_pop, am_lk, hk]; rfl) pg111 rfl rfl rfl
theorem sX6_judgeCaught_6 : Rn r 185 6 [l0, l1, l2, l3, l4, l5, l6, l7, l8, l9] [vI x0] h Q ↔ Rn r 185 8 [l0, l1, l2, l3, some (vI x0), l5, l6, l7, l8, l9] [] h Q := Rn_nx pg185 rfl rfl
theorem sX6_judgeCaught_8 : Rn r 185 8 [some (vR z), l1, l2, l3, l4, l5, l6, l7, l8, l9] [] h Q ↔ Rn r 185 9 [some (vR z), l1, l2, l3, l4, l5, l6, l7, l8, l9] [vR z] h Q := Rn_nx pg185 rfl rfl
theorem sX6_judgeCaught_9 (hk : hK h a0 = 15) : Rn r 185 9 [l0, l1, l2, l3, l4, l5, l6, l7, l8, l9] [vR (some a0)] h Q ↔ Rn r 185 12 [l0, l1, l2, l3, l4, l5, l6, l7, l8, l9] [vR (hR h a0 39)] h Q := Rn_nx pg185 rfl (if_pos ⟨(hk ▸ Nat.le_refl _), (hk ▸ Nat.le_refl _)⟩)
theorem sX6_judgeCaught_12 : Rn r 185 12 [l0, l1, l2, l3, l4, l5, l6, l7, l8, l9] [vR z0] h Q ↔ Rn r 185 13 [l0, l1, l2, l3, l4, l5, l6, l7, l8, l9] [vI 4, vR z0] h Q := Rn_nx pg185 rfl rfl
theorem sX6_judgeCaught_13 : Rn r 185 13 [l0, some (vI x), l2, l3, l4, l5, l6, l7, l8, l9] [vI x0, vR z1] h Q ↔ Rn r 185 14 [l0, some (vI x), l2, l3, l4, l5, l6, l7, l8, l9] [vI x, vI x0, vR z1] h Q := Rn_nx pg185 rfl rfl
theorem sX6_judgeCaught_14 : Rn r 185 14 [l0, l1, l2, l3, l4, l5, l6, l7, l8, l9] [vI x0, vI x1, vR z2] h Q ↔ Rn r 185 15 [l0, l1, l2, l3, l4, l5, l6, l7, l8, l9] [vI (x1 * x0), vR z2] h Q := Rn_nx pg185 rfl rfl
theorem sX6_judgeCaught_15 : Rn r 185 15 [l0, l1, some (vI x), l3, l4, l5, l6, l7, l8, l9] [vI x0, vR z1] h Q ↔ Rn r 185 16 [l0, l1, some (vI x), l3, l4, l5, l6, l7, l8, l9] [vI x, vI x0, vR z1] h Q := Rn_nx pg185 rfl rfl
theorem sX6_judgeCaught_16 : Rn r 185 16 [l0, l1, l2, l3, l4, l5, l6, l7, l8, l9] [vI x0, vI x1, vR z2] h Q ↔ Rn r 185 17 [l0, l1, l2, l3, l4, l5, l6, l7, l8, l9] [vI (x1 + x0), vR z2] h Q := Rn_nx pg185 rfl rfl
theorem sX6_judgeCaught_17 (hk : 40 ≤ hK h a1) (hk2 : hK h a1 ≤ 41) (hx : ¬ (x0 < 0 ∨ hL h a1 ≤ x0.toNatClampNeg)) : Rn r 185 17 [l0, l1, l2, l3, l4, l5, l6, l7, l8, l9] [vI x0, vR (some a1)] h Q ↔ Rn r 185 18 [l0, l1, l2, l3, l4, l5, l6, l7, l8, l9] [vI (hI h a1 x0.toNatClampNeg)] h Q := Rn_nx pg185 rfl ((if_pos ⟨hk, hk2⟩).trans (if_neg hx))
theorem sX6_judgeCaught_18 : Rn r 185 18 [l0, l1, l2, l3, l4, l5, l6, l7, l8, l9] [vI x0] h Q ↔ Rn r 185 20 [l0, l1, l2, l3, l4, some (vI x0), l6, l7, l8, l9] [] h Q := Rn_nx pg185 rfl rfl
theorem sX6_judgeCaught_20 : Rn r 185 20 [l0, l1, l2, l3, some (vI x), l5, l6, l7, l8, l9] [] h Q ↔ Rn r 185 22 [l0, l1, l2, l3, some (vI x), l5, l6, l7, l8, l9] [vI x] h Q := Rn_nx pg185 rfl rfl
theorem sX6_judgeCaught_22 : Rn r 185 22 [l0, l1, l2, l3, l4, l5, l6, l7, l8, l9] [vI x0] h Q ↔ Rn r 185 23 [l0, l1, l2, l3, l4, l5, l6, l7, l8, l9] [vI (-1), vI x0] h Q := Rn_nx pg185 rfl rfl
theorem sX6_judgeCaught_23 : Rn r 185 23 [l0, l1, l2, l3, l4, l5, l6, l7, l8, l9] [vI x0, vI x1] h Q ↔ if x1 ≠ x0 then Rn r 185 35 [l0, l1, l2, l3, l4, l5, l6, l7, l8, l9] [] h Q else Rn r 185 26 [l0, l1, l2, l3, l4, l5, l6, l7, l8, l9] [] h Q := Rn_if pg185 rfl rfl rfl
theorem sX6_judgeCaught_26 : Rn r 185 26 [some (vR z), l1, l2, l3, l4, l5, l6, l7, l8, l9] [] h Q ↔ Rn r 185 27 [some (vR z), l1, l2, l3, l4, l5, l6, l7, l8, l9] [vR z] h Q := Rn_nx pg185 rfl rfl
theorem sX6_judgeCaught_27 : Rn r 185 27 [l0, l1, l2, l3, l4, l5, l6, l7, l8, l9] [vR z0] h Q ↔ Rn r 185 28 [l0, l1, l2, l3, l4, l5, l6, l7, l8, l9] [vI 1, vR z0] h Q := Rn_nx pg185 rfl rfl
theorem sX6_judgeCaught_28 : Rn r 185 28 [l0, l1, l2, l3, l4, some (vI x), l6, l7, l8, l9] [vI x0, vR z1] h Q ↔ Rn r 185 30 [l0, l1, l2, l3, l4, some (vI x), l6, l7, l8, l9] [vI x, vI x0, vR z1] h Q := Rn_nx pg185 rfl rfl
theorem sX6_judgeCaught_30 : Rn r 185 30 [l0, l1, l2, l3, l4, l5, l6, l7, l8, l9] [vI x0, vI x1, vR z2] h Q ↔ Rn r 185 31 [l0, l1, l2, l3, l4, l5, l6, l7, l8, l9] [vI (-1), vI x0, vI x1, vR z2] h Q := Rn_nx pg185 rfl rfl
theorem sX6_judgeCaught_31 (hk : hK h a3 = 15) : Rn r 185 31 [l0, l1, l2, l3, l4, l5, l6, l7, l8, l9] [vI x0, vI x1, vI x2, vR (some a3)] h Q ↔ Cl r 96 [vR (some a3), vI x2, vI x1, vI x0] h (Kt r 185 34 [l0, l1, l2, l3, l4, l5, l6, l7, l8, l9] [] Q) := Rn_call pg185 rfl (by simp only [am_exec, am_inv, am_pop, am_lk, hk]; rfl) pg96 rfl rfl rfl
theorem sX6_judgeCaught_34 : Rn r 185 34 [l0, l1, l2, l3, l4, l5, l6, l7, l8, l9] [] h Q ↔ Q (Sum.inl none) h := Rn_end pg185 rfl rfl
theorem sX6_judgeCaught_35 : Rn r 185 35 [some (vR z), l1, l2, l3, l4, l5, l6, l7, l8, l9] [] h Q ↔ Rn r 185 36 [some (vR z), l1, l2, l3, l4, l5, l6, l7, l8, l9] [vR z] h Q := Rn_nx pg185 rfl rfl
theorem sX6_judgeCaught_36 : Rn r 185 36 [l0, l1, l2, l3, some (vI x), l5, l6, l7, l8, l9] [vR z0] h Q ↔ Rn r 185 38 [l0, l1, l2, l3, some (vI x), l5, l6, l7, l8, l9] [vI x, vR z0] h Q := Rn_nx pg185 rfl rfl
theorem sX6_judgeCaught_38 : Rn r 185 38 [l0, l1, l2, some (vI x), l4, l5, l6, l7, l8, l9] [vI x0, vR z1] h Q ↔ Rn r 185 39 [l0, l1, l2, some (vI x), l4, l5, l6, l7, l8, l9] [vI x, vI x0, vR z1] h Q := Rn_nx pg185 rfl rfl
theorem sX6_judgeCaught_39 (hk : hK h a2 = 15) : Rn r 185 39 [l0, l1, l2, l3, l4, l5, l6, l7, l8, l9] [vI x0, vI x1, vR (some a2)] h Q ↔ Cl r 146 [vR (some a2), vI x1, vI x0] h (Kt r 185 42 [l0, l1, l2, l3, l4, l5, l6, l7, l8, l9] [] Q) := Rn_call pg185 rfl (by simp only [am_exec, am_inv, am_pop, am_lk, hk]; rfl) pg146 rfl rfl rfl
theorem sX6_judgeCaught_42 : Rn r 185 42 [l0, l1, l2, l3, l4, l5, l6, l7, l8, l9] [vI x0] h Q ↔ Rn r 185 44 [l0, l1, l2, l3, l4, l5, some (vI x0), l7, l8, l9] [] h Q := Rn_nx pg185 rfl rfl
theorem sX6_judgeCaught_44 : Rn r 185 44 [l0, l1, l2, l3, l4, l5, l6, l7, l8, l9] [] h Q ↔ Rn r 185 45 [l0, l1, l2, l3, l4, l5, l6, l7, l8, l9] [vI 0] h Q := Rn_nx pg185 rfl rfl
theorem sX6_judgeCaught_45 : Rn r 185 45 [l0, l1, l2, l3, l4, l5, l6, l7, l8, l9] [vI x0] h Q ↔ Rn r 185 47 [l0, l1, l2, l3, l4, l5, l6, some (vI x0), l8, l9] [] h Q := Rn_nx pg185 rfl rfl
theorem sX6_judgeCaught_47 : Rn r 185 47 [l0, l1, l2, l3, l4, l5, l6, some (vI x), l8, l9] [] h Q ↔ Rn r 185 49 [l0, l1, l2, l3, l4, l5, l6, some (vI x), l8, l9] [vI x] h Q := Rn_nx pg185 rfl rfl
theorem sX6_judgeCaught_49 : Rn r 185 49 [some (vR z), l1, l2, l3, l4, l5, l6, l7, l8, l9] [vI x0] h Q ↔ Rn r 185 50 [some (vR z), l1, l2, l3, l4, l5, l6, l7, l8, l9] [vR z, vI x0] h Q := Rn_nx pg185 rfl rfl
theorem sX6_judgeCaught_50 (hk : hK h a0 = 15) : Rn r 185 50 [l0, l1, l2, l3, l4, l5, l6, l7, l8, l9] [vR (some a0), vI x1] h Q ↔ Rn r 185 53 [l0, l1, l2, l3, l4, l5, l6, l7, l8, l9] [vR (hR h a0 3), vI x1] h Q := Rn_nx pg185 rfl (if_pos ⟨(hk ▸ Nat.le_refl _), (hk ▸ Nat.le_refl _)⟩)
theorem sX6_judgeCaught_53 : Rn r 185 53 [some (vR z), l1, l2, l3, l4, l5, l6, l7, l8, l9] [vR z0, vI x1] h Q ↔ Rn r 185 54 [some (vR z), l1, l2, l3, l4, l5, l6, l7, l8, l9] [vR z, vR z0, vI x1] h Q := Rn_nx pg185 rfl rfl
theorem sX6_judgeCaught_54 (hk : hK h a0 = 15) : Rn r 185 54 [l0, l1, l2, l3, l4, l5, l6, l7, l8, l9] [vR (some a0), vR z1, vI x2] h Q ↔ Rn r 185 57 [l0, l1, l2, l3, l4, l5, l6, l7, l8, l9] [vI (hI h a0 2), vR z1, vI x2] h Q := Rn_nx pg185 rfl (if_pos ⟨(hk ▸ Nat.le_refl _), (hk ▸ Nat.le_refl _)⟩)
theorem sX6_judgeCaught_57 (hk : 40 ≤ hK h a1) (hk2 : hK h a1 ≤ 41) (hx : ¬ (x0 < 0 ∨ hL h a1 ≤ x0.toNatClampNeg)) : Rn r 185 57 [l0, l1, l2, l3, l4, l5, l6, l7, l8, l9] [vI x0, vR (some a1), vI x2] h Q ↔ Rn r 185 58 [l0, l1, l2, l3, l4, l5, l6, l7, l8, l9] [vI (hI h a1 x0.toNatClampNeg), vI x2] h Q := Rn_nx pg185 rfl ((if_pos ⟨hk, hk2⟩).trans (if_neg hx))
theorem sX6_judgeCaught_58 : Rn r 185 58 [l0, l1, l2, l3, l4, l5, l6, l7, l8, l9] [vI x0, vI x1] h Q ↔ if x0 ≤ x1 then Rn r 185 99 [l0, l1, l2, l3, l4, l5, l6, l7, l8, l9] [] h Q else Rn r 185 61 [l0, l1, l2, l3, l4, l5, l6, l7, l8, l9] [] h Q := Rn_if pg185 rfl rfl rfl
theorem sX6_judgeCaught_61 : Rn r 185 61 [l0, l1, l2, l3, l4, l5, some (vI x), l7, l8, l9] [] h Q ↔ Rn r 185 63 [l0, l1, l2, l3, l4, l5, some (vI x), l7, l8, l9] [vI x] h Q := Rn_nx pg185 rfl rfl
theorem sX6_judgeCaught_63 : Rn r 185 63 [l0, l1, l2, l3, l4, l5, l6, l7, l8, l9] [vI x0] h Q ↔ if x0 ≠ 0 then Rn r 185 86 [l0, l1, l2, l3, l4, l5, l6, l7, l8, l9] [] h Q else Rn r 185 66 [l0, l1, l2, l3, l4, l5, l6, l7, l8, l9] [] h Q := Rn_if pg185 rfl rfl rfl
theorem sX6_judgeCaught_66 : Rn r 185 66 [l0, l1, l2, some (vI x), l4, l5, l6, l7, l8, l9] [] h Q ↔ Rn r 185 67 [l0, l1, l2, some (vI x), l4, l5, l6, l7, l8, l9] [vI x] h Q := Rn_nx pg185 rfl rfl
theorem sX6_judgeCaught_67 : Rn r 185 67 [l0, l1, l2, l3, l4, l5, l6, some (vI x), l8, l9] [vI x0] h Q ↔ Rn r 185 69 [l0, l1, l2, l3, l4, l5, l6, some (vI x), l8, l9] [vI x, vI x0] h Q := Rn_nx pg185 rfl rfl
theorem sX6_judgeCaught_69 : Rn r 185 69 [l0, l1, l2, l3, l4, l5, l6, l7, l8, l9] [vI x0, vI x1] h Q ↔ Cl r 184 [vI x1, vI x0] h (Kt r 185 72 [l0, l1, l2, l3, l4, l5, l6, l7, l8, l9] [] Q) := Rn_call pg185 rfl rfl pg184 rfl rfl rfl
theorem sX6_judgeCaught_72 : Rn r 185 72 [l0, l1, l2, l3, l4, l5, l6, l7, l8, l9] [vI x0] h Q ↔ if x0 = 0 then Rn r 185 90 [l0, l1, l2, l3, l4, l5, l6, l7, l8, l9] [] h Q else Rn r 185 75 [l0, l1, l2, l3, l4, l5, l6, l7, l8, l9] [] h Q := Rn_if pg185 rfl rfl rfl
theorem sX6_judgeCaught_75 : Rn r 185 75 [some (vR z), l1, l2, l3, l4, l5, l6, l7, l8, l9] [] h Q ↔ Rn r 185 76 [some (vR z), l1, l2, l3, l4, l5, l6, l7, l8, l9] [vR z] h Q := Rn_nx pg185 rfl rfl
theorem sX6_judgeCaught_76 : Rn r 185 76 [l0, l1, l2, l3, l4, l5, l6, some (vI x), l8, l9] [vR z0] h Q ↔ Rn r 185 78 [l0, l1, l2, l3, l4, l5, l6, some (vI x), l8, l9] [vI x, vR z0] h Q := Rn_nx pg185 rfl rfl
theorem sX6_judgeCaught_78 : Rn r 185 78 [l0, l1, l2, l3, some (vI x), l5, l6, l7, l8, l9] [vI x0, vR z1] h Q ↔ Rn r 185 80 [l0, l1, l2, l3, some (vI x), l5, l6, l7, l8, l9] [vI x, vI x0, vR z1] h Q := Rn_nx pg185 rfl rfl
theorem sX6_judgeCaught_80 (hk : hK h a2 = 15) : Rn r 185 80 [l0, l1, l2, l3, l4, l5, l6, l7, l8, l9] [vI x0, vI x1, vR (some a2)] h Q ↔ Cl r 48 [vR (some a2), vI x1, vI x0] h (Kt r 185 83 [l0, l1, l2, l3, l4, l5, l6, l7, l8, l9] [] Q) := Rn_call pg185 rfl (by simp only [am_exec, am_inv, am_pop, am_lk, hk]; rfl) pg48 rfl rfl rfl
theorem sX6_judgeCaught_83 : Rn r 185 83 [l0, l1, l2, l3, l4, l5, l6, l7, l8, l9] [vI x0] h Q ↔ if x0 = 0 then Rn r 185 90 [l0, l1, l2, l3, l4, l5, l6, l7, l8, l9] [] h Q else Rn r 185 86 [l0, l1, l2, l3, l4, l5, l6, l7, l8, l9] [] h Q := Rn_if pg185 rfl rfl rfl
theorem sX6_judgeCaught_86 : Rn r 185 86 [l0, l1, l2, l3, l4, l5, l6, l7, l8, l9] [] h Q ↔ Rn r 185 87 [l0, l1, l2, l3, l4, l5, l6, l7, l8, l9] [vI 1] h Q := Rn_nx pg185 rfl rfl
theorem sX6_judgeCaught_87 : Rn r 185 87 [l0, l1, l2, l3, l4, l5, l6, l7, l8, l9] [vI x0] h Q ↔ Rn r 185 91 [l0, l1, l2, l3, l4, l5, l6, l7, l8, l9] [vI x0] h Q := Rn_nx pg185 rfl rfl
theorem sX6_judgeCaught_90 : Rn r 185 90 [l0, l1, l2, l3, l4, l5, l6, l7, l8, l9] [] h Q ↔ Rn r 185 91 [l0, l1, l2, l3, l4, l5, l6, l7, l8, l9] [vI 0] h Q := Rn_nx pg185 rfl rfl
theorem sX6_judgeCaught_91 : Rn r 185 91 [l0, l1, l2, l3, l4, l5, l6, l7, l8, l9] [vI x0] h Q ↔ Rn r 185 93 [l0, l1, l2, l3, l4, l5, some (vI x0), l7, l8, l9] [] h Q := Rn_nx pg185 rfl rfl
theorem sX6_judgeCaught_93 : Rn r 185 93 [l0, l1, l2, l3, l4, l5, l6, some (vI x), l8, l9] [] h Q ↔ Rn r 185 96 [l0, l1, l2, l3, l4, l5, l6, some (vI (x + 1)), l8, l9] [] h Q := Rn_nx pg185 rfl rfl
theorem sX6_judgeCaught_96 : Rn r 185 96 [l0, l1, l2, l3, l4, l5, l6, l7, l8, l9] [] h Q ↔ Rn r 185 47 [l0, l1, l2, l3, l4, l5, l6, l7, l8, l9] [] h Q := Rn_nx pg185 rfl rfl
theorem sX6_judgeCaught_99 : Rn r 185 99 [l0, l1, l2, l3, some (vI x), l5, l6, l7, l8, l9] [] h Q ↔ Rn r 185 101 [l0, l1, l2, l3, some (vI x), l5, l6, l7, l8, l9] [vI x] h Q := Rn_nx pg185 rfl rfl
theorem sX6_judgeCaught_101 : Rn r 185 101 [l0, l1, l2, l3, l4, l5, l6, l7, l8, l9] [vI x0] h Q ↔ Rn r 185 102 [l0, l1, l2, l3, l4, l5, l6, l7, l8, l9] [vI 1, vI x0] h Q := Rn_nx pg185 rfl rfl
theorem sX6_judgeCaught_102 : Rn r 185 102 [l0, l1, l2, l3, l4, l5, l6, l7, l8, l9] [vI x0, vI x1] h Q ↔ if x1 ≤ x0 then Rn r 185 128 [l0, l1, l2, l3, l4, l5, l6, l7, l8, l9] [] h Q else Rn r 185 105 [l0, l1, l2, l3, l4, l5, l6, l7, l8, l9] [] h Q := Rn_if pg185 rfl rfl rfl
theorem sX6_judgeCaught_105 : Rn r 185 105 [some (vR z), l1, l2, l3, l4, l5, l6, l7, l8, l9] [] h Q ↔ Rn r 185 106 [some (vR z), l1, l2, l3, l4, l5, l6, l7, l8, l9] [vR z] h Q := Rn_nx pg185 rfl rfl
theorem sX6_judgeCaught_106 : Rn r 185 106 [l0, l1, l2, l3, some (vI x), l5, l6, l7, l8, l9] [vR z0] h Q ↔ Rn r 185 108 [l0, l1, l2, l3, some (vI x), l5, l6, l7, l8, l9] [vI x, vR z0] h Q := Rn_nx pg185 rfl rfl
theorem sX6_judgeCaught_108 (hk : hK h a1 = 15) : Rn r 185 108 [l0, l1, l2, l3, l4, l5, l6, l7, l8, l9] [vI x0, vR (some a1)] h Q ↔ Cl r 46 [vR (some a1), vI x0] h (Kt r 185 111 [l0, l1, l2, l3, l4, l5, l6, l7, l8, l9] [] Q) := Rn_call pg185 rfl (by simp only [am_exec, am_inv, am_pop, am_lk, hk]; rfl) pg46 rfl rfl rfl
theorem sX6_judgeCaught_111 : Rn r 185 111 [l0, l1, l2, l3, l4, l5, l6, l7, l8, l9] [vI x0] h Q ↔ if x0 = 0 then Rn r 185 128 [l0, l1, l2, l3, l4, l5, l6, l7, l8, l9] [] h Q else Rn r 185 114 [l0, l1, l2, l3, l4, l5, l6, l7, l8, l9] [] h Q := Rn_if pg185 rfl rfl rfl
theorem sX6_judgeCaught_114 : Rn r 185 114 [l0, l1, l2, l3, l4, l5, some (vI x), l7, l8, l9] [] h Q ↔ Rn r 185 116 [l0, l1, l2, l3, l4, l5, some (vI x), l7, l8, l9] [vI x] h Q := Rn_nx pg185 rfl rfl
theorem sX6_judgeCaught_116 : Rn r 185 116 [l0, l1, l2, l3, l4, l5, l6, l7, l8, l9] [vI x0] h Q ↔ if x0 ≠ 0 then Rn r 185 128 [l0, l1, l2, l3, l4, l5, l6, l7, l8, l9] [] h Q else Rn r 185 119 [l0, l1, l2, l3, l4, l5, l6, l7, l8, l9] [] h Q := Rn_if pg185 rfl rfl rfl
theorem sX6_judgeCaught_119 : Rn r 185 119 [some (vR z), l1, l2, l3, l4, l5, l6, l7, l8, l9] [] h Q ↔ Rn r 185 120 [some (vR z), l1, l2, l3, l4, l5, l6, l7, l8, l9] [vR z] h Q := Rn_nx pg185 rfl rfl
theorem sX6_judgeCaught_120 : Rn r 185 120 [l0, l1, l2, l3, l4, l5, l6, l7, l8, l9] [vR z0] h Q ↔ Rn r 185 121 [l0, l1, l2, l3, l4, l5, l6, l7, l8, l9] [vI 3, vR z0] h Q := Rn_nx pg185 rfl rfl
theorem sX6_judgeCaught_121 : Rn r 185 121 [l0, l1, l2, l3, l4, some (vI x), l6, l7, l8, l9] [vI x0, vR z1] h Q ↔ Rn r 185 123 [l0, l1, l2, l3, l4, some (vI x), l6, l7, l8, l9] [vI x, vI x0, vR z1] h Q := Rn_nx pg185 rfl rfl
theorem sX6_judgeCaught_123 : Rn r 185 123 [l0, l1, l2, l3, some (vI x), l5, l6, l7, l8, l9] [vI x0, vI x1, vR z2] h Q ↔ Rn r 185 125 [l0, l1, l2, l3, some (vI x), l5, l6, l7, l8, l9] [vI x, vI x0, vI x1, vR z2] h Q := Rn_nx pg185 rfl rfl
theorem sX6_judgeCaught_125 (hk : hK h a3 = 15) : Rn r 185 125 [l0, l1, l2, l3, l4, l5, l6, l7, l8, l9] [vI x0, vI x1, vI x2, vR (some a3)] h Q ↔ Cl r 96 [vR (some a3), vI x2, vI x1, vI x0] h (Kt r 185 128 [l0, l1, l2, l3, l4, l5, l6, l7, l8, l9] [] Q) := Rn_call pg185 rfl (by simp only [am_exec, am_inv, am_pop, am_lk, hk]; rfl) pg96 rfl rfl rfl
theorem sX6_judgeCaught_128 : Rn r 185 128 [some (vR z), l1, l2, l3, l4, l5, l6, l7, l8, l9] [] h Q ↔ Rn r 185 129 [some (vR z), l1, l2, l3, l4, l5, l6, l7, l8, l9] [vR z] h Q := Rn_nx pg185 rfl rfl
theorem sX6_judgeCaught_129 : Rn r 185 129 [l0, l1, l2, l3, some (vI x), l5, l6, l7, l8, l9] [vR z0] h Q ↔ Rn r 185 131 [l0, l1, l2, l3, some (vI x), l5, l6, l7, l8, l9] [vI x, vR z0] h Q := Rn_nx pg185 rfl rfl
theorem sX6_judgeCaught_131 : Rn r 185 131 [some (vR z), l1, l2, l3, l4, l5, l6, l7, l8, l9] [vI x0, vR z1] h Q ↔ Rn r 185 132 [some (vR z), l1, l2, l3, l4, l5, l6, l7, l8, l9] [vR z, vI x0, vR z1] h Q := Rn_nx pg185 rfl rfl
theorem sX6_judgeCaught_132 : Rn r 185 132 [l0, some (vI x), l2, l3, l4, l5, l6, l7, l8, l9] [vR z0, vI x1, vR z2] h Q ↔ Rn r 185 133 [l0, some (vI x), l2, l3, l4, l5, l6, l7, l8, l9] [vI x, vR z0, vI x1, vR z2] h Q := Rn_nx pg185 rfl rfl
theorem sX6_judgeCaught_133 (hk : hK h a1 = 15) : Rn r 185 133 [l0, l1, l2, l3, l4, l5, l6, l7, l8, l9] [vI x0, vR (some a1), vI x2, vR z3] h Q ↔ Cl r 244 [vR (some a1), vI x0] h (Kt r 185 136 [l0, l1, l2, l3, l4, l5, l6, l7, l8, l9] [vI x2, vR z3] Q) := Rn_call pg185 rfl (by simp only [am_exec, am_inv, am_pop, am_lk, hk]; rfl) pg244 rfl rfl rfl
theorem sX6_judgeCaught_136 (hk : hK h a2 = 15) : Rn r 185 136 [l0, l1, l2, l3, l4, l5, l6, l7, l8, l9] [vI x0, vI x1, vR (some a2)] h Q ↔ Cl r 146 [vR (some a2), vI x1, vI x0] h (Kt r 185 139 [l0, l1, l2, l3, l4, l5, l6, l7, l8, l9] [] Q) := Rn_call pg185 rfl (by simp only [am_exec, am_inv, am_pop, am_lk, hk]; rfl) pg146 rfl rfl rfl
theorem sX6_judgeCaught_139 : Rn r 185 139 [l0, l1, l2, l3, l4, l5, l6, l7, l8, l9] [vI x0] h Q ↔ if x0 = 0 then Rn r 185 151 [l0, l1, l2, l3, l4, l5, l6, l7, l8, l9] [] h Q else Rn r 185 142 [l0, l1, l2, l3, l4, l5, l6, l7, l8, l9] [] h Q := Rn_if pg185 rfl rfl rfl
theorem sX6_judgeCaught_142 : Rn r 185 142 [some (vR z), l1, l2, l3, l4, l5, l6, l7, l8, l9] [] h Q ↔ Rn r 185 143 [some (vR z), l1, l2, l3, l4, l5, l6, l7, l8, l9] [vR z] h Q := Rn_nx pg185 rfl rfl
theorem sX6_judgeCaught_143 : Rn r 185 143 [l0, l1, l2, l3, l4, l5, l6, l7, l8, l9] [vR z0] h Q ↔ Rn r 185 144 [l0, l1, l2, l3, l4, l5, l6, l7, l8, l9] [vI 4, vR z0] h Q := Rn_nx pg185 rfl rfl
theorem sX6_judgeCaught_144 : Rn r 185 144 [l0, l1, l2, l3, l4, some (vI x), l6, l7, l8, l9] [vI x0, vR z1] h Q ↔ Rn r 185 146 [l0, l1, l2, l3, l4, some (vI x), l6, l7, l8, l9] [vI x, vI x0, vR z1] h Q := Rn_nx pg185 rfl rfl
theorem sX6_judgeCaught_146 : Rn r 185 146 [l0, l1, l2, l3, some (vI x), l5, l6, l7, l8, l9] [vI x0, vI x1, vR z2] h Q ↔ Rn r 185 148 [l0, l1, l2, l3, some (vI x), l5, l6, l7, l8, l9] [vI x, vI x0, vI x1, vR z2] h Q := Rn_nx pg185 rfl rfl
theorem sX6_judgeCaught_148 (hk : hK h a3 = 15) : Rn r 185 148 [l0, l1, l2, l3, l4, l5, l6, l7, l8, l9] [vI x0, vI x1, vI x2, vR (some a3)] h Q ↔ Cl r 96 [vR (some a3), vI x2, vI x1, vI x0] h (Kt r 185 151 [l0, l1, l2, l3, l4, l5, l6, l7, l8, l9] [] Q) := Rn_call pg185 rfl (by simp only [am_exec, am_inv, am_pop, am_lk, hk]; rfl) pg96 rfl rfl rfl
theorem sX6_judgeCaught_151 : Rn r 185 151 [l0, l1, l2, l3, l4, l5, l6, l7, l8, l9] [] h Q ↔ Rn r 185 152 [l0, l1, l2, l3, l4, l5, l6, l7, l8, l9] [vI 0] h Q := Rn_nx pg185 rfl rfl
theorem sX6_judgeCaught_152 : Rn r 185 152 [l0, l1, l2, l3, l4, l5, l6, l7, l8, l9] [vI x0] h Q ↔ Rn r 185 154 [l0, l1, l2, l3, l4, l5, l6, some (vI x0), l8, l9] [] h Q := Rn_nx pg185 rfl rfl
theorem sX6_judgeCaught_154 : Rn r 185 154 [l0, l1, l2, l3, l4, l5, l6, l7, l8, l9] [] h Q ↔ Rn r 185 155 [l0, l1, l2, l3, l4, l5, l6, l7, l8, l9] [vI 0] h Q := Rn_nx pg185 rfl rfl
theorem sX6_judgeCaught_155 : Rn r 185 155 [l0, l1, l2, l3, l4, l5, l6, l7, l8, l9] [vI x0] h Q ↔ Rn r 185 157 [l0, l1, l2, l3, l4, l5, l6, l7, some (vI x0), l9] [] h Q := Rn_nx pg185 rfl rfl
theorem sX6_judgeCaught_157 : Rn r 185 157 [l0, l1, l2, l3, l4, l5, l6, l7, some (vI x), l9] [] h Q ↔ Rn r 185 159 [l0, l1, l2, l3, l4, l5, l6, l7, some (vI x), l9] [vI x] h Q := Rn_nx pg185 rfl rfl
theorem sX6_judgeCaught_159 : Rn r 185 159 [l0, l1, some (vI x), l3, l4, l5, l6, l7, l8, l9] [vI x0] h Q ↔ Rn r 185 160 [l0, l1, some (vI x), l3, l4, l5, l6, l7, l8, l9] [vI x, vI x0] h Q := Rn_nx pg185 rfl rfl
theorem sX6_judgeCaught_160 : Rn r 185 160 [l0, l1, l2, l3, l4, l5, l6, l7, l8, l9] [vI x0, vI x1] h Q ↔ if x0 ≤ x1 then Rn r 185 218 [l0, l1, l2, l3, l4, l5, l6, l7, l8, l9] [] h Q else Rn r 185 163 [l0, l1, l2, l3, l4, l5, l6, l7, l8, l9] [] h Q := Rn_if pg185 rfl rfl rfl
theorem sX6_judgeCaught_163 : Rn r 185 163 [some (vR z), l1, l2, l3, l4, l5, l6, l7, l8, l9] [] h Q ↔ Rn r 185 164 [some (vR z), l1, l2, l3, l4, l5, l6, l7, l8, l9] [vR z] h Q := Rn_nx pg185 rfl rfl
theorem sX6_judgeCaught_164 : Rn r 185 164 [l0, some (vI x), l2, l3, l4, l5, l6, l7, l8, l9] [vR z0] h Q ↔ Rn r 185 165 [l0, some (vI x), l2, l3, l4, l5, l6, l7, l8, l9] [vI x, vR z0] h Q := Rn_nx pg185 rfl rfl
theorem sX6_judgeCaught_165 : Rn r 185 165 [l0, l1, l2, l3, l4, l5, l6, l7, some (vI x), l9] [vI x0, vR z1] h Q ↔ Rn r 185 167 [l0, l1, l2, l3, l4, l5, l6, l7, some (vI x), l9] [vI x, vI x0, vR z1] h Q := Rn_nx pg185 rfl rfl
theorem sX6_judgeCaught_167 (hk : hK h a2 = 15) : Rn r 185 167 [l0, l1, l2, l3, l4, l5, l6, l7, l8, l9] [vI x0, vI x1, vR (some a2)] h Q ↔ Cl r 111 [vR (some a2), vI x1, vI x0] h (Kt r 185 170 [l0, l1, l2, l3, l4, l5, l6, l7, l8, l9] [] Q) := Rn_call pg185 rfl (by simp only [am_exec, am_inv, am_pop, am_lk, hk]; rfl) pg111 rfl rfl rfl
theorem sX6_judgeCaught_170 : Rn r 185 170 [l0, l1, l2, l3, l4, l5, l6, l7, l8, l9] [vI x0] h Q ↔ Rn r 185 172 [l0, l1, l2, l3, l4, l5, l6, l7, l8, some (vI x0)] [] h Q := Rn_nx pg185 rfl rfl
theorem sX6_judgeCaught_172 : Rn r 185 172 [l0, l1, l2, l3, l4, l5, l6, some (vI x), l8, l9] [] h Q ↔ Rn r 185 174 [l0, l1, l2, l3, l4, l5, l6, some (vI x), l8, l9] [vI x] h Q := Rn_nx pg185 rfl rfl
theorem sX6_judgeCaught_174 : Rn r 185 174 [l0, l1, l2, l3, l4, l5, l6, l7, l8, l9] [vI x0] h Q ↔ if x0 ≠ 0 then Rn r 185 205 [l0, l1, l2, l3, l4, l5, l6, l7, l8, l9] [] h Q else Rn r 185 177 [l0, l1, l2, l3, l4, l5, l6, l7, l8, l9] [] h Q := Rn_if pg185 rfl rfl rfl
theorem sX6_judgeCaught_177 : Rn r 185 177 [l0, l1, l2, l3, l4, l5, l6, l7, l8, some (vI x)] [] h Q ↔ Rn r 185 179 [l0, l1, l2, l3, l4, l5, l6, l7, l8, some (vI x)] [vI x] h Q := Rn_nx pg185 rfl rfl
theorem sX6_judgeCaught_179 : Rn r 185 179 [l0, l1, l2, l3, l4, l5, l6, l7, l8, l9] [vI x0] h Q ↔ Rn r 185 180 [l0, l1, l2, l3, l4, l5, l6, l7, l8, l9] [vI (-1), vI x0] h Q := Rn_nx pg185 rfl rfl
theorem sX6_judgeCaught_180 : Rn r 185 180 [l0, l1, l2, l3, l4, l5, l6, l7, l8, l9] [vI x0, vI x1] h Q ↔ if x1 = x0 then Rn r 185 209 [l0, l1, l2, l3, l4, l5, l6, l7, l8, l9] [] h Q else Rn r 185 183 [l0, l1, l2, l3, l4, l5, l6, l7, l8, l9] [] h Q := Rn_if pg185 rfl rfl rfl
theorem sX6_judgeCaught_183 : Rn r 185 183 [some (vR z), l1, l2, l3, l4, l5, l6, l7, l8, l9] [] h Q ↔ Rn r 185 184 [some (vR z), l1, l2, l3, l4, l5, l6, l7, l8, l9] [vR z] h Q := Rn_nx pg185 rfl rfl
theorem sX6_judgeCaught_184 : Rn r 185 184 [l0, l1, l2, l3, some (vI x), l5, l6, l7, l8, l9] [vR z0] h Q ↔ Rn r 185 186 [l0, l1, l2, l3, some (vI x), l5, l6, l7, l8, l9] [vI x, vR z0] h Q := Rn_nx pg185 rfl rfl
theorem sX6_judgeCaught_186 : Rn r 185 186 [l0, l1, l2, l3, l4, l5, l6, l7, l8, some (vI x)] [vI x0, vR z1] h Q ↔ Rn r 185 188 [l0, l1, l2, l3, l4, l5, l6, l7, l8, some (vI x)] [vI x, vI x0, vR z1] h Q := Rn_nx pg185 rfl rfl
theorem sX6_judgeCaught_188 (hk : hK h a2 = 15) : Rn r 185 188 [l0, l1, l2, l3, l4, l5, l6, l7, l8, l9] [vI x0, vI x1, vR (some a2)] h Q ↔ Cl r 48 [vR (some a2), vI x1, vI x0] h (Kt r 185 191 [l0, l1, l2, l3, l4, l5, l6, l7, l8, l9] [] Q) := Rn_call pg185 rfl (by simp only [am_exec, am_inv, am_pop, am_lk, hk]; rfl) pg48 rfl rfl rfl
theorem sX6_judgeCaught_191 : Rn r 185 191 [l0, l1, l2, l3, l4, l5, l6, l7, l8, l9] [vI x0] h Q ↔ if x0 ≠ 0 then Rn r 185 205 [l0, l1, l2, l3, l4, l5, l6, l7, l8, l9] [] h Q else Rn r 185 194 [l0, l1, l2, l3, l4, l5, l6, l7, l8, l9] [] h Q := Rn_if pg185 rfl rfl rfl
theorem sX6_judgeCaught_194 : Rn r 185 194 [some (vR z), l1, l2, l3, l4, l5, l6, l7, l8, l9] [] h Q ↔ Rn r 185 195 [some (vR z), l1, l2, l3, l4, l5, l6, l7, l8, l9] [vR z] h Q := Rn_nx pg185 rfl rfl
theorem sX6_judgeCaught_195 : Rn r 185 195 [l0, l1, l2, l3, l4, l5, l6, l7, l8, some (vI x)] [vR z0] h Q ↔ Rn r 185 197 [l0, l1, l2, l3, l4, l5, l6, l7, l8, some (vI x)] [vI x, vR z0] h Q := Rn_nx pg185 rfl rfl
theorem sX6_judgeCaught_197 : Rn r 185 197 [l0, l1, l2, l3, some (vI x), l5, l6, l7, l8, l9] [vI x0, vR z1] h Q ↔ Rn r 185 199 [l0, l1, l2, l3, some (vI x), l5, l6, l7, l8, l9] [vI x, vI x0, vR z1] h Q := Rn_nx pg185 rfl rfl
theorem sX6_judgeCaught_199 (hk : hK h a2 = 15) : Rn r 185 199 [l0, l1, l2, l3, l4, l5, l6, l7, l8, l9] [vI x0, vI x1, vR (some a2)] h Q ↔ Cl r 48 [vR (some a2), vI x1, vI x0] h (Kt r 185 202 [l0, l1, l2, l3, l4, l5, l6, l7, l8, l9] [] Q) := Rn_call pg185 rfl (by simp only [am_exec, am_inv, am_pop, am_lk, hk]; rfl) pg48 rfl rfl rfl
theorem sX6_judgeCaught_202 : Rn r 185 202 [l0, l1, l2, l3, l4, l5, l6, l7, l8, l9] [vI x0] h Q ↔ if x0 = 0 then Rn r 185 209 [l0, l1, l2, l3, l4, l5, l6, l7, l8, l9] [] h Q else Rn r 185 205 [l0, l1, l2, l3, l4, l5, l6, l7, l8, l9] [] h Q := Rn_if pg185 rfl rfl rfl
theorem sX6_judgeCaught_205 : Rn r 185 205 [l0, l1, l2, l3, l4, l5, l6, l7, l8, l9] [] h Q ↔ Rn r 185 206 [l0, l1, l2, l3, l4, l5, l6, l7, l8, l9] [vI 1] h Q := Rn_nx pg185 rfl rfl
theorem sX6_judgeCaught_206 : Rn r 185 206 [l0, l1, l2, l3, l4, l5, l6, l7, l8, l9] [vI x0] h Q ↔ Rn r 185 210 [l0, l1, l2, l3, l4, l5, l6, l7, l8, l9] [vI x0] h Q := Rn_nx pg185 rfl rfl
theorem sX6_judgeCaught_209 : Rn r 185 209 [l0, l1, l2, l3, l4, l5, l6, l7, l8, l9] [] h Q ↔ Rn r 185 210 [l0, l1, l2, l3, l4, l5, l6, l7, l8, l9] [vI 0] h Q := Rn_nx pg185 rfl rfl
theorem sX6_judgeCaught_210 : Rn r 185 210 [l0, l1, l2, l3, l4, l5, l6, l7, l8, l9] [vI x0] h Q ↔ Rn r 185 212 [l0, l1, l2, l3, l4, l5, l6, some (vI x0), l8, l9] [] h Q := Rn_nx pg185 rfl rfl
theorem sX6_judgeCaught_212 : Rn r 185 212 [l0, l1, l2, l3, l4, l5, l6, l7, some (vI x), l9] [] h Q ↔ Rn r 185 215 [l0, l1, l2, l3, l4, l5, l6, l7, some (vI (x + 1)), l9] [] h Q := Rn_nx pg185 rfl rfl
theorem sX6_judgeCaught_215 : Rn r 185 215 [l0, l1, l2, l3, l4, l5, l6, l7, l8, l9] [] h Q ↔ Rn r 185 157 [l0, l1, l2, l3, l4, l5, l6, l7, l8, l9] [] h Q := Rn_nx pg185 rfl rfl
theorem sX6_judgeCaught_218 : Rn r 185 218 [l0, l1, l2, l3, l4, l5, l6, some (vI x), l8, l9] [] h Q ↔ Rn r 185 220 [l0, l1, l2, l3, l4, l5, l6, some (vI x), l8, l9] [vI x] h Q := Rn_nx pg185 rfl rfl
theorem sX6_judgeCaught_220 : Rn r 185 220 [l0, l1, l2, l3, l4, l5, l6, l7, l8, l9] [vI x0] h Q ↔ if x0 = 0 then Rn r 185 232 [l0, l1, l2, l3, l4, l5, l6, l7, l8, l9] [] h Q else Rn r 185 223 [l0, l1, l2, l3, l4, l5, l6, l7, l8, l9] [] h Q := Rn_if pg185 rfl rfl rfl
theorem sX6_judgeCaught_223 : Rn r 185 223 [some (vR z), l1, l2, l3, l4, l5, l6, l7, l8, l9] [] h Q ↔ Rn r 185 224 [some (vR z), l1, l2, l3, l4, l5, l6, l7, l8, l9] [vR z] h Q := Rn_nx pg185 rfl rfl
theorem sX6_judgeCaught_224 : Rn r 185 224 [l0, l1, l2, l3, l4, l5, l6, l7, l8, l9] [vR z0] h Q ↔ Rn r 185 225 [l0, l1, l2, l3, l4, l5, l6, l7, l8, l9] [vI 5, vR z0] h Q := Rn_nx pg185 rfl rfl
theorem sX6_judgeCaught_225 : Rn r 185 225 [l0, l1, l2, l3, l4, some (vI x), l6, l7, l8, l9] [vI x0, vR z1] h Q ↔ Rn r 185 227 [l0, l1, l2, l3, l4, some (vI x), l6, l7, l8, l9] [vI x, vI x0, vR z1] h Q := Rn_nx pg185 rfl rfl
theorem sX6_judgeCaught_227 : Rn r 185 227 [l0, l1, l2, l3, some (vI x), l5, l6, l7, l8, l9] [vI x0, vI x1, vR z2] h Q ↔ Rn r 185 229 [l0, l1, l2, l3, some (vI x), l5, l6, l7, l8, l9] [vI x, vI x0, vI x1, vR z2] h Q := Rn_nx pg185 rfl rfl
theorem sX6_judgeCaught_229 (hk : hK h a3 = 15) : Rn r 185 229 [l0, l1, l2, l3, l4, l5, l6, l7, l8, l9] [vI x0, vI x1, vI x2, vR (some a3)] h Q ↔ Cl r 96 [vR (some a3), vI x2, vI x1, vI x0] h (Kt r 185 232 [l0, l1, l2, l3, l4, l5, l6, l7, l8, l9] [] Q) := Rn_call pg185 rfl (by simp only [am_exec, am_inv, am_pop, am_lk, hk]; rfl) pg96 rfl rfl rfl
theorem sX6_judgeCaught_232 : Rn r 185 232 [l0, l1, l2, l3, l4, l5, l6, l7, l8, l9] [] h Q ↔ Q (Sum.inl none) h := Rn_end pg185 rfl rfl
/-! 186 java/lang/AbstractStringBuilder.newCapacity(I)I -/
theorem eJ22_newCapacity : Cl r 186 [vR z0, vI x1] h Q ↔ Rn r 186 0 [some (vR z0), some (vI x1), none, none, none, none] [] h Q := Cl_in pg186 rfl
theorem sJ22_newCapacity_0 : Rn r 186 0 [some (vR z), l1, l2, l3, l4, l5] [] h Q ↔ Rn r 186 1 [some (vR z), l1, l2, l3, l4, l5] [vR z] h Q := Rn_nx pg186 rfl rfl
theorem sJ22_newCapacity_1 (hk : hK h a0 = 16) : Rn r 186 1 [l0, l1, l2, l3, l4, l5] [vR (some a0)] h Q ↔ Rn r 186 4 [l0, l1, l2, l3, l4, l5] [vR (hR h a0 0)] h Q := Rn_nx pg186 rfl (if_pos ⟨(hk ▸ Nat.le_refl _), (hk ▸ Nat.le_refl _)⟩)
theorem sJ22_newCapacity_4 (hk : 40 ≤ hK h a0) (hk2 : hK h a0 ≤ 49) : Rn r 186 4 [l0, l1, l2, l3, l4, l5] [vR (some a0)] h Q ↔ Rn r 186 5 [l0, l1, l2, l3, l4, l5] [vI (nI (hL h a0))] h Q := Rn_nx pg186 rfl (if_pos ⟨hk, hk2⟩)
theorem sJ22_newCapacity_5 : Rn r 186 5 [l0, l1, l2, l3, l4, l5] [vI x0] h Q ↔ Rn r 186 6 [l0, l1, some (vI x0), l3, l4, l5] [] h Q := Rn_nx pg186 rfl rfl
theorem sJ22_newCapacity_6 : Rn r 186 6 [l0, some (vI x), l2, l3, l4, l5] [] h Q ↔ Rn r 186 7 [l0, some (vI x), l2, l3, l4, l5] [vI x] h Q := Rn_nx pg186 rfl rfl
theorem sJ22_newCapacity_7 : Rn r 186 7 [some (vR z), l1, l2, l3, l4, l5] [vI x0] h Q ↔ Rn r 186 8 [some (vR z), l1, l2, l3, l4, l5] [vR z, vI x0] h Q := Rn_nx pg186 rfl rfl
theorem sJ22_newCapacity_8 (hk : hK h a0 = 16) : Rn r 186 8 [l0, l1, l2, l3, l4, l5] [vR (some a0), vI x1] h Q ↔ Rn r 186 11 [l0, l1, l2, l3, l4, l5] [vI (hI h a0 1), vI x1] h Q := Rn_nx pg186 rfl (if_pos ⟨(hk ▸ Nat.le_refl _), (hk ▸ Nat.le_refl _)⟩)
theorem sJ22_newCapacity_11 : Rn r 186 11 [l0, l1, l2, l3, l4, l5] [vI x0, vI x1] h Q ↔ Rn r 186 12 [l0, l1, l2, l3, l4, l5] [vI (x1 <<< (x0 &&& 31))] h Q := Rn_nx pg186 rfl rfl
theorem sJ22_newCapacity_12 : Rn r 186 12 [l0, l1, l2, l3, l4, l5] [vI x0] h Q ↔ Rn r 186 13 [l0, l1, l2, some (vI x0), l4, l5] [] h Q := Rn_nx pg186 rfl rfl
theorem sJ22_newCapacity_13 : Rn r 186 13 [l0, l1, l2, some (vI x), l4, l5] [] h Q ↔ Rn r 186 14 [l0, l1, l2, some (vI x), l4, l5] [vI x] h Q := Rn_nx pg186 rfl rfl
theorem sJ22_newCapacity_14 : Rn r 186 14 [l0, l1, some (vI x), l3, l4, l5] [vI x0] h Q ↔ Rn r 186 15 [l0, l1, some (vI x), l3, l4, l5] [vI x, vI x0] h Q := Rn_nx pg186 rfl rfl
theorem sJ22_newCapacity_15 : Rn r 186 15 [l0, l1, l2, l3, l4, l5] [vI x0, vI x1] h Q ↔ Rn r 186 16 [l0, l1, l2, l3, l4, l5] [vI (x1 - x0)] h Q := Rn_nx pg186 rfl rfl
theorem sJ22_newCapacity_16 : Rn r 186 16 [l0, l1, l2, l3, l4, l5] [vI x0] h Q ↔ Rn r 186 18 [l0, l1, l2, l3, some (vI x0), l5] [] h Q := Rn_nx pg186 rfl rfl
theorem sJ22_newCapacity_18 : Rn r 186 18 [l0, l1, some (vI x), l3, l4, l5] [] h Q ↔ Rn r 186 19 [l0, l1, some (vI x), l3, l4, l5] [vI x] h Q := Rn_nx pg186 rfl rfl
theorem sJ22_newCapacity_19 : Rn r 186 19 [l0, l1, l2, l3, some (vI x), l5] [vI x0] h Q ↔ Rn r 186 21 [l0, l1, l2, l3, some (vI x), l5] [vI x, vI x0] h Q := Rn_nx pg186 rfl rfl
theorem sJ22_newCapacity_21 : Rn r 186 21 [l0, l1, some (vI x), l3, l4, l5] [vI x0, vI x1] h Q ↔ Rn r 186 22 [l0, l1, some (vI x), l3, l4, l5] [vI x, vI x0, vI x1] h Q := Rn_nx pg186 rfl rfl
theorem sJ22_newCapacity_22 : Rn r 186 22 [l0, l1, l2, l3, l4, l5] [vI x0, vI x1, vI x2] h Q ↔ Rn r 186 23 [l0, l1, l2, l3, l4, l5] [vI 2, vI x0, vI x1, vI x2] h Q := Rn_nx pg186 rfl rfl
theorem sJ22_newCapacity_23 : Rn r 186 23 [some (vR z), l1, l2, l3, l4, l5] [vI x0, vI x1, vI x2, vI x3] h Q ↔ Rn r 186 24 [some (vR z), l1, l2, l3, l4, l5] [vR z, vI x0, vI x1, vI x2, vI x3] h Q := Rn_nx pg186 rfl rfl
theorem sJ22_newCapacity_24 (hk : hK h a0 = 16) : Rn r 186 24 [l0, l1, l2, l3, l4, l5] [vR (some a0), vI x1, vI x2, vI x3, vI x4] h Q ↔ Rn r 186 27 [l0, l1, l2, l3, l4, l5] [vI (hI h a0 1), vI x1, vI x2, vI x3, vI x4] h Q := Rn_nx pg186 rfl (if_pos ⟨(hk ▸ Nat.le_refl _), (hk ▸ Nat.le_refl _)⟩)
theorem sJ22_newCapacity_27 : Rn r 186 27 [l0, l1, l2, l3, l4, l5] [vI x0, vI x1, vI x2, vI x3, vI x4] h Q ↔ Rn r 186 28 [l0, l1, l2, l3, l4, l5] [vI (x1 <<< (x0 &&& 31)), vI x2, vI x3, vI x4] h Q := Rn_nx pg186 rfl rfl
theorem sJ22_newCapacity_28 : Rn r 186 28 [l0, l1, l2, l3, l4, l5] [vI x0, vI x1, vI x2, vI x3] h Q ↔ Rn r 186 29 [l0, l1, l2, l3, l4, l5] [vI (x1 + x0), vI x2, vI x3] h Q := Rn_nx pg186 rfl rfl
theorem sJ22_newCapacity_29 : Rn r 186 29 [l0, l1, l2, l3, l4, l5] [vI x0, vI x1, vI x2] h Q ↔ Cl r 245 [vI x2, vI x1, vI x0] h (Kt r 186 32 [l0, l1, l2, l3, l4, l5] [] Q) := Rn_call pg186 rfl rfl pg245 rfl rfl rfl
theorem sJ22_newCapacity_32 : Rn r 186 32 [l0, l1, l2, l3, l4, l5] [vI x0] h Q ↔ Rn r 186 34 [l0, l1, l2, l3, l4, some (vI x0)] [] h Q := Rn_nx pg186 rfl rfl
theorem sJ22_newCapacity_34 : Rn r 186 34 [l0, l1, l2, l3, l4, some (vI x)] [] h Q ↔ Rn r 186 36 [l0, l1, l2, l3, l4, some (vI x)] [vI x] h Q := Rn_nx pg186 rfl rfl
theorem sJ22_newCapacity_36 : Rn r 186 36 [l0, l1, l2, l3, l4, l5] [vI x0] h Q ↔ Rn r 186 38 [l0, l1, l2, l3, l4, l5] [vI 2147483647, vI x0] h Q := Rn_nx pg186 rfl rfl
theorem sJ22_newCapacity_38 : Rn r 186 38 [l0, l1, l2, l3, l4, l5] [vI x0, vI x1] h Q ↔ if x1 ≠ x0 then Rn r 186 51 [l0, l1, l2, l3, l4, l5] [] h Q else Rn r 186 41 [l0, l1, l2, l3, l4, l5] [] h Q := Rn_if pg186 rfl rfl rfl
theorem sJ22_newCapacity_44 : Rn r 186 44 [l0, l1, l2, l3, l4, l5] [vR z0] h Q ↔ Rn r 186 45 [l0, l1, l2, l3, l4, l5] [vR z0, vR z0] h Q := Rn_nx pg186 rfl rfl
theorem sJ22_newCapacity_51 : Rn r 186 51 [l0, l1, l2, l3, l4, some (vI x)] [] h Q ↔ Rn r 186 53 [l0, l1, l2, l3, l4, some (vI x)] [vI x] h Q := Rn_nx pg186 rfl rfl
theorem sJ22_newCapacity_53 : Rn r 186 53 [some (vR z), l1, l2, l3, l4, l5] [vI x0] h Q ↔ Rn r 186 54 [some (vR z), l1, l2, l3, l4, l5] [vR z, vI x0] h Q := Rn_nx pg186 rfl rfl
theorem sJ22_newCapacity_54 (hk : hK h a0 = 16) : Rn r 186 54 [l0, l1, l2, l3, l4, l5] [vR (some a0), vI x1] h Q ↔ Rn r 186 57 [l0, l1, l2, l3, l4, l5] [vI (hI h a0 1), vI x1] h Q := Rn_nx pg186 rfl (if_pos ⟨(hk ▸ Nat.le_refl _), (hk ▸ Nat.le_refl _)⟩)
theorem sJ22_newCapacity_57 : Rn r 186 57 [l0, l1, l2, l3, l4, l5] [vI x0, vI x1] h Q ↔ Rn r 186 58 [l0, l1, l2, l3, l4, l5] [vI (x1 >>> (x0 &&& 31))] h Q := Rn_nx pg186 rfl rfl
theorem sJ22_newCapacity_58 : Rn r 186 58 [l0, l1, l2, l3, l4, l5] [vI x0] h Q ↔ Q (Sum.inl (some (vI x0))) h := Rn_end pg186 rfl rfl
/-! 187 java/util/Arrays.copyOf([BI)[B -/
theorem eJ10_copyOf_3 : Cl r 187 [vR z0, vI x1] h Q ↔ Rn r 187 0 [some (vR z0), some (vI x1), none] [] h Q := Cl_in pg187 rfl
theorem sJ10_copyOf_3_0 : Rn r 187 0 [l0, some (vI x), l2] [] h Q ↔ Rn r 187 1 [l0, some (vI x), l2] [vI x] h Q := Rn_nx pg187 rfl rfl
theorem sJ10_copyOf_3_1 : Rn r 187 1 [some (vR z), l1, l2] [vI x0] h Q ↔ Rn r 187 2 [some (vR z), l1, l2] [vR z, vI x0] h Q := Rn_nx pg187 rfl rfl
theorem sJ10_copyOf_3_2 (hk : 40 ≤ hK h a0) (hk2 : hK h a0 ≤ 49) : Rn r 187 2 [l0, l1, l2] [vR (some a0), vI x1] h Q ↔ Rn r 187 3 [l0, l1, l2] [vI (nI (hL h a0)), vI x1] h Q := Rn_nx pg187 rfl (if_pos ⟨hk, hk2⟩)
theorem sJ10_copyOf_3_3 : Rn r 187 3 [l0, l1, l2] [vI x0, vI x1] h Q ↔ if x1 ≠ x0 then Rn r 187 14 [l0, l1, l2] [] h Q else Rn r 187 6 [l0, l1, l2] [] h Q := Rn_if pg187 rfl rfl rfl
theorem sJ10_copyOf_3_6 : Rn r 187 6 [some (vR z), l1, l2] [] h Q ↔ Rn r 187 7 [some (vR z), l1, l2] [vR z] h Q := Rn_nx pg187 rfl rfl
theorem sJ10_copyOf_3_7 (hk : hK h a0 = 44) : Rn r 187 7 [l0, l1, l2] [vR (some a0)] h Q ↔ Rn r 187 10 [l0, l1, l2] [vR (some (hN h))] (cpyI (newC h 44 (hL h a0)) a0 0 (hN h) 0 (hL h a0)) Q := Rn_nx pg187 rfl (if_pos ⟨by decide, hk⟩)
theorem sJ10_copyOf_3_10_n : Rn r 187 10 [l0, l1, l2] [vR none] h Q ↔ Rn r 187 13 [l0, l1, l2] [vR none] h Q := Rn_nx pg187 rfl rfl
theorem sJ10_copyOf_3_10 (hk : hK h a0 ∈ [44, 45]) : Rn r 187 10 [l0, l1, l2] [vR (some a0)] h Q ↔ Rn r 187 13 [l0, l1, l2] [vR (some a0)] h Q := Rn_nx pg187 rfl (if_pos hk)
theorem sJ10_copyOf_3_13 : Rn r 187 13 [l0, l1, l2] [vR z0] h Q ↔ Q (Sum.inl (some (vR z0))) h := Rn_end pg187 rfl rfl
theorem sJ10_copyOf_3_14 : Rn r 187 14 [l0, some (vI x), l2] [] h Q ↔ Rn r 187 15 [l0, some (vI x), l2] [vI x] h Q := Rn_nx pg187 rfl rfl
theorem sJ10_copyOf_3_15 (hn : ¬ (x0 < 0 ∨ 65536 < x0.toNatClampNeg)) : Rn r 187 15 [l0, l1, l2] [vI x0] h Q ↔ Rn r 187 17 [l0, l1, l2] [vR (some (hN h))] (newC h 44 x0.toNatClampNeg) Q := Rn_nx pg187 rfl (if_neg hn)
theorem sJ10_copyOf_3_17 : Rn r 187 17 [l0, l1, l2] [vR z0] h Q ↔ Rn r 187 18 [l0, l1, some (vR z0)] [] h Q := Rn_nx pg187 rfl rfl
theorem sJ10_copyOf_3_18 : Rn r 187 18 [some (vR z), l1, l2] [] h Q ↔ Rn r 187 19 [some (vR z), l1, l2] [vR z] h Q := Rn_nx pg187 rfl rfl
theorem sJ10_copyOf_3_19 : Rn r 187 19 [l0, l1, l2] [vR z0] h Q ↔ Rn r 187 20 [l0, l1, l2] [vI 0, vR z0] h Q := Rn_nx pg187 rfl rfl
theorem sJ10_copyOf_3_20 : Rn r 187 20 [l0, l1, some (vR z)] [vI x0, vR z1] h Q ↔ Rn r 187 21 [l0, l1, some (vR z)] [vR z, vI x0, vR z1] h Q := Rn_nx pg187 rfl rfl
theorem sJ10_copyOf_3_21 : Rn r 187 21 [l0, l1, l2] [vR z0, vI x1, vR z2] h Q ↔ Rn r 187 22 [l0, l1, l2] [vI 0, vR z0, vI x1, vR z2] h Q := Rn_nx pg187 rfl rfl
theorem sJ10_copyOf_3_22 : Rn r 187 22 [some (vR z), l1, l2] [vI x0, vR z1, vI x2, vR z3] h Q ↔ Rn r 187 23 [some (vR z), l1, l2] [vR z, vI x0, vR z1, vI x2, vR z3] h Q := Rn_nx pg187 rfl rfl
theorem sJ10_copyOf_3_23 (hk : 40 ≤ hK h a0) (hk2 : hK h a0 ≤ 49) : Rn r 187 23 [l0, l1, l2] [vR (some a0), vI x1, vR z2, vI x3, vR z4] h Q ↔ Rn r 187 24 [l0, l1, l2] [vI (nI (hL h a0)), vI x1, vR z2, vI x3, vR z4] h Q := Rn_nx pg187 rfl (if_pos ⟨hk, hk2⟩)
theorem sJ10_copyOf_3_24 : Rn r 187 24 [l0, some (vI x), l2] [vI x0, vI x1, vR z2, vI x3, vR z4] h Q ↔ Rn r 187 25 [l0, some (vI x), l2] [vI x, vI x0, vI x1, vR z2, vI x3, vR z4] h Q := Rn_nx pg187 rfl rfl
theorem sJ10_copyOf_3_25 : Rn r 187 25 [l0, l1, l2] [vI x0, vI x1, vI x2, vR z3, vI x4, vR z5] h Q ↔ Cl r 246 [vI x1, vI x0] h (Kt r 187 28 [l0, l1, l2] [vI x2, vR z3, vI x4, vR z5] Q) := Rn_call pg187 rfl rfl pg246 rfl rfl rfl
theorem sJ10_copyOf_3_28 (h0 : 0 ≤ x0 ∧ 0 ≤ x3 ∧ 0 ≤ x1 ∧ x3.toNatClampNeg + x0.toNatClampNeg ≤ hL h a4 ∧ x1.toNatClampNeg + x0.toNatClampNeg ≤ hL h a2) (hk : (hK h a4 = 44 ∨ hK h a4 = 45) ∧ hK h a2 = 44) : Rn r 187 28 [l0, l1, l2] [vI x0, vI x1, vR (some a2), vI x3, vR (some a4)] h Q ↔ Rn r 187 31 [l0, l1, l2] [] (cpyI h a4 x3.toNatClampNeg a2 x1.toNatClampNeg x0.toNatClampNeg) Q := Rn_nx pg187 rfl ((if_pos ⟨by decide, h0⟩).trans (if_pos hk))
theorem sJ10_copyOf_3_28_r (h0 : 0 ≤ x0 ∧ 0 ≤ x3 ∧ 0 ≤ x1 ∧ x3.toNatClampNeg + x0.toNatClampNeg ≤ hL h a4 ∧ x1.toNatClampNeg + x0.toNatClampNeg ≤ hL h a2) (hk : (hK h a4 = 46 ∨ hK h a4 = 47) ∧ hK h a2 = 46) : Rn r 187 28 [l0, l1, l2] [vI x0, vI x1, vR (some a2), vI x3, vR (some a4)] h Q ↔ Rn r 187 31 [l0, l1, l2] [] (cpyR h a4 x3.toNatClampNeg a2 x1.toNatClampNeg x0.toNatClampNeg) Q := Rn_nx pg187 rfl ((if_pos ⟨by decide, h0⟩).trans ((if_neg (fun q => by rw [hk.2] at q; exact absurd q.2 (by decide))).trans (if_pos hk)))
theorem sJ10_copyOf_3_31 : Rn r 187 31 [l0, l1, some (vR z)] [] h Q ↔ Rn r 187 32 [l0, l1, some (vR z)] [vR z] h Q := Rn_nx pg187 rfl rfl
theorem sJ10_copyOf_3_32 : Rn r 187 32 [l0, l1, l2] [vR z0] h Q ↔ Q (Sum.inl (some (vR z0))) h := Rn_end pg187 rfl rfl
/-! 188 java/lang/AbstractStringBuilder.getValue()[B -/
theorem eJ22_getValue : Cl r 188 [vR z0] h Q ↔ Rn r 188 0 [some (vR z0)] [] h Q := Cl_in pg188 rfl
theorem sJ22_getValue_0 : Rn r 188 0 [some (vR z)] [] h Q ↔ Rn r 188 1 [some (vR z)] [vR z] h Q := Rn_nx pg188 rfl rfl
theorem sJ22_getValue_1 (hk : hK h a0 = 16) : Rn r 188 1 [l0] [vR (some a0)] h Q ↔ Rn r 188 4 [l0] [vR (hR h a0 0)] h Q := Rn_nx pg188 rfl (if_pos ⟨(hk ▸ Nat.le_refl _), (hk ▸ Nat.le_refl _)⟩)
theorem sJ22_getValue_4 : Rn r 188 4 [l0] [vR z0] h Q ↔ Q (Sum.inl (some (vR z0))) h := Rn_end pg188 rfl rfl
/-! 189 java/lang/StringBuilder.length()I -/
theorem eJ23_length : Cl r 189 [vR z0] h Q ↔ Rn r 189 0 [some (vR z0)] [] h Q := Cl_in pg189 rfl
theorem sJ23_length_0 : Rn r 189 0 [some (vR z)] [] h Q ↔ Rn r 189 1 [some (vR z)] [vR z] h Q := Rn_nx pg189 rfl rfl
theorem sJ23_length_1 (hk : 0 < hK h a0) (hk2 : hK h a0 < 40) : Rn r 189 1 [l0] [vR (some a0)] h Q ↔ Cl r 247 [vR (some a0)] h (Kt r 189 4 [l0] [] Q) := Rn_call pg189 rfl (if_pos ⟨hk, hk2⟩) pg247 rfl rfl rfl
theorem sJ23_length_4 : Rn r 189 4 [l0] [vI x0] h Q ↔ Q (Sum.inl (some (vI x0))) h := Rn_end pg189 rfl rfl
/-! 190 java/util/Arrays.copyOfRange([BII)[B -/
theorem eJ10_copyOfRange : Cl r 190 [vR z0, vI x1, vI x2] h Q ↔ Rn r 190 0 [some (vR z0), some (vI x1), some (vI x2)] [] h Q := Cl_in pg190 rfl
theorem sJ10_copyOfRange_0 : Rn r 190 0 [l0, some (vI x), l2] [] h Q ↔ Rn r 190 1 [l0, some (vI x), l2] [vI x] h Q := Rn_nx pg190 rfl rfl
theorem sJ10_copyOfRange_1 : Rn r 190 1 [l0, l1, l2] [vI x0] h Q ↔ if x0 ≠ 0 then Rn r 190 10 [l0, l1, l2] [] h Q else Rn r 190 4 [l0, l1, l2] [] h Q := Rn_if pg190 rfl rfl rfl
theorem sJ10_copyOfRange_4 : Rn r 190 4 [l0, l1, some (vI x)] [] h Q ↔ Rn r 190 5 [l0, l1, some (vI x)] [vI x] h Q := Rn_nx pg190 rfl rfl
theorem sJ10_copyOfRange_5 : Rn r 190 5 [some (vR z), l1, l2] [vI x0] h Q ↔ Rn r 190 6 [some (vR z), l1, l2] [vR z, vI x0] h Q := Rn_nx pg190 rfl rfl
theorem sJ10_copyOfRange_6 (hk : 40 ≤ hK h a0) (hk2 : hK h a0 ≤ 49) : Rn r 190 6 [l0, l1, l2] [vR (some a0), vI x1] h Q ↔ Rn r 190 7 [l0, l1, l2] [vI (nI (hL h a0)), vI x1] h Q := Rn_nx pg190 rfl (if_pos ⟨hk, hk2⟩)
theorem sJ10_copyOfRange_7 : Rn r 190 7 [l0, l1, l2] [vI x0, vI x1] h Q ↔ if x1 = x0 then Rn r 190 17 [l0, l1, l2] [] h Q else Rn r 190 10 [l0, l1, l2] [] h Q := Rn_if pg190 rfl rfl rfl
theorem sJ10_copyOfRange_10 : Rn r 190 10 [some (vR z), l1, l2] [] h Q ↔ Rn r 190 11 [some (vR z), l1, l2] [vR z] h Q := Rn_nx pg190 rfl rfl
theorem sJ10_copyOfRange_11 : Rn r 190 11 [l0, some (vI x), l2] [vR z0] h Q ↔ Rn r 190 12 [l0, some (vI x), l2] [vI x, vR z0] h Q := Rn_nx pg190 rfl rfl
theorem sJ10_copyOfRange_12 : Rn r 190 12 [l0, l1, some (vI x)] [vI x0, vR z1] h Q ↔ Rn r 190 13 [l0, l1, some (vI x)] [vI x, vI x0, vR z1] h Q := Rn_nx pg190 rfl rfl
theorem sJ10_copyOfRange_13 : Rn r 190 13 [l0, l1, l2] [vI x0, vI x1, vR z2] h Q ↔ Cl r 248 [vR z2, vI x1, vI x0] h (Kt r 190 16 [l0, l1, l2] [] Q) := Rn_call pg190 rfl rfl pg248 rfl rfl rfl
theorem sJ10_copyOfRange_16 : Rn r 190 16 [l0, l1, l2] [vR z0] h Q ↔ Q (Sum.inl (some (vR z0))) h := Rn_end pg190 rfl rfl
theorem sJ10_copyOfRange_17 : Rn r 190 17 [some (vR z), l1, l2] [] h Q ↔ Rn r 190 18 [some (vR z), l1, l2] [vR z] h Q := Rn_nx pg190 rfl rfl
theorem sJ10_copyOfRange_18 (hk : hK h a0 = 44) : Rn r 190 18 [l0, l1, l2] [vR (some a0)] h Q ↔ Rn r 190 21 [l0, l1, l2] [vR (some (hN h))] (cpyI (newC h 44 (hL h a0)) a0 0 (hN h) 0 (hL h a0)) Q := Rn_nx pg190 rfl (if_pos ⟨by decide, hk⟩)
theorem sJ10_copyOfRange_21_n : Rn r 190 21 [l0, l1, l2] [vR none] h Q ↔ Rn r 190 24 [l0, l1, l2] [vR none] h Q := Rn_nx pg190 rfl rfl
theorem sJ10_copyOfRange_21 (hk : hK h a0 ∈ [44, 45]) : Rn r 190 21 [l0, l1, l2] [vR (some a0)] h Q ↔ Rn r 190 24 [l0, l1, l2] [vR (some a0)] h Q := Rn_nx pg190 rfl (if_pos hk)
theorem sJ10_copyOfRange_24 : Rn r 190 24 [l0, l1, l2] [vR z0] h Q ↔ Q (Sum.inl (some (vR z0))) h := Rn_end pg190 rfl rfl
/-! 191 java/lang/String.hashCode()I -/
theorem eJ13_hashCode : Cl r 191 [vR z0] h Q ↔ Rn r 191 0 [some (vR z0), none] [] h Q := Cl_in pg191 rfl
theorem sJ13_hashCode_0 : Rn r 191 0 [some (vR z), l1] [] h Q ↔ Rn r 191 1 [some (vR z), l1] [vR z] h Q := Rn_nx pg191 rfl rfl
theorem sJ13_hashCode_1 (hk : 10 ≤ hK h a0) (hk2 : hK h a0 ≤ 11) : Rn r 191 1 [l0, l1] [vR (some a0)] h Q ↔ Rn r 191 4 [l0, l1] [vI (hI h a0 2)] h Q := Rn_nx pg191 rfl (if_pos ⟨hk, hk2⟩)
theorem sJ13_hashCode_4 : Rn r 191 4 [l0, l1] [vI x0] h Q ↔ Rn r 191 5 [l0, some (vI x0)] [] h Q := Rn_nx pg191 rfl rfl
theorem sJ13_hashCode_5 : Rn r 191 5 [l0, some (vI x)] [] h Q ↔ Rn r 191 6 [l0, some (vI x)] [vI x] h Q := Rn_nx pg191 rfl rfl
theorem sJ13_hashCode_6 : Rn r 191 6 [l0, l1] [vI x0] h Q ↔ if x0 ≠ 0 then Rn r 191 58 [l0, l1] [] h Q else Rn r 191 9 [l0, l1] [] h Q := Rn_if pg191 rfl rfl rfl
theorem sJ13_hashCode_9 : Rn r 191 9 [some (vR z), l1] [] h Q ↔ Rn r 191 10 [some (vR z), l1] [vR z] h Q := Rn_nx pg191 rfl rfl
theorem sJ13_hashCode_10 (hk : 10 ≤ hK h a0) (hk2 : hK h a0 ≤ 11) : Rn r 191 10 [l0, l1] [vR (some a0)] h Q ↔ Rn r 191 13 [l0, l1] [vI (hI h a0 3)] h Q := Rn_nx pg191 rfl (if_pos ⟨hk, hk2⟩)
theorem sJ13_hashCode_13 : Rn r 191 13 [l0, l1] [vI x0] h Q ↔ if x0 ≠ 0 then Rn r 191 58 [l0, l1] [] h Q else Rn r 191 16 [l0, l1] [] h Q := Rn_if pg191 rfl rfl rfl
theorem sJ13_hashCode_16 : Rn r 191 16 [some (vR z), l1] [] h Q ↔ Rn r 191 17 [some (vR z), l1] [vR z] h Q := Rn_nx pg191 rfl rfl
theorem sJ13_hashCode_17 (hk : 10 ≤ hK h a0) (hk2 : hK h a0 ≤ 11) : Rn r 191 17 [l0, l1] [vR (some a0)] h Q ↔ Cl r 212 [vR (some a0)] h (Kt r 191 20 [l0, l1] [] Q) := Rn_call pg191 rfl (by rcases am_rng2 hk hk2 with q | q <;> simp only [am_exec, am_inv, am_pop, am_lk, q] <;> rfl) pg212 rfl rfl rfl
theorem sJ13_hashCode_20 : Rn r 191 20 [l0, l1] [vI x0] h Q ↔ if x0 = 0 then Rn r 191 33 [l0, l1] [] h Q else Rn r 191 23 [l0, l1] [] h Q := Rn_if pg191 rfl rfl rfl
theorem sJ13_hashCode_23 : Rn r 191 23 [some (vR z), l1] [] h Q ↔ Rn r 191 24 [some (vR z), l1] [vR z] h Q := Rn_nx pg191 rfl rfl
theorem sJ13_hashCode_24 (hk : 10 ≤ hK h a0) (hk2 : hK h a0 ≤ 11) : Rn r 191 24 [l0, l1] [vR (some a0)] h Q ↔ Rn r 191 27 [l0, l1] [vR (hR h a0 0)] h Q := Rn_nx pg191 rfl (if_pos ⟨hk, hk2⟩)
theorem sJ13_hashCode_27 : Rn r 191 27 [l0, l1] [vR z0] h Q ↔ Cl r 249 [vR z0] h (Kt r 191 30 [l0, l1] [] Q) := Rn_call pg191 rfl rfl pg249 rfl rfl rfl
theorem sJ13_hashCode_30 : Rn r 191 30 [l0, l1] [vI x0] h Q ↔ Rn r 191 40 [l0, l1] [vI x0] h Q := Rn_nx pg191 rfl rfl
theorem sJ13_hashCode_33 : Rn r 191 33 [some (vR z), l1] [] h Q ↔ Rn r 191 34 [some (vR z), l1] [vR z] h Q := Rn_nx pg191 rfl rfl
theorem sJ13_hashCode_34 (hk : 10 ≤ hK h a0) (hk2 : hK h a0 ≤ 11) : Rn r 191 34 [l0, l1] [vR (some a0)] h Q ↔ Rn r 191 37 [l0, l1] [vR (hR h a0 0)] h Q := Rn_nx pg191 rfl (if_pos ⟨hk, hk2⟩)
theorem sJ13_hashCode_40 : Rn r 191 40 [l0, l1] [vI x0] h Q ↔ Rn r 191 41 [l0, some (vI x0)] [] h Q := Rn_nx pg191 rfl rfl
theorem sJ13_hashCode_41 : Rn r 191 41 [l0, some (vI x)] [] h Q ↔ Rn r 191 42 [l0, some (vI x)] [vI x] h Q := Rn_nx pg191 rfl rfl
theorem sJ13_hashCode_42 : Rn r 191 42 [l0, l1] [vI x0] h Q ↔ if x0 ≠ 0 then Rn r 191 53 [l0, l1] [] h Q else Rn r 191 45 [l0, l1] [] h Q := Rn_if pg191 rfl rfl rfl
theorem sJ13_hashCode_45 : Rn r 191 45 [some (vR z), l1] [] h Q ↔ Rn r 191 46 [some (vR z), l1] [vR z] h Q := Rn_nx pg191 rfl rfl
theorem sJ13_hashCode_46 : Rn r 191 46 [l0, l1] [vR z0] h Q ↔ Rn r 191 47 [l0, l1] [vI 1, vR z0] h Q := Rn_nx pg191 rfl rfl
theorem sJ13_hashCode_47 (hk : hK h a1 = 10) (hf : am_fit 4 x0 = true) : Rn r 191 47 [l0, l1] [vI x0, vR (some a1)] h Q ↔ Rn r 191 50 [l0, l1] [] (putI h a1 3 x0) Q := Rn_nx pg191 rfl ((if_pos ⟨(hk ▸ Nat.le_refl _), (hk ▸ Nat.le_refl _)⟩).trans (if_pos hf))
theorem sJ13_hashCode_50 : Rn r 191 50 [l0, l1] [] h Q ↔ Rn r 191 58 [l0, l1] [] h Q := Rn_nx pg191 rfl rfl
theorem sJ13_hashCode_53 : Rn r 191 53 [some (vR z), l1] [] h Q ↔ Rn r 191 54 [some (vR z), l1] [vR z] h Q := Rn_nx pg191 rfl rfl
theorem sJ13_hashCode_54 : Rn r 191 54 [l0, some (vI x)] [vR z0] h Q ↔ Rn r 191 55 [l0, some (vI x)] [vI x, vR z0] h Q := Rn_nx pg191 rfl rfl
theorem sJ13_hashCode_55 (hk : hK h a1 = 10) : Rn r 191 55 [l0, l1] [vI x0, vR (some a1)] h Q ↔ Rn r 191 58 [l0, l1] [] (putI h a1 2 x0) Q := Rn_nx pg191 rfl ((if_pos ⟨(hk ▸ Nat.le_refl _), (hk ▸ Nat.le_refl _)⟩).trans rfl)
theorem sJ13_hashCode_58 : Rn r 191 58 [l0, some (vI x)] [] h Q ↔ Rn r 191 59 [l0, some (vI x)] [vI x] h Q := Rn_nx pg191 rfl rfl
theorem sJ13_hashCode_59 : Rn r 191 59 [l0, l1] [vI x0] h Q ↔ Q (Sum.inl (some (vI x0))) h := Rn_end pg191 rfl rfl
/-! 192 java/util/HashMap$TreeNode.root()Ljava/util/HashMap$TreeNode; -/
theorem eJ21_root : Cl r 192 [vR z0] h Q ↔ Rn r 192 0 [some (vR z0), none, none] [] h Q := Cl_in pg192 rfl
theorem sJ21_root_0 : Rn r 192 0 [some (vR z), l1, l2] [] h Q ↔ Rn r 192 1 [some (vR z), l1, l2] [vR z] h Q := Rn_nx pg192 rfl rfl
theorem sJ21_root_1 : Rn r 192 1 [l0, l1, l2] [vR z0] h Q ↔ Rn r 192 2 [l0, some (vR z0), l2] [] h Q := Rn_nx pg192 rfl rfl
theorem sJ21_root_2 : Rn r 192 2 [l0, some (vR z), l2] [] h Q ↔ Rn r 192 3 [l0, some (vR z), l2] [vR z] h Q := Rn_nx pg192 rfl rfl
theorem sJ21_root_3 (hk : hK h a0 = 13) : Rn r 192 3 [l0, l1, l2] [vR (some a0)] h Q ↔ Rn r 192 6 [l0, l1, l2] [vR (hR h a0 4)] h Q := Rn_nx pg192 rfl (if_pos ⟨(hk ▸ Nat.le_refl _), (hk ▸ Nat.le_refl _)⟩)
theorem sJ21_root_6 : Rn r 192 6 [l0, l1, l2] [vR z0] h Q ↔ Rn r 192 7 [l0, l1, l2] [vR z0, vR z0] h Q := Rn_nx pg192 rfl rfl
theorem sJ21_root_7 : Rn r 192 7 [l0, l1, l2] [vR z0, vR z1] h Q ↔ Rn r 192 8 [l0, l1, some (vR z0)] [vR z1] h Q := Rn_nx pg192 rfl rfl
theorem sJ21_root_8 : Rn r 192 8 [l0, l1, l2] [vR z0] h Q ↔ if z0 ≠ none then Rn r 192 13 [l0, l1, l2] [] h Q else Rn r 192 11 [l0, l1, l2] [] h Q := Rn_if pg192 rfl rfl rfl
theorem sJ21_root_11 : Rn r 192 11 [l0, some (vR z), l2] [] h Q ↔ Rn r 192 12 [l0, some (vR z), l2] [vR z] h Q := Rn_nx pg192 rfl rfl
theorem sJ21_root_12 : Rn r 192 12 [l0, l1, l2] [vR z0] h Q ↔ Q (Sum.inl (some (vR z0))) h := Rn_end pg192 rfl rfl
theorem sJ21_root_13 : Rn r 192 13 [l0, l1, some (vR z)] [] h Q ↔ Rn r 192 14 [l0, l1, some (vR z)] [vR z] h Q := Rn_nx pg192 rfl rfl
theorem sJ21_root_14 : Rn r 192 14 [l0, l1, l2] [vR z0] h Q ↔ Rn r 192 15 [l0, some (vR z0), l2] [] h Q := Rn_nx pg192 rfl rfl
theorem sJ21_root_15 : Rn r 192 15 [l0, l1, l2] [] h Q ↔ Rn r 192 2 [l0, l1, l2] [] h Q := Rn_nx pg192 rfl rfl
/-! 193 java/util/HashMap$TreeNode.find(ILjava/lang/Object;Ljava/lang/Class;)Ljava/util/HashMap$TreeNode; -/
theorem eJ21_find : Cl r 193 [vR z0, vI x1, vR z2, vR z3] h Q ↔ Rn r 193 0 [some (vR z0), some (vI x1), some (vR z2), some (vR z3), none, none, none, none, none, none, none] [] h Q := Cl_in pg193 rfl
theorem sJ21_find_0 : Rn r 193 0 [some (vR z), l1, l2, l3, l4, l5, l6, l7, l8, l9, l10] [] h Q ↔ Rn r 193 1 [some (vR z), l1, l2, l3, l4, l5, l6, l7, l8, l9, l10] [vR z] h Q := Rn_nx pg193 rfl rfl
theorem sJ21_find_1 : Rn r 193 1 [l0, l1, l2, l3, l4, l5, l6, l7, l8, l9, l10] [vR z0] h Q ↔ Rn r 193 3 [l0, l1, l2, l3, some (vR z0), l5, l6, l7, l8, l9, l10] [] h Q := Rn_nx pg193 rfl rfl
theorem sJ21_find_3 : Rn r 193 3 [l0, l1, l2, l3, some (vR z), l5, l6, l7, l8, l9, l10] [] h Q ↔ Rn r 193 5 [l0, l1, l2, l3, some (vR z), l5, l6, l7, l8, l9, l10] [vR z] h Q := Rn_nx pg193 rfl rfl
theorem sJ21_find_5 (hk : hK h a0 = 13) : Rn r 193 5 [l0, l1, l2, l3, l4, l5, l6, l7, l8, l9, l10] [vR (some a0)] h Q ↔ Rn r 193 8 [l0, l1, l2, l3, l4, l5, l6, l7, l8, l9, l10] [vR (hR h a0 5)] h Q := Rn_nx pg193 rfl (if_pos ⟨(hk ▸ Nat.le_refl _), (hk ▸ Nat.le_refl _)⟩)
theorem sJ21_find_8 : Rn r 193 8 [l0, l1, l2, l3, l4, l5, l6, l7, l8, l9, l10] [vR z0] h Q ↔ Rn r 193 10 [l0, l1, l2, l3, l4, l5, l6, l7, some (vR z0), l9, l10] [] h Q := Rn_nx pg193 rfl rfl
theorem sJ21_find_10 : Rn r 193 10 [l0, l1, l2, l3, some (vR z), l5, l6, l7, l8, l9, l10] [] h Q ↔ Rn r 193 12 [l0, l1, l2, l3, some (vR z), l5, l6, l7, l8, l9, l10] [vR z] h Q := Rn_nx pg193 rfl rfl
theorem sJ21_find_12 (hk : hK h a0 = 13) : Rn r 193 12 [l0, l1, l2, l3, l4, l5, l6, l7, l8, l9, l10] [vR (some a0)] h Q ↔ Rn r 193 15 [l0, l1, l2, l3, l4, l5, l6, l7, l8, l9, l10] [vR (hR h a0 6)] h Q := Rn_nx pg193 rfl (if_pos ⟨(hk ▸ Nat.le_refl _), (hk ▸ Nat.le_refl _)⟩)
theorem sJ21_find_15 : Rn r 193 15 [l0, l1, l2, l3, l4, l5, l6, l7, l8, l9, l10] [vR z0] h Q ↔ Rn r 193 17 [l0, l1, l2, l3, l4, l5, l6, l7, l8, some (vR z0), l10] [] h Q := Rn_nx pg193 rfl rfl
theorem sJ21_find_17 : Rn r 193 17 [l0, l1, l2, l3, some (vR z), l5, l6, l7, l8, l9, l10] [] h Q ↔ Rn r 193 19 [l0, l1, l2, l3, some (vR z), l5, l6, l7, l8, l9, l10] [vR z] h Q := Rn_nx pg193 rfl rfl
theorem sJ21_find_19 (hk : hK h a0 = 13) : Rn r 193 19 [l0, l1, l2, l3, l4, l5, l6, l7, l8, l9, l10] [vR (some a0)] h Q ↔ Rn r 193 22 [l0, l1, l2, l3, l4, l5, l6, l7, l8, l9, l10] [vI (hI h a0 0)] h Q := Rn_nx pg193 rfl (if_pos ⟨(hk ▸ Nat.le_refl _), (hk ▸ Nat.le_refl _)⟩)
theorem sJ21_find_22 : Rn r 193 22 [l0, l1, l2, l3, l4, l5, l6, l7, l8, l9, l10] [vI x0] h Q ↔ Rn r 193 23 [l0, l1, l2, l3, l4, l5, l6, l7, l8, l9, l10] [vI x0, vI x0] h Q := Rn_nx pg193 rfl rfl
theorem sJ21_find_23 : Rn r 193 23 [l0, l1, l2, l3, l4, l5, l6, l7, l8, l9, l10] [vI x0, vI x1] h Q ↔ Rn r 193 25 [l0, l1, l2, l3, l4, some (vI x0), l6, l7, l8, l9, l10] [vI x1] h Q := Rn_nx pg193 rfl rfl
theorem sJ21_find_25 : Rn r 193 25 [l0, some (vI x), l2, l3, l4, l5, l6, l7, l8, l9, l10] [vI x0] h Q ↔ Rn r 193 26 [l0, some (vI x), l2, l3, l4, l5, l6, l7, l8, l9, l10] [vI x, vI x0] h Q := Rn_nx pg193 rfl rfl
theorem sJ21_find_26 : Rn r 193 26 [l0, l1, l2, l3, l4, l5, l6, l7, l8, l9, l10] [vI x0, vI x1] h Q ↔ if x1 ≤ x0 then Rn r 193 36 [l0, l1, l2, l3, l4, l5, l6, l7, l8, l9, l10] [] h Q else Rn r 193 29 [l0, l1, l2, l3, l4, l5, l6, l7, l8, l9, l10] [] h Q := Rn_if pg193 rfl rfl rfl
theorem sJ21_find_29 : Rn r 193 29 [l0, l1, l2, l3, l4, l5, l6, l7, some (vR z), l9, l10] [] h Q ↔ Rn r 193 31 [l0, l1, l2, l3, l4, l5, l6, l7, some (vR z), l9, l10] [vR z] h Q := Rn_nx pg193 rfl rfl
theorem sJ21_find_31 : Rn r 193 31 [l0, l1, l2, l3, l4, l5, l6, l7, l8, l9, l10] [vR z0] h Q ↔ Rn r 193 33 [l0, l1, l2, l3, some (vR z0), l5, l6, l7, l8, l9, l10] [] h Q := Rn_nx pg193 rfl rfl
theorem sJ21_find_33 : Rn r 193 33 [l0, l1, l2, l3, l4, l5, l6, l7, l8, l9, l10] [] h Q ↔ Rn r 193 165 [l0, l1, l2, l3, l4, l5, l6, l7, l8, l9, l10] [] h Q := Rn_nx pg193 rfl rfl
theorem sJ21_find_36 : Rn r 193 36 [l0, l1, l2, l3, l4, some (vI x), l6, l7, l8, l9, l10] [] h Q ↔ Rn r 193 38 [l0, l1, l2, l3, l4, some (vI x), l6, l7, l8, l9, l10] [vI x] h Q := Rn_nx pg193 rfl rfl
theorem sJ21_find_38 : Rn r 193 38 [l0, some (vI x), l2, l3, l4, l5, l6, l7, l8, l9, l10] [vI x0] h Q ↔ Rn r 193 39 [l0, some (vI x), l2, l3, l4, l5, l6, l7, l8, l9, l10] [vI x, vI x0] h Q := Rn_nx pg193 rfl rfl
theorem sJ21_find_39 : Rn r 193 39 [l0, l1, l2, l3, l4, l5, l6, l7, l8, l9, l10] [vI x0, vI x1] h Q ↔ if x0 ≤ x1 then Rn r 193 49 [l0, l1, l2, l3, l4, l5, l6, l7, l8, l9, l10] [] h Q else Rn r 193 42 [l0, l1, l2, l3, l4, l5, l6, l7, l8, l9, l10] [] h Q := Rn_if pg193 rfl rfl rfl
theorem sJ21_find_42 : Rn r 193 42 [l0, l1, l2, l3, l4, l5, l6, l7, l8, some (vR z), l10] [] h Q ↔ Rn r 193 44 [l0, l1, l2, l3, l4, l5, l6, l7, l8, some (vR z), l10] [vR z] h Q := Rn_nx pg193 rfl rfl
theorem sJ21_find_44 : Rn r 193 44 [l0, l1, l2, l3, l4, l5, l6, l7, l8, l9, l10] [vR z0] h Q ↔ Rn r 193 46 [l0, l1, l2, l3, some (vR z0), l5, l6, l7, l8, l9, l10] [] h Q := Rn_nx pg193 rfl rfl
theorem sJ21_find_46 : Rn r 193 46 [l0, l1, l2, l3, l4, l5, l6, l7, l8, l9, l10] [] h Q ↔ Rn r 193 165 [l0, l1, l2, l3, l4, l5, l6, l7, l8, l9, l10] [] h Q := Rn_nx pg193 rfl rfl
theorem sJ21_find_49 : Rn r 193 49 [l0, l1, l2, l3, some (vR z), l5, l6, l7, l8, l9, l10] [] h Q ↔ Rn r 193 51 [l0, l1, l2, l3, some (vR z), l5, l6, l7, l8, l9, l10] [vR z] h Q := Rn_nx pg193 rfl rfl
theorem sJ21_find_51 (hk : hK h a0 = 13) : Rn r 193 51 [l0, l1, l2, l3, l4, l5, l6, l7, l8, l9, l10] [vR (some a0)] h Q ↔ Rn r 193 54 [l0, l1, l2, l3, l4, l5, l6, l7, l8, l9, l10] [vR (hR h a0 1)] h Q := Rn_nx pg193 rfl (if_pos ⟨(hk ▸ Nat.le_refl _), (hk ▸ Nat.le_refl _)⟩)
theorem sJ21_find_54 : Rn r 193 54 [l0, l1, l2, l3, l4, l5, l6, l7, l8, l9, l10] [vR z0] h Q ↔ Rn r 193 55 [l0, l1, l2, l3, l4, l5, l6, l7, l8, l9, l10] [vR z0, vR z0] h Q := Rn_nx pg193 rfl rfl
theorem sJ21_find_55 : Rn r 193 55 [l0, l1, l2, l3, l4, l5, l6, l7, l8, l9, l10] [vR z0, vR z1] h Q ↔ Rn r 193 57 [l0, l1, l2, l3, l4, l5, l6, some (vR z0), l8, l9, l10] [vR z1] h Q := Rn_nx pg193 rfl rfl
theorem sJ21_find_57 : Rn r 193 57 [l0, l1, some (vR z), l3, l4, l5, l6, l7, l8, l9, l10] [vR z0] h Q ↔ Rn r 193 58 [l0, l1, some (vR z), l3, l4, l5, l6, l7, l8, l9, l10] [vR z, vR z0] h Q := Rn_nx pg193 rfl rfl
theorem sJ21_find_58 : Rn r 193 58 [l0, l1, l2, l3, l4, l5, l6, l7, l8, l9, l10] [vR z0, vR z1] h Q ↔ if z1 = z0 then Rn r 193 74 [l0, l1, l2, l3, l4, l5, l6, l7, l8, l9, l10] [] h Q else Rn r 193 61 [l0, l1, l2, l3, l4, l5, l6, l7, l8, l9, l10] [] h Q := Rn_if pg193 rfl rfl rfl
theorem sJ21_find_61 : Rn r 193 61 [l0, l1, some (vR z), l3, l4, l5, l6, l7, l8, l9, l10] [] h Q ↔ Rn r 193 62 [l0, l1, some (vR z), l3, l4, l5, l6, l7, l8, l9, l10] [vR z] h Q := Rn_nx pg193 rfl rfl
theorem sJ21_find_62 : Rn r 193 62 [l0, l1, l2, l3, l4, l5, l6, l7, l8, l9, l10] [vR z0] h Q ↔ if z0 = none then Rn r 193 77 [l0, l1, l2, l3, l4, l5, l6, l7, l8, l9, l10] [] h Q else Rn r 193 65 [l0, l1, l2, l3, l4, l5, l6, l7, l8, l9, l10] [] h Q := Rn_if pg193 rfl rfl rfl
theorem sJ21_find_65 : Rn r 193 65 [l0, l1, some (vR z), l3, l4, l5, l6, l7, l8, l9, l10] [] h Q ↔ Rn r 193 66 [l0, l1, some (vR z), l3, l4, l5, l6, l7, l8, l9, l10] [vR z] h Q := Rn_nx pg193 rfl rfl
theorem sJ21_find_66 : Rn r 193 66 [l0, l1, l2, l3, l4, l5, l6, some (vR z), l8, l9, l10] [vR z0] h Q ↔ Rn r 193 68 [l0, l1, l2, l3, l4, l5, l6, some (vR z), l8, l9, l10] [vR z, vR z0] h Q := Rn_nx pg193 rfl rfl
theorem sJ21_find_68 (hk : 10 ≤ hK h a1) (hk2 : hK h a1 ≤ 11) : Rn r 193 68 [l0, l1, l2, l3, l4, l5, l6, l7, l8, l9, l10] [vR z0, vR (some a1)] h Q ↔ Cl r 125 [vR (some a1), vR z0] h (Kt r 193 71 [l0, l1, l2, l3, l4, l5, l6, l7, l8, l9, l10] [] Q) := Rn_call pg193 rfl (by rcases am_rng2 hk hk2 with q | q <;> simp only [am_exec, am_inv, am_pop, am_lk, q] <;> rfl) pg125 rfl rfl rfl
theorem sJ21_find_71 : Rn r 193 71 [l0, l1, l2, l3, l4, l5, l6, l7, l8, l9, l10] [vI x0] h Q ↔ if x0 = 0 then Rn r 193 77 [l0, l1, l2, l3, l4, l5, l6, l7, l8, l9, l10] [] h Q else Rn r 193 74 [l0, l1, l2, l3, l4, l5, l6, l7, l8, l9, l10] [] h Q := Rn_if pg193 rfl rfl rfl
theorem sJ21_find_74 : Rn r 193 74 [l0, l1, l2, l3, some (vR z), l5, l6, l7, l8, l9, l10] [] h Q ↔ Rn r 193 76 [l0, l1, l2, l3, some (vR z), l5, l6, l7, l8, l9, l10] [vR z] h Q := Rn_nx pg193 rfl rfl
theorem sJ21_find_76 : Rn r 193 76 [l0, l1, l2, l3, l4, l5, l6, l7, l8, l9, l10] [vR z0] h Q ↔ Q (Sum.inl (some (vR z0))) h := Rn_end pg193 rfl rfl
theorem sJ21_find_77 : Rn r 193 77 [l0, l1, l2, l3, l4, l5, l6, l7, some (vR z), l9, l10] [] h Q ↔ Rn r 193 79 [l0, l1, l2, l3, l4, l5, l6, l7, some (vR z), l9, l10] [vR z] h Q := Rn_nx pg193 rfl rfl
theorem sJ21_find_79 : Rn r 193 79 [l0, l1, l2, l3, l4, l5, l6, l7, l8, l9, l10] [vR z0] h Q ↔ if z0 ≠ none then Rn r 193 89 [l0, l1, l2, l3, l4, l5, l6, l7, l8, l9, l10] [] h Q else Rn r 193 82 [l0, l1, l2, l3, l4, l5, l6, l7, l8, l9, l10] [] h Q := Rn_if pg193 rfl rfl rfl
theorem sJ21_find_82 : Rn r 193 82 [l0, l1, l2, l3, l4, l5, l6, l7, l8, some (vR z), l10] [] h Q ↔ Rn r 193 84 [l0, l1, l2, l3, l4, l5, l6, l7, l8, some (vR z), l10] [vR z] h Q := Rn_nx pg193 rfl rfl
theorem sJ21_find_84 : Rn r 193 84 [l0, l1, l2, l3, l4, l5, l6, l7, l8, l9, l10] [vR z0] h Q ↔ Rn r 193 86 [l0, l1, l2, l3, some (vR z0), l5, l6, l7, l8, l9, l10] [] h Q := Rn_nx pg193 rfl rfl
theorem sJ21_find_86 : Rn r 193 86 [l0, l1, l2, l3, l4, l5, l6, l7, l8, l9, l10] [] h Q ↔ Rn r 193 165 [l0, l1, l2, l3, l4, l5, l6, l7, l8, l9, l10] [] h Q := Rn_nx pg193 rfl rfl
theorem sJ21_find_89 : Rn r 193 89 [l0, l1, l2, l3, l4, l5, l6, l7, l8, some (vR z), l10] [] h Q ↔ Rn r 193 91 [l0, l1, l2, l3, l4, l5, l6, l7, l8, some (vR z), l10] [vR z] h Q := Rn_nx pg193 rfl rfl
theorem sJ21_find_91 : Rn r 193 91 [l0, l1, l2, l3, l4, l5, l6, l7, l8, l9, l10] [vR z0] h Q ↔ if z0 ≠ none then Rn r 193 101 [l0, l1, l2, l3, l4, l5, l6, l7, l8, l9, l10] [] h Q else Rn r 193 94 [l0, l1, l2, l3, l4, l5, l6, l7, l8, l9, l10] [] h Q := Rn_if pg193 rfl rfl rfl
theorem sJ21_find_94 : Rn r 193 94 [l0, l1, l2, l3, l4, l5, l6, l7, some (vR z), l9, l10] [] h Q ↔ Rn r 193 96 [l0, l1, l2, l3, l4, l5, l6, l7, some (vR z), l9, l10] [vR z] h Q := Rn_nx pg193 rfl rfl
theorem sJ21_find_96 : Rn r 193 96 [l0, l1, l2, l3, l4, l5, l6, l7, l8, l9, l10] [vR z0] h Q ↔ Rn r 193 98 [l0, l1, l2, l3, some (vR z0), l5, l6, l7, l8, l9, l10] [] h Q := Rn_nx pg193 rfl rfl
theorem sJ21_find_98 : Rn r 193 98 [l0, l1, l2, l3, l4, l5, l6, l7, l8, l9, l10] [] h Q ↔ Rn r 193 165 [l0, l1, l2, l3, l4, l5, l6, l7, l8, l9, l10] [] h Q := Rn_nx pg193 rfl rfl
theorem sJ21_find_101 : Rn r 193 101 [l0, l1, l2, some (vR z), l4, l5, l6, l7, l8, l9, l10] [] h Q ↔ Rn r 193 102 [l0, l1, l2, some (vR z), l4, l5, l6, l7, l8, l9, l10] [vR z] h Q := Rn_nx pg193 rfl rfl
theorem sJ21_find_102 : Rn r 193 102 [l0, l1, l2, l3, l4, l5, l6, l7, l8, l9, l10] [vR z0] h Q ↔ if z0 ≠ none then Rn r 193 114 [l0, l1, l2, l3, l4, l5, l6, l7, l8, l9, l10] [] h Q else Rn r 193 105 [l0, l1, l2, l3, l4, l5, l6, l7, l8, l9, l10] [] h Q := Rn_if pg193 rfl rfl rfl
theorem sJ21_find_105 : Rn r 193 105 [l0, l1, some (vR z), l3, l4, l5, l6, l7, l8, l9, l10] [] h Q ↔ Rn r 193 106 [l0, l1, some (vR z), l3, l4, l5, l6, l7, l8, l9, l10] [vR z] h Q := Rn_nx pg193 rfl rfl
theorem sJ21_find_106 : Rn r 193 106 [l0, l1, l2, l3, l4, l5, l6, l7, l8, l9, l10] [vR z0] h Q ↔ Cl r 250 [vR z0] h (Kt r 193 109 [l0, l1, l2, l3, l4, l5, l6, l7, l8, l9, l10] [] Q) := Rn_call pg193 rfl rfl pg250 rfl rfl rfl
theorem sJ21_find_109 : Rn r 193 109 [l0, l1, l2, l3, l4, l5, l6, l7, l8, l9, l10] [vR z0] h Q ↔ Rn r 193 110 [l0, l1, l2, l3, l4, l5, l6, l7, l8, l9, l10] [vR z0, vR z0] h Q := Rn_nx pg193 rfl rfl
theorem sJ21_find_110 : Rn r 193 110 [l0, l1, l2, l3, l4, l5, l6, l7, l8, l9, l10] [vR z0, vR z1] h Q ↔ Rn r 193 111 [l0, l1, l2, some (vR z0), l4, l5, l6, l7, l8, l9, l10] [vR z1] h Q := Rn_nx pg193 rfl rfl
theorem sJ21_find_111 : Rn r 193 111 [l0, l1, l2, l3, l4, l5, l6, l7, l8, l9, l10] [vR z0] h Q ↔ if z0 = none then Rn r 193 144 [l0, l1, l2, l3, l4, l5, l6, l7, l8, l9, l10] [] h Q else Rn r 193 114 [l0, l1, l2, l3, l4, l5, l6, l7, l8, l9, l10] [] h Q := Rn_if pg193 rfl rfl rfl
theorem sJ21_find_114 : Rn r 193 114 [l0, l1, l2, some (vR z), l4, l5, l6, l7, l8, l9, l10] [] h Q ↔ Rn r 193 115 [l0, l1, l2, some (vR z), l4, l5, l6, l7, l8, l9, l10] [vR z] h Q := Rn_nx pg193 rfl rfl
theorem sJ21_find_115 : Rn r 193 115 [l0, l1, some (vR z), l3, l4, l5, l6, l7, l8, l9, l10] [vR z0] h Q ↔ Rn r 193 116 [l0, l1, some (vR z), l3, l4, l5, l6, l7, l8, l9, l10] [vR z, vR z0] h Q := Rn_nx pg193 rfl rfl
theorem sJ21_find_116 : Rn r 193 116 [l0, l1, l2, l3, l4, l5, l6, some (vR z), l8, l9, l10] [vR z0, vR z1] h Q ↔ Rn r 193 118 [l0, l1, l2, l3, l4, l5, l6, some (vR z), l8, l9, l10] [vR z, vR z0, vR z1] h Q := Rn_nx pg193 rfl rfl
theorem sJ21_find_118 : Rn r 193 118 [l0, l1, l2, l3, l4, l5, l6, l7, l8, l9, l10] [vR z0, vR z1, vR z2] h Q ↔ Cl r 251 [vR z2, vR z1, vR z0] h (Kt r 193 121 [l0, l1, l2, l3, l4, l5, l6, l7, l8, l9, l10] [] Q) := Rn_call pg193 rfl rfl pg251 rfl rfl rfl
theorem sJ21_find_121 : Rn r 193 121 [l0, l1, l2, l3, l4, l5, l6, l7, l8, l9, l10] [vI x0] h Q ↔ Rn r 193 122 [l0, l1, l2, l3, l4, l5, l6, l7, l8, l9, l10] [vI x0, vI x0] h Q := Rn_nx pg193 rfl rfl
theorem sJ21_find_122 : Rn r 193 122 [l0, l1, l2, l3, l4, l5, l6, l7, l8, l9, l10] [vI x0, vI x1] h Q ↔ Rn r 193 124 [l0, l1, l2, l3, l4, l5, some (vI x0), l7, l8, l9, l10] [vI x1] h Q := Rn_nx pg193 rfl rfl
theorem sJ21_find_124 : Rn r 193 124 [l0, l1, l2, l3, l4, l5, l6, l7, l8, l9, l10] [vI x0] h Q ↔ if x0 = 0 then Rn r 193 144 [l0, l1, l2, l3, l4, l5, l6, l7, l8, l9, l10] [] h Q else Rn r 193 127 [l0, l1, l2, l3, l4, l5, l6, l7, l8, l9, l10] [] h Q := Rn_if pg193 rfl rfl rfl
theorem sJ21_find_127 : Rn r 193 127 [l0, l1, l2, l3, l4, l5, some (vI x), l7, l8, l9, l10] [] h Q ↔ Rn r 193 129 [l0, l1, l2, l3, l4, l5, some (vI x), l7, l8, l9, l10] [vI x] h Q := Rn_nx pg193 rfl rfl
theorem sJ21_find_129 : Rn r 193 129 [l0, l1, l2, l3, l4, l5, l6, l7, l8, l9, l10] [vI x0] h Q ↔ if 0 ≤ x0 then Rn r 193 137 [l0, l1, l2, l3, l4, l5, l6, l7, l8, l9, l10] [] h Q else Rn r 193 132 [l0, l1, l2, l3, l4, l5, l6, l7, l8, l9, l10] [] h Q := Rn_if pg193 rfl rfl rfl
theorem sJ21_find_132 : Rn r 193 132 [l0, l1, l2, l3, l4, l5, l6, l7, some (vR z), l9, l10] [] h Q ↔ Rn r 193 134 [l0, l1, l2, l3, l4, l5, l6, l7, some (vR z), l9, l10] [vR z] h Q := Rn_nx pg193 rfl rfl
theorem sJ21_find_134 : Rn r 193 134 [l0, l1, l2, l3, l4, l5, l6, l7, l8, l9, l10] [vR z0] h Q ↔ Rn r 193 139 [l0, l1, l2, l3, l4, l5, l6, l7, l8, l9, l10] [vR z0] h Q := Rn_nx pg193 rfl rfl
theorem sJ21_find_137 : Rn r 193 137 [l0, l1, l2, l3, l4, l5, l6, l7, l8, some (vR z), l10] [] h Q ↔ Rn r 193 139 [l0, l1, l2, l3, l4, l5, l6, l7, l8, some (vR z), l10] [vR z] h Q := Rn_nx pg193 rfl rfl
theorem sJ21_find_139 : Rn r 193 139 [l0, l1, l2, l3, l4, l5, l6, l7, l8, l9, l10] [vR z0] h Q ↔ Rn r 193 141 [l0, l1, l2, l3, some (vR z0), l5, l6, l7, l8, l9, l10] [] h Q := Rn_nx pg193 rfl rfl
theorem sJ21_find_141 : Rn r 193 141 [l0, l1, l2, l3, l4, l5, l6, l7, l8, l9, l10] [] h Q ↔ Rn r 193 165 [l0, l1, l2, l3, l4, l5, l6, l7, l8, l9, l10] [] h Q := Rn_nx pg193 rfl rfl
theorem sJ21_find_144 : Rn r 193 144 [l0, l1, l2, l3, l4, l5, l6, l7, l8, some (vR z), l10] [] h Q ↔ Rn r 193 146 [l0, l1, l2, l3, l4, l5, l6, l7, l8, some (vR z), l10] [vR z] h Q := Rn_nx pg193 rfl rfl
theorem sJ21_find_146 : Rn r 193 146 [l0, some (vI x), l2, l3, l4, l5, l6, l7, l8, l9, l10] [vR z0] h Q ↔ Rn r 193 147 [l0, some (vI x), l2, l3, l4, l5, l6, l7, l8, l9, l10] [vI x, vR z0] h Q := Rn_nx pg193 rfl rfl
theorem sJ21_find_147 : Rn r 193 147 [l0, l1, some (vR z), l3, l4, l5, l6, l7, l8, l9, l10] [vI x0, vR z1] h Q ↔ Rn r 193 148 [l0, l1, some (vR z), l3, l4, l5, l6, l7, l8, l9, l10] [vR z, vI x0, vR z1] h Q := Rn_nx pg193 rfl rfl
theorem sJ21_find_148 : Rn r 193 148 [l0, l1, l2, some (vR z), l4, l5, l6, l7, l8, l9, l10] [vR z0, vI x1, vR z2] h Q ↔ Rn r 193 149 [l0, l1, l2, some (vR z), l4, l5, l6, l7, l8, l9, l10] [vR z, vR z0, vI x1, vR z2] h Q := Rn_nx pg193 rfl rfl
theorem sJ21_find_149 (hk : hK h a3 = 13) : Rn (r + 1) 193 149 [l0, l1, l2, l3, l4, l5, l6, l7, l8, l9, l10] [vR z0, vR z1, vI x2, vR (some a3)] h Q ↔ Cl r 193 [vR (some a3), vI x2, vR z1, vR z0] h (Kt (r + 1) 193 152 [l0, l1, l2, l3, l4, l5, l6, l7, l8, l9, l10] [] Q) := Rn_call pg193 rfl (by simp only [am_exec, am_inv, am_pop, am_lk, hk]; rfl) pg193 rfl rfl rfl
theorem sJ21_find_152 : Rn r 193 152 [l0, l1, l2, l3, l4, l5, l6, l7, l8, l9, l10] [vR z0] h Q ↔ Rn r 193 153 [l0, l1, l2, l3, l4, l5, l6, l7, l8, l9, l10] [vR z0, vR z0] h Q := Rn_nx pg193 rfl rfl
theorem sJ21_find_153 : Rn r 193 153 [l0, l1, l2, l3, l4, l5, l6, l7, l8, l9, l10] [vR z0, vR z1] h Q ↔ Rn r 193 155 [l0, l1, l2, l3, l4, l5, l6, l7, l8, l9, some (vR z0)] [vR z1] h Q := Rn_nx pg193 rfl rfl
theorem sJ21_find_155 : Rn r 193 155 [l0, l1, l2, l3, l4, l5, l6, l7, l8, l9, l10] [vR z0] h Q ↔ if z0 = none then Rn r 193 161 [l0, l1, l2, l3, l4, l5, l6, l7, l8, l9, l10] [] h Q else Rn r 193 158 [l0, l1, l2, l3, l4, l5, l6, l7, l8, l9, l10] [] h Q := Rn_if pg193 rfl rfl rfl
theorem sJ21_find_158 : Rn r 193 158 [l0, l1, l2, l3, l4, l5, l6, l7, l8, l9, some (vR z)] [] h Q ↔ Rn r 193 160 [l0, l1, l2, l3, l4, l5, l6, l7, l8, l9, some (vR z)] [vR z] h Q := Rn_nx pg193 rfl rfl
theorem sJ21_find_160 : Rn r 193 160 [l0, l1, l2, l3, l4, l5, l6, l7, l8, l9, l10] [vR z0] h Q ↔ Q (Sum.inl (some (vR z0))) h := Rn_end pg193 rfl rfl
theorem sJ21_find_161 : Rn r 193 161 [l0, l1, l2, l3, l4, l5, l6, l7, some (vR z), l9, l10] [] h Q ↔ Rn r 193 163 [l0, l1, l2, l3, l4, l5, l6, l7, some (vR z), l9, l10] [vR z] h Q := Rn_nx pg193 rfl rfl
theorem sJ21_find_163 : Rn r 193 163 [l0, l1, l2, l3, l4, l5, l6, l7, l8, l9, l10] [vR z0] h Q ↔ Rn r 193 165 [l0, l1, l2, l3, some (vR z0), l5, l6, l7, l8, l9, l10] [] h Q := Rn_nx pg193 rfl rfl
theorem sJ21_find_165 : Rn r 193 165 [l0, l1, l2, l3, some (vR z), l5, l6, l7, l8, l9, l10] [] h Q ↔ Rn r 193 167 [l0, l1, l2, l3, some (vR z), l5, l6, l7, l8, l9, l10] [vR z] h Q := Rn_nx pg193 rfl rfl
theorem sJ21_find_167 : Rn r 193 167 [l0, l1, l2, l3, l4, l5, l6, l7, l8, l9, l10] [vR z0] h Q ↔ if z0 ≠ none then Rn r 193 3 [l0, l1, l2, l3, l4, l5, l6, l7, l8, l9, l10] [] h Q else Rn r 193 170 [l0, l1, l2, l3, l4, l5, l6, l7, l8, l9, l10] [] h Q := Rn_if pg193 rfl rfl rfl
theorem sJ21_find_170 : Rn r 193 170 [l0, l1, l2, l3, l4, l5, l6, l7, l8, l9, l10] [] h Q ↔ Rn r 193 171 [l0, l1, l2, l3, l4, l5, l6, l7, l8, l9, l10] [vR none] h Q := Rn_nx pg193 rfl rfl
theorem sJ21_find_171 : Rn r 193 171 [l0, l1, l2, l3, l4, l5, l6, l7, l8, l9, l10] [vR z0] h Q ↔ Q (Sum.inl (some (vR z0))) h := Rn_end pg193 rfl rfl
end ST4
