/-! STEP LEMMAS, printed by gen_steps.py -/
set_option maxRecDepth 100000
section ST3
variable {r : Nat} {h : am_H} {Q : am_O → am_H → Prop} {x x0 x1 x2 x3 x4 x5 x6 x7 x8 x9 x10 x11 : Int32} {y y0 y1 y2 y3 y4 y5 y6 y7 y8 y9 y10 y11 : Int64} {z z0 z1 z2 z3 z4 z5 z6 z7 z8 z9 z10 z11 : Option Nat} {w0 w1 w2 : UInt32} {a0 a1 a2 a3 a4 a5 a6 a7 a8 a9 a10 a11 : Nat} {l0 l1 l2 l3 l4 l5 l6 l7 l8 l9 l10 l11 l12 l13 l14 l15 l16 l17 l18 l19 : Option am_V}
/-! 97 ThrowRulesModel.judgeMethod(I)V -/
theorem eX6_judgeMethod : Cl r 97 [vR z0, vI x1] h Q ↔ Rn r 97 0 [some (vR z0), some (vI x1), none, none, none, none] [] h Q := Cl_in pg97 rfl
theorem sX6_judgeMethod_0 : Rn r 97 0 [some (vR z), l1, l2, l3, l4, l5] [] h Q ↔ Rn r 97 1 [some (vR z), l1, l2, l3, l4, l5] [vR z] h Q := Rn_nx pg97 rfl rfl
theorem sX6_judgeMethod_1 (hk : hK h a0 = 15) : Rn r 97 1 [l0, l1, l2, l3, l4, l5] [vR (some a0)] h Q ↔ Rn r 97 4 [l0, l1, l2, l3, l4, l5] [vI (hI h a0 2)] h Q := Rn_nx pg97 rfl (if_pos ⟨(hk ▸ Nat.le_refl _), (hk ▸ Nat.le_refl _)⟩)
theorem sX6_judgeMethod_4 : Rn r 97 4 [l0, l1, l2, l3, l4, l5] [vI x0] h Q ↔ Rn r 97 6 [l0, l1, l2, l3, l4, l5] [vI 12, vI x0] h Q := Rn_nx pg97 rfl rfl
theorem sX6_judgeMethod_6 : Rn r 97 6 [l0, l1, l2, l3, l4, l5] [vI x0, vI x1] h Q ↔ Rn r 97 7 [l0, l1, l2, l3, l4, l5] [vI (x1 * x0)] h Q := Rn_nx pg97 rfl rfl
theorem sX6_judgeMethod_7 : Rn r 97 7 [l0, some (vI x), l2, l3, l4, l5] [vI x0] h Q ↔ Rn r 97 8 [l0, some (vI x), l2, l3, l4, l5] [vI x, vI x0] h Q := Rn_nx pg97 rfl rfl
theorem sX6_judgeMethod_8 : Rn r 97 8 [l0, l1, l2, l3, l4, l5] [vI x0, vI x1] h Q ↔ Rn r 97 9 [l0, l1, l2, l3, l4, l5] [vI (x1 + x0)] h Q := Rn_nx pg97 rfl rfl
theorem sX6_judgeMethod_9 : Rn r 97 9 [l0, l1, l2, l3, l4, l5] [vI x0] h Q ↔ Rn r 97 10 [l0, l1, some (vI x0), l3, l4, l5] [] h Q := Rn_nx pg97 rfl rfl
theorem sX6_judgeMethod_10 : Rn r 97 10 [some (vR z), l1, l2, l3, l4, l5] [] h Q ↔ Rn r 97 11 [some (vR z), l1, l2, l3, l4, l5] [vR z] h Q := Rn_nx pg97 rfl rfl
theorem sX6_judgeMethod_11 : Rn r 97 11 [some (vR z), l1, l2, l3, l4, l5] [vR z0] h Q ↔ Rn r 97 12 [some (vR z), l1, l2, l3, l4, l5] [vR z, vR z0] h Q := Rn_nx pg97 rfl rfl
theorem sX6_judgeMethod_12 (hk : hK h a0 = 15) : Rn r 97 12 [l0, l1, l2, l3, l4, l5] [vR (some a0), vR z1] h Q ↔ Rn r 97 15 [l0, l1, l2, l3, l4, l5] [vR (hR h a0 10), vR z1] h Q := Rn_nx pg97 rfl (if_pos ⟨(hk ▸ Nat.le_refl _), (hk ▸ Nat.le_refl _)⟩)
theorem sX6_judgeMethod_15 : Rn r 97 15 [l0, l1, some (vI x), l3, l4, l5] [vR z0, vR z1] h Q ↔ Rn r 97 16 [l0, l1, some (vI x), l3, l4, l5] [vI x, vR z0, vR z1] h Q := Rn_nx pg97 rfl rfl
theorem sX6_judgeMethod_16 (hk : hK h a1 = 42) (hx : ¬ (x0 < 0 ∨ hL h a1 ≤ x0.toNatClampNeg)) : Rn r 97 16 [l0, l1, l2, l3, l4, l5] [vI x0, vR (some a1), vR z2] h Q ↔ Rn r 97 17 [l0, l1, l2, l3, l4, l5] [vL (hJ h a1 x0.toNatClampNeg), vR z2] h Q := Rn_nx pg97 rfl ((if_pos ⟨(hk ▸ Nat.le_refl _), (hk ▸ Nat.le_refl _)⟩).trans (if_neg hx))
theorem sX6_judgeMethod_17 (hk : hK h a1 = 15) : Rn r 97 17 [l0, l1, l2, l3, l4, l5] [vL y0, vR (some a1)] h Q ↔ Cl r 53 [vR (some a1), vL y0] h (Kt r 97 20 [l0, l1, l2, l3, l4, l5] [] Q) := Rn_call pg97 rfl (by simp only [am_exec, am_inv, am_pop, am_lk, hk]; rfl) pg53 rfl rfl rfl
theorem sX6_judgeMethod_20 : Rn r 97 20 [l0, some (vI x), l2, l3, l4, l5] [vI x0] h Q ↔ Rn r 97 21 [l0, some (vI x), l2, l3, l4, l5] [vI x, vI x0] h Q := Rn_nx pg97 rfl rfl
theorem sX6_judgeMethod_21 : Rn r 97 21 [l0, l1, l2, l3, l4, l5] [vI x0, vI x1] h Q ↔ if x1 = x0 then Rn r 97 36 [l0, l1, l2, l3, l4, l5] [] h Q else Rn r 97 24 [l0, l1, l2, l3, l4, l5] [] h Q := Rn_if pg97 rfl rfl rfl
theorem sX6_judgeMethod_24 : Rn r 97 24 [some (vR z), l1, l2, l3, l4, l5] [] h Q ↔ Rn r 97 25 [some (vR z), l1, l2, l3, l4, l5] [vR z] h Q := Rn_nx pg97 rfl rfl
theorem sX6_judgeMethod_25 : Rn r 97 25 [l0, l1, l2, l3, l4, l5] [vR z0] h Q ↔ Rn r 97 26 [l0, l1, l2, l3, l4, l5] [vI 2, vR z0] h Q := Rn_nx pg97 rfl rfl
theorem sX6_judgeMethod_26 : Rn r 97 26 [some (vR z), l1, l2, l3, l4, l5] [vI x0, vR z1] h Q ↔ Rn r 97 27 [some (vR z), l1, l2, l3, l4, l5] [vR z, vI x0, vR z1] h Q := Rn_nx pg97 rfl rfl
theorem sX6_judgeMethod_27 (hk : hK h a0 = 15) : Rn r 97 27 [l0, l1, l2, l3, l4, l5] [vR (some a0), vI x1, vR z2] h Q ↔ Rn r 97 30 [l0, l1, l2, l3, l4, l5] [vR (hR h a0 11), vI x1, vR z2] h Q := Rn_nx pg97 rfl (if_pos ⟨(hk ▸ Nat.le_refl _), (hk ▸ Nat.le_refl _)⟩)
theorem sX6_judgeMethod_30 : Rn r 97 30 [l0, l1, some (vI x), l3, l4, l5] [vR z0, vI x1, vR z2] h Q ↔ Rn r 97 31 [l0, l1, some (vI x), l3, l4, l5] [vI x, vR z0, vI x1, vR z2] h Q := Rn_nx pg97 rfl rfl
theorem sX6_judgeMethod_31 (hk : 40 ≤ hK h a1) (hk2 : hK h a1 ≤ 41) (hx : ¬ (x0 < 0 ∨ hL h a1 ≤ x0.toNatClampNeg)) : Rn r 97 31 [l0, l1, l2, l3, l4, l5] [vI x0, vR (some a1), vI x2, vR z3] h Q ↔ Rn r 97 32 [l0, l1, l2, l3, l4, l5] [vI (hI h a1 x0.toNatClampNeg), vI x2, vR z3] h Q := Rn_nx pg97 rfl ((if_pos ⟨hk, hk2⟩).trans (if_neg hx))
theorem sX6_judgeMethod_32 : Rn r 97 32 [l0, l1, l2, l3, l4, l5] [vI x0, vI x1, vR z2] h Q ↔ Rn r 97 33 [l0, l1, l2, l3, l4, l5] [vI (-1), vI x0, vI x1, vR z2] h Q := Rn_nx pg97 rfl rfl
theorem sX6_judgeMethod_33 (hk : hK h a3 = 15) : Rn r 97 33 [l0, l1, l2, l3, l4, l5] [vI x0, vI x1, vI x2, vR (some a3)] h Q ↔ Cl r 96 [vR (some a3), vI x2, vI x1, vI x0] h (Kt r 97 36 [l0, l1, l2, l3, l4, l5] [] Q) := Rn_call pg97 rfl (by simp only [am_exec, am_inv, am_pop, am_lk, hk]; rfl) pg96 rfl rfl rfl
theorem sX6_judgeMethod_36 : Rn r 97 36 [some (vR z), l1, l2, l3, l4, l5] [] h Q ↔ Rn r 97 37 [some (vR z), l1, l2, l3, l4, l5] [vR z] h Q := Rn_nx pg97 rfl rfl
theorem sX6_judgeMethod_37 (hk : hK h a0 = 15) : Rn r 97 37 [l0, l1, l2, l3, l4, l5] [vR (some a0)] h Q ↔ Rn r 97 40 [l0, l1, l2, l3, l4, l5] [vR (hR h a0 12)] h Q := Rn_nx pg97 rfl (if_pos ⟨(hk ▸ Nat.le_refl _), (hk ▸ Nat.le_refl _)⟩)
theorem sX6_judgeMethod_40 : Rn r 97 40 [l0, l1, some (vI x), l3, l4, l5] [vR z0] h Q ↔ Rn r 97 41 [l0, l1, some (vI x), l3, l4, l5] [vI x, vR z0] h Q := Rn_nx pg97 rfl rfl
theorem sX6_judgeMethod_41 (hk : hK h a1 = 42) (hx : ¬ (x0 < 0 ∨ hL h a1 ≤ x0.toNatClampNeg)) : Rn r 97 41 [l0, l1, l2, l3, l4, l5] [vI x0, vR (some a1)] h Q ↔ Rn r 97 42 [l0, l1, l2, l3, l4, l5] [vL (hJ h a1 x0.toNatClampNeg)] h Q := Rn_nx pg97 rfl ((if_pos ⟨(hk ▸ Nat.le_refl _), (hk ▸ Nat.le_refl _)⟩).trans (if_neg hx))
theorem sX6_judgeMethod_42 : Rn r 97 42 [l0, l1, l2, l3, l4, l5] [vL y0] h Q ↔ Rn r 97 43 [l0, l1, l2, l3, l4, l5] [vL 0, vL y0] h Q := Rn_nx pg97 rfl rfl
theorem sX6_judgeMethod_43 : Rn r 97 43 [l0, l1, l2, l3, l4, l5] [vL y0, vL y1] h Q ↔ Rn r 97 44 [l0, l1, l2, l3, l4, l5] [vI (lg_cmp y1 y0)] h Q := Rn_nx pg97 rfl rfl
theorem sX6_judgeMethod_44 : Rn r 97 44 [l0, l1, l2, l3, l4, l5] [vI x0] h Q ↔ if x0 ≠ 0 then Rn r 97 51 [l0, l1, l2, l3, l4, l5] [] h Q else Rn r 97 47 [l0, l1, l2, l3, l4, l5] [] h Q := Rn_if pg97 rfl rfl rfl
theorem sX6_judgeMethod_47 : Rn r 97 47 [l0, l1, l2, l3, l4, l5] [] h Q ↔ Rn r 97 48 [l0, l1, l2, l3, l4, l5] [vI (-1)] h Q := Rn_nx pg97 rfl rfl
theorem sX6_judgeMethod_48 : Rn r 97 48 [l0, l1, l2, l3, l4, l5] [vI x0] h Q ↔ Rn r 97 61 [l0, l1, l2, l3, l4, l5] [vI x0] h Q := Rn_nx pg97 rfl rfl
theorem sX6_judgeMethod_51 : Rn r 97 51 [some (vR z), l1, l2, l3, l4, l5] [] h Q ↔ Rn r 97 52 [some (vR z), l1, l2, l3, l4, l5] [vR z] h Q := Rn_nx pg97 rfl rfl
theorem sX6_judgeMethod_52 : Rn r 97 52 [some (vR z), l1, l2, l3, l4, l5] [vR z0] h Q ↔ Rn r 97 53 [some (vR z), l1, l2, l3, l4, l5] [vR z, vR z0] h Q := Rn_nx pg97 rfl rfl
theorem sX6_judgeMethod_53 (hk : hK h a0 = 15) : Rn r 97 53 [l0, l1, l2, l3, l4, l5] [vR (some a0), vR z1] h Q ↔ Rn r 97 56 [l0, l1, l2, l3, l4, l5] [vR (hR h a0 12), vR z1] h Q := Rn_nx pg97 rfl (if_pos ⟨(hk ▸ Nat.le_refl _), (hk ▸ Nat.le_refl _)⟩)
theorem sX6_judgeMethod_56 : Rn r 97 56 [l0, l1, some (vI x), l3, l4, l5] [vR z0, vR z1] h Q ↔ Rn r 97 57 [l0, l1, some (vI x), l3, l4, l5] [vI x, vR z0, vR z1] h Q := Rn_nx pg97 rfl rfl
theorem sX6_judgeMethod_57 (hk : hK h a1 = 42) (hx : ¬ (x0 < 0 ∨ hL h a1 ≤ x0.toNatClampNeg)) : Rn r 97 57 [l0, l1, l2, l3, l4, l5] [vI x0, vR (some a1), vR z2] h Q ↔ Rn r 97 58 [l0, l1, l2, l3, l4, l5] [vL (hJ h a1 x0.toNatClampNeg), vR z2] h Q := Rn_nx pg97 rfl ((if_pos ⟨(hk ▸ Nat.le_refl _), (hk ▸ Nat.le_refl _)⟩).trans (if_neg hx))
theorem sX6_judgeMethod_58 (hk : hK h a1 = 15) : Rn r 97 58 [l0, l1, l2, l3, l4, l5] [vL y0, vR (some a1)] h Q ↔ Cl r 53 [vR (some a1), vL y0] h (Kt r 97 61 [l0, l1, l2, l3, l4, l5] [] Q) := Rn_call pg97 rfl (by simp only [am_exec, am_inv, am_pop, am_lk, hk]; rfl) pg53 rfl rfl rfl
theorem sX6_judgeMethod_61 : Rn r 97 61 [l0, l1, l2, l3, l4, l5] [vI x0] h Q ↔ Rn r 97 62 [l0, l1, l2, some (vI x0), l4, l5] [] h Q := Rn_nx pg97 rfl rfl
theorem sX6_judgeMethod_62 : Rn r 97 62 [some (vR z), l1, l2, l3, l4, l5] [] h Q ↔ Rn r 97 63 [some (vR z), l1, l2, l3, l4, l5] [vR z] h Q := Rn_nx pg97 rfl rfl
theorem sX6_judgeMethod_63 (hk : hK h a0 = 15) : Rn r 97 63 [l0, l1, l2, l3, l4, l5] [vR (some a0)] h Q ↔ Rn r 97 66 [l0, l1, l2, l3, l4, l5] [vR (hR h a0 12)] h Q := Rn_nx pg97 rfl (if_pos ⟨(hk ▸ Nat.le_refl _), (hk ▸ Nat.le_refl _)⟩)
theorem sX6_judgeMethod_66 : Rn r 97 66 [l0, l1, some (vI x), l3, l4, l5] [vR z0] h Q ↔ Rn r 97 67 [l0, l1, some (vI x), l3, l4, l5] [vI x, vR z0] h Q := Rn_nx pg97 rfl rfl
theorem sX6_judgeMethod_67 (hk : hK h a1 = 42) (hx : ¬ (x0 < 0 ∨ hL h a1 ≤ x0.toNatClampNeg)) : Rn r 97 67 [l0, l1, l2, l3, l4, l5] [vI x0, vR (some a1)] h Q ↔ Rn r 97 68 [l0, l1, l2, l3, l4, l5] [vL (hJ h a1 x0.toNatClampNeg)] h Q := Rn_nx pg97 rfl ((if_pos ⟨(hk ▸ Nat.le_refl _), (hk ▸ Nat.le_refl _)⟩).trans (if_neg hx))
theorem sX6_judgeMethod_68 : Rn r 97 68 [l0, l1, l2, l3, l4, l5] [vL y0] h Q ↔ Rn r 97 69 [l0, l1, l2, l3, l4, l5] [vL 0, vL y0] h Q := Rn_nx pg97 rfl rfl
theorem sX6_judgeMethod_69 : Rn r 97 69 [l0, l1, l2, l3, l4, l5] [vL y0, vL y1] h Q ↔ Rn r 97 70 [l0, l1, l2, l3, l4, l5] [vI (lg_cmp y1 y0)] h Q := Rn_nx pg97 rfl rfl
theorem sX6_judgeMethod_70 : Rn r 97 70 [l0, l1, l2, l3, l4, l5] [vI x0] h Q ↔ if x0 = 0 then Rn r 97 90 [l0, l1, l2, l3, l4, l5] [] h Q else Rn r 97 73 [l0, l1, l2, l3, l4, l5] [] h Q := Rn_if pg97 rfl rfl rfl
theorem sX6_judgeMethod_73 : Rn r 97 73 [l0, l1, l2, some (vI x), l4, l5] [] h Q ↔ Rn r 97 74 [l0, l1, l2, some (vI x), l4, l5] [vI x] h Q := Rn_nx pg97 rfl rfl
theorem sX6_judgeMethod_74 : Rn r 97 74 [l0, l1, l2, l3, l4, l5] [vI x0] h Q ↔ Rn r 97 75 [l0, l1, l2, l3, l4, l5] [vI (-1), vI x0] h Q := Rn_nx pg97 rfl rfl
theorem sX6_judgeMethod_75 : Rn r 97 75 [l0, l1, l2, l3, l4, l5] [vI x0, vI x1] h Q ↔ if x1 ≠ x0 then Rn r 97 90 [l0, l1, l2, l3, l4, l5] [] h Q else Rn r 97 78 [l0, l1, l2, l3, l4, l5] [] h Q := Rn_if pg97 rfl rfl rfl
theorem sX6_judgeMethod_78 : Rn r 97 78 [some (vR z), l1, l2, l3, l4, l5] [] h Q ↔ Rn r 97 79 [some (vR z), l1, l2, l3, l4, l5] [vR z] h Q := Rn_nx pg97 rfl rfl
theorem sX6_judgeMethod_79 : Rn r 97 79 [l0, l1, l2, l3, l4, l5] [vR z0] h Q ↔ Rn r 97 80 [l0, l1, l2, l3, l4, l5] [vI 1, vR z0] h Q := Rn_nx pg97 rfl rfl
theorem sX6_judgeMethod_80 : Rn r 97 80 [some (vR z), l1, l2, l3, l4, l5] [vI x0, vR z1] h Q ↔ Rn r 97 81 [some (vR z), l1, l2, l3, l4, l5] [vR z, vI x0, vR z1] h Q := Rn_nx pg97 rfl rfl
theorem sX6_judgeMethod_81 (hk : hK h a0 = 15) : Rn r 97 81 [l0, l1, l2, l3, l4, l5] [vR (some a0), vI x1, vR z2] h Q ↔ Rn r 97 84 [l0, l1, l2, l3, l4, l5] [vR (hR h a0 13), vI x1, vR z2] h Q := Rn_nx pg97 rfl (if_pos ⟨(hk ▸ Nat.le_refl _), (hk ▸ Nat.le_refl _)⟩)
theorem sX6_judgeMethod_84 : Rn r 97 84 [l0, l1, some (vI x), l3, l4, l5] [vR z0, vI x1, vR z2] h Q ↔ Rn r 97 85 [l0, l1, some (vI x), l3, l4, l5] [vI x, vR z0, vI x1, vR z2] h Q := Rn_nx pg97 rfl rfl
theorem sX6_judgeMethod_85 (hk : 40 ≤ hK h a1) (hk2 : hK h a1 ≤ 41) (hx : ¬ (x0 < 0 ∨ hL h a1 ≤ x0.toNatClampNeg)) : Rn r 97 85 [l0, l1, l2, l3, l4, l5] [vI x0, vR (some a1), vI x2, vR z3] h Q ↔ Rn r 97 86 [l0, l1, l2, l3, l4, l5] [vI (hI h a1 x0.toNatClampNeg), vI x2, vR z3] h Q := Rn_nx pg97 rfl ((if_pos ⟨hk, hk2⟩).trans (if_neg hx))
theorem sX6_judgeMethod_86 : Rn r 97 86 [l0, l1, l2, l3, l4, l5] [vI x0, vI x1, vR z2] h Q ↔ Rn r 97 87 [l0, l1, l2, l3, l4, l5] [vI (-1), vI x0, vI x1, vR z2] h Q := Rn_nx pg97 rfl rfl
theorem sX6_judgeMethod_87 (hk : hK h a3 = 15) : Rn r 97 87 [l0, l1, l2, l3, l4, l5] [vI x0, vI x1, vI x2, vR (some a3)] h Q ↔ Cl r 96 [vR (some a3), vI x2, vI x1, vI x0] h (Kt r 97 90 [l0, l1, l2, l3, l4, l5] [] Q) := Rn_call pg97 rfl (by simp only [am_exec, am_inv, am_pop, am_lk, hk]; rfl) pg96 rfl rfl rfl
theorem sX6_judgeMethod_90 : Rn r 97 90 [l0, l1, l2, l3, l4, l5] [] h Q ↔ Rn r 97 91 [l0, l1, l2, l3, l4, l5] [vI 0] h Q := Rn_nx pg97 rfl rfl
theorem sX6_judgeMethod_91 : Rn r 97 91 [l0, l1, l2, l3, l4, l5] [vI x0] h Q ↔ Rn r 97 93 [l0, l1, l2, l3, some (vI x0), l5] [] h Q := Rn_nx pg97 rfl rfl
theorem sX6_judgeMethod_93 : Rn r 97 93 [l0, l1, l2, l3, some (vI x), l5] [] h Q ↔ Rn r 97 95 [l0, l1, l2, l3, some (vI x), l5] [vI x] h Q := Rn_nx pg97 rfl rfl
theorem sX6_judgeMethod_95 : Rn r 97 95 [some (vR z), l1, l2, l3, l4, l5] [vI x0] h Q ↔ Rn r 97 96 [some (vR z), l1, l2, l3, l4, l5] [vR z, vI x0] h Q := Rn_nx pg97 rfl rfl
theorem sX6_judgeMethod_96 (hk : hK h a0 = 15) : Rn r 97 96 [l0, l1, l2, l3, l4, l5] [vR (some a0), vI x1] h Q ↔ Rn r 97 99 [l0, l1, l2, l3, l4, l5] [vR (hR h a0 15), vI x1] h Q := Rn_nx pg97 rfl (if_pos ⟨(hk ▸ Nat.le_refl _), (hk ▸ Nat.le_refl _)⟩)
theorem sX6_judgeMethod_99 : Rn r 97 99 [l0, l1, some (vI x), l3, l4, l5] [vR z0, vI x1] h Q ↔ Rn r 97 100 [l0, l1, some (vI x), l3, l4, l5] [vI x, vR z0, vI x1] h Q := Rn_nx pg97 rfl rfl
theorem sX6_judgeMethod_100 (hk : 40 ≤ hK h a1) (hk2 : hK h a1 ≤ 41) (hx : ¬ (x0 < 0 ∨ hL h a1 ≤ x0.toNatClampNeg)) : Rn r 97 100 [l0, l1, l2, l3, l4, l5] [vI x0, vR (some a1), vI x2] h Q ↔ Rn r 97 101 [l0, l1, l2, l3, l4, l5] [vI (hI h a1 x0.toNatClampNeg), vI x2] h Q := Rn_nx pg97 rfl ((if_pos ⟨hk, hk2⟩).trans (if_neg hx))
theorem sX6_judgeMethod_101 : Rn r 97 101 [l0, l1, l2, l3, l4, l5] [vI x0, vI x1] h Q ↔ if x0 ≤ x1 then Rn r 97 211 [l0, l1, l2, l3, l4, l5] [] h Q else Rn r 97 104 [l0, l1, l2, l3, l4, l5] [] h Q := Rn_if pg97 rfl rfl rfl
theorem sX6_judgeMethod_104 : Rn r 97 104 [some (vR z), l1, l2, l3, l4, l5] [] h Q ↔ Rn r 97 105 [some (vR z), l1, l2, l3, l4, l5] [vR z] h Q := Rn_nx pg97 rfl rfl
theorem sX6_judgeMethod_105 : Rn r 97 105 [some (vR z), l1, l2, l3, l4, l5] [vR z0] h Q ↔ Rn r 97 106 [some (vR z), l1, l2, l3, l4, l5] [vR z, vR z0] h Q := Rn_nx pg97 rfl rfl
theorem sX6_judgeMethod_106 (hk : hK h a0 = 15) : Rn r 97 106 [l0, l1, l2, l3, l4, l5] [vR (some a0), vR z1] h Q ↔ Rn r 97 109 [l0, l1, l2, l3, l4, l5] [vR (hR h a0 16), vR z1] h Q := Rn_nx pg97 rfl (if_pos ⟨(hk ▸ Nat.le_refl _), (hk ▸ Nat.le_refl _)⟩)
theorem sX6_judgeMethod_109 : Rn r 97 109 [l0, l1, l2, l3, l4, l5] [vR z0, vR z1] h Q ↔ Rn r 97 110 [l0, l1, l2, l3, l4, l5] [vI 4, vR z0, vR z1] h Q := Rn_nx pg97 rfl rfl
theorem sX6_judgeMethod_110 : Rn r 97 110 [l0, l1, some (vI x), l3, l4, l5] [vI x0, vR z1, vR z2] h Q ↔ Rn r 97 111 [l0, l1, some (vI x), l3, l4, l5] [vI x, vI x0, vR z1, vR z2] h Q := Rn_nx pg97 rfl rfl
theorem sX6_judgeMethod_111 : Rn r 97 111 [l0, l1, l2, l3, l4, l5] [vI x0, vI x1, vR z2, vR z3] h Q ↔ Rn r 97 112 [l0, l1, l2, l3, l4, l5] [vI (x1 * x0), vR z2, vR z3] h Q := Rn_nx pg97 rfl rfl
theorem sX6_judgeMethod_112 : Rn r 97 112 [l0, l1, l2, l3, some (vI x), l5] [vI x0, vR z1, vR z2] h Q ↔ Rn r 97 114 [l0, l1, l2, l3, some (vI x), l5] [vI x, vI x0, vR z1, vR z2] h Q := Rn_nx pg97 rfl rfl
theorem sX6_judgeMethod_114 : Rn r 97 114 [l0, l1, l2, l3, l4, l5] [vI x0, vI x1, vR z2, vR z3] h Q ↔ Rn r 97 115 [l0, l1, l2, l3, l4, l5] [vI (x1 + x0), vR z2, vR z3] h Q := Rn_nx pg97 rfl rfl
theorem sX6_judgeMethod_115 (hk : hK h a1 = 42) (hx : ¬ (x0 < 0 ∨ hL h a1 ≤ x0.toNatClampNeg)) : Rn r 97 115 [l0, l1, l2, l3, l4, l5] [vI x0, vR (some a1), vR z2] h Q ↔ Rn r 97 116 [l0, l1, l2, l3, l4, l5] [vL (hJ h a1 x0.toNatClampNeg), vR z2] h Q := Rn_nx pg97 rfl ((if_pos ⟨(hk ▸ Nat.le_refl _), (hk ▸ Nat.le_refl _)⟩).trans (if_neg hx))
theorem sX6_judgeMethod_116 : Rn r 97 116 [some (vR z), l1, l2, l3, l4, l5] [vL y0, vR z1] h Q ↔ Rn r 97 117 [some (vR z), l1, l2, l3, l4, l5] [vR z, vL y0, vR z1] h Q := Rn_nx pg97 rfl rfl
theorem sX6_judgeMethod_117 (hk : hK h a0 = 15) : Rn r 97 117 [l0, l1, l2, l3, l4, l5] [vR (some a0), vL y1, vR z2] h Q ↔ Rn r 97 120 [l0, l1, l2, l3, l4, l5] [vR (hR h a0 17), vL y1, vR z2] h Q := Rn_nx pg97 rfl (if_pos ⟨(hk ▸ Nat.le_refl _), (hk ▸ Nat.le_refl _)⟩)
theorem sX6_judgeMethod_120 : Rn r 97 120 [l0, l1, l2, l3, l4, l5] [vR z0, vL y1, vR z2] h Q ↔ Rn r 97 121 [l0, l1, l2, l3, l4, l5] [vI 4, vR z0, vL y1, vR z2] h Q := Rn_nx pg97 rfl rfl
theorem sX6_judgeMethod_121 : Rn r 97 121 [l0, l1, some (vI x), l3, l4, l5] [vI x0, vR z1, vL y2, vR z3] h Q ↔ Rn r 97 122 [l0, l1, some (vI x), l3, l4, l5] [vI x, vI x0, vR z1, vL y2, vR z3] h Q := Rn_nx pg97 rfl rfl
theorem sX6_judgeMethod_122 : Rn r 97 122 [l0, l1, l2, l3, l4, l5] [vI x0, vI x1, vR z2, vL y3, vR z4] h Q ↔ Rn r 97 123 [l0, l1, l2, l3, l4, l5] [vI (x1 * x0), vR z2, vL y3, vR z4] h Q := Rn_nx pg97 rfl rfl
theorem sX6_judgeMethod_123 : Rn r 97 123 [l0, l1, l2, l3, some (vI x), l5] [vI x0, vR z1, vL y2, vR z3] h Q ↔ Rn r 97 125 [l0, l1, l2, l3, some (vI x), l5] [vI x, vI x0, vR z1, vL y2, vR z3] h Q := Rn_nx pg97 rfl rfl
theorem sX6_judgeMethod_125 : Rn r 97 125 [l0, l1, l2, l3, l4, l5] [vI x0, vI x1, vR z2, vL y3, vR z4] h Q ↔ Rn r 97 126 [l0, l1, l2, l3, l4, l5] [vI (x1 + x0), vR z2, vL y3, vR z4] h Q := Rn_nx pg97 rfl rfl
theorem sX6_judgeMethod_126 (hk : 40 ≤ hK h a1) (hk2 : hK h a1 ≤ 41) (hx : ¬ (x0 < 0 ∨ hL h a1 ≤ x0.toNatClampNeg)) : Rn r 97 126 [l0, l1, l2, l3, l4, l5] [vI x0, vR (some a1), vL y2, vR z3] h Q ↔ Rn r 97 127 [l0, l1, l2, l3, l4, l5] [vI (hI h a1 x0.toNatClampNeg), vL y2, vR z3] h Q := Rn_nx pg97 rfl ((if_pos ⟨hk, hk2⟩).trans (if_neg hx))
theorem sX6_judgeMethod_127 (hk : hK h a2 = 15) : Rn r 97 127 [l0, l1, l2, l3, l4, l5] [vI x0, vL y1, vR (some a2)] h Q ↔ Cl r 69 [vR (some a2), vL y1, vI x0] h (Kt r 97 130 [l0, l1, l2, l3, l4, l5] [] Q) := Rn_call pg97 rfl (by simp only [am_exec, am_inv, am_pop, am_lk, hk]; rfl) pg69 rfl rfl rfl
theorem sX6_judgeMethod_130 : Rn r 97 130 [l0, l1, l2, l3, l4, l5] [vI x0] h Q ↔ Rn r 97 132 [l0, l1, l2, l3, l4, some (vI x0)] [] h Q := Rn_nx pg97 rfl rfl
theorem sX6_judgeMethod_132 : Rn r 97 132 [l0, l1, l2, l3, l4, some (vI x)] [] h Q ↔ Rn r 97 134 [l0, l1, l2, l3, l4, some (vI x)] [vI x] h Q := Rn_nx pg97 rfl rfl
theorem sX6_judgeMethod_134 : Rn r 97 134 [l0, l1, l2, l3, l4, l5] [vI x0] h Q ↔ Rn r 97 135 [l0, l1, l2, l3, l4, l5] [vI (-1), vI x0] h Q := Rn_nx pg97 rfl rfl
theorem sX6_judgeMethod_135 : Rn r 97 135 [l0, l1, l2, l3, l4, l5] [vI x0, vI x1] h Q ↔ if x1 ≠ x0 then Rn r 97 158 [l0, l1, l2, l3, l4, l5] [] h Q else Rn r 97 138 [l0, l1, l2, l3, l4, l5] [] h Q := Rn_if pg97 rfl rfl rfl
theorem sX6_judgeMethod_138 : Rn r 97 138 [some (vR z), l1, l2, l3, l4, l5] [] h Q ↔ Rn r 97 139 [some (vR z), l1, l2, l3, l4, l5] [vR z] h Q := Rn_nx pg97 rfl rfl
theorem sX6_judgeMethod_139 : Rn r 97 139 [l0, l1, l2, l3, l4, l5] [vR z0] h Q ↔ Rn r 97 140 [l0, l1, l2, l3, l4, l5] [vI 1, vR z0] h Q := Rn_nx pg97 rfl rfl
theorem sX6_judgeMethod_140 : Rn r 97 140 [some (vR z), l1, l2, l3, l4, l5] [vI x0, vR z1] h Q ↔ Rn r 97 141 [some (vR z), l1, l2, l3, l4, l5] [vR z, vI x0, vR z1] h Q := Rn_nx pg97 rfl rfl
theorem sX6_judgeMethod_141 (hk : hK h a0 = 15) : Rn r 97 141 [l0, l1, l2, l3, l4, l5] [vR (some a0), vI x1, vR z2] h Q ↔ Rn r 97 144 [l0, l1, l2, l3, l4, l5] [vR (hR h a0 17), vI x1, vR z2] h Q := Rn_nx pg97 rfl (if_pos ⟨(hk ▸ Nat.le_refl _), (hk ▸ Nat.le_refl _)⟩)
theorem sX6_judgeMethod_144 : Rn r 97 144 [l0, l1, l2, l3, l4, l5] [vR z0, vI x1, vR z2] h Q ↔ Rn r 97 145 [l0, l1, l2, l3, l4, l5] [vI 4, vR z0, vI x1, vR z2] h Q := Rn_nx pg97 rfl rfl
theorem sX6_judgeMethod_145 : Rn r 97 145 [l0, l1, some (vI x), l3, l4, l5] [vI x0, vR z1, vI x2, vR z3] h Q ↔ Rn r 97 146 [l0, l1, some (vI x), l3, l4, l5] [vI x, vI x0, vR z1, vI x2, vR z3] h Q := Rn_nx pg97 rfl rfl
theorem sX6_judgeMethod_146 : Rn r 97 146 [l0, l1, l2, l3, l4, l5] [vI x0, vI x1, vR z2, vI x3, vR z4] h Q ↔ Rn r 97 147 [l0, l1, l2, l3, l4, l5] [vI (x1 * x0), vR z2, vI x3, vR z4] h Q := Rn_nx pg97 rfl rfl
theorem sX6_judgeMethod_147 : Rn r 97 147 [l0, l1, l2, l3, some (vI x), l5] [vI x0, vR z1, vI x2, vR z3] h Q ↔ Rn r 97 149 [l0, l1, l2, l3, some (vI x), l5] [vI x, vI x0, vR z1, vI x2, vR z3] h Q := Rn_nx pg97 rfl rfl
theorem sX6_judgeMethod_149 : Rn r 97 149 [l0, l1, l2, l3, l4, l5] [vI x0, vI x1, vR z2, vI x3, vR z4] h Q ↔ Rn r 97 150 [l0, l1, l2, l3, l4, l5] [vI (x1 + x0), vR z2, vI x3, vR z4] h Q := Rn_nx pg97 rfl rfl
theorem sX6_judgeMethod_150 (hk : 40 ≤ hK h a1) (hk2 : hK h a1 ≤ 41) (hx : ¬ (x0 < 0 ∨ hL h a1 ≤ x0.toNatClampNeg)) : Rn r 97 150 [l0, l1, l2, l3, l4, l5] [vI x0, vR (some a1), vI x2, vR z3] h Q ↔ Rn r 97 151 [l0, l1, l2, l3, l4, l5] [vI (hI h a1 x0.toNatClampNeg), vI x2, vR z3] h Q := Rn_nx pg97 rfl ((if_pos ⟨hk, hk2⟩).trans (if_neg hx))
theorem sX6_judgeMethod_151 : Rn r 97 151 [l0, l1, l2, l3, l4, l5] [vI x0, vI x1, vR z2] h Q ↔ Rn r 97 152 [l0, l1, l2, l3, l4, l5] [vI (-1), vI x0, vI x1, vR z2] h Q := Rn_nx pg97 rfl rfl
theorem sX6_judgeMethod_152 (hk : hK h a3 = 15) : Rn r 97 152 [l0, l1, l2, l3, l4, l5] [vI x0, vI x1, vI x2, vR (some a3)] h Q ↔ Cl r 96 [vR (some a3), vI x2, vI x1, vI x0] h (Kt r 97 155 [l0, l1, l2, l3, l4, l5] [] Q) := Rn_call pg97 rfl (by simp only [am_exec, am_inv, am_pop, am_lk, hk]; rfl) pg96 rfl rfl rfl
theorem sX6_judgeMethod_155 : Rn r 97 155 [l0, l1, l2, l3, l4, l5] [] h Q ↔ Rn r 97 205 [l0, l1, l2, l3, l4, l5] [] h Q := Rn_nx pg97 rfl rfl
theorem sX6_judgeMethod_158 : Rn r 97 158 [l0, l1, l2, some (vI x), l4, l5] [] h Q ↔ Rn r 97 159 [l0, l1, l2, some (vI x), l4, l5] [vI x] h Q := Rn_nx pg97 rfl rfl
theorem sX6_judgeMethod_159 : Rn r 97 159 [l0, l1, l2, l3, l4, l5] [vI x0] h Q ↔ Rn r 97 160 [l0, l1, l2, l3, l4, l5] [vI (-1), vI x0] h Q := Rn_nx pg97 rfl rfl
theorem sX6_judgeMethod_160 : Rn r 97 160 [l0, l1, l2, l3, l4, l5] [vI x0, vI x1] h Q ↔ if x1 = x0 then Rn r 97 205 [l0, l1, l2, l3, l4, l5] [] h Q else Rn r 97 163 [l0, l1, l2, l3, l4, l5] [] h Q := Rn_if pg97 rfl rfl rfl
theorem sX6_judgeMethod_163 : Rn r 97 163 [some (vR z), l1, l2, l3, l4, l5] [] h Q ↔ Rn r 97 164 [some (vR z), l1, l2, l3, l4, l5] [vR z] h Q := Rn_nx pg97 rfl rfl
theorem sX6_judgeMethod_164 : Rn r 97 164 [l0, l1, l2, l3, l4, some (vI x)] [vR z0] h Q ↔ Rn r 97 166 [l0, l1, l2, l3, l4, some (vI x)] [vI x, vR z0] h Q := Rn_nx pg97 rfl rfl
theorem sX6_judgeMethod_166 (hk : hK h a1 = 15) : Rn r 97 166 [l0, l1, l2, l3, l4, l5] [vI x0, vR (some a1)] h Q ↔ Cl r 46 [vR (some a1), vI x0] h (Kt r 97 169 [l0, l1, l2, l3, l4, l5] [] Q) := Rn_call pg97 rfl (by simp only [am_exec, am_inv, am_pop, am_lk, hk]; rfl) pg46 rfl rfl rfl
theorem sX6_judgeMethod_169 : Rn r 97 169 [l0, l1, l2, l3, l4, l5] [vI x0] h Q ↔ if x0 = 0 then Rn r 97 205 [l0, l1, l2, l3, l4, l5] [] h Q else Rn r 97 172 [l0, l1, l2, l3, l4, l5] [] h Q := Rn_if pg97 rfl rfl rfl
theorem sX6_judgeMethod_172 : Rn r 97 172 [some (vR z), l1, l2, l3, l4, l5] [] h Q ↔ Rn r 97 173 [some (vR z), l1, l2, l3, l4, l5] [vR z] h Q := Rn_nx pg97 rfl rfl
theorem sX6_judgeMethod_173 : Rn r 97 173 [l0, l1, l2, l3, l4, some (vI x)] [vR z0] h Q ↔ Rn r 97 175 [l0, l1, l2, l3, l4, some (vI x)] [vI x, vR z0] h Q := Rn_nx pg97 rfl rfl
theorem sX6_judgeMethod_175 : Rn r 97 175 [some (vR z), l1, l2, l3, l4, l5] [vI x0, vR z1] h Q ↔ Rn r 97 176 [some (vR z), l1, l2, l3, l4, l5] [vR z, vI x0, vR z1] h Q := Rn_nx pg97 rfl rfl
theorem sX6_judgeMethod_176 : Rn r 97 176 [l0, l1, l2, some (vI x), l4, l5] [vR z0, vI x1, vR z2] h Q ↔ Rn r 97 177 [l0, l1, l2, some (vI x), l4, l5] [vI x, vR z0, vI x1, vR z2] h Q := Rn_nx pg97 rfl rfl
theorem sX6_judgeMethod_177 (hk : hK h a1 = 15) : Rn r 97 177 [l0, l1, l2, l3, l4, l5] [vI x0, vR (some a1), vI x2, vR z3] h Q ↔ Cl r 51 [vR (some a1), vI x0] h (Kt r 97 180 [l0, l1, l2, l3, l4, l5] [vI x2, vR z3] Q) := Rn_call pg97 rfl (by simp only [am_exec, am_inv, am_pop, am_lk, hk]; rfl) pg51 rfl rfl rfl
theorem sX6_judgeMethod_180 (hk : hK h a2 = 15) : Rn r 97 180 [l0, l1, l2, l3, l4, l5] [vI x0, vI x1, vR (some a2)] h Q ↔ Cl r 146 [vR (some a2), vI x1, vI x0] h (Kt r 97 183 [l0, l1, l2, l3, l4, l5] [] Q) := Rn_call pg97 rfl (by simp only [am_exec, am_inv, am_pop, am_lk, hk]; rfl) pg146 rfl rfl rfl
theorem sX6_judgeMethod_183 : Rn r 97 183 [l0, l1, l2, l3, l4, l5] [vI x0] h Q ↔ if x0 ≠ 0 then Rn r 97 205 [l0, l1, l2, l3, l4, l5] [] h Q else Rn r 97 186 [l0, l1, l2, l3, l4, l5] [] h Q := Rn_if pg97 rfl rfl rfl
theorem sX6_judgeMethod_186 : Rn r 97 186 [some (vR z), l1, l2, l3, l4, l5] [] h Q ↔ Rn r 97 187 [some (vR z), l1, l2, l3, l4, l5] [vR z] h Q := Rn_nx pg97 rfl rfl
theorem sX6_judgeMethod_187 : Rn r 97 187 [l0, l1, l2, l3, l4, l5] [vR z0] h Q ↔ Rn r 97 189 [l0, l1, l2, l3, l4, l5] [vI 10, vR z0] h Q := Rn_nx pg97 rfl rfl
theorem sX6_judgeMethod_189 : Rn r 97 189 [some (vR z), l1, l2, l3, l4, l5] [vI x0, vR z1] h Q ↔ Rn r 97 190 [some (vR z), l1, l2, l3, l4, l5] [vR z, vI x0, vR z1] h Q := Rn_nx pg97 rfl rfl
theorem sX6_judgeMethod_190 (hk : hK h a0 = 15) : Rn r 97 190 [l0, l1, l2, l3, l4, l5] [vR (some a0), vI x1, vR z2] h Q ↔ Rn r 97 193 [l0, l1, l2, l3, l4, l5] [vR (hR h a0 17), vI x1, vR z2] h Q := Rn_nx pg97 rfl (if_pos ⟨(hk ▸ Nat.le_refl _), (hk ▸ Nat.le_refl _)⟩)
theorem sX6_judgeMethod_193 : Rn r 97 193 [l0, l1, l2, l3, l4, l5] [vR z0, vI x1, vR z2] h Q ↔ Rn r 97 194 [l0, l1, l2, l3, l4, l5] [vI 4, vR z0, vI x1, vR z2] h Q := Rn_nx pg97 rfl rfl
theorem sX6_judgeMethod_194 : Rn r 97 194 [l0, l1, some (vI x), l3, l4, l5] [vI x0, vR z1, vI x2, vR z3] h Q ↔ Rn r 97 195 [l0, l1, some (vI x), l3, l4, l5] [vI x, vI x0, vR z1, vI x2, vR z3] h Q := Rn_nx pg97 rfl rfl
theorem sX6_judgeMethod_195 : Rn r 97 195 [l0, l1, l2, l3, l4, l5] [vI x0, vI x1, vR z2, vI x3, vR z4] h Q ↔ Rn r 97 196 [l0, l1, l2, l3, l4, l5] [vI (x1 * x0), vR z2, vI x3, vR z4] h Q := Rn_nx pg97 rfl rfl
theorem sX6_judgeMethod_196 : Rn r 97 196 [l0, l1, l2, l3, some (vI x), l5] [vI x0, vR z1, vI x2, vR z3] h Q ↔ Rn r 97 198 [l0, l1, l2, l3, some (vI x), l5] [vI x, vI x0, vR z1, vI x2, vR z3] h Q := Rn_nx pg97 rfl rfl
theorem sX6_judgeMethod_198 : Rn r 97 198 [l0, l1, l2, l3, l4, l5] [vI x0, vI x1, vR z2, vI x3, vR z4] h Q ↔ Rn r 97 199 [l0, l1, l2, l3, l4, l5] [vI (x1 + x0), vR z2, vI x3, vR z4] h Q := Rn_nx pg97 rfl rfl
theorem sX6_judgeMethod_199 (hk : 40 ≤ hK h a1) (hk2 : hK h a1 ≤ 41) (hx : ¬ (x0 < 0 ∨ hL h a1 ≤ x0.toNatClampNeg)) : Rn r 97 199 [l0, l1, l2, l3, l4, l5] [vI x0, vR (some a1), vI x2, vR z3] h Q ↔ Rn r 97 200 [l0, l1, l2, l3, l4, l5] [vI (hI h a1 x0.toNatClampNeg), vI x2, vR z3] h Q := Rn_nx pg97 rfl ((if_pos ⟨hk, hk2⟩).trans (if_neg hx))
theorem sX6_judgeMethod_200 : Rn r 97 200 [l0, l1, l2, l3, l4, some (vI x)] [vI x0, vI x1, vR z2] h Q ↔ Rn r 97 202 [l0, l1, l2, l3, l4, some (vI x)] [vI x, vI x0, vI x1, vR z2] h Q := Rn_nx pg97 rfl rfl
theorem sX6_judgeMethod_202 (hk : hK h a3 = 15) : Rn r 97 202 [l0, l1, l2, l3, l4, l5] [vI x0, vI x1, vI x2, vR (some a3)] h Q ↔ Cl r 96 [vR (some a3), vI x2, vI x1, vI x0] h (Kt r 97 205 [l0, l1, l2, l3, l4, l5] [] Q) := Rn_call pg97 rfl (by simp only [am_exec, am_inv, am_pop, am_lk, hk]; rfl) pg96 rfl rfl rfl
theorem sX6_judgeMethod_205 : Rn r 97 205 [l0, l1, l2, l3, some (vI x), l5] [] h Q ↔ Rn r 97 208 [l0, l1, l2, l3, some (vI (x + 1)), l5] [] h Q := Rn_nx pg97 rfl rfl
theorem sX6_judgeMethod_208 : Rn r 97 208 [l0, l1, l2, l3, l4, l5] [] h Q ↔ Rn r 97 93 [l0, l1, l2, l3, l4, l5] [] h Q := Rn_nx pg97 rfl rfl
theorem sX6_judgeMethod_211 : Rn r 97 211 [some (vR z), l1, l2, l3, l4, l5] [] h Q ↔ Rn r 97 212 [some (vR z), l1, l2, l3, l4, l5] [vR z] h Q := Rn_nx pg97 rfl rfl
theorem sX6_judgeMethod_212 : Rn r 97 212 [some (vR z), l1, l2, l3, l4, l5] [vR z0] h Q ↔ Rn r 97 213 [some (vR z), l1, l2, l3, l4, l5] [vR z, vR z0] h Q := Rn_nx pg97 rfl rfl
theorem sX6_judgeMethod_213 : Rn r 97 213 [some (vR z), l1, l2, l3, l4, l5] [vR z0, vR z1] h Q ↔ Rn r 97 214 [some (vR z), l1, l2, l3, l4, l5] [vR z, vR z0, vR z1] h Q := Rn_nx pg97 rfl rfl
theorem sX6_judgeMethod_214 (hk : hK h a0 = 15) : Rn r 97 214 [l0, l1, l2, l3, l4, l5] [vR (some a0), vR z1, vR z2] h Q ↔ Rn r 97 217 [l0, l1, l2, l3, l4, l5] [vR (hR h a0 18), vR z1, vR z2] h Q := Rn_nx pg97 rfl (if_pos ⟨(hk ▸ Nat.le_refl _), (hk ▸ Nat.le_refl _)⟩)
theorem sX6_judgeMethod_217 : Rn r 97 217 [l0, l1, some (vI x), l3, l4, l5] [vR z0, vR z1, vR z2] h Q ↔ Rn r 97 218 [l0, l1, some (vI x), l3, l4, l5] [vI x, vR z0, vR z1, vR z2] h Q := Rn_nx pg97 rfl rfl
theorem sX6_judgeMethod_218 (hk : 40 ≤ hK h a1) (hk2 : hK h a1 ≤ 41) (hx : ¬ (x0 < 0 ∨ hL h a1 ≤ x0.toNatClampNeg)) : Rn r 97 218 [l0, l1, l2, l3, l4, l5] [vI x0, vR (some a1), vR z2, vR z3] h Q ↔ Rn r 97 219 [l0, l1, l2, l3, l4, l5] [vI (hI h a1 x0.toNatClampNeg), vR z2, vR z3] h Q := Rn_nx pg97 rfl ((if_pos ⟨hk, hk2⟩).trans (if_neg hx))
theorem sX6_judgeMethod_219 (hk : hK h a1 = 15) : Rn r 97 219 [l0, l1, l2, l3, l4, l5] [vI x0, vR (some a1), vR z2] h Q ↔ Cl r 50 [vR (some a1), vI x0] h (Kt r 97 222 [l0, l1, l2, l3, l4, l5] [vR z2] Q) := Rn_call pg97 rfl (by simp only [am_exec, am_inv, am_pop, am_lk, hk]; rfl) pg50 rfl rfl rfl
theorem sX6_judgeMethod_222 : Rn r 97 222 [some (vR z), l1, l2, l3, l4, l5] [vI x0, vR z1] h Q ↔ Rn r 97 223 [some (vR z), l1, l2, l3, l4, l5] [vR z, vI x0, vR z1] h Q := Rn_nx pg97 rfl rfl
theorem sX6_judgeMethod_223 : Rn r 97 223 [l0, some (vI x), l2, l3, l4, l5] [vR z0, vI x1, vR z2] h Q ↔ Rn r 97 224 [l0, some (vI x), l2, l3, l4, l5] [vI x, vR z0, vI x1, vR z2] h Q := Rn_nx pg97 rfl rfl
theorem sX6_judgeMethod_224 (hk : hK h a1 = 15) : Rn r 97 224 [l0, l1, l2, l3, l4, l5] [vI x0, vR (some a1), vI x2, vR z3] h Q ↔ Cl r 51 [vR (some a1), vI x0] h (Kt r 97 227 [l0, l1, l2, l3, l4, l5] [vI x2, vR z3] Q) := Rn_call pg97 rfl (by simp only [am_exec, am_inv, am_pop, am_lk, hk]; rfl) pg51 rfl rfl rfl
theorem sX6_judgeMethod_227 : Rn r 97 227 [some (vR z), l1, l2, l3, l4, l5] [vI x0, vI x1, vR z2] h Q ↔ Rn r 97 228 [some (vR z), l1, l2, l3, l4, l5] [vR z, vI x0, vI x1, vR z2] h Q := Rn_nx pg97 rfl rfl
theorem sX6_judgeMethod_228 (hk : hK h a0 = 15) : Rn r 97 228 [l0, l1, l2, l3, l4, l5] [vR (some a0), vI x1, vI x2, vR z3] h Q ↔ Rn r 97 231 [l0, l1, l2, l3, l4, l5] [vR (hR h a0 11), vI x1, vI x2, vR z3] h Q := Rn_nx pg97 rfl (if_pos ⟨(hk ▸ Nat.le_refl _), (hk ▸ Nat.le_refl _)⟩)
theorem sX6_judgeMethod_231 : Rn r 97 231 [l0, l1, some (vI x), l3, l4, l5] [vR z0, vI x1, vI x2, vR z3] h Q ↔ Rn r 97 232 [l0, l1, some (vI x), l3, l4, l5] [vI x, vR z0, vI x1, vI x2, vR z3] h Q := Rn_nx pg97 rfl rfl
theorem sX6_judgeMethod_232 (hk : 40 ≤ hK h a1) (hk2 : hK h a1 ≤ 41) (hx : ¬ (x0 < 0 ∨ hL h a1 ≤ x0.toNatClampNeg)) : Rn r 97 232 [l0, l1, l2, l3, l4, l5] [vI x0, vR (some a1), vI x2, vI x3, vR z4] h Q ↔ Rn r 97 233 [l0, l1, l2, l3, l4, l5] [vI (hI h a1 x0.toNatClampNeg), vI x2, vI x3, vR z4] h Q := Rn_nx pg97 rfl ((if_pos ⟨hk, hk2⟩).trans (if_neg hx))
theorem sX6_judgeMethod_233 (hk : hK h a3 = 15) : Rn r 97 233 [l0, l1, l2, l3, l4, l5] [vI x0, vI x1, vI x2, vR (some a3)] h Q ↔ Cl r 147 [vR (some a3), vI x2, vI x1, vI x0] h (Kt r 97 236 [l0, l1, l2, l3, l4, l5] [] Q) := Rn_call pg97 rfl (by simp only [am_exec, am_inv, am_pop, am_lk, hk]; rfl) pg147 rfl rfl rfl
theorem sX6_judgeMethod_236 : Rn r 97 236 [l0, l1, l2, l3, l4, l5] [] h Q ↔ Q (Sum.inl none) h := Rn_end pg97 rfl rfl
/-! 98 ThrowRulesModel.judgeStatement(I)V -/
theorem eX6_judgeStatement : Cl r 98 [vR z0, vI x1] h Q ↔ Rn r 98 0 [some (vR z0), some (vI x1), none, none, none, none] [] h Q := Cl_in pg98 rfl
theorem sX6_judgeStatement_0 : Rn r 98 0 [some (vR z), l1, l2, l3, l4, l5] [] h Q ↔ Rn r 98 1 [some (vR z), l1, l2, l3, l4, l5] [vR z] h Q := Rn_nx pg98 rfl rfl
theorem sX6_judgeStatement_1 (hk : hK h a0 = 15) : Rn r 98 1 [l0, l1, l2, l3, l4, l5] [vR (some a0)] h Q ↔ Rn r 98 4 [l0, l1, l2, l3, l4, l5] [vR (hR h a0 20)] h Q := Rn_nx pg98 rfl (if_pos ⟨(hk ▸ Nat.le_refl _), (hk ▸ Nat.le_refl _)⟩)
theorem sX6_judgeStatement_4 : Rn r 98 4 [l0, some (vI x), l2, l3, l4, l5] [vR z0] h Q ↔ Rn r 98 5 [l0, some (vI x), l2, l3, l4, l5] [vI x, vR z0] h Q := Rn_nx pg98 rfl rfl
theorem sX6_judgeStatement_5 (hk : 40 ≤ hK h a1) (hk2 : hK h a1 ≤ 41) (hx : ¬ (x0 < 0 ∨ hL h a1 ≤ x0.toNatClampNeg)) : Rn r 98 5 [l0, l1, l2, l3, l4, l5] [vI x0, vR (some a1)] h Q ↔ Rn r 98 6 [l0, l1, l2, l3, l4, l5] [vI (hI h a1 x0.toNatClampNeg)] h Q := Rn_nx pg98 rfl ((if_pos ⟨hk, hk2⟩).trans (if_neg hx))
theorem sX6_judgeStatement_6 : Rn r 98 6 [l0, l1, l2, l3, l4, l5] [vI x0] h Q ↔ Rn r 98 7 [l0, l1, l2, l3, l4, l5] [vI 2, vI x0] h Q := Rn_nx pg98 rfl rfl
theorem sX6_judgeStatement_7 : Rn r 98 7 [l0, l1, l2, l3, l4, l5] [vI x0, vI x1] h Q ↔ if x1 = x0 then Rn r 98 20 [l0, l1, l2, l3, l4, l5] [] h Q else Rn r 98 10 [l0, l1, l2, l3, l4, l5] [] h Q := Rn_if pg98 rfl rfl rfl
theorem sX6_judgeStatement_10 : Rn r 98 10 [some (vR z), l1, l2, l3, l4, l5] [] h Q ↔ Rn r 98 11 [some (vR z), l1, l2, l3, l4, l5] [vR z] h Q := Rn_nx pg98 rfl rfl
theorem sX6_judgeStatement_11 (hk : hK h a0 = 15) : Rn r 98 11 [l0, l1, l2, l3, l4, l5] [vR (some a0)] h Q ↔ Rn r 98 14 [l0, l1, l2, l3, l4, l5] [vR (hR h a0 20)] h Q := Rn_nx pg98 rfl (if_pos ⟨(hk ▸ Nat.le_refl _), (hk ▸ Nat.le_refl _)⟩)
theorem sX6_judgeStatement_14 : Rn r 98 14 [l0, some (vI x), l2, l3, l4, l5] [vR z0] h Q ↔ Rn r 98 15 [l0, some (vI x), l2, l3, l4, l5] [vI x, vR z0] h Q := Rn_nx pg98 rfl rfl
theorem sX6_judgeStatement_15 (hk : 40 ≤ hK h a1) (hk2 : hK h a1 ≤ 41) (hx : ¬ (x0 < 0 ∨ hL h a1 ≤ x0.toNatClampNeg)) : Rn r 98 15 [l0, l1, l2, l3, l4, l5] [vI x0, vR (some a1)] h Q ↔ Rn r 98 16 [l0, l1, l2, l3, l4, l5] [vI (hI h a1 x0.toNatClampNeg)] h Q := Rn_nx pg98 rfl ((if_pos ⟨hk, hk2⟩).trans (if_neg hx))
theorem sX6_judgeStatement_16 : Rn r 98 16 [l0, l1, l2, l3, l4, l5] [vI x0] h Q ↔ Rn r 98 17 [l0, l1, l2, l3, l4, l5] [vI 3, vI x0] h Q := Rn_nx pg98 rfl rfl
theorem sX6_judgeStatement_17 : Rn r 98 17 [l0, l1, l2, l3, l4, l5] [vI x0, vI x1] h Q ↔ if x1 ≠ x0 then Rn r 98 39 [l0, l1, l2, l3, l4, l5] [] h Q else Rn r 98 20 [l0, l1, l2, l3, l4, l5] [] h Q := Rn_if pg98 rfl rfl rfl
theorem sX6_judgeStatement_20 : Rn r 98 20 [some (vR z), l1, l2, l3, l4, l5] [] h Q ↔ Rn r 98 21 [some (vR z), l1, l2, l3, l4, l5] [vR z] h Q := Rn_nx pg98 rfl rfl
theorem sX6_judgeStatement_21 : Rn r 98 21 [some (vR z), l1, l2, l3, l4, l5] [vR z0] h Q ↔ Rn r 98 22 [some (vR z), l1, l2, l3, l4, l5] [vR z, vR z0] h Q := Rn_nx pg98 rfl rfl
theorem sX6_judgeStatement_22 (hk : hK h a0 = 15) : Rn r 98 22 [l0, l1, l2, l3, l4, l5] [vR (some a0), vR z1] h Q ↔ Rn r 98 25 [l0, l1, l2, l3, l4, l5] [vR (hR h a0 25), vR z1] h Q := Rn_nx pg98 rfl (if_pos ⟨(hk ▸ Nat.le_refl _), (hk ▸ Nat.le_refl _)⟩)
theorem sX6_judgeStatement_25 : Rn r 98 25 [l0, some (vI x), l2, l3, l4, l5] [vR z0, vR z1] h Q ↔ Rn r 98 26 [l0, some (vI x), l2, l3, l4, l5] [vI x, vR z0, vR z1] h Q := Rn_nx pg98 rfl rfl
theorem sX6_judgeStatement_26 (hk : hK h a1 = 42) (hx : ¬ (x0 < 0 ∨ hL h a1 ≤ x0.toNatClampNeg)) : Rn r 98 26 [l0, l1, l2, l3, l4, l5] [vI x0, vR (some a1), vR z2] h Q ↔ Rn r 98 27 [l0, l1, l2, l3, l4, l5] [vL (hJ h a1 x0.toNatClampNeg), vR z2] h Q := Rn_nx pg98 rfl ((if_pos ⟨(hk ▸ Nat.le_refl _), (hk ▸ Nat.le_refl _)⟩).trans (if_neg hx))
theorem sX6_judgeStatement_27 : Rn r 98 27 [some (vR z), l1, l2, l3, l4, l5] [vL y0, vR z1] h Q ↔ Rn r 98 28 [some (vR z), l1, l2, l3, l4, l5] [vR z, vL y0, vR z1] h Q := Rn_nx pg98 rfl rfl
theorem sX6_judgeStatement_28 (hk : hK h a0 = 15) : Rn r 98 28 [l0, l1, l2, l3, l4, l5] [vR (some a0), vL y1, vR z2] h Q ↔ Rn r 98 31 [l0, l1, l2, l3, l4, l5] [vR (hR h a0 22), vL y1, vR z2] h Q := Rn_nx pg98 rfl (if_pos ⟨(hk ▸ Nat.le_refl _), (hk ▸ Nat.le_refl _)⟩)
theorem sX6_judgeStatement_31 : Rn r 98 31 [l0, some (vI x), l2, l3, l4, l5] [vR z0, vL y1, vR z2] h Q ↔ Rn r 98 32 [l0, some (vI x), l2, l3, l4, l5] [vI x, vR z0, vL y1, vR z2] h Q := Rn_nx pg98 rfl rfl
theorem sX6_judgeStatement_32 (hk : 40 ≤ hK h a1) (hk2 : hK h a1 ≤ 41) (hx : ¬ (x0 < 0 ∨ hL h a1 ≤ x0.toNatClampNeg)) : Rn r 98 32 [l0, l1, l2, l3, l4, l5] [vI x0, vR (some a1), vL y2, vR z3] h Q ↔ Rn r 98 33 [l0, l1, l2, l3, l4, l5] [vI (hI h a1 x0.toNatClampNeg), vL y2, vR z3] h Q := Rn_nx pg98 rfl ((if_pos ⟨hk, hk2⟩).trans (if_neg hx))
theorem sX6_judgeStatement_33 (hk : hK h a2 = 15) : Rn r 98 33 [l0, l1, l2, l3, l4, l5] [vI x0, vL y1, vR (some a2)] h Q ↔ Cl r 107 [vR (some a2), vL y1, vI x0] h (Kt r 98 36 [l0, l1, l2, l3, l4, l5] [] Q) := Rn_call pg98 rfl (by simp only [am_exec, am_inv, am_pop, am_lk, hk]; rfl) pg107 rfl rfl rfl
theorem sX6_judgeStatement_36 : Rn r 98 36 [l0, l1, l2, l3, l4, l5] [vI x0] h Q ↔ Rn r 98 40 [l0, l1, l2, l3, l4, l5] [vI x0] h Q := Rn_nx pg98 rfl rfl
theorem sX6_judgeStatement_39 : Rn r 98 39 [l0, l1, l2, l3, l4, l5] [] h Q ↔ Rn r 98 40 [l0, l1, l2, l3, l4, l5] [vI (-1)] h Q := Rn_nx pg98 rfl rfl
theorem sX6_judgeStatement_40 : Rn r 98 40 [l0, l1, l2, l3, l4, l5] [vI x0] h Q ↔ Rn r 98 41 [l0, l1, some (vI x0), l3, l4, l5] [] h Q := Rn_nx pg98 rfl rfl
theorem sX6_judgeStatement_41 : Rn r 98 41 [some (vR z), l1, l2, l3, l4, l5] [] h Q ↔ Rn r 98 42 [some (vR z), l1, l2, l3, l4, l5] [vR z] h Q := Rn_nx pg98 rfl rfl
theorem sX6_judgeStatement_42 (hk : hK h a0 = 15) : Rn r 98 42 [l0, l1, l2, l3, l4, l5] [vR (some a0)] h Q ↔ Rn r 98 45 [l0, l1, l2, l3, l4, l5] [vI (hI h a0 57)] h Q := Rn_nx pg98 rfl (if_pos ⟨(hk ▸ Nat.le_refl _), (hk ▸ Nat.le_refl _)⟩)
theorem sX6_judgeStatement_45 : Rn r 98 45 [l0, l1, l2, l3, l4, l5] [vI x0] h Q ↔ Rn r 98 46 [l0, l1, l2, some (vI x0), l4, l5] [] h Q := Rn_nx pg98 rfl rfl
theorem sX6_judgeStatement_46 : Rn r 98 46 [some (vR z), l1, l2, l3, l4, l5] [] h Q ↔ Rn r 98 47 [some (vR z), l1, l2, l3, l4, l5] [vR z] h Q := Rn_nx pg98 rfl rfl
theorem sX6_judgeStatement_47 (hk : hK h a0 = 15) : Rn r 98 47 [l0, l1, l2, l3, l4, l5] [vR (some a0)] h Q ↔ Rn r 98 50 [l0, l1, l2, l3, l4, l5] [vR (hR h a0 20)] h Q := Rn_nx pg98 rfl (if_pos ⟨(hk ▸ Nat.le_refl _), (hk ▸ Nat.le_refl _)⟩)
theorem sX6_judgeStatement_50 : Rn r 98 50 [l0, some (vI x), l2, l3, l4, l5] [vR z0] h Q ↔ Rn r 98 51 [l0, some (vI x), l2, l3, l4, l5] [vI x, vR z0] h Q := Rn_nx pg98 rfl rfl
theorem sX6_judgeStatement_51 (hk : 40 ≤ hK h a1) (hk2 : hK h a1 ≤ 41) (hx : ¬ (x0 < 0 ∨ hL h a1 ≤ x0.toNatClampNeg)) : Rn r 98 51 [l0, l1, l2, l3, l4, l5] [vI x0, vR (some a1)] h Q ↔ Rn r 98 52 [l0, l1, l2, l3, l4, l5] [vI (hI h a1 x0.toNatClampNeg)] h Q := Rn_nx pg98 rfl ((if_pos ⟨hk, hk2⟩).trans (if_neg hx))
theorem sX6_judgeStatement_52 : Rn r 98 52 [l0, l1, l2, l3, l4, l5] [vI x0] h Q ↔ Rn r 98 (if x0 = 1 then 108 else if x0 = 2 then 190 else if x0 = 3 then 260 else if x0 = 4 then 398 else if x0 = 5 then 398 else if x0 = 6 then 398 else if x0 = 7 then 373 else if x0 = 8 then 398 else if x0 = 9 then 270 else if x0 = 10 then 278 else 398) [l0, l1, l2, l3, l4, l5] [] h Q := Rn_nx pg98 rfl rfl
theorem sX6_judgeStatement_108 : Rn r 98 108 [some (vR z), l1, l2, l3, l4, l5] [] h Q ↔ Rn r 98 109 [some (vR z), l1, l2, l3, l4, l5] [vR z] h Q := Rn_nx pg98 rfl rfl
theorem sX6_judgeStatement_109 : Rn r 98 109 [some (vR z), l1, l2, l3, l4, l5] [vR z0] h Q ↔ Rn r 98 110 [some (vR z), l1, l2, l3, l4, l5] [vR z, vR z0] h Q := Rn_nx pg98 rfl rfl
theorem sX6_judgeStatement_110 (hk : hK h a0 = 15) : Rn r 98 110 [l0, l1, l2, l3, l4, l5] [vR (some a0), vR z1] h Q ↔ Rn r 98 113 [l0, l1, l2, l3, l4, l5] [vR (hR h a0 25), vR z1] h Q := Rn_nx pg98 rfl (if_pos ⟨(hk ▸ Nat.le_refl _), (hk ▸ Nat.le_refl _)⟩)
theorem sX6_judgeStatement_113 : Rn r 98 113 [l0, some (vI x), l2, l3, l4, l5] [vR z0, vR z1] h Q ↔ Rn r 98 114 [l0, some (vI x), l2, l3, l4, l5] [vI x, vR z0, vR z1] h Q := Rn_nx pg98 rfl rfl
theorem sX6_judgeStatement_114 (hk : hK h a1 = 42) (hx : ¬ (x0 < 0 ∨ hL h a1 ≤ x0.toNatClampNeg)) : Rn r 98 114 [l0, l1, l2, l3, l4, l5] [vI x0, vR (some a1), vR z2] h Q ↔ Rn r 98 115 [l0, l1, l2, l3, l4, l5] [vL (hJ h a1 x0.toNatClampNeg), vR z2] h Q := Rn_nx pg98 rfl ((if_pos ⟨(hk ▸ Nat.le_refl _), (hk ▸ Nat.le_refl _)⟩).trans (if_neg hx))
theorem sX6_judgeStatement_115 (hk : hK h a1 = 15) : Rn r 98 115 [l0, l1, l2, l3, l4, l5] [vL y0, vR (some a1)] h Q ↔ Cl r 53 [vR (some a1), vL y0] h (Kt r 98 118 [l0, l1, l2, l3, l4, l5] [] Q) := Rn_call pg98 rfl (by simp only [am_exec, am_inv, am_pop, am_lk, hk]; rfl) pg53 rfl rfl rfl
theorem sX6_judgeStatement_118 : Rn r 98 118 [l0, l1, l2, l3, l4, l5] [vI x0] h Q ↔ Rn r 98 120 [l0, l1, l2, l3, some (vI x0), l5] [] h Q := Rn_nx pg98 rfl rfl
theorem sX6_judgeStatement_120 : Rn r 98 120 [l0, l1, l2, l3, some (vI x), l5] [] h Q ↔ Rn r 98 122 [l0, l1, l2, l3, some (vI x), l5] [vI x] h Q := Rn_nx pg98 rfl rfl
theorem sX6_judgeStatement_122 : Rn r 98 122 [l0, l1, l2, l3, l4, l5] [vI x0] h Q ↔ Rn r 98 123 [l0, l1, l2, l3, l4, l5] [vI (-1), vI x0] h Q := Rn_nx pg98 rfl rfl
theorem sX6_judgeStatement_123 : Rn r 98 123 [l0, l1, l2, l3, l4, l5] [vI x0, vI x1] h Q ↔ if x1 ≠ x0 then Rn r 98 141 [l0, l1, l2, l3, l4, l5] [] h Q else Rn r 98 126 [l0, l1, l2, l3, l4, l5] [] h Q := Rn_if pg98 rfl rfl rfl
theorem sX6_judgeStatement_126 : Rn r 98 126 [some (vR z), l1, l2, l3, l4, l5] [] h Q ↔ Rn r 98 127 [some (vR z), l1, l2, l3, l4, l5] [vR z] h Q := Rn_nx pg98 rfl rfl
theorem sX6_judgeStatement_127 : Rn r 98 127 [l0, l1, l2, l3, l4, l5] [vR z0] h Q ↔ Rn r 98 128 [l0, l1, l2, l3, l4, l5] [vI 1, vR z0] h Q := Rn_nx pg98 rfl rfl
theorem sX6_judgeStatement_128 : Rn r 98 128 [some (vR z), l1, l2, l3, l4, l5] [vI x0, vR z1] h Q ↔ Rn r 98 129 [some (vR z), l1, l2, l3, l4, l5] [vR z, vI x0, vR z1] h Q := Rn_nx pg98 rfl rfl
theorem sX6_judgeStatement_129 (hk : hK h a0 = 15) : Rn r 98 129 [l0, l1, l2, l3, l4, l5] [vR (some a0), vI x1, vR z2] h Q ↔ Rn r 98 132 [l0, l1, l2, l3, l4, l5] [vR (hR h a0 26), vI x1, vR z2] h Q := Rn_nx pg98 rfl (if_pos ⟨(hk ▸ Nat.le_refl _), (hk ▸ Nat.le_refl _)⟩)
theorem sX6_judgeStatement_132 : Rn r 98 132 [l0, some (vI x), l2, l3, l4, l5] [vR z0, vI x1, vR z2] h Q ↔ Rn r 98 133 [l0, some (vI x), l2, l3, l4, l5] [vI x, vR z0, vI x1, vR z2] h Q := Rn_nx pg98 rfl rfl
theorem sX6_judgeStatement_133 (hk : 40 ≤ hK h a1) (hk2 : hK h a1 ≤ 41) (hx : ¬ (x0 < 0 ∨ hL h a1 ≤ x0.toNatClampNeg)) : Rn r 98 133 [l0, l1, l2, l3, l4, l5] [vI x0, vR (some a1), vI x2, vR z3] h Q ↔ Rn r 98 134 [l0, l1, l2, l3, l4, l5] [vI (hI h a1 x0.toNatClampNeg), vI x2, vR z3] h Q := Rn_nx pg98 rfl ((if_pos ⟨hk, hk2⟩).trans (if_neg hx))
theorem sX6_judgeStatement_134 : Rn r 98 134 [l0, l1, l2, l3, l4, l5] [vI x0, vI x1, vR z2] h Q ↔ Rn r 98 135 [l0, l1, l2, l3, l4, l5] [vI (-1), vI x0, vI x1, vR z2] h Q := Rn_nx pg98 rfl rfl
theorem sX6_judgeStatement_135 (hk : hK h a3 = 15) : Rn r 98 135 [l0, l1, l2, l3, l4, l5] [vI x0, vI x1, vI x2, vR (some a3)] h Q ↔ Cl r 96 [vR (some a3), vI x2, vI x1, vI x0] h (Kt r 98 138 [l0, l1, l2, l3, l4, l5] [] Q) := Rn_call pg98 rfl (by simp only [am_exec, am_inv, am_pop, am_lk, hk]; rfl) pg96 rfl rfl rfl
theorem sX6_judgeStatement_138 : Rn r 98 138 [l0, l1, l2, l3, l4, l5] [] h Q ↔ Rn r 98 398 [l0, l1, l2, l3, l4, l5] [] h Q := Rn_nx pg98 rfl rfl
theorem sX6_judgeStatement_141 : Rn r 98 141 [some (vR z), l1, l2, l3, l4, l5] [] h Q ↔ Rn r 98 142 [some (vR z), l1, l2, l3, l4, l5] [vR z] h Q := Rn_nx pg98 rfl rfl
theorem sX6_judgeStatement_142 (hk : hK h a0 = 15) : Rn r 98 142 [l0, l1, l2, l3, l4, l5] [vR (some a0)] h Q ↔ Rn r 98 145 [l0, l1, l2, l3, l4, l5] [vR (hR h a0 27)] h Q := Rn_nx pg98 rfl (if_pos ⟨(hk ▸ Nat.le_refl _), (hk ▸ Nat.le_refl _)⟩)
theorem sX6_judgeStatement_145 : Rn r 98 145 [l0, some (vI x), l2, l3, l4, l5] [vR z0] h Q ↔ Rn r 98 146 [l0, some (vI x), l2, l3, l4, l5] [vI x, vR z0] h Q := Rn_nx pg98 rfl rfl
theorem sX6_judgeStatement_146 (hk : 40 ≤ hK h a1) (hk2 : hK h a1 ≤ 41) (hx : ¬ (x0 < 0 ∨ hL h a1 ≤ x0.toNatClampNeg)) : Rn r 98 146 [l0, l1, l2, l3, l4, l5] [vI x0, vR (some a1)] h Q ↔ Rn r 98 147 [l0, l1, l2, l3, l4, l5] [vI (hI h a1 x0.toNatClampNeg)] h Q := Rn_nx pg98 rfl ((if_pos ⟨hk, hk2⟩).trans (if_neg hx))
theorem sX6_judgeStatement_147 : Rn r 98 147 [l0, l1, l2, l3, l4, l5] [vI x0] h Q ↔ Rn r 98 148 [l0, l1, l2, l3, l4, l5] [vI (-1), vI x0] h Q := Rn_nx pg98 rfl rfl
theorem sX6_judgeStatement_148 : Rn r 98 148 [l0, l1, l2, l3, l4, l5] [vI x0, vI x1] h Q ↔ if x1 = x0 then Rn r 98 398 [l0, l1, l2, l3, l4, l5] [] h Q else Rn r 98 151 [l0, l1, l2, l3, l4, l5] [] h Q := Rn_if pg98 rfl rfl rfl
theorem sX6_judgeStatement_151 : Rn r 98 151 [some (vR z), l1, l2, l3, l4, l5] [] h Q ↔ Rn r 98 152 [some (vR z), l1, l2, l3, l4, l5] [vR z] h Q := Rn_nx pg98 rfl rfl
theorem sX6_judgeStatement_152 (hk : hK h a0 = 15) : Rn r 98 152 [l0, l1, l2, l3, l4, l5] [vR (some a0)] h Q ↔ Rn r 98 155 [l0, l1, l2, l3, l4, l5] [vR (hR h a0 14)] h Q := Rn_nx pg98 rfl (if_pos ⟨(hk ▸ Nat.le_refl _), (hk ▸ Nat.le_refl _)⟩)
theorem sX6_judgeStatement_155 : Rn r 98 155 [some (vR z), l1, l2, l3, l4, l5] [vR z0] h Q ↔ Rn r 98 156 [some (vR z), l1, l2, l3, l4, l5] [vR z, vR z0] h Q := Rn_nx pg98 rfl rfl
theorem sX6_judgeStatement_156 (hk : hK h a0 = 15) : Rn r 98 156 [l0, l1, l2, l3, l4, l5] [vR (some a0), vR z1] h Q ↔ Rn r 98 159 [l0, l1, l2, l3, l4, l5] [vI (hI h a0 2), vR z1] h Q := Rn_nx pg98 rfl (if_pos ⟨(hk ▸ Nat.le_refl _), (hk ▸ Nat.le_refl _)⟩)
theorem sX6_judgeStatement_159 : Rn r 98 159 [l0, l1, l2, l3, l4, l5] [vI x0, vR z1] h Q ↔ Rn r 98 161 [l0, l1, l2, l3, l4, l5] [vI 12, vI x0, vR z1] h Q := Rn_nx pg98 rfl rfl
theorem sX6_judgeStatement_161 : Rn r 98 161 [l0, l1, l2, l3, l4, l5] [vI x0, vI x1, vR z2] h Q ↔ Rn r 98 162 [l0, l1, l2, l3, l4, l5] [vI (x1 * x0), vR z2] h Q := Rn_nx pg98 rfl rfl
theorem sX6_judgeStatement_162 : Rn r 98 162 [l0, l1, l2, l3, some (vI x), l5] [vI x0, vR z1] h Q ↔ Rn r 98 164 [l0, l1, l2, l3, some (vI x), l5] [vI x, vI x0, vR z1] h Q := Rn_nx pg98 rfl rfl
theorem sX6_judgeStatement_164 : Rn r 98 164 [l0, l1, l2, l3, l4, l5] [vI x0, vI x1, vR z2] h Q ↔ Rn r 98 165 [l0, l1, l2, l3, l4, l5] [vI (x1 + x0), vR z2] h Q := Rn_nx pg98 rfl rfl
theorem sX6_judgeStatement_165 (hk : 43 ≤ hK h a1) (hk2 : hK h a1 ≤ 45) (hx : ¬ (x0 < 0 ∨ hL h a1 ≤ x0.toNatClampNeg)) : Rn r 98 165 [l0, l1, l2, l3, l4, l5] [vI x0, vR (some a1)] h Q ↔ Rn r 98 166 [l0, l1, l2, l3, l4, l5] [vI (hI h a1 x0.toNatClampNeg)] h Q := Rn_nx pg98 rfl ((if_pos ⟨hk, hk2⟩).trans (if_neg hx))
theorem sX6_judgeStatement_166 : Rn r 98 166 [l0, l1, l2, l3, l4, l5] [vI x0] h Q ↔ if x0 ≠ 0 then Rn r 98 398 [l0, l1, l2, l3, l4, l5] [] h Q else Rn r 98 169 [l0, l1, l2, l3, l4, l5] [] h Q := Rn_if pg98 rfl rfl rfl
theorem sX6_judgeStatement_169 : Rn r 98 169 [some (vR z), l1, l2, l3, l4, l5] [] h Q ↔ Rn r 98 170 [some (vR z), l1, l2, l3, l4, l5] [vR z] h Q := Rn_nx pg98 rfl rfl
theorem sX6_judgeStatement_170 : Rn r 98 170 [l0, l1, l2, l3, l4, l5] [vR z0] h Q ↔ Rn r 98 172 [l0, l1, l2, l3, l4, l5] [vI 11, vR z0] h Q := Rn_nx pg98 rfl rfl
theorem sX6_judgeStatement_172 : Rn r 98 172 [some (vR z), l1, l2, l3, l4, l5] [vI x0, vR z1] h Q ↔ Rn r 98 173 [some (vR z), l1, l2, l3, l4, l5] [vR z, vI x0, vR z1] h Q := Rn_nx pg98 rfl rfl
theorem sX6_judgeStatement_173 (hk : hK h a0 = 15) : Rn r 98 173 [l0, l1, l2, l3, l4, l5] [vR (some a0), vI x1, vR z2] h Q ↔ Rn r 98 176 [l0, l1, l2, l3, l4, l5] [vR (hR h a0 44), vI x1, vR z2] h Q := Rn_nx pg98 rfl (if_pos ⟨(hk ▸ Nat.le_refl _), (hk ▸ Nat.le_refl _)⟩)
theorem sX6_judgeStatement_176 : Rn r 98 176 [some (vR z), l1, l2, l3, l4, l5] [vR z0, vI x1, vR z2] h Q ↔ Rn r 98 177 [some (vR z), l1, l2, l3, l4, l5] [vR z, vR z0, vI x1, vR z2] h Q := Rn_nx pg98 rfl rfl
theorem sX6_judgeStatement_177 (hk : hK h a0 = 15) : Rn r 98 177 [l0, l1, l2, l3, l4, l5] [vR (some a0), vR z1, vI x2, vR z3] h Q ↔ Rn r 98 180 [l0, l1, l2, l3, l4, l5] [vR (hR h a0 27), vR z1, vI x2, vR z3] h Q := Rn_nx pg98 rfl (if_pos ⟨(hk ▸ Nat.le_refl _), (hk ▸ Nat.le_refl _)⟩)
theorem sX6_judgeStatement_180 : Rn r 98 180 [l0, some (vI x), l2, l3, l4, l5] [vR z0, vR z1, vI x2, vR z3] h Q ↔ Rn r 98 181 [l0, some (vI x), l2, l3, l4, l5] [vI x, vR z0, vR z1, vI x2, vR z3] h Q := Rn_nx pg98 rfl rfl
theorem sX6_judgeStatement_181 (hk : 40 ≤ hK h a1) (hk2 : hK h a1 ≤ 41) (hx : ¬ (x0 < 0 ∨ hL h a1 ≤ x0.toNatClampNeg)) : Rn r 98 181 [l0, l1, l2, l3, l4, l5] [vI x0, vR (some a1), vR z2, vI x3, vR z4] h Q ↔ Rn r 98 182 [l0, l1, l2, l3, l4, l5] [vI (hI h a1 x0.toNatClampNeg), vR z2, vI x3, vR z4] h Q := Rn_nx pg98 rfl ((if_pos ⟨hk, hk2⟩).trans (if_neg hx))
theorem sX6_judgeStatement_182 (hk : 40 ≤ hK h a1) (hk2 : hK h a1 ≤ 41) (hx : ¬ (x0 < 0 ∨ hL h a1 ≤ x0.toNatClampNeg)) : Rn r 98 182 [l0, l1, l2, l3, l4, l5] [vI x0, vR (some a1), vI x2, vR z3] h Q ↔ Rn r 98 183 [l0, l1, l2, l3, l4, l5] [vI (hI h a1 x0.toNatClampNeg), vI x2, vR z3] h Q := Rn_nx pg98 rfl ((if_pos ⟨hk, hk2⟩).trans (if_neg hx))
theorem sX6_judgeStatement_183 : Rn r 98 183 [l0, l1, l2, l3, l4, l5] [vI x0, vI x1, vR z2] h Q ↔ Rn r 98 184 [l0, l1, l2, l3, l4, l5] [vI (-1), vI x0, vI x1, vR z2] h Q := Rn_nx pg98 rfl rfl
theorem sX6_judgeStatement_184 (hk : hK h a3 = 15) : Rn r 98 184 [l0, l1, l2, l3, l4, l5] [vI x0, vI x1, vI x2, vR (some a3)] h Q ↔ Cl r 96 [vR (some a3), vI x2, vI x1, vI x0] h (Kt r 98 187 [l0, l1, l2, l3, l4, l5] [] Q) := Rn_call pg98 rfl (by simp only [am_exec, am_inv, am_pop, am_lk, hk]; rfl) pg96 rfl rfl rfl
theorem sX6_judgeStatement_187 : Rn r 98 187 [l0, l1, l2, l3, l4, l5] [] h Q ↔ Rn r 98 398 [l0, l1, l2, l3, l4, l5] [] h Q := Rn_nx pg98 rfl rfl
theorem sX6_judgeStatement_190 : Rn r 98 190 [l0, l1, some (vI x), l3, l4, l5] [] h Q ↔ Rn r 98 191 [l0, l1, some (vI x), l3, l4, l5] [vI x] h Q := Rn_nx pg98 rfl rfl
theorem sX6_judgeStatement_191 : Rn r 98 191 [l0, l1, l2, l3, l4, l5] [vI x0] h Q ↔ Rn r 98 192 [l0, l1, l2, l3, l4, l5] [vI (-1), vI x0] h Q := Rn_nx pg98 rfl rfl
theorem sX6_judgeStatement_192 : Rn r 98 192 [l0, l1, l2, l3, l4, l5] [vI x0, vI x1] h Q ↔ if x1 ≠ x0 then Rn r 98 227 [l0, l1, l2, l3, l4, l5] [] h Q else Rn r 98 195 [l0, l1, l2, l3, l4, l5] [] h Q := Rn_if pg98 rfl rfl rfl
theorem sX6_judgeStatement_195 : Rn r 98 195 [some (vR z), l1, l2, l3, l4, l5] [] h Q ↔ Rn r 98 196 [some (vR z), l1, l2, l3, l4, l5] [vR z] h Q := Rn_nx pg98 rfl rfl
theorem sX6_judgeStatement_196 : Rn r 98 196 [some (vR z), l1, l2, l3, l4, l5] [vR z0] h Q ↔ Rn r 98 197 [some (vR z), l1, l2, l3, l4, l5] [vR z, vR z0] h Q := Rn_nx pg98 rfl rfl
theorem sX6_judgeStatement_197 (hk : hK h a0 = 15) : Rn r 98 197 [l0, l1, l2, l3, l4, l5] [vR (some a0), vR z1] h Q ↔ Rn r 98 200 [l0, l1, l2, l3, l4, l5] [vR (hR h a0 25), vR z1] h Q := Rn_nx pg98 rfl (if_pos ⟨(hk ▸ Nat.le_refl _), (hk ▸ Nat.le_refl _)⟩)
theorem sX6_judgeStatement_200 : Rn r 98 200 [l0, some (vI x), l2, l3, l4, l5] [vR z0, vR z1] h Q ↔ Rn r 98 201 [l0, some (vI x), l2, l3, l4, l5] [vI x, vR z0, vR z1] h Q := Rn_nx pg98 rfl rfl
theorem sX6_judgeStatement_201 (hk : hK h a1 = 42) (hx : ¬ (x0 < 0 ∨ hL h a1 ≤ x0.toNatClampNeg)) : Rn r 98 201 [l0, l1, l2, l3, l4, l5] [vI x0, vR (some a1), vR z2] h Q ↔ Rn r 98 202 [l0, l1, l2, l3, l4, l5] [vL (hJ h a1 x0.toNatClampNeg), vR z2] h Q := Rn_nx pg98 rfl ((if_pos ⟨(hk ▸ Nat.le_refl _), (hk ▸ Nat.le_refl _)⟩).trans (if_neg hx))
theorem sX6_judgeStatement_202 : Rn r 98 202 [some (vR z), l1, l2, l3, l4, l5] [vL y0, vR z1] h Q ↔ Rn r 98 203 [some (vR z), l1, l2, l3, l4, l5] [vR z, vL y0, vR z1] h Q := Rn_nx pg98 rfl rfl
theorem sX6_judgeStatement_203 (hk : hK h a0 = 15) : Rn r 98 203 [l0, l1, l2, l3, l4, l5] [vR (some a0), vL y1, vR z2] h Q ↔ Rn r 98 206 [l0, l1, l2, l3, l4, l5] [vR (hR h a0 26), vL y1, vR z2] h Q := Rn_nx pg98 rfl (if_pos ⟨(hk ▸ Nat.le_refl _), (hk ▸ Nat.le_refl _)⟩)
theorem sX6_judgeStatement_206 : Rn r 98 206 [l0, some (vI x), l2, l3, l4, l5] [vR z0, vL y1, vR z2] h Q ↔ Rn r 98 207 [l0, some (vI x), l2, l3, l4, l5] [vI x, vR z0, vL y1, vR z2] h Q := Rn_nx pg98 rfl rfl
theorem sX6_judgeStatement_207 (hk : 40 ≤ hK h a1) (hk2 : hK h a1 ≤ 41) (hx : ¬ (x0 < 0 ∨ hL h a1 ≤ x0.toNatClampNeg)) : Rn r 98 207 [l0, l1, l2, l3, l4, l5] [vI x0, vR (some a1), vL y2, vR z3] h Q ↔ Rn r 98 208 [l0, l1, l2, l3, l4, l5] [vI (hI h a1 x0.toNatClampNeg), vL y2, vR z3] h Q := Rn_nx pg98 rfl ((if_pos ⟨hk, hk2⟩).trans (if_neg hx))
theorem sX6_judgeStatement_208 (hk : hK h a2 = 15) : Rn r 98 208 [l0, l1, l2, l3, l4, l5] [vI x0, vL y1, vR (some a2)] h Q ↔ Cl r 69 [vR (some a2), vL y1, vI x0] h (Kt r 98 211 [l0, l1, l2, l3, l4, l5] [] Q) := Rn_call pg98 rfl (by simp only [am_exec, am_inv, am_pop, am_lk, hk]; rfl) pg69 rfl rfl rfl
theorem sX6_judgeStatement_211 : Rn r 98 211 [l0, l1, l2, l3, l4, l5] [vI x0] h Q ↔ Rn r 98 212 [l0, l1, l2, l3, l4, l5] [vI (-1), vI x0] h Q := Rn_nx pg98 rfl rfl
theorem sX6_judgeStatement_212 : Rn r 98 212 [l0, l1, l2, l3, l4, l5] [vI x0, vI x1] h Q ↔ if x1 ≠ x0 then Rn r 98 227 [l0, l1, l2, l3, l4, l5] [] h Q else Rn r 98 215 [l0, l1, l2, l3, l4, l5] [] h Q := Rn_if pg98 rfl rfl rfl
theorem sX6_judgeStatement_215 : Rn r 98 215 [some (vR z), l1, l2, l3, l4, l5] [] h Q ↔ Rn r 98 216 [some (vR z), l1, l2, l3, l4, l5] [vR z] h Q := Rn_nx pg98 rfl rfl
theorem sX6_judgeStatement_216 : Rn r 98 216 [l0, l1, l2, l3, l4, l5] [vR z0] h Q ↔ Rn r 98 217 [l0, l1, l2, l3, l4, l5] [vI 1, vR z0] h Q := Rn_nx pg98 rfl rfl
theorem sX6_judgeStatement_217 : Rn r 98 217 [some (vR z), l1, l2, l3, l4, l5] [vI x0, vR z1] h Q ↔ Rn r 98 218 [some (vR z), l1, l2, l3, l4, l5] [vR z, vI x0, vR z1] h Q := Rn_nx pg98 rfl rfl
theorem sX6_judgeStatement_218 (hk : hK h a0 = 15) : Rn r 98 218 [l0, l1, l2, l3, l4, l5] [vR (some a0), vI x1, vR z2] h Q ↔ Rn r 98 221 [l0, l1, l2, l3, l4, l5] [vR (hR h a0 26), vI x1, vR z2] h Q := Rn_nx pg98 rfl (if_pos ⟨(hk ▸ Nat.le_refl _), (hk ▸ Nat.le_refl _)⟩)
theorem sX6_judgeStatement_221 : Rn r 98 221 [l0, some (vI x), l2, l3, l4, l5] [vR z0, vI x1, vR z2] h Q ↔ Rn r 98 222 [l0, some (vI x), l2, l3, l4, l5] [vI x, vR z0, vI x1, vR z2] h Q := Rn_nx pg98 rfl rfl
theorem sX6_judgeStatement_222 (hk : 40 ≤ hK h a1) (hk2 : hK h a1 ≤ 41) (hx : ¬ (x0 < 0 ∨ hL h a1 ≤ x0.toNatClampNeg)) : Rn r 98 222 [l0, l1, l2, l3, l4, l5] [vI x0, vR (some a1), vI x2, vR z3] h Q ↔ Rn r 98 223 [l0, l1, l2, l3, l4, l5] [vI (hI h a1 x0.toNatClampNeg), vI x2, vR z3] h Q := Rn_nx pg98 rfl ((if_pos ⟨hk, hk2⟩).trans (if_neg hx))
theorem sX6_judgeStatement_223 : Rn r 98 223 [l0, l1, l2, l3, l4, l5] [vI x0, vI x1, vR z2] h Q ↔ Rn r 98 224 [l0, l1, l2, l3, l4, l5] [vI (-1), vI x0, vI x1, vR z2] h Q := Rn_nx pg98 rfl rfl
theorem sX6_judgeStatement_224 (hk : hK h a3 = 15) : Rn r 98 224 [l0, l1, l2, l3, l4, l5] [vI x0, vI x1, vI x2, vR (some a3)] h Q ↔ Cl r 96 [vR (some a3), vI x2, vI x1, vI x0] h (Kt r 98 227 [l0, l1, l2, l3, l4, l5] [] Q) := Rn_call pg98 rfl (by simp only [am_exec, am_inv, am_pop, am_lk, hk]; rfl) pg96 rfl rfl rfl
theorem sX6_judgeStatement_227 : Rn r 98 227 [l0, l1, some (vI x), l3, l4, l5] [] h Q ↔ Rn r 98 228 [l0, l1, some (vI x), l3, l4, l5] [vI x] h Q := Rn_nx pg98 rfl rfl
theorem sX6_judgeStatement_228 : Rn r 98 228 [l0, l1, l2, l3, l4, l5] [vI x0] h Q ↔ Rn r 98 229 [l0, l1, l2, l3, l4, l5] [vI (-1), vI x0] h Q := Rn_nx pg98 rfl rfl
theorem sX6_judgeStatement_229 : Rn r 98 229 [l0, l1, l2, l3, l4, l5] [vI x0, vI x1] h Q ↔ if x1 = x0 then Rn r 98 398 [l0, l1, l2, l3, l4, l5] [] h Q else Rn r 98 232 [l0, l1, l2, l3, l4, l5] [] h Q := Rn_if pg98 rfl rfl rfl
theorem sX6_judgeStatement_232 : Rn r 98 232 [l0, l1, l2, some (vI x), l4, l5] [] h Q ↔ Rn r 98 233 [l0, l1, l2, some (vI x), l4, l5] [vI x] h Q := Rn_nx pg98 rfl rfl
theorem sX6_judgeStatement_233 : Rn r 98 233 [l0, l1, l2, l3, l4, l5] [vI x0] h Q ↔ if x0 = 0 then Rn r 98 398 [l0, l1, l2, l3, l4, l5] [] h Q else Rn r 98 236 [l0, l1, l2, l3, l4, l5] [] h Q := Rn_if pg98 rfl rfl rfl
theorem sX6_judgeStatement_236 : Rn r 98 236 [some (vR z), l1, l2, l3, l4, l5] [] h Q ↔ Rn r 98 237 [some (vR z), l1, l2, l3, l4, l5] [vR z] h Q := Rn_nx pg98 rfl rfl
theorem sX6_judgeStatement_237 : Rn r 98 237 [l0, l1, some (vI x), l3, l4, l5] [vR z0] h Q ↔ Rn r 98 238 [l0, l1, some (vI x), l3, l4, l5] [vI x, vR z0] h Q := Rn_nx pg98 rfl rfl
theorem sX6_judgeStatement_238 (hk : hK h a1 = 15) : Rn r 98 238 [l0, l1, l2, l3, l4, l5] [vI x0, vR (some a1)] h Q ↔ Cl r 148 [vR (some a1), vI x0] h (Kt r 98 241 [l0, l1, l2, l3, l4, l5] [] Q) := Rn_call pg98 rfl (by simp only [am_exec, am_inv, am_pop, am_lk, hk]; rfl) pg148 rfl rfl rfl
theorem sX6_judgeStatement_241 : Rn r 98 241 [l0, l1, l2, l3, l4, l5] [vI x0] h Q ↔ if x0 = 0 then Rn r 98 398 [l0, l1, l2, l3, l4, l5] [] h Q else Rn r 98 244 [l0, l1, l2, l3, l4, l5] [] h Q := Rn_if pg98 rfl rfl rfl
theorem sX6_judgeStatement_244 : Rn r 98 244 [some (vR z), l1, l2, l3, l4, l5] [] h Q ↔ Rn r 98 245 [some (vR z), l1, l2, l3, l4, l5] [vR z] h Q := Rn_nx pg98 rfl rfl
theorem sX6_judgeStatement_245 : Rn r 98 245 [l0, l1, l2, l3, l4, l5] [vR z0] h Q ↔ Rn r 98 247 [l0, l1, l2, l3, l4, l5] [vI 12, vR z0] h Q := Rn_nx pg98 rfl rfl
theorem sX6_judgeStatement_247 : Rn r 98 247 [some (vR z), l1, l2, l3, l4, l5] [vI x0, vR z1] h Q ↔ Rn r 98 248 [some (vR z), l1, l2, l3, l4, l5] [vR z, vI x0, vR z1] h Q := Rn_nx pg98 rfl rfl
theorem sX6_judgeStatement_248 (hk : hK h a0 = 15) : Rn r 98 248 [l0, l1, l2, l3, l4, l5] [vR (some a0), vI x1, vR z2] h Q ↔ Rn r 98 251 [l0, l1, l2, l3, l4, l5] [vR (hR h a0 26), vI x1, vR z2] h Q := Rn_nx pg98 rfl (if_pos ⟨(hk ▸ Nat.le_refl _), (hk ▸ Nat.le_refl _)⟩)
theorem sX6_judgeStatement_251 : Rn r 98 251 [l0, some (vI x), l2, l3, l4, l5] [vR z0, vI x1, vR z2] h Q ↔ Rn r 98 252 [l0, some (vI x), l2, l3, l4, l5] [vI x, vR z0, vI x1, vR z2] h Q := Rn_nx pg98 rfl rfl
theorem sX6_judgeStatement_252 (hk : 40 ≤ hK h a1) (hk2 : hK h a1 ≤ 41) (hx : ¬ (x0 < 0 ∨ hL h a1 ≤ x0.toNatClampNeg)) : Rn r 98 252 [l0, l1, l2, l3, l4, l5] [vI x0, vR (some a1), vI x2, vR z3] h Q ↔ Rn r 98 253 [l0, l1, l2, l3, l4, l5] [vI (hI h a1 x0.toNatClampNeg), vI x2, vR z3] h Q := Rn_nx pg98 rfl ((if_pos ⟨hk, hk2⟩).trans (if_neg hx))
theorem sX6_judgeStatement_253 : Rn r 98 253 [l0, l1, l2, l3, l4, l5] [vI x0, vI x1, vR z2] h Q ↔ Rn r 98 254 [l0, l1, l2, l3, l4, l5] [vI (-1), vI x0, vI x1, vR z2] h Q := Rn_nx pg98 rfl rfl
theorem sX6_judgeStatement_254 (hk : hK h a3 = 15) : Rn r 98 254 [l0, l1, l2, l3, l4, l5] [vI x0, vI x1, vI x2, vR (some a3)] h Q ↔ Cl r 96 [vR (some a3), vI x2, vI x1, vI x0] h (Kt r 98 257 [l0, l1, l2, l3, l4, l5] [] Q) := Rn_call pg98 rfl (by simp only [am_exec, am_inv, am_pop, am_lk, hk]; rfl) pg96 rfl rfl rfl
theorem sX6_judgeStatement_257 : Rn r 98 257 [l0, l1, l2, l3, l4, l5] [] h Q ↔ Rn r 98 398 [l0, l1, l2, l3, l4, l5] [] h Q := Rn_nx pg98 rfl rfl
theorem sX6_judgeStatement_260 : Rn r 98 260 [some (vR z), l1, l2, l3, l4, l5] [] h Q ↔ Rn r 98 261 [some (vR z), l1, l2, l3, l4, l5] [vR z] h Q := Rn_nx pg98 rfl rfl
theorem sX6_judgeStatement_261 : Rn r 98 261 [l0, some (vI x), l2, l3, l4, l5] [vR z0] h Q ↔ Rn r 98 262 [l0, some (vI x), l2, l3, l4, l5] [vI x, vR z0] h Q := Rn_nx pg98 rfl rfl
theorem sX6_judgeStatement_262 : Rn r 98 262 [l0, l1, some (vI x), l3, l4, l5] [vI x0, vR z1] h Q ↔ Rn r 98 263 [l0, l1, some (vI x), l3, l4, l5] [vI x, vI x0, vR z1] h Q := Rn_nx pg98 rfl rfl
theorem sX6_judgeStatement_263 : Rn r 98 263 [l0, l1, l2, some (vI x), l4, l5] [vI x0, vI x1, vR z2] h Q ↔ Rn r 98 264 [l0, l1, l2, some (vI x), l4, l5] [vI x, vI x0, vI x1, vR z2] h Q := Rn_nx pg98 rfl rfl
theorem sX6_judgeStatement_264 (hk : hK h a3 = 15) : Rn r 98 264 [l0, l1, l2, l3, l4, l5] [vI x0, vI x1, vI x2, vR (some a3)] h Q ↔ Cl r 149 [vR (some a3), vI x2, vI x1, vI x0] h (Kt r 98 267 [l0, l1, l2, l3, l4, l5] [] Q) := Rn_call pg98 rfl (by simp only [am_exec, am_inv, am_pop, am_lk, hk]; rfl) pg149 rfl rfl rfl
theorem sX6_judgeStatement_267 : Rn r 98 267 [l0, l1, l2, l3, l4, l5] [] h Q ↔ Rn r 98 398 [l0, l1, l2, l3, l4, l5] [] h Q := Rn_nx pg98 rfl rfl
theorem sX6_judgeStatement_270 : Rn r 98 270 [some (vR z), l1, l2, l3, l4, l5] [] h Q ↔ Rn r 98 271 [some (vR z), l1, l2, l3, l4, l5] [vR z] h Q := Rn_nx pg98 rfl rfl
theorem sX6_judgeStatement_271 : Rn r 98 271 [l0, some (vI x), l2, l3, l4, l5] [vR z0] h Q ↔ Rn r 98 272 [l0, some (vI x), l2, l3, l4, l5] [vI x, vR z0] h Q := Rn_nx pg98 rfl rfl
theorem sX6_judgeStatement_272 (hk : hK h a1 = 15) : Rn r 98 272 [l0, l1, l2, l3, l4, l5] [vI x0, vR (some a1)] h Q ↔ Cl r 150 [vR (some a1), vI x0] h (Kt r 98 275 [l0, l1, l2, l3, l4, l5] [] Q) := Rn_call pg98 rfl (by simp only [am_exec, am_inv, am_pop, am_lk, hk]; rfl) pg150 rfl rfl rfl
theorem sX6_judgeStatement_275 : Rn r 98 275 [l0, l1, l2, l3, l4, l5] [] h Q ↔ Rn r 98 398 [l0, l1, l2, l3, l4, l5] [] h Q := Rn_nx pg98 rfl rfl
theorem sX6_judgeStatement_278 : Rn r 98 278 [l0, l1, l2, l3, l4, l5] [] h Q ↔ Rn r 98 279 [l0, l1, l2, l3, l4, l5] [vI 0] h Q := Rn_nx pg98 rfl rfl
theorem sX6_judgeStatement_279 : Rn r 98 279 [l0, l1, l2, l3, l4, l5] [vI x0] h Q ↔ Rn r 98 281 [l0, l1, l2, l3, l4, some (vI x0)] [] h Q := Rn_nx pg98 rfl rfl
theorem sX6_judgeStatement_281 : Rn r 98 281 [l0, l1, l2, l3, l4, some (vI x)] [] h Q ↔ Rn r 98 283 [l0, l1, l2, l3, l4, some (vI x)] [vI x] h Q := Rn_nx pg98 rfl rfl
theorem sX6_judgeStatement_283 : Rn r 98 283 [some (vR z), l1, l2, l3, l4, l5] [vI x0] h Q ↔ Rn r 98 284 [some (vR z), l1, l2, l3, l4, l5] [vR z, vI x0] h Q := Rn_nx pg98 rfl rfl
theorem sX6_judgeStatement_284 (hk : hK h a0 = 15) : Rn r 98 284 [l0, l1, l2, l3, l4, l5] [vR (some a0), vI x1] h Q ↔ Rn r 98 287 [l0, l1, l2, l3, l4, l5] [vR (hR h a0 30), vI x1] h Q := Rn_nx pg98 rfl (if_pos ⟨(hk ▸ Nat.le_refl _), (hk ▸ Nat.le_refl _)⟩)
theorem sX6_judgeStatement_287 : Rn r 98 287 [l0, some (vI x), l2, l3, l4, l5] [vR z0, vI x1] h Q ↔ Rn r 98 288 [l0, some (vI x), l2, l3, l4, l5] [vI x, vR z0, vI x1] h Q := Rn_nx pg98 rfl rfl
theorem sX6_judgeStatement_288 (hk : 40 ≤ hK h a1) (hk2 : hK h a1 ≤ 41) (hx : ¬ (x0 < 0 ∨ hL h a1 ≤ x0.toNatClampNeg)) : Rn r 98 288 [l0, l1, l2, l3, l4, l5] [vI x0, vR (some a1), vI x2] h Q ↔ Rn r 98 289 [l0, l1, l2, l3, l4, l5] [vI (hI h a1 x0.toNatClampNeg), vI x2] h Q := Rn_nx pg98 rfl ((if_pos ⟨hk, hk2⟩).trans (if_neg hx))
theorem sX6_judgeStatement_289 : Rn r 98 289 [l0, l1, l2, l3, l4, l5] [vI x0, vI x1] h Q ↔ if x0 ≤ x1 then Rn r 98 345 [l0, l1, l2, l3, l4, l5] [] h Q else Rn r 98 292 [l0, l1, l2, l3, l4, l5] [] h Q := Rn_if pg98 rfl rfl rfl
theorem sX6_judgeStatement_292 : Rn r 98 292 [some (vR z), l1, l2, l3, l4, l5] [] h Q ↔ Rn r 98 293 [some (vR z), l1, l2, l3, l4, l5] [vR z] h Q := Rn_nx pg98 rfl rfl
theorem sX6_judgeStatement_293 : Rn r 98 293 [some (vR z), l1, l2, l3, l4, l5] [vR z0] h Q ↔ Rn r 98 294 [some (vR z), l1, l2, l3, l4, l5] [vR z, vR z0] h Q := Rn_nx pg98 rfl rfl
theorem sX6_judgeStatement_294 (hk : hK h a0 = 15) : Rn r 98 294 [l0, l1, l2, l3, l4, l5] [vR (some a0), vR z1] h Q ↔ Rn r 98 297 [l0, l1, l2, l3, l4, l5] [vR (hR h a0 31), vR z1] h Q := Rn_nx pg98 rfl (if_pos ⟨(hk ▸ Nat.le_refl _), (hk ▸ Nat.le_refl _)⟩)
theorem sX6_judgeStatement_297 : Rn r 98 297 [l0, l1, l2, l3, l4, l5] [vR z0, vR z1] h Q ↔ Rn r 98 298 [l0, l1, l2, l3, l4, l5] [vI 4, vR z0, vR z1] h Q := Rn_nx pg98 rfl rfl
theorem sX6_judgeStatement_298 : Rn r 98 298 [l0, some (vI x), l2, l3, l4, l5] [vI x0, vR z1, vR z2] h Q ↔ Rn r 98 299 [l0, some (vI x), l2, l3, l4, l5] [vI x, vI x0, vR z1, vR z2] h Q := Rn_nx pg98 rfl rfl
theorem sX6_judgeStatement_299 : Rn r 98 299 [l0, l1, l2, l3, l4, l5] [vI x0, vI x1, vR z2, vR z3] h Q ↔ Rn r 98 300 [l0, l1, l2, l3, l4, l5] [vI (x1 * x0), vR z2, vR z3] h Q := Rn_nx pg98 rfl rfl
theorem sX6_judgeStatement_300 : Rn r 98 300 [l0, l1, l2, l3, l4, some (vI x)] [vI x0, vR z1, vR z2] h Q ↔ Rn r 98 302 [l0, l1, l2, l3, l4, some (vI x)] [vI x, vI x0, vR z1, vR z2] h Q := Rn_nx pg98 rfl rfl
theorem sX6_judgeStatement_302 : Rn r 98 302 [l0, l1, l2, l3, l4, l5] [vI x0, vI x1, vR z2, vR z3] h Q ↔ Rn r 98 303 [l0, l1, l2, l3, l4, l5] [vI (x1 + x0), vR z2, vR z3] h Q := Rn_nx pg98 rfl rfl
theorem sX6_judgeStatement_303 (hk : hK h a1 = 42) (hx : ¬ (x0 < 0 ∨ hL h a1 ≤ x0.toNatClampNeg)) : Rn r 98 303 [l0, l1, l2, l3, l4, l5] [vI x0, vR (some a1), vR z2] h Q ↔ Rn r 98 304 [l0, l1, l2, l3, l4, l5] [vL (hJ h a1 x0.toNatClampNeg), vR z2] h Q := Rn_nx pg98 rfl ((if_pos ⟨(hk ▸ Nat.le_refl _), (hk ▸ Nat.le_refl _)⟩).trans (if_neg hx))
theorem sX6_judgeStatement_304 : Rn r 98 304 [some (vR z), l1, l2, l3, l4, l5] [vL y0, vR z1] h Q ↔ Rn r 98 305 [some (vR z), l1, l2, l3, l4, l5] [vR z, vL y0, vR z1] h Q := Rn_nx pg98 rfl rfl
theorem sX6_judgeStatement_305 (hk : hK h a0 = 15) : Rn r 98 305 [l0, l1, l2, l3, l4, l5] [vR (some a0), vL y1, vR z2] h Q ↔ Rn r 98 308 [l0, l1, l2, l3, l4, l5] [vR (hR h a0 32), vL y1, vR z2] h Q := Rn_nx pg98 rfl (if_pos ⟨(hk ▸ Nat.le_refl _), (hk ▸ Nat.le_refl _)⟩)
theorem sX6_judgeStatement_308 : Rn r 98 308 [l0, l1, l2, l3, l4, l5] [vR z0, vL y1, vR z2] h Q ↔ Rn r 98 309 [l0, l1, l2, l3, l4, l5] [vI 4, vR z0, vL y1, vR z2] h Q := Rn_nx pg98 rfl rfl
theorem sX6_judgeStatement_309 : Rn r 98 309 [l0, some (vI x), l2, l3, l4, l5] [vI x0, vR z1, vL y2, vR z3] h Q ↔ Rn r 98 310 [l0, some (vI x), l2, l3, l4, l5] [vI x, vI x0, vR z1, vL y2, vR z3] h Q := Rn_nx pg98 rfl rfl
theorem sX6_judgeStatement_310 : Rn r 98 310 [l0, l1, l2, l3, l4, l5] [vI x0, vI x1, vR z2, vL y3, vR z4] h Q ↔ Rn r 98 311 [l0, l1, l2, l3, l4, l5] [vI (x1 * x0), vR z2, vL y3, vR z4] h Q := Rn_nx pg98 rfl rfl
theorem sX6_judgeStatement_311 : Rn r 98 311 [l0, l1, l2, l3, l4, some (vI x)] [vI x0, vR z1, vL y2, vR z3] h Q ↔ Rn r 98 313 [l0, l1, l2, l3, l4, some (vI x)] [vI x, vI x0, vR z1, vL y2, vR z3] h Q := Rn_nx pg98 rfl rfl
theorem sX6_judgeStatement_313 : Rn r 98 313 [l0, l1, l2, l3, l4, l5] [vI x0, vI x1, vR z2, vL y3, vR z4] h Q ↔ Rn r 98 314 [l0, l1, l2, l3, l4, l5] [vI (x1 + x0), vR z2, vL y3, vR z4] h Q := Rn_nx pg98 rfl rfl
theorem sX6_judgeStatement_314 (hk : 40 ≤ hK h a1) (hk2 : hK h a1 ≤ 41) (hx : ¬ (x0 < 0 ∨ hL h a1 ≤ x0.toNatClampNeg)) : Rn r 98 314 [l0, l1, l2, l3, l4, l5] [vI x0, vR (some a1), vL y2, vR z3] h Q ↔ Rn r 98 315 [l0, l1, l2, l3, l4, l5] [vI (hI h a1 x0.toNatClampNeg), vL y2, vR z3] h Q := Rn_nx pg98 rfl ((if_pos ⟨hk, hk2⟩).trans (if_neg hx))
theorem sX6_judgeStatement_315 (hk : hK h a2 = 15) : Rn r 98 315 [l0, l1, l2, l3, l4, l5] [vI x0, vL y1, vR (some a2)] h Q ↔ Cl r 69 [vR (some a2), vL y1, vI x0] h (Kt r 98 318 [l0, l1, l2, l3, l4, l5] [] Q) := Rn_call pg98 rfl (by simp only [am_exec, am_inv, am_pop, am_lk, hk]; rfl) pg69 rfl rfl rfl
theorem sX6_judgeStatement_318 : Rn r 98 318 [l0, l1, l2, l3, l4, l5] [vI x0] h Q ↔ Rn r 98 319 [l0, l1, l2, l3, l4, l5] [vI (-1), vI x0] h Q := Rn_nx pg98 rfl rfl
theorem sX6_judgeStatement_319 : Rn r 98 319 [l0, l1, l2, l3, l4, l5] [vI x0, vI x1] h Q ↔ if x1 ≠ x0 then Rn r 98 339 [l0, l1, l2, l3, l4, l5] [] h Q else Rn r 98 322 [l0, l1, l2, l3, l4, l5] [] h Q := Rn_if pg98 rfl rfl rfl
theorem sX6_judgeStatement_322 : Rn r 98 322 [some (vR z), l1, l2, l3, l4, l5] [] h Q ↔ Rn r 98 323 [some (vR z), l1, l2, l3, l4, l5] [vR z] h Q := Rn_nx pg98 rfl rfl
theorem sX6_judgeStatement_323 : Rn r 98 323 [l0, l1, l2, l3, l4, l5] [vR z0] h Q ↔ Rn r 98 324 [l0, l1, l2, l3, l4, l5] [vI 1, vR z0] h Q := Rn_nx pg98 rfl rfl
theorem sX6_judgeStatement_324 : Rn r 98 324 [some (vR z), l1, l2, l3, l4, l5] [vI x0, vR z1] h Q ↔ Rn r 98 325 [some (vR z), l1, l2, l3, l4, l5] [vR z, vI x0, vR z1] h Q := Rn_nx pg98 rfl rfl
theorem sX6_judgeStatement_325 (hk : hK h a0 = 15) : Rn r 98 325 [l0, l1, l2, l3, l4, l5] [vR (some a0), vI x1, vR z2] h Q ↔ Rn r 98 328 [l0, l1, l2, l3, l4, l5] [vR (hR h a0 32), vI x1, vR z2] h Q := Rn_nx pg98 rfl (if_pos ⟨(hk ▸ Nat.le_refl _), (hk ▸ Nat.le_refl _)⟩)
theorem sX6_judgeStatement_328 : Rn r 98 328 [l0, l1, l2, l3, l4, l5] [vR z0, vI x1, vR z2] h Q ↔ Rn r 98 329 [l0, l1, l2, l3, l4, l5] [vI 4, vR z0, vI x1, vR z2] h Q := Rn_nx pg98 rfl rfl
theorem sX6_judgeStatement_329 : Rn r 98 329 [l0, some (vI x), l2, l3, l4, l5] [vI x0, vR z1, vI x2, vR z3] h Q ↔ Rn r 98 330 [l0, some (vI x), l2, l3, l4, l5] [vI x, vI x0, vR z1, vI x2, vR z3] h Q := Rn_nx pg98 rfl rfl
theorem sX6_judgeStatement_330 : Rn r 98 330 [l0, l1, l2, l3, l4, l5] [vI x0, vI x1, vR z2, vI x3, vR z4] h Q ↔ Rn r 98 331 [l0, l1, l2, l3, l4, l5] [vI (x1 * x0), vR z2, vI x3, vR z4] h Q := Rn_nx pg98 rfl rfl
theorem sX6_judgeStatement_331 : Rn r 98 331 [l0, l1, l2, l3, l4, some (vI x)] [vI x0, vR z1, vI x2, vR z3] h Q ↔ Rn r 98 333 [l0, l1, l2, l3, l4, some (vI x)] [vI x, vI x0, vR z1, vI x2, vR z3] h Q := Rn_nx pg98 rfl rfl
theorem sX6_judgeStatement_333 : Rn r 98 333 [l0, l1, l2, l3, l4, l5] [vI x0, vI x1, vR z2, vI x3, vR z4] h Q ↔ Rn r 98 334 [l0, l1, l2, l3, l4, l5] [vI (x1 + x0), vR z2, vI x3, vR z4] h Q := Rn_nx pg98 rfl rfl
theorem sX6_judgeStatement_334 (hk : 40 ≤ hK h a1) (hk2 : hK h a1 ≤ 41) (hx : ¬ (x0 < 0 ∨ hL h a1 ≤ x0.toNatClampNeg)) : Rn r 98 334 [l0, l1, l2, l3, l4, l5] [vI x0, vR (some a1), vI x2, vR z3] h Q ↔ Rn r 98 335 [l0, l1, l2, l3, l4, l5] [vI (hI h a1 x0.toNatClampNeg), vI x2, vR z3] h Q := Rn_nx pg98 rfl ((if_pos ⟨hk, hk2⟩).trans (if_neg hx))
theorem sX6_judgeStatement_335 : Rn r 98 335 [l0, l1, l2, l3, l4, l5] [vI x0, vI x1, vR z2] h Q ↔ Rn r 98 336 [l0, l1, l2, l3, l4, l5] [vI (-1), vI x0, vI x1, vR z2] h Q := Rn_nx pg98 rfl rfl
theorem sX6_judgeStatement_336 (hk : hK h a3 = 15) : Rn r 98 336 [l0, l1, l2, l3, l4, l5] [vI x0, vI x1, vI x2, vR (some a3)] h Q ↔ Cl r 96 [vR (some a3), vI x2, vI x1, vI x0] h (Kt r 98 339 [l0, l1, l2, l3, l4, l5] [] Q) := Rn_call pg98 rfl (by simp only [am_exec, am_inv, am_pop, am_lk, hk]; rfl) pg96 rfl rfl rfl
theorem sX6_judgeStatement_339 : Rn r 98 339 [l0, l1, l2, l3, l4, some (vI x)] [] h Q ↔ Rn r 98 342 [l0, l1, l2, l3, l4, some (vI (x + 1))] [] h Q := Rn_nx pg98 rfl rfl
theorem sX6_judgeStatement_342 : Rn r 98 342 [l0, l1, l2, l3, l4, l5] [] h Q ↔ Rn r 98 281 [l0, l1, l2, l3, l4, l5] [] h Q := Rn_nx pg98 rfl rfl
theorem sX6_judgeStatement_345 : Rn r 98 345 [some (vR z), l1, l2, l3, l4, l5] [] h Q ↔ Rn r 98 346 [some (vR z), l1, l2, l3, l4, l5] [vR z] h Q := Rn_nx pg98 rfl rfl
theorem sX6_judgeStatement_346 : Rn r 98 346 [some (vR z), l1, l2, l3, l4, l5] [vR z0] h Q ↔ Rn r 98 347 [some (vR z), l1, l2, l3, l4, l5] [vR z, vR z0] h Q := Rn_nx pg98 rfl rfl
theorem sX6_judgeStatement_347 : Rn r 98 347 [some (vR z), l1, l2, l3, l4, l5] [vR z0, vR z1] h Q ↔ Rn r 98 348 [some (vR z), l1, l2, l3, l4, l5] [vR z, vR z0, vR z1] h Q := Rn_nx pg98 rfl rfl
theorem sX6_judgeStatement_348 (hk : hK h a0 = 15) : Rn r 98 348 [l0, l1, l2, l3, l4, l5] [vR (some a0), vR z1, vR z2] h Q ↔ Rn r 98 351 [l0, l1, l2, l3, l4, l5] [vR (hR h a0 27), vR z1, vR z2] h Q := Rn_nx pg98 rfl (if_pos ⟨(hk ▸ Nat.le_refl _), (hk ▸ Nat.le_refl _)⟩)
theorem sX6_judgeStatement_351 : Rn r 98 351 [l0, some (vI x), l2, l3, l4, l5] [vR z0, vR z1, vR z2] h Q ↔ Rn r 98 352 [l0, some (vI x), l2, l3, l4, l5] [vI x, vR z0, vR z1, vR z2] h Q := Rn_nx pg98 rfl rfl
theorem sX6_judgeStatement_352 (hk : 40 ≤ hK h a1) (hk2 : hK h a1 ≤ 41) (hx : ¬ (x0 < 0 ∨ hL h a1 ≤ x0.toNatClampNeg)) : Rn r 98 352 [l0, l1, l2, l3, l4, l5] [vI x0, vR (some a1), vR z2, vR z3] h Q ↔ Rn r 98 353 [l0, l1, l2, l3, l4, l5] [vI (hI h a1 x0.toNatClampNeg), vR z2, vR z3] h Q := Rn_nx pg98 rfl ((if_pos ⟨hk, hk2⟩).trans (if_neg hx))
theorem sX6_judgeStatement_353 (hk : hK h a1 = 15) : Rn r 98 353 [l0, l1, l2, l3, l4, l5] [vI x0, vR (some a1), vR z2] h Q ↔ Cl r 50 [vR (some a1), vI x0] h (Kt r 98 356 [l0, l1, l2, l3, l4, l5] [vR z2] Q) := Rn_call pg98 rfl (by simp only [am_exec, am_inv, am_pop, am_lk, hk]; rfl) pg50 rfl rfl rfl
theorem sX6_judgeStatement_356 : Rn r 98 356 [some (vR z), l1, l2, l3, l4, l5] [vI x0, vR z1] h Q ↔ Rn r 98 357 [some (vR z), l1, l2, l3, l4, l5] [vR z, vI x0, vR z1] h Q := Rn_nx pg98 rfl rfl
theorem sX6_judgeStatement_357 : Rn r 98 357 [l0, some (vI x), l2, l3, l4, l5] [vR z0, vI x1, vR z2] h Q ↔ Rn r 98 358 [l0, some (vI x), l2, l3, l4, l5] [vI x, vR z0, vI x1, vR z2] h Q := Rn_nx pg98 rfl rfl
theorem sX6_judgeStatement_358 (hk : hK h a1 = 15) : Rn r 98 358 [l0, l1, l2, l3, l4, l5] [vI x0, vR (some a1), vI x2, vR z3] h Q ↔ Cl r 151 [vR (some a1), vI x0] h (Kt r 98 361 [l0, l1, l2, l3, l4, l5] [vI x2, vR z3] Q) := Rn_call pg98 rfl (by simp only [am_exec, am_inv, am_pop, am_lk, hk]; rfl) pg151 rfl rfl rfl
theorem sX6_judgeStatement_361 : Rn r 98 361 [some (vR z), l1, l2, l3, l4, l5] [vI x0, vI x1, vR z2] h Q ↔ Rn r 98 362 [some (vR z), l1, l2, l3, l4, l5] [vR z, vI x0, vI x1, vR z2] h Q := Rn_nx pg98 rfl rfl
theorem sX6_judgeStatement_362 (hk : hK h a0 = 15) : Rn r 98 362 [l0, l1, l2, l3, l4, l5] [vR (some a0), vI x1, vI x2, vR z3] h Q ↔ Rn r 98 365 [l0, l1, l2, l3, l4, l5] [vR (hR h a0 21), vI x1, vI x2, vR z3] h Q := Rn_nx pg98 rfl (if_pos ⟨(hk ▸ Nat.le_refl _), (hk ▸ Nat.le_refl _)⟩)
theorem sX6_judgeStatement_365 : Rn r 98 365 [l0, some (vI x), l2, l3, l4, l5] [vR z0, vI x1, vI x2, vR z3] h Q ↔ Rn r 98 366 [l0, some (vI x), l2, l3, l4, l5] [vI x, vR z0, vI x1, vI x2, vR z3] h Q := Rn_nx pg98 rfl rfl
theorem sX6_judgeStatement_366 (hk : 40 ≤ hK h a1) (hk2 : hK h a1 ≤ 41) (hx : ¬ (x0 < 0 ∨ hL h a1 ≤ x0.toNatClampNeg)) : Rn r 98 366 [l0, l1, l2, l3, l4, l5] [vI x0, vR (some a1), vI x2, vI x3, vR z4] h Q ↔ Rn r 98 367 [l0, l1, l2, l3, l4, l5] [vI (hI h a1 x0.toNatClampNeg), vI x2, vI x3, vR z4] h Q := Rn_nx pg98 rfl ((if_pos ⟨hk, hk2⟩).trans (if_neg hx))
theorem sX6_judgeStatement_367 (hk : hK h a3 = 15) : Rn r 98 367 [l0, l1, l2, l3, l4, l5] [vI x0, vI x1, vI x2, vR (some a3)] h Q ↔ Cl r 147 [vR (some a3), vI x2, vI x1, vI x0] h (Kt r 98 370 [l0, l1, l2, l3, l4, l5] [] Q) := Rn_call pg98 rfl (by simp only [am_exec, am_inv, am_pop, am_lk, hk]; rfl) pg147 rfl rfl rfl
theorem sX6_judgeStatement_370 : Rn r 98 370 [l0, l1, l2, l3, l4, l5] [] h Q ↔ Rn r 98 398 [l0, l1, l2, l3, l4, l5] [] h Q := Rn_nx pg98 rfl rfl
theorem sX6_judgeStatement_373 : Rn r 98 373 [some (vR z), l1, l2, l3, l4, l5] [] h Q ↔ Rn r 98 374 [some (vR z), l1, l2, l3, l4, l5] [vR z] h Q := Rn_nx pg98 rfl rfl
theorem sX6_judgeStatement_374 : Rn r 98 374 [l0, some (vI x), l2, l3, l4, l5] [vR z0] h Q ↔ Rn r 98 375 [l0, some (vI x), l2, l3, l4, l5] [vI x, vR z0] h Q := Rn_nx pg98 rfl rfl
theorem sX6_judgeStatement_375 (hk : hK h a1 = 15) : Rn r 98 375 [l0, l1, l2, l3, l4, l5] [vI x0, vR (some a1)] h Q ↔ Cl r 112 [vR (some a1), vI x0] h (Kt r 98 378 [l0, l1, l2, l3, l4, l5] [] Q) := Rn_call pg98 rfl (by simp only [am_exec, am_inv, am_pop, am_lk, hk]; rfl) pg112 rfl rfl rfl
theorem sX6_judgeStatement_378 : Rn r 98 378 [l0, l1, l2, l3, l4, l5] [vI x0] h Q ↔ Rn r 98 379 [l0, l1, l2, l3, l4, l5] [vI (-1), vI x0] h Q := Rn_nx pg98 rfl rfl
theorem sX6_judgeStatement_379 : Rn r 98 379 [l0, l1, l2, l3, l4, l5] [vI x0, vI x1] h Q ↔ if x1 ≠ x0 then Rn r 98 398 [l0, l1, l2, l3, l4, l5] [] h Q else Rn r 98 382 [l0, l1, l2, l3, l4, l5] [] h Q := Rn_if pg98 rfl rfl rfl
theorem sX6_judgeStatement_382 : Rn r 98 382 [some (vR z), l1, l2, l3, l4, l5] [] h Q ↔ Rn r 98 383 [some (vR z), l1, l2, l3, l4, l5] [vR z] h Q := Rn_nx pg98 rfl rfl
theorem sX6_judgeStatement_383 : Rn r 98 383 [l0, l1, l2, l3, l4, l5] [vR z0] h Q ↔ Rn r 98 385 [l0, l1, l2, l3, l4, l5] [vI 8, vR z0] h Q := Rn_nx pg98 rfl rfl
theorem sX6_judgeStatement_385 : Rn r 98 385 [some (vR z), l1, l2, l3, l4, l5] [vI x0, vR z1] h Q ↔ Rn r 98 386 [some (vR z), l1, l2, l3, l4, l5] [vR z, vI x0, vR z1] h Q := Rn_nx pg98 rfl rfl
theorem sX6_judgeStatement_386 (hk : hK h a0 = 15) : Rn r 98 386 [l0, l1, l2, l3, l4, l5] [vR (some a0), vI x1, vR z2] h Q ↔ Rn r 98 389 [l0, l1, l2, l3, l4, l5] [vR (hR h a0 21), vI x1, vR z2] h Q := Rn_nx pg98 rfl (if_pos ⟨(hk ▸ Nat.le_refl _), (hk ▸ Nat.le_refl _)⟩)
theorem sX6_judgeStatement_389 : Rn r 98 389 [l0, some (vI x), l2, l3, l4, l5] [vR z0, vI x1, vR z2] h Q ↔ Rn r 98 390 [l0, some (vI x), l2, l3, l4, l5] [vI x, vR z0, vI x1, vR z2] h Q := Rn_nx pg98 rfl rfl
theorem sX6_judgeStatement_390 (hk : 40 ≤ hK h a1) (hk2 : hK h a1 ≤ 41) (hx : ¬ (x0 < 0 ∨ hL h a1 ≤ x0.toNatClampNeg)) : Rn r 98 390 [l0, l1, l2, l3, l4, l5] [vI x0, vR (some a1), vI x2, vR z3] h Q ↔ Rn r 98 391 [l0, l1, l2, l3, l4, l5] [vI (hI h a1 x0.toNatClampNeg), vI x2, vR z3] h Q := Rn_nx pg98 rfl ((if_pos ⟨hk, hk2⟩).trans (if_neg hx))
theorem sX6_judgeStatement_391 : Rn r 98 391 [l0, l1, l2, l3, l4, l5] [vI x0, vI x1, vR z2] h Q ↔ Rn r 98 392 [l0, l1, l2, l3, l4, l5] [vI (-1), vI x0, vI x1, vR z2] h Q := Rn_nx pg98 rfl rfl
theorem sX6_judgeStatement_392 (hk : hK h a3 = 15) : Rn r 98 392 [l0, l1, l2, l3, l4, l5] [vI x0, vI x1, vI x2, vR (some a3)] h Q ↔ Cl r 96 [vR (some a3), vI x2, vI x1, vI x0] h (Kt r 98 395 [l0, l1, l2, l3, l4, l5] [] Q) := Rn_call pg98 rfl (by simp only [am_exec, am_inv, am_pop, am_lk, hk]; rfl) pg96 rfl rfl rfl
theorem sX6_judgeStatement_395 : Rn r 98 395 [l0, l1, l2, l3, l4, l5] [] h Q ↔ Rn r 98 398 [l0, l1, l2, l3, l4, l5] [] h Q := Rn_nx pg98 rfl rfl
theorem sX6_judgeStatement_398 : Rn r 98 398 [some (vR z), l1, l2, l3, l4, l5] [] h Q ↔ Rn r 98 399 [some (vR z), l1, l2, l3, l4, l5] [vR z] h Q := Rn_nx pg98 rfl rfl
theorem sX6_judgeStatement_399 (hk : hK h a0 = 15) : Rn r 98 399 [l0, l1, l2, l3, l4, l5] [vR (some a0)] h Q ↔ Rn r 98 402 [l0, l1, l2, l3, l4, l5] [vR (hR h a0 24)] h Q := Rn_nx pg98 rfl (if_pos ⟨(hk ▸ Nat.le_refl _), (hk ▸ Nat.le_refl _)⟩)
theorem sX6_judgeStatement_402 : Rn r 98 402 [l0, some (vI x), l2, l3, l4, l5] [vR z0] h Q ↔ Rn r 98 403 [l0, some (vI x), l2, l3, l4, l5] [vI x, vR z0] h Q := Rn_nx pg98 rfl rfl
theorem sX6_judgeStatement_403 (hk : 40 ≤ hK h a1) (hk2 : hK h a1 ≤ 41) (hx : ¬ (x0 < 0 ∨ hL h a1 ≤ x0.toNatClampNeg)) : Rn r 98 403 [l0, l1, l2, l3, l4, l5] [vI x0, vR (some a1)] h Q ↔ Rn r 98 404 [l0, l1, l2, l3, l4, l5] [vI (hI h a1 x0.toNatClampNeg)] h Q := Rn_nx pg98 rfl ((if_pos ⟨hk, hk2⟩).trans (if_neg hx))
theorem sX6_judgeStatement_404 : Rn r 98 404 [l0, l1, l2, l3, l4, l5] [vI x0] h Q ↔ Rn r 98 405 [l0, l1, l2, l3, l4, l5] [vI (-1), vI x0] h Q := Rn_nx pg98 rfl rfl
theorem sX6_judgeStatement_405 : Rn r 98 405 [l0, l1, l2, l3, l4, l5] [vI x0, vI x1] h Q ↔ if x1 = x0 then Rn r 98 435 [l0, l1, l2, l3, l4, l5] [] h Q else Rn r 98 408 [l0, l1, l2, l3, l4, l5] [] h Q := Rn_if pg98 rfl rfl rfl
theorem sX6_judgeStatement_408 : Rn r 98 408 [some (vR z), l1, l2, l3, l4, l5] [] h Q ↔ Rn r 98 409 [some (vR z), l1, l2, l3, l4, l5] [vR z] h Q := Rn_nx pg98 rfl rfl
theorem sX6_judgeStatement_409 (hk : hK h a0 = 15) : Rn r 98 409 [l0, l1, l2, l3, l4, l5] [vR (some a0)] h Q ↔ Rn r 98 412 [l0, l1, l2, l3, l4, l5] [vR (hR h a0 59)] h Q := Rn_nx pg98 rfl (if_pos ⟨(hk ▸ Nat.le_refl _), (hk ▸ Nat.le_refl _)⟩)
theorem sX6_judgeStatement_412 : Rn r 98 412 [l0, some (vI x), l2, l3, l4, l5] [vR z0] h Q ↔ Rn r 98 413 [l0, some (vI x), l2, l3, l4, l5] [vI x, vR z0] h Q := Rn_nx pg98 rfl rfl
theorem sX6_judgeStatement_413 (hk : 43 ≤ hK h a1) (hk2 : hK h a1 ≤ 45) (hx : ¬ (x0 < 0 ∨ hL h a1 ≤ x0.toNatClampNeg)) : Rn r 98 413 [l0, l1, l2, l3, l4, l5] [vI x0, vR (some a1)] h Q ↔ Rn r 98 414 [l0, l1, l2, l3, l4, l5] [vI (hI h a1 x0.toNatClampNeg)] h Q := Rn_nx pg98 rfl ((if_pos ⟨hk, hk2⟩).trans (if_neg hx))
theorem sX6_judgeStatement_414 : Rn r 98 414 [l0, l1, l2, l3, l4, l5] [vI x0] h Q ↔ if x0 ≠ 0 then Rn r 98 435 [l0, l1, l2, l3, l4, l5] [] h Q else Rn r 98 417 [l0, l1, l2, l3, l4, l5] [] h Q := Rn_if pg98 rfl rfl rfl
theorem sX6_judgeStatement_417 : Rn r 98 417 [some (vR z), l1, l2, l3, l4, l5] [] h Q ↔ Rn r 98 418 [some (vR z), l1, l2, l3, l4, l5] [vR z] h Q := Rn_nx pg98 rfl rfl
theorem sX6_judgeStatement_418 : Rn r 98 418 [l0, l1, l2, l3, l4, l5] [vR z0] h Q ↔ Rn r 98 420 [l0, l1, l2, l3, l4, l5] [vI 7, vR z0] h Q := Rn_nx pg98 rfl rfl
theorem sX6_judgeStatement_420 : Rn r 98 420 [some (vR z), l1, l2, l3, l4, l5] [vI x0, vR z1] h Q ↔ Rn r 98 421 [some (vR z), l1, l2, l3, l4, l5] [vR z, vI x0, vR z1] h Q := Rn_nx pg98 rfl rfl
theorem sX6_judgeStatement_421 (hk : hK h a0 = 15) : Rn r 98 421 [l0, l1, l2, l3, l4, l5] [vR (some a0), vI x1, vR z2] h Q ↔ Rn r 98 424 [l0, l1, l2, l3, l4, l5] [vR (hR h a0 21), vI x1, vR z2] h Q := Rn_nx pg98 rfl (if_pos ⟨(hk ▸ Nat.le_refl _), (hk ▸ Nat.le_refl _)⟩)
theorem sX6_judgeStatement_424 : Rn r 98 424 [some (vR z), l1, l2, l3, l4, l5] [vR z0, vI x1, vR z2] h Q ↔ Rn r 98 425 [some (vR z), l1, l2, l3, l4, l5] [vR z, vR z0, vI x1, vR z2] h Q := Rn_nx pg98 rfl rfl
theorem sX6_judgeStatement_425 (hk : hK h a0 = 15) : Rn r 98 425 [l0, l1, l2, l3, l4, l5] [vR (some a0), vR z1, vI x2, vR z3] h Q ↔ Rn r 98 428 [l0, l1, l2, l3, l4, l5] [vR (hR h a0 24), vR z1, vI x2, vR z3] h Q := Rn_nx pg98 rfl (if_pos ⟨(hk ▸ Nat.le_refl _), (hk ▸ Nat.le_refl _)⟩)
theorem sX6_judgeStatement_428 : Rn r 98 428 [l0, some (vI x), l2, l3, l4, l5] [vR z0, vR z1, vI x2, vR z3] h Q ↔ Rn r 98 429 [l0, some (vI x), l2, l3, l4, l5] [vI x, vR z0, vR z1, vI x2, vR z3] h Q := Rn_nx pg98 rfl rfl
theorem sX6_judgeStatement_429 (hk : 40 ≤ hK h a1) (hk2 : hK h a1 ≤ 41) (hx : ¬ (x0 < 0 ∨ hL h a1 ≤ x0.toNatClampNeg)) : Rn r 98 429 [l0, l1, l2, l3, l4, l5] [vI x0, vR (some a1), vR z2, vI x3, vR z4] h Q ↔ Rn r 98 430 [l0, l1, l2, l3, l4, l5] [vI (hI h a1 x0.toNatClampNeg), vR z2, vI x3, vR z4] h Q := Rn_nx pg98 rfl ((if_pos ⟨hk, hk2⟩).trans (if_neg hx))
theorem sX6_judgeStatement_430 (hk : 40 ≤ hK h a1) (hk2 : hK h a1 ≤ 41) (hx : ¬ (x0 < 0 ∨ hL h a1 ≤ x0.toNatClampNeg)) : Rn r 98 430 [l0, l1, l2, l3, l4, l5] [vI x0, vR (some a1), vI x2, vR z3] h Q ↔ Rn r 98 431 [l0, l1, l2, l3, l4, l5] [vI (hI h a1 x0.toNatClampNeg), vI x2, vR z3] h Q := Rn_nx pg98 rfl ((if_pos ⟨hk, hk2⟩).trans (if_neg hx))
theorem sX6_judgeStatement_431 : Rn r 98 431 [l0, l1, l2, l3, l4, l5] [vI x0, vI x1, vR z2] h Q ↔ Rn r 98 432 [l0, l1, l2, l3, l4, l5] [vI (-1), vI x0, vI x1, vR z2] h Q := Rn_nx pg98 rfl rfl
theorem sX6_judgeStatement_432 (hk : hK h a3 = 15) : Rn r 98 432 [l0, l1, l2, l3, l4, l5] [vI x0, vI x1, vI x2, vR (some a3)] h Q ↔ Cl r 96 [vR (some a3), vI x2, vI x1, vI x0] h (Kt r 98 435 [l0, l1, l2, l3, l4, l5] [] Q) := Rn_call pg98 rfl (by simp only [am_exec, am_inv, am_pop, am_lk, hk]; rfl) pg96 rfl rfl rfl
theorem sX6_judgeStatement_435 : Rn r 98 435 [l0, l1, l2, l3, l4, l5] [] h Q ↔ Q (Sum.inl none) h := Rn_end pg98 rfl rfl
/-! 99 java/util/Objects.checkIndex(II)I -/
theorem eJ26_checkIndex : Cl r 99 [vI x0, vI x1] h Q ↔ Rn r 99 0 [some (vI x0), some (vI x1)] [] h Q := Cl_in pg99 rfl
theorem sJ26_checkIndex_0 : Rn r 99 0 [some (vI x), l1] [] h Q ↔ Rn r 99 1 [some (vI x), l1] [vI x] h Q := Rn_nx pg99 rfl rfl
theorem sJ26_checkIndex_1 : Rn r 99 1 [l0, some (vI x)] [vI x0] h Q ↔ Rn r 99 2 [l0, some (vI x)] [vI x, vI x0] h Q := Rn_nx pg99 rfl rfl
theorem sJ26_checkIndex_2 : Rn r 99 2 [l0, l1] [vI x0, vI x1] h Q ↔ Rn r 99 3 [l0, l1] [vR none, vI x0, vI x1] h Q := Rn_nx pg99 rfl rfl
theorem sJ26_checkIndex_3 : Rn r 99 3 [l0, l1] [vR z0, vI x1, vI x2] h Q ↔ Cl r 152 [vI x2, vI x1, vR z0] h (Kt r 99 6 [l0, l1] [] Q) := Rn_call pg99 rfl rfl pg152 rfl rfl rfl
theorem sJ26_checkIndex_6 : Rn r 99 6 [l0, l1] [vI x0] h Q ↔ Q (Sum.inl (some (vI x0))) h := Rn_end pg99 rfl rfl
/-! 100 java/util/ArrayList.elementData(I)Ljava/lang/Object; -/
theorem eJ5_elementData : Cl r 100 [vR z0, vI x1] h Q ↔ Rn r 100 0 [some (vR z0), some (vI x1)] [] h Q := Cl_in pg100 rfl
theorem sJ5_elementData_0 : Rn r 100 0 [some (vR z), l1] [] h Q ↔ Rn r 100 1 [some (vR z), l1] [vR z] h Q := Rn_nx pg100 rfl rfl
theorem sJ5_elementData_1 (hk : hK h a0 = 4) : Rn r 100 1 [l0, l1] [vR (some a0)] h Q ↔ Rn r 100 4 [l0, l1] [vR (hR h a0 1)] h Q := Rn_nx pg100 rfl (if_pos ⟨(hk ▸ Nat.le_refl _), (hk ▸ Nat.le_refl _)⟩)
theorem sJ5_elementData_4 : Rn r 100 4 [l0, some (vI x)] [vR z0] h Q ↔ Rn r 100 5 [l0, some (vI x)] [vI x, vR z0] h Q := Rn_nx pg100 rfl rfl
theorem sJ5_elementData_5 (hk : 46 ≤ hK h a1) (hk2 : hK h a1 ≤ 49) (hx : ¬ (x0 < 0 ∨ hL h a1 ≤ x0.toNatClampNeg)) : Rn r 100 5 [l0, l1] [vI x0, vR (some a1)] h Q ↔ Rn r 100 6 [l0, l1] [vR (hR h a1 x0.toNatClampNeg)] h Q := Rn_nx pg100 rfl ((if_pos ⟨hk, hk2⟩).trans (if_neg hx))
theorem sJ5_elementData_6 : Rn r 100 6 [l0, l1] [vR z0] h Q ↔ Q (Sum.inl (some (vR z0))) h := Rn_end pg100 rfl rfl
/-! 101 ThrowRulesModel.only(I)I -/
theorem eX6_only : Cl r 101 [vI x0] h Q ↔ Rn r 101 0 [some (vI x0)] [] h Q := Cl_in pg101 rfl
theorem sX6_only_0 : Rn r 101 0 [some (vI x)] [] h Q ↔ Rn r 101 1 [some (vI x)] [vI x] h Q := Rn_nx pg101 rfl rfl
theorem sX6_only_1 : Rn r 101 1 [l0] [vI x0] h Q ↔ Rn r 101 2 [l0] [vI (-1), vI x0] h Q := Rn_nx pg101 rfl rfl
theorem sX6_only_2 : Rn r 101 2 [l0] [vI x0, vI x1] h Q ↔ if x1 ≠ x0 then Rn r 101 9 [l0] [] h Q else Rn r 101 5 [l0] [] h Q := Rn_if pg101 rfl rfl rfl
theorem sX6_only_5 : Rn r 101 5 [l0] [] h Q ↔ Rn r 101 6 [l0] [vI 0] h Q := Rn_nx pg101 rfl rfl
theorem sX6_only_6 : Rn r 101 6 [l0] [vI x0] h Q ↔ Rn r 101 12 [l0] [vI x0] h Q := Rn_nx pg101 rfl rfl
theorem sX6_only_9 : Rn r 101 9 [l0] [] h Q ↔ Rn r 101 10 [l0] [vI 1] h Q := Rn_nx pg101 rfl rfl
theorem sX6_only_10 : Rn r 101 10 [some (vI x)] [vI x0] h Q ↔ Rn r 101 11 [some (vI x)] [vI x, vI x0] h Q := Rn_nx pg101 rfl rfl
theorem sX6_only_11 : Rn r 101 11 [l0] [vI x0, vI x1] h Q ↔ Rn r 101 12 [l0] [vI (x1 <<< (x0 &&& 31))] h Q := Rn_nx pg101 rfl rfl
theorem sX6_only_12 : Rn r 101 12 [l0] [vI x0] h Q ↔ Q (Sum.inl (some (vI x0))) h := Rn_end pg101 rfl rfl
/-! 102 java/lang/AbstractStringBuilder.<init>(I)V -/
theorem eJ22_init : Cl r 102 [vR z0, vI x1] h Q ↔ Rn r 102 0 [some (vR z0), some (vI x1)] [] h Q := Cl_in pg102 rfl
theorem sJ22_init_0 : Rn r 102 0 [some (vR z), l1] [] h Q ↔ Rn r 102 1 [some (vR z), l1] [vR z] h Q := Rn_nx pg102 rfl rfl
theorem sJ22_init_1 : Rn r 102 1 [l0, l1] [vR (some a0)] h Q ↔ Rn r 102 4 [l0, l1] [] h Q := Rn_nx pg102 rfl rfl
theorem sJ22_init_4 : Rn r 102 4 [l0, l1] [] h Q ↔ Rn r 102 7 [l0, l1] [vI 1] h Q := Rn_nx pg102 rfl rfl
theorem sJ22_init_7 : Rn r 102 7 [l0, l1] [vI x0] h Q ↔ if x0 = 0 then Rn r 102 25 [l0, l1] [] h Q else Rn r 102 10 [l0, l1] [] h Q := Rn_if pg102 rfl rfl rfl
theorem sJ22_init_10 : Rn r 102 10 [some (vR z), l1] [] h Q ↔ Rn r 102 11 [some (vR z), l1] [vR z] h Q := Rn_nx pg102 rfl rfl
theorem sJ22_init_11 : Rn r 102 11 [l0, some (vI x)] [vR z0] h Q ↔ Rn r 102 12 [l0, some (vI x)] [vI x, vR z0] h Q := Rn_nx pg102 rfl rfl
theorem sJ22_init_12 (hn : ¬ (x0 < 0 ∨ 65536 < x0.toNatClampNeg)) : Rn r 102 12 [l0, l1] [vI x0, vR z1] h Q ↔ Rn r 102 14 [l0, l1] [vR (some (hN h)), vR z1] (newC h 44 x0.toNatClampNeg) Q := Rn_nx pg102 rfl (if_neg hn)
theorem sJ22_init_14 (hk : hK h a1 = 16) : Rn r 102 14 [l0, l1] [vR z0, vR (some a1)] h Q ↔ Rn r 102 17 [l0, l1] [] (putR h a1 0 z0) Q := Rn_nx pg102 rfl ((if_pos ⟨(hk ▸ Nat.le_refl _), (hk ▸ Nat.le_refl _)⟩).trans rfl)
theorem sJ22_init_17 : Rn r 102 17 [some (vR z), l1] [] h Q ↔ Rn r 102 18 [some (vR z), l1] [vR z] h Q := Rn_nx pg102 rfl rfl
theorem sJ22_init_18 : Rn r 102 18 [l0, l1] [vR z0] h Q ↔ Rn r 102 19 [l0, l1] [vI 0, vR z0] h Q := Rn_nx pg102 rfl rfl
theorem sJ22_init_19 (hk : hK h a1 = 16) (hf : am_fit 5 x0 = true) : Rn r 102 19 [l0, l1] [vI x0, vR (some a1)] h Q ↔ Rn r 102 22 [l0, l1] [] (putI h a1 1 x0) Q := Rn_nx pg102 rfl ((if_pos ⟨(hk ▸ Nat.le_refl _), (hk ▸ Nat.le_refl _)⟩).trans (if_pos hf))
theorem sJ22_init_22 : Rn r 102 22 [l0, l1] [] h Q ↔ Rn r 102 38 [l0, l1] [] h Q := Rn_nx pg102 rfl rfl
theorem sJ22_init_25 : Rn r 102 25 [some (vR z), l1] [] h Q ↔ Rn r 102 26 [some (vR z), l1] [vR z] h Q := Rn_nx pg102 rfl rfl
theorem sJ22_init_26 : Rn r 102 26 [l0, some (vI x)] [vR z0] h Q ↔ Rn r 102 27 [l0, some (vI x)] [vI x, vR z0] h Q := Rn_nx pg102 rfl rfl
theorem sJ22_init_30 (hk : hK h a1 = 16) : Rn r 102 30 [l0, l1] [vR z0, vR (some a1)] h Q ↔ Rn r 102 33 [l0, l1] [] (putR h a1 0 z0) Q := Rn_nx pg102 rfl ((if_pos ⟨(hk ▸ Nat.le_refl _), (hk ▸ Nat.le_refl _)⟩).trans rfl)
theorem sJ22_init_33 : Rn r 102 33 [some (vR z), l1] [] h Q ↔ Rn r 102 34 [some (vR z), l1] [vR z] h Q := Rn_nx pg102 rfl rfl
theorem sJ22_init_34 : Rn r 102 34 [l0, l1] [vR z0] h Q ↔ Rn r 102 35 [l0, l1] [vI 1, vR z0] h Q := Rn_nx pg102 rfl rfl
theorem sJ22_init_35 (hk : hK h a1 = 16) (hf : am_fit 5 x0 = true) : Rn r 102 35 [l0, l1] [vI x0, vR (some a1)] h Q ↔ Rn r 102 38 [l0, l1] [] (putI h a1 1 x0) Q := Rn_nx pg102 rfl ((if_pos ⟨(hk ▸ Nat.le_refl _), (hk ▸ Nat.le_refl _)⟩).trans (if_pos hf))
theorem sJ22_init_38 : Rn r 102 38 [l0, l1] [] h Q ↔ Q (Sum.inl none) h := Rn_end pg102 rfl rfl
/-! 103 java/lang/AbstractStringBuilder.append(C)Ljava/lang/AbstractStringBuilder; -/
theorem eJ22_append : Cl r 103 [vR z0, vI x1] h Q ↔ Rn r 103 0 [some (vR z0), some (vI x1)] [] h Q := Cl_in pg103 rfl
theorem sJ22_append_0 : Rn r 103 0 [some (vR z), l1] [] h Q ↔ Rn r 103 1 [some (vR z), l1] [vR z] h Q := Rn_nx pg103 rfl rfl
theorem sJ22_append_1 : Rn r 103 1 [some (vR z), l1] [vR z0] h Q ↔ Rn r 103 2 [some (vR z), l1] [vR z, vR z0] h Q := Rn_nx pg103 rfl rfl
theorem sJ22_append_2 (hk : hK h a0 = 16) : Rn r 103 2 [l0, l1] [vR (some a0), vR z1] h Q ↔ Rn r 103 5 [l0, l1] [vI (hI h a0 3), vR z1] h Q := Rn_nx pg103 rfl (if_pos ⟨(hk ▸ Nat.le_refl _), (hk ▸ Nat.le_refl _)⟩)
theorem sJ22_append_5 : Rn r 103 5 [l0, l1] [vI x0, vR z1] h Q ↔ Rn r 103 6 [l0, l1] [vI 1, vI x0, vR z1] h Q := Rn_nx pg103 rfl rfl
theorem sJ22_append_6 : Rn r 103 6 [l0, l1] [vI x0, vI x1, vR z2] h Q ↔ Rn r 103 7 [l0, l1] [vI (x1 + x0), vR z2] h Q := Rn_nx pg103 rfl rfl
theorem sJ22_append_7 (hk : hK h a1 = 16) : Rn r 103 7 [l0, l1] [vI x0, vR (some a1)] h Q ↔ Cl r 153 [vR (some a1), vI x0] h (Kt r 103 10 [l0, l1] [] Q) := Rn_call pg103 rfl (by simp only [am_exec, am_inv, am_pop, am_lk, hk]; rfl) pg153 rfl rfl rfl
theorem sJ22_append_10 : Rn r 103 10 [some (vR z), l1] [] h Q ↔ Rn r 103 11 [some (vR z), l1] [vR z] h Q := Rn_nx pg103 rfl rfl
theorem sJ22_append_11 (hk : hK h a0 = 16) : Rn r 103 11 [l0, l1] [vR (some a0)] h Q ↔ Cl r 154 [vR (some a0)] h (Kt r 103 14 [l0, l1] [] Q) := Rn_call pg103 rfl (by simp only [am_exec, am_inv, am_pop, am_lk, hk]; rfl) pg154 rfl rfl rfl
theorem sJ22_append_14 : Rn r 103 14 [l0, l1] [vI x0] h Q ↔ if x0 = 0 then Rn r 103 45 [l0, l1] [] h Q else Rn r 103 17 [l0, l1] [] h Q := Rn_if pg103 rfl rfl rfl
theorem sJ22_append_17 : Rn r 103 17 [l0, some (vI x)] [] h Q ↔ Rn r 103 18 [l0, some (vI x)] [vI x] h Q := Rn_nx pg103 rfl rfl
theorem sJ22_append_18 : Rn r 103 18 [l0, l1] [vI x0] h Q ↔ Cl r 155 [vI x0] h (Kt r 103 21 [l0, l1] [] Q) := Rn_call pg103 rfl rfl pg155 rfl rfl rfl
theorem sJ22_append_21 : Rn r 103 21 [l0, l1] [vI x0] h Q ↔ if x0 = 0 then Rn r 103 45 [l0, l1] [] h Q else Rn r 103 24 [l0, l1] [] h Q := Rn_if pg103 rfl rfl rfl
theorem sJ22_append_24 : Rn r 103 24 [some (vR z), l1] [] h Q ↔ Rn r 103 25 [some (vR z), l1] [vR z] h Q := Rn_nx pg103 rfl rfl
theorem sJ22_append_25 (hk : hK h a0 = 16) : Rn r 103 25 [l0, l1] [vR (some a0)] h Q ↔ Rn r 103 28 [l0, l1] [vR (hR h a0 0)] h Q := Rn_nx pg103 rfl (if_pos ⟨(hk ▸ Nat.le_refl _), (hk ▸ Nat.le_refl _)⟩)
theorem sJ22_append_28 : Rn r 103 28 [some (vR z), l1] [vR z0] h Q ↔ Rn r 103 29 [some (vR z), l1] [vR z, vR z0] h Q := Rn_nx pg103 rfl rfl
theorem sJ22_append_29 : Rn r 103 29 [l0, l1] [vR z0, vR z1] h Q ↔ Rn r 103 30 [l0, l1] [vR z0, vR z0, vR z1] h Q := Rn_nx pg103 rfl rfl
theorem sJ22_append_30 (hk : hK h a0 = 16) : Rn r 103 30 [l0, l1] [vR (some a0), vR z1, vR z2] h Q ↔ Rn r 103 33 [l0, l1] [vI (hI h a0 3), vR z1, vR z2] h Q := Rn_nx pg103 rfl (if_pos ⟨(hk ▸ Nat.le_refl _), (hk ▸ Nat.le_refl _)⟩)
theorem sJ22_append_33 : Rn r 103 33 [l0, l1] [vI x0, vR z1, vR z2] h Q ↔ Rn r 103 34 [l0, l1] [vI x0, vR z1, vI x0, vR z2] h Q := Rn_nx pg103 rfl rfl
theorem sJ22_append_34 : Rn r 103 34 [l0, l1] [vI x0, vR z1, vI x2, vR z3] h Q ↔ Rn r 103 35 [l0, l1] [vI 1, vI x0, vR z1, vI x2, vR z3] h Q := Rn_nx pg103 rfl rfl
theorem sJ22_append_35 : Rn r 103 35 [l0, l1] [vI x0, vI x1, vR z2, vI x3, vR z4] h Q ↔ Rn r 103 36 [l0, l1] [vI (x1 + x0), vR z2, vI x3, vR z4] h Q := Rn_nx pg103 rfl rfl
theorem sJ22_append_36 (hk : hK h a1 = 16) : Rn r 103 36 [l0, l1] [vI x0, vR (some a1), vI x2, vR z3] h Q ↔ Rn r 103 39 [l0, l1] [vI x2, vR z3] (putI h a1 3 x0) Q := Rn_nx pg103 rfl ((if_pos ⟨(hk ▸ Nat.le_refl _), (hk ▸ Nat.le_refl _)⟩).trans rfl)
theorem sJ22_append_39 : Rn r 103 39 [l0, some (vI x)] [vI x0, vR z1] h Q ↔ Rn r 103 40 [l0, some (vI x)] [vI x, vI x0, vR z1] h Q := Rn_nx pg103 rfl rfl
theorem sJ22_append_40 : Rn r 103 40 [l0, l1] [vI x0, vI x1, vR z2] h Q ↔ Rn r 103 41 [l0, l1] [vI x0.toInt8.toInt32, vI x1, vR z2] h Q := Rn_nx pg103 rfl rfl
theorem sJ22_append_41 (hk : hK h a2 = 44) (hf : am_fit 5 x0 = true) (hx : ¬ (x1 < 0 ∨ hL h a2 ≤ x1.toNatClampNeg)) : Rn r 103 41 [l0, l1] [vI x0, vI x1, vR (some a2)] h Q ↔ Rn r 103 42 [l0, l1] [] (putI h a2 x1.toNatClampNeg x0) Q := Rn_nx pg103 rfl ((if_pos hk).trans ((if_pos hf).trans (if_neg hx)))
theorem sJ22_append_42 : Rn r 103 42 [l0, l1] [] h Q ↔ Rn r 103 75 [l0, l1] [] h Q := Rn_nx pg103 rfl rfl
theorem sJ22_append_45 : Rn r 103 45 [some (vR z), l1] [] h Q ↔ Rn r 103 46 [some (vR z), l1] [vR z] h Q := Rn_nx pg103 rfl rfl
theorem sJ22_append_46 (hk : hK h a0 = 16) : Rn r 103 46 [l0, l1] [vR (some a0)] h Q ↔ Cl r 154 [vR (some a0)] h (Kt r 103 49 [l0, l1] [] Q) := Rn_call pg103 rfl (by simp only [am_exec, am_inv, am_pop, am_lk, hk]; rfl) pg154 rfl rfl rfl
theorem sJ22_append_49 : Rn r 103 49 [l0, l1] [vI x0] h Q ↔ if x0 = 0 then Rn r 103 56 [l0, l1] [] h Q else Rn r 103 52 [l0, l1] [] h Q := Rn_if pg103 rfl rfl rfl
theorem sJ22_append_52 : Rn r 103 52 [some (vR z), l1] [] h Q ↔ Rn r 103 53 [some (vR z), l1] [vR z] h Q := Rn_nx pg103 rfl rfl
theorem sJ22_append_56 : Rn r 103 56 [some (vR z), l1] [] h Q ↔ Rn r 103 57 [some (vR z), l1] [vR z] h Q := Rn_nx pg103 rfl rfl
theorem sJ22_append_57 (hk : hK h a0 = 16) : Rn r 103 57 [l0, l1] [vR (some a0)] h Q ↔ Rn r 103 60 [l0, l1] [vR (hR h a0 0)] h Q := Rn_nx pg103 rfl (if_pos ⟨(hk ▸ Nat.le_refl _), (hk ▸ Nat.le_refl _)⟩)
theorem sJ22_append_60 : Rn r 103 60 [some (vR z), l1] [vR z0] h Q ↔ Rn r 103 61 [some (vR z), l1] [vR z, vR z0] h Q := Rn_nx pg103 rfl rfl
theorem sJ22_append_61 : Rn r 103 61 [l0, l1] [vR z0, vR z1] h Q ↔ Rn r 103 62 [l0, l1] [vR z0, vR z0, vR z1] h Q := Rn_nx pg103 rfl rfl
theorem sJ22_append_62 (hk : hK h a0 = 16) : Rn r 103 62 [l0, l1] [vR (some a0), vR z1, vR z2] h Q ↔ Rn r 103 65 [l0, l1] [vI (hI h a0 3), vR z1, vR z2] h Q := Rn_nx pg103 rfl (if_pos ⟨(hk ▸ Nat.le_refl _), (hk ▸ Nat.le_refl _)⟩)
theorem sJ22_append_65 : Rn r 103 65 [l0, l1] [vI x0, vR z1, vR z2] h Q ↔ Rn r 103 66 [l0, l1] [vI x0, vR z1, vI x0, vR z2] h Q := Rn_nx pg103 rfl rfl
theorem sJ22_append_66 : Rn r 103 66 [l0, l1] [vI x0, vR z1, vI x2, vR z3] h Q ↔ Rn r 103 67 [l0, l1] [vI 1, vI x0, vR z1, vI x2, vR z3] h Q := Rn_nx pg103 rfl rfl
theorem sJ22_append_67 : Rn r 103 67 [l0, l1] [vI x0, vI x1, vR z2, vI x3, vR z4] h Q ↔ Rn r 103 68 [l0, l1] [vI (x1 + x0), vR z2, vI x3, vR z4] h Q := Rn_nx pg103 rfl rfl
theorem sJ22_append_68 (hk : hK h a1 = 16) : Rn r 103 68 [l0, l1] [vI x0, vR (some a1), vI x2, vR z3] h Q ↔ Rn r 103 71 [l0, l1] [vI x2, vR z3] (putI h a1 3 x0) Q := Rn_nx pg103 rfl ((if_pos ⟨(hk ▸ Nat.le_refl _), (hk ▸ Nat.le_refl _)⟩).trans rfl)
theorem sJ22_append_71 : Rn r 103 71 [l0, some (vI x)] [vI x0, vR z1] h Q ↔ Rn r 103 72 [l0, some (vI x)] [vI x, vI x0, vR z1] h Q := Rn_nx pg103 rfl rfl
theorem sJ22_append_75 : Rn r 103 75 [some (vR z), l1] [] h Q ↔ Rn r 103 76 [some (vR z), l1] [vR z] h Q := Rn_nx pg103 rfl rfl
theorem sJ22_append_76 : Rn r 103 76 [l0, l1] [vR z0] h Q ↔ Q (Sum.inl (some (vR z0))) h := Rn_end pg103 rfl rfl
/-! 104 java/lang/String.<init>(Ljava/lang/StringBuilder;)V -/
theorem eJ13_init : Cl r 104 [vR z0, vR z1] h Q ↔ Rn r 104 0 [some (vR z0), some (vR z1)] [] h Q := Cl_in pg104 rfl
theorem sJ13_init_0 : Rn r 104 0 [some (vR z), l1] [] h Q ↔ Rn r 104 1 [some (vR z), l1] [vR z] h Q := Rn_nx pg104 rfl rfl
theorem sJ13_init_1 : Rn r 104 1 [l0, some (vR z)] [vR z0] h Q ↔ Rn r 104 2 [l0, some (vR z)] [vR z, vR z0] h Q := Rn_nx pg104 rfl rfl
theorem sJ13_init_2 : Rn r 104 2 [l0, l1] [vR z0, vR z1] h Q ↔ Rn r 104 3 [l0, l1] [vR none, vR z0, vR z1] h Q := Rn_nx pg104 rfl rfl
theorem sJ13_init_3 (hk : 0 < hK h a2) (hk2 : hK h a2 < 40) : Rn r 104 3 [l0, l1] [vR z0, vR z1, vR (some a2)] h Q ↔ Cl r 156 [vR (some a2), vR z1, vR z0] h (Kt r 104 6 [l0, l1] [] Q) := Rn_call pg104 rfl (if_pos ⟨hk, hk2⟩) pg156 rfl rfl rfl
theorem sJ13_init_6 : Rn r 104 6 [l0, l1] [] h Q ↔ Q (Sum.inl none) h := Rn_end pg104 rfl rfl
/-! 105 java/util/HashMap.getNode(Ljava/lang/Object;)Ljava/util/HashMap$Node; -/
theorem eJ7_getNode : Cl r 105 [vR z0, vR z1] h Q ↔ Rn r 105 0 [some (vR z0), some (vR z1), none, none, none, none, none, none] [] h Q := Cl_in pg105 rfl
theorem sJ7_getNode_0 : Rn r 105 0 [some (vR z), l1, l2, l3, l4, l5, l6, l7] [] h Q ↔ Rn r 105 1 [some (vR z), l1, l2, l3, l4, l5, l6, l7] [vR z] h Q := Rn_nx pg105 rfl rfl
theorem sJ7_getNode_1 (hk : hK h a0 = 6) : Rn r 105 1 [l0, l1, l2, l3, l4, l5, l6, l7] [vR (some a0)] h Q ↔ Rn r 105 4 [l0, l1, l2, l3, l4, l5, l6, l7] [vR (hR h a0 2)] h Q := Rn_nx pg105 rfl (if_pos ⟨(hk ▸ Nat.le_refl _), (hk ▸ Nat.le_refl _)⟩)
theorem sJ7_getNode_4 : Rn r 105 4 [l0, l1, l2, l3, l4, l5, l6, l7] [vR z0] h Q ↔ Rn r 105 5 [l0, l1, l2, l3, l4, l5, l6, l7] [vR z0, vR z0] h Q := Rn_nx pg105 rfl rfl
theorem sJ7_getNode_5 : Rn r 105 5 [l0, l1, l2, l3, l4, l5, l6, l7] [vR z0, vR z1] h Q ↔ Rn r 105 6 [l0, l1, some (vR z0), l3, l4, l5, l6, l7] [vR z1] h Q := Rn_nx pg105 rfl rfl
theorem sJ7_getNode_6 : Rn r 105 6 [l0, l1, l2, l3, l4, l5, l6, l7] [vR z0] h Q ↔ if z0 = none then Rn r 105 148 [l0, l1, l2, l3, l4, l5, l6, l7] [] h Q else Rn r 105 9 [l0, l1, l2, l3, l4, l5, l6, l7] [] h Q := Rn_if pg105 rfl rfl rfl
theorem sJ7_getNode_9 : Rn r 105 9 [l0, l1, some (vR z), l3, l4, l5, l6, l7] [] h Q ↔ Rn r 105 10 [l0, l1, some (vR z), l3, l4, l5, l6, l7] [vR z] h Q := Rn_nx pg105 rfl rfl
theorem sJ7_getNode_10 (hk : 40 ≤ hK h a0) (hk2 : hK h a0 ≤ 49) : Rn r 105 10 [l0, l1, l2, l3, l4, l5, l6, l7] [vR (some a0)] h Q ↔ Rn r 105 11 [l0, l1, l2, l3, l4, l5, l6, l7] [vI (nI (hL h a0))] h Q := Rn_nx pg105 rfl (if_pos ⟨hk, hk2⟩)
theorem sJ7_getNode_11 : Rn r 105 11 [l0, l1, l2, l3, l4, l5, l6, l7] [vI x0] h Q ↔ Rn r 105 12 [l0, l1, l2, l3, l4, l5, l6, l7] [vI x0, vI x0] h Q := Rn_nx pg105 rfl rfl
theorem sJ7_getNode_12 : Rn r 105 12 [l0, l1, l2, l3, l4, l5, l6, l7] [vI x0, vI x1] h Q ↔ Rn r 105 14 [l0, l1, l2, l3, l4, some (vI x0), l6, l7] [vI x1] h Q := Rn_nx pg105 rfl rfl
theorem sJ7_getNode_14 : Rn r 105 14 [l0, l1, l2, l3, l4, l5, l6, l7] [vI x0] h Q ↔ if x0 ≤ 0 then Rn r 105 148 [l0, l1, l2, l3, l4, l5, l6, l7] [] h Q else Rn r 105 17 [l0, l1, l2, l3, l4, l5, l6, l7] [] h Q := Rn_if pg105 rfl rfl rfl
theorem sJ7_getNode_17 : Rn r 105 17 [l0, l1, some (vR z), l3, l4, l5, l6, l7] [] h Q ↔ Rn r 105 18 [l0, l1, some (vR z), l3, l4, l5, l6, l7] [vR z] h Q := Rn_nx pg105 rfl rfl
theorem sJ7_getNode_18 : Rn r 105 18 [l0, l1, l2, l3, l4, some (vI x), l6, l7] [vR z0] h Q ↔ Rn r 105 20 [l0, l1, l2, l3, l4, some (vI x), l6, l7] [vI x, vR z0] h Q := Rn_nx pg105 rfl rfl
theorem sJ7_getNode_20 : Rn r 105 20 [l0, l1, l2, l3, l4, l5, l6, l7] [vI x0, vR z1] h Q ↔ Rn r 105 21 [l0, l1, l2, l3, l4, l5, l6, l7] [vI 1, vI x0, vR z1] h Q := Rn_nx pg105 rfl rfl
theorem sJ7_getNode_21 : Rn r 105 21 [l0, l1, l2, l3, l4, l5, l6, l7] [vI x0, vI x1, vR z2] h Q ↔ Rn r 105 22 [l0, l1, l2, l3, l4, l5, l6, l7] [vI (x1 - x0), vR z2] h Q := Rn_nx pg105 rfl rfl
theorem sJ7_getNode_22 : Rn r 105 22 [l0, some (vR z), l2, l3, l4, l5, l6, l7] [vI x0, vR z1] h Q ↔ Rn r 105 23 [l0, some (vR z), l2, l3, l4, l5, l6, l7] [vR z, vI x0, vR z1] h Q := Rn_nx pg105 rfl rfl
theorem sJ7_getNode_23 : Rn r 105 23 [l0, l1, l2, l3, l4, l5, l6, l7] [vR z0, vI x1, vR z2] h Q ↔ Cl r 157 [vR z0] h (Kt r 105 26 [l0, l1, l2, l3, l4, l5, l6, l7] [vI x1, vR z2] Q) := Rn_call pg105 rfl rfl pg157 rfl rfl rfl
theorem sJ7_getNode_26 : Rn r 105 26 [l0, l1, l2, l3, l4, l5, l6, l7] [vI x0, vI x1, vR z2] h Q ↔ Rn r 105 27 [l0, l1, l2, l3, l4, l5, l6, l7] [vI x0, vI x0, vI x1, vR z2] h Q := Rn_nx pg105 rfl rfl
theorem sJ7_getNode_27 : Rn r 105 27 [l0, l1, l2, l3, l4, l5, l6, l7] [vI x0, vI x1, vI x2, vR z3] h Q ↔ Rn r 105 29 [l0, l1, l2, l3, l4, l5, some (vI x0), l7] [vI x1, vI x2, vR z3] h Q := Rn_nx pg105 rfl rfl
theorem sJ7_getNode_29 : Rn r 105 29 [l0, l1, l2, l3, l4, l5, l6, l7] [vI x0, vI x1, vR z2] h Q ↔ Rn r 105 30 [l0, l1, l2, l3, l4, l5, l6, l7] [vI (x1 &&& x0), vR z2] h Q := Rn_nx pg105 rfl rfl
theorem sJ7_getNode_30 (hk : 46 ≤ hK h a1) (hk2 : hK h a1 ≤ 49) (hx : ¬ (x0 < 0 ∨ hL h a1 ≤ x0.toNatClampNeg)) : Rn r 105 30 [l0, l1, l2, l3, l4, l5, l6, l7] [vI x0, vR (some a1)] h Q ↔ Rn r 105 31 [l0, l1, l2, l3, l4, l5, l6, l7] [vR (hR h a1 x0.toNatClampNeg)] h Q := Rn_nx pg105 rfl ((if_pos ⟨hk, hk2⟩).trans (if_neg hx))
theorem sJ7_getNode_31 : Rn r 105 31 [l0, l1, l2, l3, l4, l5, l6, l7] [vR z0] h Q ↔ Rn r 105 32 [l0, l1, l2, l3, l4, l5, l6, l7] [vR z0, vR z0] h Q := Rn_nx pg105 rfl rfl
theorem sJ7_getNode_32 : Rn r 105 32 [l0, l1, l2, l3, l4, l5, l6, l7] [vR z0, vR z1] h Q ↔ Rn r 105 33 [l0, l1, l2, some (vR z0), l4, l5, l6, l7] [vR z1] h Q := Rn_nx pg105 rfl rfl
theorem sJ7_getNode_33 : Rn r 105 33 [l0, l1, l2, l3, l4, l5, l6, l7] [vR z0] h Q ↔ if z0 = none then Rn r 105 148 [l0, l1, l2, l3, l4, l5, l6, l7] [] h Q else Rn r 105 36 [l0, l1, l2, l3, l4, l5, l6, l7] [] h Q := Rn_if pg105 rfl rfl rfl
theorem sJ7_getNode_36 : Rn r 105 36 [l0, l1, l2, some (vR z), l4, l5, l6, l7] [] h Q ↔ Rn r 105 37 [l0, l1, l2, some (vR z), l4, l5, l6, l7] [vR z] h Q := Rn_nx pg105 rfl rfl
theorem sJ7_getNode_37 (hk : 12 ≤ hK h a0) (hk2 : hK h a0 ≤ 13) : Rn r 105 37 [l0, l1, l2, l3, l4, l5, l6, l7] [vR (some a0)] h Q ↔ Rn r 105 40 [l0, l1, l2, l3, l4, l5, l6, l7] [vI (hI h a0 0)] h Q := Rn_nx pg105 rfl (if_pos ⟨hk, hk2⟩)
theorem sJ7_getNode_40 : Rn r 105 40 [l0, l1, l2, l3, l4, l5, some (vI x), l7] [vI x0] h Q ↔ Rn r 105 42 [l0, l1, l2, l3, l4, l5, some (vI x), l7] [vI x, vI x0] h Q := Rn_nx pg105 rfl rfl
theorem sJ7_getNode_42 : Rn r 105 42 [l0, l1, l2, l3, l4, l5, l6, l7] [vI x0, vI x1] h Q ↔ if x1 ≠ x0 then Rn r 105 71 [l0, l1, l2, l3, l4, l5, l6, l7] [] h Q else Rn r 105 45 [l0, l1, l2, l3, l4, l5, l6, l7] [] h Q := Rn_if pg105 rfl rfl rfl
theorem sJ7_getNode_45 : Rn r 105 45 [l0, l1, l2, some (vR z), l4, l5, l6, l7] [] h Q ↔ Rn r 105 46 [l0, l1, l2, some (vR z), l4, l5, l6, l7] [vR z] h Q := Rn_nx pg105 rfl rfl
theorem sJ7_getNode_46 (hk : 12 ≤ hK h a0) (hk2 : hK h a0 ≤ 13) : Rn r 105 46 [l0, l1, l2, l3, l4, l5, l6, l7] [vR (some a0)] h Q ↔ Rn r 105 49 [l0, l1, l2, l3, l4, l5, l6, l7] [vR (hR h a0 1)] h Q := Rn_nx pg105 rfl (if_pos ⟨hk, hk2⟩)
theorem sJ7_getNode_49 : Rn r 105 49 [l0, l1, l2, l3, l4, l5, l6, l7] [vR z0] h Q ↔ Rn r 105 50 [l0, l1, l2, l3, l4, l5, l6, l7] [vR z0, vR z0] h Q := Rn_nx pg105 rfl rfl
theorem sJ7_getNode_50 : Rn r 105 50 [l0, l1, l2, l3, l4, l5, l6, l7] [vR z0, vR z1] h Q ↔ Rn r 105 52 [l0, l1, l2, l3, l4, l5, l6, some (vR z0)] [vR z1] h Q := Rn_nx pg105 rfl rfl
theorem sJ7_getNode_52 : Rn r 105 52 [l0, some (vR z), l2, l3, l4, l5, l6, l7] [vR z0] h Q ↔ Rn r 105 53 [l0, some (vR z), l2, l3, l4, l5, l6, l7] [vR z, vR z0] h Q := Rn_nx pg105 rfl rfl
theorem sJ7_getNode_53 : Rn r 105 53 [l0, l1, l2, l3, l4, l5, l6, l7] [vR z0, vR z1] h Q ↔ if z1 = z0 then Rn r 105 69 [l0, l1, l2, l3, l4, l5, l6, l7] [] h Q else Rn r 105 56 [l0, l1, l2, l3, l4, l5, l6, l7] [] h Q := Rn_if pg105 rfl rfl rfl
theorem sJ7_getNode_56 : Rn r 105 56 [l0, some (vR z), l2, l3, l4, l5, l6, l7] [] h Q ↔ Rn r 105 57 [l0, some (vR z), l2, l3, l4, l5, l6, l7] [vR z] h Q := Rn_nx pg105 rfl rfl
theorem sJ7_getNode_57 : Rn r 105 57 [l0, l1, l2, l3, l4, l5, l6, l7] [vR z0] h Q ↔ if z0 = none then Rn r 105 71 [l0, l1, l2, l3, l4, l5, l6, l7] [] h Q else Rn r 105 60 [l0, l1, l2, l3, l4, l5, l6, l7] [] h Q := Rn_if pg105 rfl rfl rfl
theorem sJ7_getNode_60 : Rn r 105 60 [l0, some (vR z), l2, l3, l4, l5, l6, l7] [] h Q ↔ Rn r 105 61 [l0, some (vR z), l2, l3, l4, l5, l6, l7] [vR z] h Q := Rn_nx pg105 rfl rfl
theorem sJ7_getNode_61 : Rn r 105 61 [l0, l1, l2, l3, l4, l5, l6, some (vR z)] [vR z0] h Q ↔ Rn r 105 63 [l0, l1, l2, l3, l4, l5, l6, some (vR z)] [vR z, vR z0] h Q := Rn_nx pg105 rfl rfl
theorem sJ7_getNode_63 (hk : 10 ≤ hK h a1) (hk2 : hK h a1 ≤ 11) : Rn r 105 63 [l0, l1, l2, l3, l4, l5, l6, l7] [vR z0, vR (some a1)] h Q ↔ Cl r 125 [vR (some a1), vR z0] h (Kt r 105 66 [l0, l1, l2, l3, l4, l5, l6, l7] [] Q) := Rn_call pg105 rfl (by rcases am_rng2 hk hk2 with q | q <;> simp only [am_exec, am_inv, am_pop, am_lk, q] <;> rfl) pg125 rfl rfl rfl
theorem sJ7_getNode_66 : Rn r 105 66 [l0, l1, l2, l3, l4, l5, l6, l7] [vI x0] h Q ↔ if x0 = 0 then Rn r 105 71 [l0, l1, l2, l3, l4, l5, l6, l7] [] h Q else Rn r 105 69 [l0, l1, l2, l3, l4, l5, l6, l7] [] h Q := Rn_if pg105 rfl rfl rfl
theorem sJ7_getNode_69 : Rn r 105 69 [l0, l1, l2, some (vR z), l4, l5, l6, l7] [] h Q ↔ Rn r 105 70 [l0, l1, l2, some (vR z), l4, l5, l6, l7] [vR z] h Q := Rn_nx pg105 rfl rfl
theorem sJ7_getNode_70 : Rn r 105 70 [l0, l1, l2, l3, l4, l5, l6, l7] [vR z0] h Q ↔ Q (Sum.inl (some (vR z0))) h := Rn_end pg105 rfl rfl
theorem sJ7_getNode_71 : Rn r 105 71 [l0, l1, l2, some (vR z), l4, l5, l6, l7] [] h Q ↔ Rn r 105 72 [l0, l1, l2, some (vR z), l4, l5, l6, l7] [vR z] h Q := Rn_nx pg105 rfl rfl
theorem sJ7_getNode_72 (hk : 12 ≤ hK h a0) (hk2 : hK h a0 ≤ 13) : Rn r 105 72 [l0, l1, l2, l3, l4, l5, l6, l7] [vR (some a0)] h Q ↔ Rn r 105 75 [l0, l1, l2, l3, l4, l5, l6, l7] [vR (hR h a0 3)] h Q := Rn_nx pg105 rfl (if_pos ⟨hk, hk2⟩)
theorem sJ7_getNode_75 : Rn r 105 75 [l0, l1, l2, l3, l4, l5, l6, l7] [vR z0] h Q ↔ Rn r 105 76 [l0, l1, l2, l3, l4, l5, l6, l7] [vR z0, vR z0] h Q := Rn_nx pg105 rfl rfl
theorem sJ7_getNode_76 : Rn r 105 76 [l0, l1, l2, l3, l4, l5, l6, l7] [vR z0, vR z1] h Q ↔ Rn r 105 78 [l0, l1, l2, l3, some (vR z0), l5, l6, l7] [vR z1] h Q := Rn_nx pg105 rfl rfl
theorem sJ7_getNode_78 : Rn r 105 78 [l0, l1, l2, l3, l4, l5, l6, l7] [vR z0] h Q ↔ if z0 = none then Rn r 105 148 [l0, l1, l2, l3, l4, l5, l6, l7] [] h Q else Rn r 105 81 [l0, l1, l2, l3, l4, l5, l6, l7] [] h Q := Rn_if pg105 rfl rfl rfl
theorem sJ7_getNode_81 : Rn r 105 81 [l0, l1, l2, some (vR z), l4, l5, l6, l7] [] h Q ↔ Rn r 105 82 [l0, l1, l2, some (vR z), l4, l5, l6, l7] [vR z] h Q := Rn_nx pg105 rfl rfl
theorem sJ7_getNode_82_n : Rn r 105 82 [l0, l1, l2, l3, l4, l5, l6, l7] [vR none] h Q ↔ Rn r 105 85 [l0, l1, l2, l3, l4, l5, l6, l7] [vI 0] h Q := Rn_nx pg105 rfl rfl
theorem sJ7_getNode_82 (hk : hK h a0 ∈ [13]) : Rn r 105 82 [l0, l1, l2, l3, l4, l5, l6, l7] [vR (some a0)] h Q ↔ Rn r 105 85 [l0, l1, l2, l3, l4, l5, l6, l7] [vI 1] h Q := Rn_nx pg105 rfl (if_pos hk)
theorem sJ7_getNode_82_f (hk : hK h a0 ∉ [13]) (hk2 : am_look (hK h a0) [(12, 0)] = some 0) : Rn r 105 82 [l0, l1, l2, l3, l4, l5, l6, l7] [vR (some a0)] h Q ↔ Rn r 105 85 [l0, l1, l2, l3, l4, l5, l6, l7] [vI 0] h Q := Rn_nx pg105 rfl ((if_neg hk).trans (by rw [hk2]; rfl))
theorem sJ7_getNode_85 : Rn r 105 85 [l0, l1, l2, l3, l4, l5, l6, l7] [vI x0] h Q ↔ if x0 = 0 then Rn r 105 99 [l0, l1, l2, l3, l4, l5, l6, l7] [] h Q else Rn r 105 88 [l0, l1, l2, l3, l4, l5, l6, l7] [] h Q := Rn_if pg105 rfl rfl rfl
theorem sJ7_getNode_88 : Rn r 105 88 [l0, l1, l2, some (vR z), l4, l5, l6, l7] [] h Q ↔ Rn r 105 89 [l0, l1, l2, some (vR z), l4, l5, l6, l7] [vR z] h Q := Rn_nx pg105 rfl rfl
theorem sJ7_getNode_89_n : Rn r 105 89 [l0, l1, l2, l3, l4, l5, l6, l7] [vR none] h Q ↔ Rn r 105 92 [l0, l1, l2, l3, l4, l5, l6, l7] [vR none] h Q := Rn_nx pg105 rfl rfl
theorem sJ7_getNode_89 (hk : hK h a0 ∈ [13]) : Rn r 105 89 [l0, l1, l2, l3, l4, l5, l6, l7] [vR (some a0)] h Q ↔ Rn r 105 92 [l0, l1, l2, l3, l4, l5, l6, l7] [vR (some a0)] h Q := Rn_nx pg105 rfl (if_pos hk)
theorem sJ7_getNode_92 : Rn r 105 92 [l0, l1, l2, l3, l4, l5, some (vI x), l7] [vR z0] h Q ↔ Rn r 105 94 [l0, l1, l2, l3, l4, l5, some (vI x), l7] [vI x, vR z0] h Q := Rn_nx pg105 rfl rfl
theorem sJ7_getNode_94 : Rn r 105 94 [l0, some (vR z), l2, l3, l4, l5, l6, l7] [vI x0, vR z1] h Q ↔ Rn r 105 95 [l0, some (vR z), l2, l3, l4, l5, l6, l7] [vR z, vI x0, vR z1] h Q := Rn_nx pg105 rfl rfl
theorem sJ7_getNode_95 (hk : hK h a2 = 13) : Rn r 105 95 [l0, l1, l2, l3, l4, l5, l6, l7] [vR z0, vI x1, vR (some a2)] h Q ↔ Cl r 158 [vR (some a2), vI x1, vR z0] h (Kt r 105 98 [l0, l1, l2, l3, l4, l5, l6, l7] [] Q) := Rn_call pg105 rfl (by simp only [am_exec, am_inv, am_pop, am_lk, hk]; rfl) pg158 rfl rfl rfl
theorem sJ7_getNode_98 : Rn r 105 98 [l0, l1, l2, l3, l4, l5, l6, l7] [vR z0] h Q ↔ Q (Sum.inl (some (vR z0))) h := Rn_end pg105 rfl rfl
theorem sJ7_getNode_99 : Rn r 105 99 [l0, l1, l2, l3, some (vR z), l5, l6, l7] [] h Q ↔ Rn r 105 101 [l0, l1, l2, l3, some (vR z), l5, l6, l7] [vR z] h Q := Rn_nx pg105 rfl rfl
theorem sJ7_getNode_101 (hk : 12 ≤ hK h a0) (hk2 : hK h a0 ≤ 13) : Rn r 105 101 [l0, l1, l2, l3, l4, l5, l6, l7] [vR (some a0)] h Q ↔ Rn r 105 104 [l0, l1, l2, l3, l4, l5, l6, l7] [vI (hI h a0 0)] h Q := Rn_nx pg105 rfl (if_pos ⟨hk, hk2⟩)
theorem sJ7_getNode_104 : Rn r 105 104 [l0, l1, l2, l3, l4, l5, some (vI x), l7] [vI x0] h Q ↔ Rn r 105 106 [l0, l1, l2, l3, l4, l5, some (vI x), l7] [vI x, vI x0] h Q := Rn_nx pg105 rfl rfl
theorem sJ7_getNode_106 : Rn r 105 106 [l0, l1, l2, l3, l4, l5, l6, l7] [vI x0, vI x1] h Q ↔ if x1 ≠ x0 then Rn r 105 137 [l0, l1, l2, l3, l4, l5, l6, l7] [] h Q else Rn r 105 109 [l0, l1, l2, l3, l4, l5, l6, l7] [] h Q := Rn_if pg105 rfl rfl rfl
theorem sJ7_getNode_109 : Rn r 105 109 [l0, l1, l2, l3, some (vR z), l5, l6, l7] [] h Q ↔ Rn r 105 111 [l0, l1, l2, l3, some (vR z), l5, l6, l7] [vR z] h Q := Rn_nx pg105 rfl rfl
theorem sJ7_getNode_111 (hk : 12 ≤ hK h a0) (hk2 : hK h a0 ≤ 13) : Rn r 105 111 [l0, l1, l2, l3, l4, l5, l6, l7] [vR (some a0)] h Q ↔ Rn r 105 114 [l0, l1, l2, l3, l4, l5, l6, l7] [vR (hR h a0 1)] h Q := Rn_nx pg105 rfl (if_pos ⟨hk, hk2⟩)
theorem sJ7_getNode_114 : Rn r 105 114 [l0, l1, l2, l3, l4, l5, l6, l7] [vR z0] h Q ↔ Rn r 105 115 [l0, l1, l2, l3, l4, l5, l6, l7] [vR z0, vR z0] h Q := Rn_nx pg105 rfl rfl
theorem sJ7_getNode_115 : Rn r 105 115 [l0, l1, l2, l3, l4, l5, l6, l7] [vR z0, vR z1] h Q ↔ Rn r 105 117 [l0, l1, l2, l3, l4, l5, l6, some (vR z0)] [vR z1] h Q := Rn_nx pg105 rfl rfl
theorem sJ7_getNode_117 : Rn r 105 117 [l0, some (vR z), l2, l3, l4, l5, l6, l7] [vR z0] h Q ↔ Rn r 105 118 [l0, some (vR z), l2, l3, l4, l5, l6, l7] [vR z, vR z0] h Q := Rn_nx pg105 rfl rfl
theorem sJ7_getNode_118 : Rn r 105 118 [l0, l1, l2, l3, l4, l5, l6, l7] [vR z0, vR z1] h Q ↔ if z1 = z0 then Rn r 105 134 [l0, l1, l2, l3, l4, l5, l6, l7] [] h Q else Rn r 105 121 [l0, l1, l2, l3, l4, l5, l6, l7] [] h Q := Rn_if pg105 rfl rfl rfl
theorem sJ7_getNode_121 : Rn r 105 121 [l0, some (vR z), l2, l3, l4, l5, l6, l7] [] h Q ↔ Rn r 105 122 [l0, some (vR z), l2, l3, l4, l5, l6, l7] [vR z] h Q := Rn_nx pg105 rfl rfl
theorem sJ7_getNode_122 : Rn r 105 122 [l0, l1, l2, l3, l4, l5, l6, l7] [vR z0] h Q ↔ if z0 = none then Rn r 105 137 [l0, l1, l2, l3, l4, l5, l6, l7] [] h Q else Rn r 105 125 [l0, l1, l2, l3, l4, l5, l6, l7] [] h Q := Rn_if pg105 rfl rfl rfl
theorem sJ7_getNode_125 : Rn r 105 125 [l0, some (vR z), l2, l3, l4, l5, l6, l7] [] h Q ↔ Rn r 105 126 [l0, some (vR z), l2, l3, l4, l5, l6, l7] [vR z] h Q := Rn_nx pg105 rfl rfl
theorem sJ7_getNode_126 : Rn r 105 126 [l0, l1, l2, l3, l4, l5, l6, some (vR z)] [vR z0] h Q ↔ Rn r 105 128 [l0, l1, l2, l3, l4, l5, l6, some (vR z)] [vR z, vR z0] h Q := Rn_nx pg105 rfl rfl
theorem sJ7_getNode_128 (hk : 10 ≤ hK h a1) (hk2 : hK h a1 ≤ 11) : Rn r 105 128 [l0, l1, l2, l3, l4, l5, l6, l7] [vR z0, vR (some a1)] h Q ↔ Cl r 125 [vR (some a1), vR z0] h (Kt r 105 131 [l0, l1, l2, l3, l4, l5, l6, l7] [] Q) := Rn_call pg105 rfl (by rcases am_rng2 hk hk2 with q | q <;> simp only [am_exec, am_inv, am_pop, am_lk, q] <;> rfl) pg125 rfl rfl rfl
theorem sJ7_getNode_131 : Rn r 105 131 [l0, l1, l2, l3, l4, l5, l6, l7] [vI x0] h Q ↔ if x0 = 0 then Rn r 105 137 [l0, l1, l2, l3, l4, l5, l6, l7] [] h Q else Rn r 105 134 [l0, l1, l2, l3, l4, l5, l6, l7] [] h Q := Rn_if pg105 rfl rfl rfl
theorem sJ7_getNode_134 : Rn r 105 134 [l0, l1, l2, l3, some (vR z), l5, l6, l7] [] h Q ↔ Rn r 105 136 [l0, l1, l2, l3, some (vR z), l5, l6, l7] [vR z] h Q := Rn_nx pg105 rfl rfl
theorem sJ7_getNode_136 : Rn r 105 136 [l0, l1, l2, l3, l4, l5, l6, l7] [vR z0] h Q ↔ Q (Sum.inl (some (vR z0))) h := Rn_end pg105 rfl rfl
theorem sJ7_getNode_137 : Rn r 105 137 [l0, l1, l2, l3, some (vR z), l5, l6, l7] [] h Q ↔ Rn r 105 139 [l0, l1, l2, l3, some (vR z), l5, l6, l7] [vR z] h Q := Rn_nx pg105 rfl rfl
theorem sJ7_getNode_139 (hk : 12 ≤ hK h a0) (hk2 : hK h a0 ≤ 13) : Rn r 105 139 [l0, l1, l2, l3, l4, l5, l6, l7] [vR (some a0)] h Q ↔ Rn r 105 142 [l0, l1, l2, l3, l4, l5, l6, l7] [vR (hR h a0 3)] h Q := Rn_nx pg105 rfl (if_pos ⟨hk, hk2⟩)
theorem sJ7_getNode_142 : Rn r 105 142 [l0, l1, l2, l3, l4, l5, l6, l7] [vR z0] h Q ↔ Rn r 105 143 [l0, l1, l2, l3, l4, l5, l6, l7] [vR z0, vR z0] h Q := Rn_nx pg105 rfl rfl
theorem sJ7_getNode_143 : Rn r 105 143 [l0, l1, l2, l3, l4, l5, l6, l7] [vR z0, vR z1] h Q ↔ Rn r 105 145 [l0, l1, l2, l3, some (vR z0), l5, l6, l7] [vR z1] h Q := Rn_nx pg105 rfl rfl
theorem sJ7_getNode_145 : Rn r 105 145 [l0, l1, l2, l3, l4, l5, l6, l7] [vR z0] h Q ↔ if z0 ≠ none then Rn r 105 99 [l0, l1, l2, l3, l4, l5, l6, l7] [] h Q else Rn r 105 148 [l0, l1, l2, l3, l4, l5, l6, l7] [] h Q := Rn_if pg105 rfl rfl rfl
theorem sJ7_getNode_148 : Rn r 105 148 [l0, l1, l2, l3, l4, l5, l6, l7] [] h Q ↔ Rn r 105 149 [l0, l1, l2, l3, l4, l5, l6, l7] [vR none] h Q := Rn_nx pg105 rfl rfl
theorem sJ7_getNode_149 : Rn r 105 149 [l0, l1, l2, l3, l4, l5, l6, l7] [vR z0] h Q ↔ Q (Sum.inl (some (vR z0))) h := Rn_end pg105 rfl rfl
/-! 106 ThrowRules$Block.walk(LThrowRules$Walk;)V -/
theorem eX11_walk : Cl r 106 [vR z0, vR z1] h Q ↔ Rn r 106 0 [some (vR z0), some (vR z1), none] [] h Q := Cl_in pg106 rfl
theorem sX11_walk_0 : Rn r 106 0 [l0, l1, l2] [] h Q ↔ Rn r 106 1 [l0, l1, l2] [vI 0] h Q := Rn_nx pg106 rfl rfl
theorem sX11_walk_1 : Rn r 106 1 [l0, l1, l2] [vI x0] h Q ↔ Rn r 106 2 [l0, l1, some (vI x0)] [] h Q := Rn_nx pg106 rfl rfl
theorem sX11_walk_2 : Rn r 106 2 [l0, l1, some (vI x)] [] h Q ↔ Rn r 106 3 [l0, l1, some (vI x)] [vI x] h Q := Rn_nx pg106 rfl rfl
theorem sX11_walk_3 : Rn r 106 3 [some (vR z), l1, l2] [vI x0] h Q ↔ Rn r 106 4 [some (vR z), l1, l2] [vR z, vI x0] h Q := Rn_nx pg106 rfl rfl
theorem sX11_walk_4 (hk : hK h a0 = 21) : Rn r 106 4 [l0, l1, l2] [vR (some a0), vI x1] h Q ↔ Rn r 106 7 [l0, l1, l2] [vR (hR h a0 0), vI x1] h Q := Rn_nx pg106 rfl (if_pos ⟨(hk ▸ Nat.le_refl _), (hk ▸ Nat.le_refl _)⟩)
theorem sX11_walk_7 (hk : hK h a0 = 4) : Rn r 106 7 [l0, l1, l2] [vR (some a0), vI x1] h Q ↔ Cl r 34 [vR (some a0)] h (Kt r 106 10 [l0, l1, l2] [vI x1] Q) := Rn_call pg106 rfl (by simp only [am_exec, am_inv, am_pop, am_lk, hk]; rfl) pg34 rfl rfl rfl
theorem sX11_walk_10 : Rn r 106 10 [l0, l1, l2] [vI x0, vI x1] h Q ↔ if x0 ≤ x1 then Rn r 106 41 [l0, l1, l2] [] h Q else Rn r 106 13 [l0, l1, l2] [] h Q := Rn_if pg106 rfl rfl rfl
theorem sX11_walk_13 : Rn r 106 13 [l0, some (vR z), l2] [] h Q ↔ Rn r 106 14 [l0, some (vR z), l2] [vR z] h Q := Rn_nx pg106 rfl rfl
theorem sX11_walk_14 (hk : hK h a0 = 14) : Rn r 106 14 [l0, l1, l2] [vR (some a0)] h Q ↔ Cl r 159 [vR (some a0)] h (Kt r 106 17 [l0, l1, l2] [] Q) := Rn_call pg106 rfl (by simp only [am_exec, am_inv, am_pop, am_lk, hk]; rfl) pg159 rfl rfl rfl
theorem sX11_walk_17 : Rn r 106 17 [l0, l1, l2] [vI x0] h Q ↔ if x0 = 0 then Rn r 106 41 [l0, l1, l2] [] h Q else Rn r 106 20 [l0, l1, l2] [] h Q := Rn_if pg106 rfl rfl rfl
theorem sX11_walk_20 : Rn r 106 20 [some (vR z), l1, l2] [] h Q ↔ Rn r 106 21 [some (vR z), l1, l2] [vR z] h Q := Rn_nx pg106 rfl rfl
theorem sX11_walk_21 (hk : hK h a0 = 21) : Rn r 106 21 [l0, l1, l2] [vR (some a0)] h Q ↔ Rn r 106 24 [l0, l1, l2] [vR (hR h a0 0)] h Q := Rn_nx pg106 rfl (if_pos ⟨(hk ▸ Nat.le_refl _), (hk ▸ Nat.le_refl _)⟩)
theorem sX11_walk_24 : Rn r 106 24 [l0, l1, some (vI x)] [vR z0] h Q ↔ Rn r 106 25 [l0, l1, some (vI x)] [vI x, vR z0] h Q := Rn_nx pg106 rfl rfl
theorem sX11_walk_25 (hk : hK h a1 = 4) : Rn r 106 25 [l0, l1, l2] [vI x0, vR (some a1)] h Q ↔ Cl r 43 [vR (some a1), vI x0] h (Kt r 106 28 [l0, l1, l2] [] Q) := Rn_call pg106 rfl (by simp only [am_exec, am_inv, am_pop, am_lk, hk]; rfl) pg43 rfl rfl rfl
theorem sX11_walk_28_n : Rn r 106 28 [l0, l1, l2] [vR none] h Q ↔ Rn r 106 31 [l0, l1, l2] [vR none] h Q := Rn_nx pg106 rfl rfl
theorem sX11_walk_28 (hk : hK h a0 ∈ [30, 31, 32, 33, 34, 35, 36, 37, 38]) : Rn r 106 28 [l0, l1, l2] [vR (some a0)] h Q ↔ Rn r 106 31 [l0, l1, l2] [vR (some a0)] h Q := Rn_nx pg106 rfl (if_pos hk)
theorem sX11_walk_31 : Rn r 106 31 [l0, some (vR z), l2] [vR z0] h Q ↔ Rn r 106 32 [l0, some (vR z), l2] [vR z, vR z0] h Q := Rn_nx pg106 rfl rfl
theorem sX11_walk_32 (hk : 30 ≤ hK h a1) (hk2 : hK h a1 ≤ 38) : Rn r 106 32 [l0, l1, l2] [vR z0, vR (some a1)] h Q ↔ Cl r 160 [vR (some a1), vR z0] h (Kt r 106 35 [l0, l1, l2] [] Q) := Rn_call pg106 rfl (by rcases am_rng9 hk hk2 with q | q | q | q | q | q | q | q | q <;> simp only [am_exec, am_inv, am_pop, am_lk, q] <;> rfl) pg160 rfl rfl rfl
theorem sX11_walk_35 : Rn r 106 35 [l0, l1, some (vI x)] [] h Q ↔ Rn r 106 38 [l0, l1, some (vI (x + 1))] [] h Q := Rn_nx pg106 rfl rfl
theorem sX11_walk_38 : Rn r 106 38 [l0, l1, l2] [] h Q ↔ Rn r 106 2 [l0, l1, l2] [] h Q := Rn_nx pg106 rfl rfl
theorem sX11_walk_41 : Rn r 106 41 [l0, l1, l2] [] h Q ↔ Q (Sum.inl none) h := Rn_end pg106 rfl rfl
/-! 107 ThrowRulesModel.paramOf(JI)I -/
theorem eX6_paramOf : Cl r 107 [vR z0, vL y1, vI x2] h Q ↔ Rn r 107 0 [some (vR z0), some (vL y1), none, some (vI x2), none] [] h Q := Cl_in pg107 rfl
theorem sX6_paramOf_0 : Rn r 107 0 [l0, l1, l2, some (vI x), l4] [] h Q ↔ Rn r 107 1 [l0, l1, l2, some (vI x), l4] [vI x] h Q := Rn_nx pg107 rfl rfl
theorem sX6_paramOf_1 : Rn r 107 1 [l0, l1, l2, l3, l4] [vI x0] h Q ↔ Rn r 107 3 [l0, l1, l2, l3, some (vI x0)] [] h Q := Rn_nx pg107 rfl rfl
theorem sX6_paramOf_3 : Rn r 107 3 [some (vR z), l1, l2, l3, l4] [] h Q ↔ Rn r 107 4 [some (vR z), l1, l2, l3, l4] [vR z] h Q := Rn_nx pg107 rfl rfl
theorem sX6_paramOf_4 : Rn r 107 4 [l0, l1, l2, l3, l4] [vR z0] h Q ↔ Rn r 107 5 [l0, l1, l2, l3, l4] [vI 0, vR z0] h Q := Rn_nx pg107 rfl rfl
theorem sX6_paramOf_5 (hk : hK h a1 = 15) (hf : am_fit 4 x0 = true) : Rn r 107 5 [l0, l1, l2, l3, l4] [vI x0, vR (some a1)] h Q ↔ Rn r 107 8 [l0, l1, l2, l3, l4] [] (putI h a1 57 x0) Q := Rn_nx pg107 rfl ((if_pos ⟨(hk ▸ Nat.le_refl _), (hk ▸ Nat.le_refl _)⟩).trans (if_pos hf))
theorem sX6_paramOf_8 : Rn r 107 8 [l0, l1, l2, l3, some (vI x)] [] h Q ↔ Rn r 107 10 [l0, l1, l2, l3, some (vI x)] [vI x] h Q := Rn_nx pg107 rfl rfl
theorem sX6_paramOf_10 : Rn r 107 10 [l0, l1, l2, l3, l4] [vI x0] h Q ↔ Rn r 107 11 [l0, l1, l2, l3, l4] [vI (-1), vI x0] h Q := Rn_nx pg107 rfl rfl
theorem sX6_paramOf_11 : Rn r 107 11 [l0, l1, l2, l3, l4] [vI x0, vI x1] h Q ↔ if x1 = x0 then Rn r 107 142 [l0, l1, l2, l3, l4] [] h Q else Rn r 107 14 [l0, l1, l2, l3, l4] [] h Q := Rn_if pg107 rfl rfl rfl
theorem sX6_paramOf_14 : Rn r 107 14 [some (vR z), l1, l2, l3, l4] [] h Q ↔ Rn r 107 15 [some (vR z), l1, l2, l3, l4] [vR z] h Q := Rn_nx pg107 rfl rfl
theorem sX6_paramOf_15 (hk : hK h a0 = 15) : Rn r 107 15 [l0, l1, l2, l3, l4] [vR (some a0)] h Q ↔ Rn r 107 18 [l0, l1, l2, l3, l4] [vR (hR h a0 41)] h Q := Rn_nx pg107 rfl (if_pos ⟨(hk ▸ Nat.le_refl _), (hk ▸ Nat.le_refl _)⟩)
theorem sX6_paramOf_18 : Rn r 107 18 [l0, l1, l2, l3, some (vI x)] [vR z0] h Q ↔ Rn r 107 20 [l0, l1, l2, l3, some (vI x)] [vI x, vR z0] h Q := Rn_nx pg107 rfl rfl
theorem sX6_paramOf_20 (hk : 40 ≤ hK h a1) (hk2 : hK h a1 ≤ 41) (hx : ¬ (x0 < 0 ∨ hL h a1 ≤ x0.toNatClampNeg)) : Rn r 107 20 [l0, l1, l2, l3, l4] [vI x0, vR (some a1)] h Q ↔ Rn r 107 21 [l0, l1, l2, l3, l4] [vI (hI h a1 x0.toNatClampNeg)] h Q := Rn_nx pg107 rfl ((if_pos ⟨hk, hk2⟩).trans (if_neg hx))
theorem sX6_paramOf_21 : Rn r 107 21 [l0, l1, l2, l3, l4] [vI x0] h Q ↔ Rn r 107 23 [l0, l1, l2, l3, l4] [vI 6, vI x0] h Q := Rn_nx pg107 rfl rfl
theorem sX6_paramOf_23 : Rn r 107 23 [l0, l1, l2, l3, l4] [vI x0, vI x1] h Q ↔ if x1 ≠ x0 then Rn r 107 71 [l0, l1, l2, l3, l4] [] h Q else Rn r 107 26 [l0, l1, l2, l3, l4] [] h Q := Rn_if pg107 rfl rfl rfl
theorem sX6_paramOf_26 : Rn r 107 26 [some (vR z), l1, l2, l3, l4] [] h Q ↔ Rn r 107 27 [some (vR z), l1, l2, l3, l4] [vR z] h Q := Rn_nx pg107 rfl rfl
theorem sX6_paramOf_27 (hk : hK h a0 = 15) : Rn r 107 27 [l0, l1, l2, l3, l4] [vR (some a0)] h Q ↔ Rn r 107 30 [l0, l1, l2, l3, l4] [vR (hR h a0 35)] h Q := Rn_nx pg107 rfl (if_pos ⟨(hk ▸ Nat.le_refl _), (hk ▸ Nat.le_refl _)⟩)
theorem sX6_paramOf_30 : Rn r 107 30 [l0, l1, l2, l3, l4] [vR z0] h Q ↔ Rn r 107 31 [l0, l1, l2, l3, l4] [vI 4, vR z0] h Q := Rn_nx pg107 rfl rfl
theorem sX6_paramOf_31 : Rn r 107 31 [some (vR z), l1, l2, l3, l4] [vI x0, vR z1] h Q ↔ Rn r 107 32 [some (vR z), l1, l2, l3, l4] [vR z, vI x0, vR z1] h Q := Rn_nx pg107 rfl rfl
theorem sX6_paramOf_32 (hk : hK h a0 = 15) : Rn r 107 32 [l0, l1, l2, l3, l4] [vR (some a0), vI x1, vR z2] h Q ↔ Rn r 107 35 [l0, l1, l2, l3, l4] [vR (hR h a0 42), vI x1, vR z2] h Q := Rn_nx pg107 rfl (if_pos ⟨(hk ▸ Nat.le_refl _), (hk ▸ Nat.le_refl _)⟩)
theorem sX6_paramOf_35 : Rn r 107 35 [l0, l1, l2, l3, some (vI x)] [vR z0, vI x1, vR z2] h Q ↔ Rn r 107 37 [l0, l1, l2, l3, some (vI x)] [vI x, vR z0, vI x1, vR z2] h Q := Rn_nx pg107 rfl rfl
theorem sX6_paramOf_37 (hk : 40 ≤ hK h a1) (hk2 : hK h a1 ≤ 41) (hx : ¬ (x0 < 0 ∨ hL h a1 ≤ x0.toNatClampNeg)) : Rn r 107 37 [l0, l1, l2, l3, l4] [vI x0, vR (some a1), vI x2, vR z3] h Q ↔ Rn r 107 38 [l0, l1, l2, l3, l4] [vI (hI h a1 x0.toNatClampNeg), vI x2, vR z3] h Q := Rn_nx pg107 rfl ((if_pos ⟨hk, hk2⟩).trans (if_neg hx))
theorem sX6_paramOf_38 : Rn r 107 38 [l0, l1, l2, l3, l4] [vI x0, vI x1, vR z2] h Q ↔ Rn r 107 39 [l0, l1, l2, l3, l4] [vI (x1 * x0), vR z2] h Q := Rn_nx pg107 rfl rfl
theorem sX6_paramOf_39 : Rn r 107 39 [some (vR z), l1, l2, l3, l4] [vI x0, vR z1] h Q ↔ Rn r 107 40 [some (vR z), l1, l2, l3, l4] [vR z, vI x0, vR z1] h Q := Rn_nx pg107 rfl rfl
theorem sX6_paramOf_40 (hk : hK h a0 = 15) : Rn r 107 40 [l0, l1, l2, l3, l4] [vR (some a0), vI x1, vR z2] h Q ↔ Rn r 107 43 [l0, l1, l2, l3, l4] [vR (hR h a0 43), vI x1, vR z2] h Q := Rn_nx pg107 rfl (if_pos ⟨(hk ▸ Nat.le_refl _), (hk ▸ Nat.le_refl _)⟩)
theorem sX6_paramOf_43 : Rn r 107 43 [l0, l1, l2, l3, some (vI x)] [vR z0, vI x1, vR z2] h Q ↔ Rn r 107 45 [l0, l1, l2, l3, some (vI x)] [vI x, vR z0, vI x1, vR z2] h Q := Rn_nx pg107 rfl rfl
theorem sX6_paramOf_45 (hk : 40 ≤ hK h a1) (hk2 : hK h a1 ≤ 41) (hx : ¬ (x0 < 0 ∨ hL h a1 ≤ x0.toNatClampNeg)) : Rn r 107 45 [l0, l1, l2, l3, l4] [vI x0, vR (some a1), vI x2, vR z3] h Q ↔ Rn r 107 46 [l0, l1, l2, l3, l4] [vI (hI h a1 x0.toNatClampNeg), vI x2, vR z3] h Q := Rn_nx pg107 rfl ((if_pos ⟨hk, hk2⟩).trans (if_neg hx))
theorem sX6_paramOf_46 : Rn r 107 46 [l0, l1, l2, l3, l4] [vI x0, vI x1, vR z2] h Q ↔ Rn r 107 47 [l0, l1, l2, l3, l4] [vI (x1 + x0), vR z2] h Q := Rn_nx pg107 rfl rfl
theorem sX6_paramOf_47 (hk : hK h a1 = 42) (hx : ¬ (x0 < 0 ∨ hL h a1 ≤ x0.toNatClampNeg)) : Rn r 107 47 [l0, l1, l2, l3, l4] [vI x0, vR (some a1)] h Q ↔ Rn r 107 48 [l0, l1, l2, l3, l4] [vL (hJ h a1 x0.toNatClampNeg)] h Q := Rn_nx pg107 rfl ((if_pos ⟨(hk ▸ Nat.le_refl _), (hk ▸ Nat.le_refl _)⟩).trans (if_neg hx))
theorem sX6_paramOf_48 : Rn r 107 48 [l0, some (vL y), l2, l3, l4] [vL y0] h Q ↔ Rn r 107 49 [l0, some (vL y), l2, l3, l4] [vL y, vL y0] h Q := Rn_nx pg107 rfl rfl
theorem sX6_paramOf_49 : Rn r 107 49 [l0, l1, l2, l3, l4] [vL y0, vL y1] h Q ↔ Rn r 107 50 [l0, l1, l2, l3, l4] [vI (lg_cmp y1 y0)] h Q := Rn_nx pg107 rfl rfl
theorem sX6_paramOf_50 : Rn r 107 50 [l0, l1, l2, l3, l4] [vI x0] h Q ↔ if x0 ≠ 0 then Rn r 107 71 [l0, l1, l2, l3, l4] [] h Q else Rn r 107 53 [l0, l1, l2, l3, l4] [] h Q := Rn_if pg107 rfl rfl rfl
theorem sX6_paramOf_53 : Rn r 107 53 [l0, l1, l2, l3, l4] [] h Q ↔ Rn r 107 54 [l0, l1, l2, l3, l4] [vI 4] h Q := Rn_nx pg107 rfl rfl
theorem sX6_paramOf_54 : Rn r 107 54 [some (vR z), l1, l2, l3, l4] [vI x0] h Q ↔ Rn r 107 55 [some (vR z), l1, l2, l3, l4] [vR z, vI x0] h Q := Rn_nx pg107 rfl rfl
theorem sX6_paramOf_55 (hk : hK h a0 = 15) : Rn r 107 55 [l0, l1, l2, l3, l4] [vR (some a0), vI x1] h Q ↔ Rn r 107 58 [l0, l1, l2, l3, l4] [vR (hR h a0 42), vI x1] h Q := Rn_nx pg107 rfl (if_pos ⟨(hk ▸ Nat.le_refl _), (hk ▸ Nat.le_refl _)⟩)
theorem sX6_paramOf_58 : Rn r 107 58 [l0, l1, l2, l3, some (vI x)] [vR z0, vI x1] h Q ↔ Rn r 107 60 [l0, l1, l2, l3, some (vI x)] [vI x, vR z0, vI x1] h Q := Rn_nx pg107 rfl rfl
theorem sX6_paramOf_60 (hk : 40 ≤ hK h a1) (hk2 : hK h a1 ≤ 41) (hx : ¬ (x0 < 0 ∨ hL h a1 ≤ x0.toNatClampNeg)) : Rn r 107 60 [l0, l1, l2, l3, l4] [vI x0, vR (some a1), vI x2] h Q ↔ Rn r 107 61 [l0, l1, l2, l3, l4] [vI (hI h a1 x0.toNatClampNeg), vI x2] h Q := Rn_nx pg107 rfl ((if_pos ⟨hk, hk2⟩).trans (if_neg hx))
theorem sX6_paramOf_61 : Rn r 107 61 [l0, l1, l2, l3, l4] [vI x0, vI x1] h Q ↔ Rn r 107 62 [l0, l1, l2, l3, l4] [vI (x1 * x0)] h Q := Rn_nx pg107 rfl rfl
theorem sX6_paramOf_62 : Rn r 107 62 [some (vR z), l1, l2, l3, l4] [vI x0] h Q ↔ Rn r 107 63 [some (vR z), l1, l2, l3, l4] [vR z, vI x0] h Q := Rn_nx pg107 rfl rfl
theorem sX6_paramOf_63 (hk : hK h a0 = 15) : Rn r 107 63 [l0, l1, l2, l3, l4] [vR (some a0), vI x1] h Q ↔ Rn r 107 66 [l0, l1, l2, l3, l4] [vR (hR h a0 43), vI x1] h Q := Rn_nx pg107 rfl (if_pos ⟨(hk ▸ Nat.le_refl _), (hk ▸ Nat.le_refl _)⟩)
theorem sX6_paramOf_66 : Rn r 107 66 [l0, l1, l2, l3, some (vI x)] [vR z0, vI x1] h Q ↔ Rn r 107 68 [l0, l1, l2, l3, some (vI x)] [vI x, vR z0, vI x1] h Q := Rn_nx pg107 rfl rfl
theorem sX6_paramOf_68 (hk : 40 ≤ hK h a1) (hk2 : hK h a1 ≤ 41) (hx : ¬ (x0 < 0 ∨ hL h a1 ≤ x0.toNatClampNeg)) : Rn r 107 68 [l0, l1, l2, l3, l4] [vI x0, vR (some a1), vI x2] h Q ↔ Rn r 107 69 [l0, l1, l2, l3, l4] [vI (hI h a1 x0.toNatClampNeg), vI x2] h Q := Rn_nx pg107 rfl ((if_pos ⟨hk, hk2⟩).trans (if_neg hx))
theorem sX6_paramOf_69 : Rn r 107 69 [l0, l1, l2, l3, l4] [vI x0, vI x1] h Q ↔ Rn r 107 70 [l0, l1, l2, l3, l4] [vI (x1 + x0)] h Q := Rn_nx pg107 rfl rfl
theorem sX6_paramOf_70 : Rn r 107 70 [l0, l1, l2, l3, l4] [vI x0] h Q ↔ Q (Sum.inl (some (vI x0))) h := Rn_end pg107 rfl rfl
theorem sX6_paramOf_71 : Rn r 107 71 [some (vR z), l1, l2, l3, l4] [] h Q ↔ Rn r 107 72 [some (vR z), l1, l2, l3, l4] [vR z] h Q := Rn_nx pg107 rfl rfl
theorem sX6_paramOf_72 : Rn r 107 72 [some (vR z), l1, l2, l3, l4] [vR z0] h Q ↔ Rn r 107 73 [some (vR z), l1, l2, l3, l4] [vR z, vR z0] h Q := Rn_nx pg107 rfl rfl
theorem sX6_paramOf_73 (hk : hK h a0 = 15) : Rn r 107 73 [l0, l1, l2, l3, l4] [vR (some a0), vR z1] h Q ↔ Rn r 107 76 [l0, l1, l2, l3, l4] [vI (hI h a0 57), vR z1] h Q := Rn_nx pg107 rfl (if_pos ⟨(hk ▸ Nat.le_refl _), (hk ▸ Nat.le_refl _)⟩)
theorem sX6_paramOf_76 : Rn r 107 76 [l0, l1, l2, l3, l4] [vI x0, vR z1] h Q ↔ if x0 ≠ 0 then Rn r 107 102 [l0, l1, l2, l3, l4] [vR z1] h Q else Rn r 107 79 [l0, l1, l2, l3, l4] [vR z1] h Q := Rn_if pg107 rfl rfl rfl
theorem sX6_paramOf_79 : Rn r 107 79 [some (vR z), l1, l2, l3, l4] [vR z0] h Q ↔ Rn r 107 80 [some (vR z), l1, l2, l3, l4] [vR z, vR z0] h Q := Rn_nx pg107 rfl rfl
theorem sX6_paramOf_80 (hk : hK h a0 = 15) : Rn r 107 80 [l0, l1, l2, l3, l4] [vR (some a0), vR z1] h Q ↔ Rn r 107 83 [l0, l1, l2, l3, l4] [vR (hR h a0 41), vR z1] h Q := Rn_nx pg107 rfl (if_pos ⟨(hk ▸ Nat.le_refl _), (hk ▸ Nat.le_refl _)⟩)
theorem sX6_paramOf_83 : Rn r 107 83 [l0, l1, l2, l3, some (vI x)] [vR z0, vR z1] h Q ↔ Rn r 107 85 [l0, l1, l2, l3, some (vI x)] [vI x, vR z0, vR z1] h Q := Rn_nx pg107 rfl rfl
theorem sX6_paramOf_85 (hk : 40 ≤ hK h a1) (hk2 : hK h a1 ≤ 41) (hx : ¬ (x0 < 0 ∨ hL h a1 ≤ x0.toNatClampNeg)) : Rn r 107 85 [l0, l1, l2, l3, l4] [vI x0, vR (some a1), vR z2] h Q ↔ Rn r 107 86 [l0, l1, l2, l3, l4] [vI (hI h a1 x0.toNatClampNeg), vR z2] h Q := Rn_nx pg107 rfl ((if_pos ⟨hk, hk2⟩).trans (if_neg hx))
theorem sX6_paramOf_86 : Rn r 107 86 [l0, l1, l2, l3, l4] [vI x0, vR z1] h Q ↔ Rn r 107 87 [l0, l1, l2, l3, l4] [vI 1, vI x0, vR z1] h Q := Rn_nx pg107 rfl rfl
theorem sX6_paramOf_87 : Rn r 107 87 [l0, l1, l2, l3, l4] [vI x0, vI x1, vR z2] h Q ↔ if x1 = x0 then Rn r 107 102 [l0, l1, l2, l3, l4] [vR z2] h Q else Rn r 107 90 [l0, l1, l2, l3, l4] [vR z2] h Q := Rn_if pg107 rfl rfl rfl
theorem sX6_paramOf_90 : Rn r 107 90 [some (vR z), l1, l2, l3, l4] [vR z0] h Q ↔ Rn r 107 91 [some (vR z), l1, l2, l3, l4] [vR z, vR z0] h Q := Rn_nx pg107 rfl rfl
theorem sX6_paramOf_91 (hk : hK h a0 = 15) : Rn r 107 91 [l0, l1, l2, l3, l4] [vR (some a0), vR z1] h Q ↔ Rn r 107 94 [l0, l1, l2, l3, l4] [vR (hR h a0 41), vR z1] h Q := Rn_nx pg107 rfl (if_pos ⟨(hk ▸ Nat.le_refl _), (hk ▸ Nat.le_refl _)⟩)
theorem sX6_paramOf_94 : Rn r 107 94 [l0, l1, l2, l3, some (vI x)] [vR z0, vR z1] h Q ↔ Rn r 107 96 [l0, l1, l2, l3, some (vI x)] [vI x, vR z0, vR z1] h Q := Rn_nx pg107 rfl rfl
theorem sX6_paramOf_96 (hk : 40 ≤ hK h a1) (hk2 : hK h a1 ≤ 41) (hx : ¬ (x0 < 0 ∨ hL h a1 ≤ x0.toNatClampNeg)) : Rn r 107 96 [l0, l1, l2, l3, l4] [vI x0, vR (some a1), vR z2] h Q ↔ Rn r 107 97 [l0, l1, l2, l3, l4] [vI (hI h a1 x0.toNatClampNeg), vR z2] h Q := Rn_nx pg107 rfl ((if_pos ⟨hk, hk2⟩).trans (if_neg hx))
theorem sX6_paramOf_97 : Rn r 107 97 [l0, l1, l2, l3, l4] [vI x0, vR z1] h Q ↔ Rn r 107 99 [l0, l1, l2, l3, l4] [vI 8, vI x0, vR z1] h Q := Rn_nx pg107 rfl rfl
theorem sX6_paramOf_99 : Rn r 107 99 [l0, l1, l2, l3, l4] [vI x0, vI x1, vR z2] h Q ↔ if x1 ≠ x0 then Rn r 107 106 [l0, l1, l2, l3, l4] [vR z2] h Q else Rn r 107 102 [l0, l1, l2, l3, l4] [vR z2] h Q := Rn_if pg107 rfl rfl rfl
theorem sX6_paramOf_102 : Rn r 107 102 [l0, l1, l2, l3, l4] [vR z0] h Q ↔ Rn r 107 103 [l0, l1, l2, l3, l4] [vI 1, vR z0] h Q := Rn_nx pg107 rfl rfl
theorem sX6_paramOf_103 : Rn r 107 103 [l0, l1, l2, l3, l4] [vI x0, vR z1] h Q ↔ Rn r 107 107 [l0, l1, l2, l3, l4] [vI x0, vR z1] h Q := Rn_nx pg107 rfl rfl
theorem sX6_paramOf_106 : Rn r 107 106 [l0, l1, l2, l3, l4] [vR z0] h Q ↔ Rn r 107 107 [l0, l1, l2, l3, l4] [vI 0, vR z0] h Q := Rn_nx pg107 rfl rfl
theorem sX6_paramOf_107 (hk : hK h a1 = 15) (hf : am_fit 4 x0 = true) : Rn r 107 107 [l0, l1, l2, l3, l4] [vI x0, vR (some a1)] h Q ↔ Rn r 107 110 [l0, l1, l2, l3, l4] [] (putI h a1 57 x0) Q := Rn_nx pg107 rfl ((if_pos ⟨(hk ▸ Nat.le_refl _), (hk ▸ Nat.le_refl _)⟩).trans (if_pos hf))
theorem sX6_paramOf_110 : Rn r 107 110 [some (vR z), l1, l2, l3, l4] [] h Q ↔ Rn r 107 111 [some (vR z), l1, l2, l3, l4] [vR z] h Q := Rn_nx pg107 rfl rfl
theorem sX6_paramOf_111 (hk : hK h a0 = 15) : Rn r 107 111 [l0, l1, l2, l3, l4] [vR (some a0)] h Q ↔ Rn r 107 114 [l0, l1, l2, l3, l4] [vR (hR h a0 42)] h Q := Rn_nx pg107 rfl (if_pos ⟨(hk ▸ Nat.le_refl _), (hk ▸ Nat.le_refl _)⟩)
theorem sX6_paramOf_114 : Rn r 107 114 [l0, l1, l2, l3, some (vI x)] [vR z0] h Q ↔ Rn r 107 116 [l0, l1, l2, l3, some (vI x)] [vI x, vR z0] h Q := Rn_nx pg107 rfl rfl
theorem sX6_paramOf_116 (hk : 40 ≤ hK h a1) (hk2 : hK h a1 ≤ 41) (hx : ¬ (x0 < 0 ∨ hL h a1 ≤ x0.toNatClampNeg)) : Rn r 107 116 [l0, l1, l2, l3, l4] [vI x0, vR (some a1)] h Q ↔ Rn r 107 117 [l0, l1, l2, l3, l4] [vI (hI h a1 x0.toNatClampNeg)] h Q := Rn_nx pg107 rfl ((if_pos ⟨hk, hk2⟩).trans (if_neg hx))
theorem sX6_paramOf_117 : Rn r 107 117 [l0, l1, l2, l3, l4] [vI x0] h Q ↔ Rn r 107 118 [l0, l1, l2, l3, l4] [vI (-1), vI x0] h Q := Rn_nx pg107 rfl rfl
theorem sX6_paramOf_118 : Rn r 107 118 [l0, l1, l2, l3, l4] [vI x0, vI x1] h Q ↔ if x1 ≠ x0 then Rn r 107 125 [l0, l1, l2, l3, l4] [] h Q else Rn r 107 121 [l0, l1, l2, l3, l4] [] h Q := Rn_if pg107 rfl rfl rfl
theorem sX6_paramOf_121 : Rn r 107 121 [l0, l1, l2, l3, l4] [] h Q ↔ Rn r 107 122 [l0, l1, l2, l3, l4] [vI (-1)] h Q := Rn_nx pg107 rfl rfl
theorem sX6_paramOf_122 : Rn r 107 122 [l0, l1, l2, l3, l4] [vI x0] h Q ↔ Rn r 107 137 [l0, l1, l2, l3, l4] [vI x0] h Q := Rn_nx pg107 rfl rfl
theorem sX6_paramOf_125 : Rn r 107 125 [some (vR z), l1, l2, l3, l4] [] h Q ↔ Rn r 107 126 [some (vR z), l1, l2, l3, l4] [vR z] h Q := Rn_nx pg107 rfl rfl
theorem sX6_paramOf_126 (hk : hK h a0 = 15) : Rn r 107 126 [l0, l1, l2, l3, l4] [vR (some a0)] h Q ↔ Rn r 107 129 [l0, l1, l2, l3, l4] [vR (hR h a0 22)] h Q := Rn_nx pg107 rfl (if_pos ⟨(hk ▸ Nat.le_refl _), (hk ▸ Nat.le_refl _)⟩)
theorem sX6_paramOf_129 : Rn r 107 129 [some (vR z), l1, l2, l3, l4] [vR z0] h Q ↔ Rn r 107 130 [some (vR z), l1, l2, l3, l4] [vR z, vR z0] h Q := Rn_nx pg107 rfl rfl
theorem sX6_paramOf_130 (hk : hK h a0 = 15) : Rn r 107 130 [l0, l1, l2, l3, l4] [vR (some a0), vR z1] h Q ↔ Rn r 107 133 [l0, l1, l2, l3, l4] [vR (hR h a0 42), vR z1] h Q := Rn_nx pg107 rfl (if_pos ⟨(hk ▸ Nat.le_refl _), (hk ▸ Nat.le_refl _)⟩)
theorem sX6_paramOf_133 : Rn r 107 133 [l0, l1, l2, l3, some (vI x)] [vR z0, vR z1] h Q ↔ Rn r 107 135 [l0, l1, l2, l3, some (vI x)] [vI x, vR z0, vR z1] h Q := Rn_nx pg107 rfl rfl
theorem sX6_paramOf_135 (hk : 40 ≤ hK h a1) (hk2 : hK h a1 ≤ 41) (hx : ¬ (x0 < 0 ∨ hL h a1 ≤ x0.toNatClampNeg)) : Rn r 107 135 [l0, l1, l2, l3, l4] [vI x0, vR (some a1), vR z2] h Q ↔ Rn r 107 136 [l0, l1, l2, l3, l4] [vI (hI h a1 x0.toNatClampNeg), vR z2] h Q := Rn_nx pg107 rfl ((if_pos ⟨hk, hk2⟩).trans (if_neg hx))
theorem sX6_paramOf_136 (hk : 40 ≤ hK h a1) (hk2 : hK h a1 ≤ 41) (hx : ¬ (x0 < 0 ∨ hL h a1 ≤ x0.toNatClampNeg)) : Rn r 107 136 [l0, l1, l2, l3, l4] [vI x0, vR (some a1)] h Q ↔ Rn r 107 137 [l0, l1, l2, l3, l4] [vI (hI h a1 x0.toNatClampNeg)] h Q := Rn_nx pg107 rfl ((if_pos ⟨hk, hk2⟩).trans (if_neg hx))
theorem sX6_paramOf_137 : Rn r 107 137 [l0, l1, l2, l3, l4] [vI x0] h Q ↔ Rn r 107 139 [l0, l1, l2, l3, some (vI x0)] [] h Q := Rn_nx pg107 rfl rfl
theorem sX6_paramOf_139 : Rn r 107 139 [l0, l1, l2, l3, l4] [] h Q ↔ Rn r 107 8 [l0, l1, l2, l3, l4] [] h Q := Rn_nx pg107 rfl rfl
theorem sX6_paramOf_142 : Rn r 107 142 [l0, l1, l2, l3, l4] [] h Q ↔ Rn r 107 143 [l0, l1, l2, l3, l4] [vI (-1)] h Q := Rn_nx pg107 rfl rfl
theorem sX6_paramOf_143 : Rn r 107 143 [l0, l1, l2, l3, l4] [vI x0] h Q ↔ Q (Sum.inl (some (vI x0))) h := Rn_end pg107 rfl rfl
/-! 108 ThrowRulesModel.draw(I)I -/
theorem eX6_draw : Cl r 108 [vR z0, vI x1] h Q ↔ Rn r 108 0 [some (vR z0), some (vI x1)] [] h Q := Cl_in pg108 rfl
theorem sX6_draw_0 : Rn r 108 0 [some (vR z), l1] [] h Q ↔ Rn r 108 1 [some (vR z), l1] [vR z] h Q := Rn_nx pg108 rfl rfl
theorem sX6_draw_1 : Rn r 108 1 [some (vR z), l1] [vR z0] h Q ↔ Rn r 108 2 [some (vR z), l1] [vR z, vR z0] h Q := Rn_nx pg108 rfl rfl
theorem sX6_draw_2 (hk : hK h a0 = 15) : Rn r 108 2 [l0, l1] [vR (some a0), vR z1] h Q ↔ Rn r 108 5 [l0, l1] [vL (hJ h a0 64), vR z1] h Q := Rn_nx pg108 rfl (if_pos ⟨(hk ▸ Nat.le_refl _), (hk ▸ Nat.le_refl _)⟩)
theorem sX6_draw_5 : Rn r 108 5 [l0, l1] [vL y0, vR z1] h Q ↔ Rn r 108 8 [l0, l1] [vL 6364136223846793005, vL y0, vR z1] h Q := Rn_nx pg108 rfl rfl
theorem sX6_draw_8 : Rn r 108 8 [l0, l1] [vL y0, vL y1, vR z2] h Q ↔ Rn r 108 9 [l0, l1] [vL (y1 * y0), vR z2] h Q := Rn_nx pg108 rfl rfl
theorem sX6_draw_9 : Rn r 108 9 [l0, l1] [vL y0, vR z1] h Q ↔ Rn r 108 12 [l0, l1] [vL 1442695040888963407, vL y0, vR z1] h Q := Rn_nx pg108 rfl rfl
theorem sX6_draw_12 : Rn r 108 12 [l0, l1] [vL y0, vL y1, vR z2] h Q ↔ Rn r 108 13 [l0, l1] [vL (y1 + y0), vR z2] h Q := Rn_nx pg108 rfl rfl
theorem sX6_draw_13 (hk : hK h a1 = 15) : Rn r 108 13 [l0, l1] [vL y0, vR (some a1)] h Q ↔ Rn r 108 16 [l0, l1] [] (putJ h a1 64 y0) Q := Rn_nx pg108 rfl ((if_pos ⟨(hk ▸ Nat.le_refl _), (hk ▸ Nat.le_refl _)⟩).trans rfl)
theorem sX6_draw_16 : Rn r 108 16 [some (vR z), l1] [] h Q ↔ Rn r 108 17 [some (vR z), l1] [vR z] h Q := Rn_nx pg108 rfl rfl
theorem sX6_draw_17 (hk : hK h a0 = 15) : Rn r 108 17 [l0, l1] [vR (some a0)] h Q ↔ Rn r 108 20 [l0, l1] [vL (hJ h a0 64)] h Q := Rn_nx pg108 rfl (if_pos ⟨(hk ▸ Nat.le_refl _), (hk ▸ Nat.le_refl _)⟩)
theorem sX6_draw_20 : Rn r 108 20 [l0, l1] [vL y0] h Q ↔ Rn r 108 22 [l0, l1] [vI 33, vL y0] h Q := Rn_nx pg108 rfl rfl
theorem sX6_draw_22 : Rn r 108 22 [l0, l1] [vI x0, vL y1] h Q ↔ Rn r 108 23 [l0, l1] [vL (y1.toUInt64 >>> (x0.toInt64.toUInt64 &&& Int64.toUInt64 63)).toInt64] h Q := Rn_nx pg108 rfl rfl
theorem sX6_draw_23 : Rn r 108 23 [l0, some (vI x)] [vL y0] h Q ↔ Rn r 108 24 [l0, some (vI x)] [vI x, vL y0] h Q := Rn_nx pg108 rfl rfl
theorem sX6_draw_24 : Rn r 108 24 [l0, l1] [vI x0, vL y1] h Q ↔ Rn r 108 25 [l0, l1] [vL x0.toInt64, vL y1] h Q := Rn_nx pg108 rfl rfl
theorem sX6_draw_25 (hz : ¬ y0 = 0) : Rn r 108 25 [l0, l1] [vL y0, vL y1] h Q ↔ Rn r 108 26 [l0, l1] [vL (y1 - y1 / y0 * y0)] h Q := Rn_nx pg108 rfl (if_neg hz)
theorem sX6_draw_26 : Rn r 108 26 [l0, l1] [vL y0] h Q ↔ Rn r 108 27 [l0, l1] [vI y0.toInt32] h Q := Rn_nx pg108 rfl rfl
theorem sX6_draw_27 : Rn r 108 27 [l0, l1] [vI x0] h Q ↔ Q (Sum.inl (some (vI x0))) h := Rn_end pg108 rfl rfl
/-! 109 ThrowRulesModel.drawThrow(I)V -/
theorem eX6_drawThrow : Cl r 109 [vR z0, vI x1] h Q ↔ Rn r 109 0 [some (vR z0), some (vI x1), none, none, none, none, none] [] h Q := Cl_in pg109 rfl
theorem sX6_drawThrow_0 : Rn r 109 0 [some (vR z), l1, l2, l3, l4, l5, l6] [] h Q ↔ Rn r 109 1 [some (vR z), l1, l2, l3, l4, l5, l6] [vR z] h Q := Rn_nx pg109 rfl rfl
theorem sX6_drawThrow_1 (hk : hK h a0 = 15) : Rn r 109 1 [l0, l1, l2, l3, l4, l5, l6] [vR (some a0)] h Q ↔ Rn r 109 4 [l0, l1, l2, l3, l4, l5, l6] [vI (hI h a0 2)] h Q := Rn_nx pg109 rfl (if_pos ⟨(hk ▸ Nat.le_refl _), (hk ▸ Nat.le_refl _)⟩)
theorem sX6_drawThrow_4 : Rn r 109 4 [l0, l1, l2, l3, l4, l5, l6] [vI x0] h Q ↔ Rn r 109 6 [l0, l1, l2, l3, l4, l5, l6] [vI 12, vI x0] h Q := Rn_nx pg109 rfl rfl
theorem sX6_drawThrow_6 : Rn r 109 6 [l0, l1, l2, l3, l4, l5, l6] [vI x0, vI x1] h Q ↔ Rn r 109 7 [l0, l1, l2, l3, l4, l5, l6] [vI (x1 * x0)] h Q := Rn_nx pg109 rfl rfl
theorem sX6_drawThrow_7 : Rn r 109 7 [l0, some (vI x), l2, l3, l4, l5, l6] [vI x0] h Q ↔ Rn r 109 8 [l0, some (vI x), l2, l3, l4, l5, l6] [vI x, vI x0] h Q := Rn_nx pg109 rfl rfl
theorem sX6_drawThrow_8 : Rn r 109 8 [l0, l1, l2, l3, l4, l5, l6] [vI x0, vI x1] h Q ↔ Rn r 109 9 [l0, l1, l2, l3, l4, l5, l6] [vI (x1 + x0)] h Q := Rn_nx pg109 rfl rfl
theorem sX6_drawThrow_9 : Rn r 109 9 [l0, l1, l2, l3, l4, l5, l6] [vI x0] h Q ↔ Rn r 109 10 [l0, l1, some (vI x0), l3, l4, l5, l6] [] h Q := Rn_nx pg109 rfl rfl
theorem sX6_drawThrow_10 : Rn r 109 10 [l0, l1, l2, l3, l4, l5, l6] [] h Q ↔ Rn r 109 11 [l0, l1, l2, l3, l4, l5, l6] [vI 0] h Q := Rn_nx pg109 rfl rfl
theorem sX6_drawThrow_11 : Rn r 109 11 [l0, l1, l2, l3, l4, l5, l6] [vI x0] h Q ↔ Rn r 109 12 [l0, l1, l2, some (vI x0), l4, l5, l6] [] h Q := Rn_nx pg109 rfl rfl
theorem sX6_drawThrow_12 : Rn r 109 12 [l0, l1, l2, l3, l4, l5, l6] [] h Q ↔ Rn r 109 13 [l0, l1, l2, l3, l4, l5, l6] [vI 0] h Q := Rn_nx pg109 rfl rfl
theorem sX6_drawThrow_13 : Rn r 109 13 [l0, l1, l2, l3, l4, l5, l6] [vI x0] h Q ↔ Rn r 109 15 [l0, l1, l2, l3, some (vI x0), l5, l6] [] h Q := Rn_nx pg109 rfl rfl
theorem sX6_drawThrow_15 : Rn r 109 15 [l0, l1, l2, l3, some (vI x), l5, l6] [] h Q ↔ Rn r 109 17 [l0, l1, l2, l3, some (vI x), l5, l6] [vI x] h Q := Rn_nx pg109 rfl rfl
theorem sX6_drawThrow_17 : Rn r 109 17 [some (vR z), l1, l2, l3, l4, l5, l6] [vI x0] h Q ↔ Rn r 109 18 [some (vR z), l1, l2, l3, l4, l5, l6] [vR z, vI x0] h Q := Rn_nx pg109 rfl rfl
theorem sX6_drawThrow_18 (hk : hK h a0 = 15) : Rn r 109 18 [l0, l1, l2, l3, l4, l5, l6] [vR (some a0), vI x1] h Q ↔ Rn r 109 21 [l0, l1, l2, l3, l4, l5, l6] [vR (hR h a0 15), vI x1] h Q := Rn_nx pg109 rfl (if_pos ⟨(hk ▸ Nat.le_refl _), (hk ▸ Nat.le_refl _)⟩)
theorem sX6_drawThrow_21 : Rn r 109 21 [l0, l1, some (vI x), l3, l4, l5, l6] [vR z0, vI x1] h Q ↔ Rn r 109 22 [l0, l1, some (vI x), l3, l4, l5, l6] [vI x, vR z0, vI x1] h Q := Rn_nx pg109 rfl rfl
theorem sX6_drawThrow_22 (hk : 40 ≤ hK h a1) (hk2 : hK h a1 ≤ 41) (hx : ¬ (x0 < 0 ∨ hL h a1 ≤ x0.toNatClampNeg)) : Rn r 109 22 [l0, l1, l2, l3, l4, l5, l6] [vI x0, vR (some a1), vI x2] h Q ↔ Rn r 109 23 [l0, l1, l2, l3, l4, l5, l6] [vI (hI h a1 x0.toNatClampNeg), vI x2] h Q := Rn_nx pg109 rfl ((if_pos ⟨hk, hk2⟩).trans (if_neg hx))
theorem sX6_drawThrow_23 : Rn r 109 23 [l0, l1, l2, l3, l4, l5, l6] [vI x0, vI x1] h Q ↔ if x0 ≤ x1 then Rn r 109 70 [l0, l1, l2, l3, l4, l5, l6] [] h Q else Rn r 109 26 [l0, l1, l2, l3, l4, l5, l6] [] h Q := Rn_if pg109 rfl rfl rfl
theorem sX6_drawThrow_26 : Rn r 109 26 [l0, l1, l2, some (vI x), l4, l5, l6] [] h Q ↔ Rn r 109 27 [l0, l1, l2, some (vI x), l4, l5, l6] [vI x] h Q := Rn_nx pg109 rfl rfl
theorem sX6_drawThrow_27 : Rn r 109 27 [some (vR z), l1, l2, l3, l4, l5, l6] [vI x0] h Q ↔ Rn r 109 28 [some (vR z), l1, l2, l3, l4, l5, l6] [vR z, vI x0] h Q := Rn_nx pg109 rfl rfl
theorem sX6_drawThrow_28 : Rn r 109 28 [some (vR z), l1, l2, l3, l4, l5, l6] [vR z0, vI x1] h Q ↔ Rn r 109 29 [some (vR z), l1, l2, l3, l4, l5, l6] [vR z, vR z0, vI x1] h Q := Rn_nx pg109 rfl rfl
theorem sX6_drawThrow_29 (hk : hK h a0 = 15) : Rn r 109 29 [l0, l1, l2, l3, l4, l5, l6] [vR (some a0), vR z1, vI x2] h Q ↔ Rn r 109 32 [l0, l1, l2, l3, l4, l5, l6] [vR (hR h a0 16), vR z1, vI x2] h Q := Rn_nx pg109 rfl (if_pos ⟨(hk ▸ Nat.le_refl _), (hk ▸ Nat.le_refl _)⟩)
theorem sX6_drawThrow_32 : Rn r 109 32 [l0, l1, l2, l3, l4, l5, l6] [vR z0, vR z1, vI x2] h Q ↔ Rn r 109 33 [l0, l1, l2, l3, l4, l5, l6] [vI 4, vR z0, vR z1, vI x2] h Q := Rn_nx pg109 rfl rfl
theorem sX6_drawThrow_33 : Rn r 109 33 [l0, l1, some (vI x), l3, l4, l5, l6] [vI x0, vR z1, vR z2, vI x3] h Q ↔ Rn r 109 34 [l0, l1, some (vI x), l3, l4, l5, l6] [vI x, vI x0, vR z1, vR z2, vI x3] h Q := Rn_nx pg109 rfl rfl
theorem sX6_drawThrow_34 : Rn r 109 34 [l0, l1, l2, l3, l4, l5, l6] [vI x0, vI x1, vR z2, vR z3, vI x4] h Q ↔ Rn r 109 35 [l0, l1, l2, l3, l4, l5, l6] [vI (x1 * x0), vR z2, vR z3, vI x4] h Q := Rn_nx pg109 rfl rfl
theorem sX6_drawThrow_35 : Rn r 109 35 [l0, l1, l2, l3, some (vI x), l5, l6] [vI x0, vR z1, vR z2, vI x3] h Q ↔ Rn r 109 37 [l0, l1, l2, l3, some (vI x), l5, l6] [vI x, vI x0, vR z1, vR z2, vI x3] h Q := Rn_nx pg109 rfl rfl
theorem sX6_drawThrow_37 : Rn r 109 37 [l0, l1, l2, l3, l4, l5, l6] [vI x0, vI x1, vR z2, vR z3, vI x4] h Q ↔ Rn r 109 38 [l0, l1, l2, l3, l4, l5, l6] [vI (x1 + x0), vR z2, vR z3, vI x4] h Q := Rn_nx pg109 rfl rfl
theorem sX6_drawThrow_38 (hk : hK h a1 = 42) (hx : ¬ (x0 < 0 ∨ hL h a1 ≤ x0.toNatClampNeg)) : Rn r 109 38 [l0, l1, l2, l3, l4, l5, l6] [vI x0, vR (some a1), vR z2, vI x3] h Q ↔ Rn r 109 39 [l0, l1, l2, l3, l4, l5, l6] [vL (hJ h a1 x0.toNatClampNeg), vR z2, vI x3] h Q := Rn_nx pg109 rfl ((if_pos ⟨(hk ▸ Nat.le_refl _), (hk ▸ Nat.le_refl _)⟩).trans (if_neg hx))
theorem sX6_drawThrow_39 : Rn r 109 39 [some (vR z), l1, l2, l3, l4, l5, l6] [vL y0, vR z1, vI x2] h Q ↔ Rn r 109 40 [some (vR z), l1, l2, l3, l4, l5, l6] [vR z, vL y0, vR z1, vI x2] h Q := Rn_nx pg109 rfl rfl
theorem sX6_drawThrow_40 (hk : hK h a0 = 15) : Rn r 109 40 [l0, l1, l2, l3, l4, l5, l6] [vR (some a0), vL y1, vR z2, vI x3] h Q ↔ Rn r 109 43 [l0, l1, l2, l3, l4, l5, l6] [vR (hR h a0 17), vL y1, vR z2, vI x3] h Q := Rn_nx pg109 rfl (if_pos ⟨(hk ▸ Nat.le_refl _), (hk ▸ Nat.le_refl _)⟩)
theorem sX6_drawThrow_43 : Rn r 109 43 [l0, l1, l2, l3, l4, l5, l6] [vR z0, vL y1, vR z2, vI x3] h Q ↔ Rn r 109 44 [l0, l1, l2, l3, l4, l5, l6] [vI 4, vR z0, vL y1, vR z2, vI x3] h Q := Rn_nx pg109 rfl rfl
theorem sX6_drawThrow_44 : Rn r 109 44 [l0, l1, some (vI x), l3, l4, l5, l6] [vI x0, vR z1, vL y2, vR z3, vI x4] h Q ↔ Rn r 109 45 [l0, l1, some (vI x), l3, l4, l5, l6] [vI x, vI x0, vR z1, vL y2, vR z3, vI x4] h Q := Rn_nx pg109 rfl rfl
theorem sX6_drawThrow_45 : Rn r 109 45 [l0, l1, l2, l3, l4, l5, l6] [vI x0, vI x1, vR z2, vL y3, vR z4, vI x5] h Q ↔ Rn r 109 46 [l0, l1, l2, l3, l4, l5, l6] [vI (x1 * x0), vR z2, vL y3, vR z4, vI x5] h Q := Rn_nx pg109 rfl rfl
theorem sX6_drawThrow_46 : Rn r 109 46 [l0, l1, l2, l3, some (vI x), l5, l6] [vI x0, vR z1, vL y2, vR z3, vI x4] h Q ↔ Rn r 109 48 [l0, l1, l2, l3, some (vI x), l5, l6] [vI x, vI x0, vR z1, vL y2, vR z3, vI x4] h Q := Rn_nx pg109 rfl rfl
theorem sX6_drawThrow_48 : Rn r 109 48 [l0, l1, l2, l3, l4, l5, l6] [vI x0, vI x1, vR z2, vL y3, vR z4, vI x5] h Q ↔ Rn r 109 49 [l0, l1, l2, l3, l4, l5, l6] [vI (x1 + x0), vR z2, vL y3, vR z4, vI x5] h Q := Rn_nx pg109 rfl rfl
theorem sX6_drawThrow_49 (hk : 40 ≤ hK h a1) (hk2 : hK h a1 ≤ 41) (hx : ¬ (x0 < 0 ∨ hL h a1 ≤ x0.toNatClampNeg)) : Rn r 109 49 [l0, l1, l2, l3, l4, l5, l6] [vI x0, vR (some a1), vL y2, vR z3, vI x4] h Q ↔ Rn r 109 50 [l0, l1, l2, l3, l4, l5, l6] [vI (hI h a1 x0.toNatClampNeg), vL y2, vR z3, vI x4] h Q := Rn_nx pg109 rfl ((if_pos ⟨hk, hk2⟩).trans (if_neg hx))
theorem sX6_drawThrow_50 (hk : hK h a2 = 15) : Rn r 109 50 [l0, l1, l2, l3, l4, l5, l6] [vI x0, vL y1, vR (some a2), vI x3] h Q ↔ Cl r 69 [vR (some a2), vL y1, vI x0] h (Kt r 109 53 [l0, l1, l2, l3, l4, l5, l6] [vI x3] Q) := Rn_call pg109 rfl (by simp only [am_exec, am_inv, am_pop, am_lk, hk]; rfl) pg69 rfl rfl rfl
theorem sX6_drawThrow_53 : Rn r 109 53 [l0, l1, l2, l3, l4, l5, l6] [vI x0, vI x1] h Q ↔ Rn r 109 54 [l0, l1, l2, l3, l4, l5, l6] [vI (-1), vI x0, vI x1] h Q := Rn_nx pg109 rfl rfl
theorem sX6_drawThrow_54 : Rn r 109 54 [l0, l1, l2, l3, l4, l5, l6] [vI x0, vI x1, vI x2] h Q ↔ if x1 ≠ x0 then Rn r 109 61 [l0, l1, l2, l3, l4, l5, l6] [vI x2] h Q else Rn r 109 57 [l0, l1, l2, l3, l4, l5, l6] [vI x2] h Q := Rn_if pg109 rfl rfl rfl
theorem sX6_drawThrow_57 : Rn r 109 57 [l0, l1, l2, l3, l4, l5, l6] [vI x0] h Q ↔ Rn r 109 58 [l0, l1, l2, l3, l4, l5, l6] [vI 0, vI x0] h Q := Rn_nx pg109 rfl rfl
theorem sX6_drawThrow_58 : Rn r 109 58 [l0, l1, l2, l3, l4, l5, l6] [vI x0, vI x1] h Q ↔ Rn r 109 62 [l0, l1, l2, l3, l4, l5, l6] [vI x0, vI x1] h Q := Rn_nx pg109 rfl rfl
theorem sX6_drawThrow_61 : Rn r 109 61 [l0, l1, l2, l3, l4, l5, l6] [vI x0] h Q ↔ Rn r 109 62 [l0, l1, l2, l3, l4, l5, l6] [vI 1, vI x0] h Q := Rn_nx pg109 rfl rfl
theorem sX6_drawThrow_62 : Rn r 109 62 [l0, l1, l2, l3, l4, l5, l6] [vI x0, vI x1] h Q ↔ Rn r 109 63 [l0, l1, l2, l3, l4, l5, l6] [vI (x1 + x0)] h Q := Rn_nx pg109 rfl rfl
theorem sX6_drawThrow_63 : Rn r 109 63 [l0, l1, l2, l3, l4, l5, l6] [vI x0] h Q ↔ Rn r 109 64 [l0, l1, l2, some (vI x0), l4, l5, l6] [] h Q := Rn_nx pg109 rfl rfl
theorem sX6_drawThrow_64 : Rn r 109 64 [l0, l1, l2, l3, some (vI x), l5, l6] [] h Q ↔ Rn r 109 67 [l0, l1, l2, l3, some (vI (x + 1)), l5, l6] [] h Q := Rn_nx pg109 rfl rfl
theorem sX6_drawThrow_67 : Rn r 109 67 [l0, l1, l2, l3, l4, l5, l6] [] h Q ↔ Rn r 109 15 [l0, l1, l2, l3, l4, l5, l6] [] h Q := Rn_nx pg109 rfl rfl
theorem sX6_drawThrow_70 : Rn r 109 70 [some (vR z), l1, l2, l3, l4, l5, l6] [] h Q ↔ Rn r 109 71 [some (vR z), l1, l2, l3, l4, l5, l6] [vR z] h Q := Rn_nx pg109 rfl rfl
theorem sX6_drawThrow_71 : Rn r 109 71 [l0, l1, l2, l3, l4, l5, l6] [vR z0] h Q ↔ Rn r 109 72 [l0, l1, l2, l3, l4, l5, l6] [vI 1, vR z0] h Q := Rn_nx pg109 rfl rfl
theorem sX6_drawThrow_72 : Rn r 109 72 [l0, l1, l2, some (vI x), l4, l5, l6] [vI x0, vR z1] h Q ↔ Rn r 109 73 [l0, l1, l2, some (vI x), l4, l5, l6] [vI x, vI x0, vR z1] h Q := Rn_nx pg109 rfl rfl
theorem sX6_drawThrow_73 : Rn r 109 73 [l0, l1, l2, l3, l4, l5, l6] [vI x0, vI x1, vR z2] h Q ↔ Rn r 109 74 [l0, l1, l2, l3, l4, l5, l6] [vI (x1 + x0), vR z2] h Q := Rn_nx pg109 rfl rfl
theorem sX6_drawThrow_74 (hk : hK h a1 = 15) : Rn r 109 74 [l0, l1, l2, l3, l4, l5, l6] [vI x0, vR (some a1)] h Q ↔ Cl r 108 [vR (some a1), vI x0] h (Kt r 109 77 [l0, l1, l2, l3, l4, l5, l6] [] Q) := Rn_call pg109 rfl (by simp only [am_exec, am_inv, am_pop, am_lk, hk]; rfl) pg108 rfl rfl rfl
theorem sX6_drawThrow_77 : Rn r 109 77 [l0, l1, l2, l3, l4, l5, l6] [vI x0] h Q ↔ Rn r 109 79 [l0, l1, l2, l3, some (vI x0), l5, l6] [] h Q := Rn_nx pg109 rfl rfl
theorem sX6_drawThrow_79 : Rn r 109 79 [l0, l1, l2, l3, l4, l5, l6] [] h Q ↔ Rn r 109 80 [l0, l1, l2, l3, l4, l5, l6] [vI 0] h Q := Rn_nx pg109 rfl rfl
theorem sX6_drawThrow_80 : Rn r 109 80 [l0, l1, l2, l3, l4, l5, l6] [vI x0] h Q ↔ Rn r 109 82 [l0, l1, l2, l3, l4, some (vI x0), l6] [] h Q := Rn_nx pg109 rfl rfl
theorem sX6_drawThrow_82 : Rn r 109 82 [l0, l1, l2, l3, l4, some (vI x), l6] [] h Q ↔ Rn r 109 84 [l0, l1, l2, l3, l4, some (vI x), l6] [vI x] h Q := Rn_nx pg109 rfl rfl
theorem sX6_drawThrow_84 : Rn r 109 84 [some (vR z), l1, l2, l3, l4, l5, l6] [vI x0] h Q ↔ Rn r 109 85 [some (vR z), l1, l2, l3, l4, l5, l6] [vR z, vI x0] h Q := Rn_nx pg109 rfl rfl
theorem sX6_drawThrow_85 (hk : hK h a0 = 15) : Rn r 109 85 [l0, l1, l2, l3, l4, l5, l6] [vR (some a0), vI x1] h Q ↔ Rn r 109 88 [l0, l1, l2, l3, l4, l5, l6] [vR (hR h a0 15), vI x1] h Q := Rn_nx pg109 rfl (if_pos ⟨(hk ▸ Nat.le_refl _), (hk ▸ Nat.le_refl _)⟩)
theorem sX6_drawThrow_88 : Rn r 109 88 [l0, l1, some (vI x), l3, l4, l5, l6] [vR z0, vI x1] h Q ↔ Rn r 109 89 [l0, l1, some (vI x), l3, l4, l5, l6] [vI x, vR z0, vI x1] h Q := Rn_nx pg109 rfl rfl
theorem sX6_drawThrow_89 (hk : 40 ≤ hK h a1) (hk2 : hK h a1 ≤ 41) (hx : ¬ (x0 < 0 ∨ hL h a1 ≤ x0.toNatClampNeg)) : Rn r 109 89 [l0, l1, l2, l3, l4, l5, l6] [vI x0, vR (some a1), vI x2] h Q ↔ Rn r 109 90 [l0, l1, l2, l3, l4, l5, l6] [vI (hI h a1 x0.toNatClampNeg), vI x2] h Q := Rn_nx pg109 rfl ((if_pos ⟨hk, hk2⟩).trans (if_neg hx))
theorem sX6_drawThrow_90 : Rn r 109 90 [l0, l1, l2, l3, l4, l5, l6] [vI x0, vI x1] h Q ↔ if x0 ≤ x1 then Rn r 109 168 [l0, l1, l2, l3, l4, l5, l6] [] h Q else Rn r 109 93 [l0, l1, l2, l3, l4, l5, l6] [] h Q := Rn_if pg109 rfl rfl rfl
theorem sX6_drawThrow_93 : Rn r 109 93 [some (vR z), l1, l2, l3, l4, l5, l6] [] h Q ↔ Rn r 109 94 [some (vR z), l1, l2, l3, l4, l5, l6] [vR z] h Q := Rn_nx pg109 rfl rfl
theorem sX6_drawThrow_94 : Rn r 109 94 [some (vR z), l1, l2, l3, l4, l5, l6] [vR z0] h Q ↔ Rn r 109 95 [some (vR z), l1, l2, l3, l4, l5, l6] [vR z, vR z0] h Q := Rn_nx pg109 rfl rfl
theorem sX6_drawThrow_95 (hk : hK h a0 = 15) : Rn r 109 95 [l0, l1, l2, l3, l4, l5, l6] [vR (some a0), vR z1] h Q ↔ Rn r 109 98 [l0, l1, l2, l3, l4, l5, l6] [vR (hR h a0 16), vR z1] h Q := Rn_nx pg109 rfl (if_pos ⟨(hk ▸ Nat.le_refl _), (hk ▸ Nat.le_refl _)⟩)
theorem sX6_drawThrow_98 : Rn r 109 98 [l0, l1, l2, l3, l4, l5, l6] [vR z0, vR z1] h Q ↔ Rn r 109 99 [l0, l1, l2, l3, l4, l5, l6] [vI 4, vR z0, vR z1] h Q := Rn_nx pg109 rfl rfl
theorem sX6_drawThrow_99 : Rn r 109 99 [l0, l1, some (vI x), l3, l4, l5, l6] [vI x0, vR z1, vR z2] h Q ↔ Rn r 109 100 [l0, l1, some (vI x), l3, l4, l5, l6] [vI x, vI x0, vR z1, vR z2] h Q := Rn_nx pg109 rfl rfl
theorem sX6_drawThrow_100 : Rn r 109 100 [l0, l1, l2, l3, l4, l5, l6] [vI x0, vI x1, vR z2, vR z3] h Q ↔ Rn r 109 101 [l0, l1, l2, l3, l4, l5, l6] [vI (x1 * x0), vR z2, vR z3] h Q := Rn_nx pg109 rfl rfl
theorem sX6_drawThrow_101 : Rn r 109 101 [l0, l1, l2, l3, l4, some (vI x), l6] [vI x0, vR z1, vR z2] h Q ↔ Rn r 109 103 [l0, l1, l2, l3, l4, some (vI x), l6] [vI x, vI x0, vR z1, vR z2] h Q := Rn_nx pg109 rfl rfl
theorem sX6_drawThrow_103 : Rn r 109 103 [l0, l1, l2, l3, l4, l5, l6] [vI x0, vI x1, vR z2, vR z3] h Q ↔ Rn r 109 104 [l0, l1, l2, l3, l4, l5, l6] [vI (x1 + x0), vR z2, vR z3] h Q := Rn_nx pg109 rfl rfl
theorem sX6_drawThrow_104 (hk : hK h a1 = 42) (hx : ¬ (x0 < 0 ∨ hL h a1 ≤ x0.toNatClampNeg)) : Rn r 109 104 [l0, l1, l2, l3, l4, l5, l6] [vI x0, vR (some a1), vR z2] h Q ↔ Rn r 109 105 [l0, l1, l2, l3, l4, l5, l6] [vL (hJ h a1 x0.toNatClampNeg), vR z2] h Q := Rn_nx pg109 rfl ((if_pos ⟨(hk ▸ Nat.le_refl _), (hk ▸ Nat.le_refl _)⟩).trans (if_neg hx))
theorem sX6_drawThrow_105 : Rn r 109 105 [some (vR z), l1, l2, l3, l4, l5, l6] [vL y0, vR z1] h Q ↔ Rn r 109 106 [some (vR z), l1, l2, l3, l4, l5, l6] [vR z, vL y0, vR z1] h Q := Rn_nx pg109 rfl rfl
theorem sX6_drawThrow_106 (hk : hK h a0 = 15) : Rn r 109 106 [l0, l1, l2, l3, l4, l5, l6] [vR (some a0), vL y1, vR z2] h Q ↔ Rn r 109 109 [l0, l1, l2, l3, l4, l5, l6] [vR (hR h a0 17), vL y1, vR z2] h Q := Rn_nx pg109 rfl (if_pos ⟨(hk ▸ Nat.le_refl _), (hk ▸ Nat.le_refl _)⟩)
theorem sX6_drawThrow_109 : Rn r 109 109 [l0, l1, l2, l3, l4, l5, l6] [vR z0, vL y1, vR z2] h Q ↔ Rn r 109 110 [l0, l1, l2, l3, l4, l5, l6] [vI 4, vR z0, vL y1, vR z2] h Q := Rn_nx pg109 rfl rfl
theorem sX6_drawThrow_110 : Rn r 109 110 [l0, l1, some (vI x), l3, l4, l5, l6] [vI x0, vR z1, vL y2, vR z3] h Q ↔ Rn r 109 111 [l0, l1, some (vI x), l3, l4, l5, l6] [vI x, vI x0, vR z1, vL y2, vR z3] h Q := Rn_nx pg109 rfl rfl
theorem sX6_drawThrow_111 : Rn r 109 111 [l0, l1, l2, l3, l4, l5, l6] [vI x0, vI x1, vR z2, vL y3, vR z4] h Q ↔ Rn r 109 112 [l0, l1, l2, l3, l4, l5, l6] [vI (x1 * x0), vR z2, vL y3, vR z4] h Q := Rn_nx pg109 rfl rfl
theorem sX6_drawThrow_112 : Rn r 109 112 [l0, l1, l2, l3, l4, some (vI x), l6] [vI x0, vR z1, vL y2, vR z3] h Q ↔ Rn r 109 114 [l0, l1, l2, l3, l4, some (vI x), l6] [vI x, vI x0, vR z1, vL y2, vR z3] h Q := Rn_nx pg109 rfl rfl
theorem sX6_drawThrow_114 : Rn r 109 114 [l0, l1, l2, l3, l4, l5, l6] [vI x0, vI x1, vR z2, vL y3, vR z4] h Q ↔ Rn r 109 115 [l0, l1, l2, l3, l4, l5, l6] [vI (x1 + x0), vR z2, vL y3, vR z4] h Q := Rn_nx pg109 rfl rfl
theorem sX6_drawThrow_115 (hk : 40 ≤ hK h a1) (hk2 : hK h a1 ≤ 41) (hx : ¬ (x0 < 0 ∨ hL h a1 ≤ x0.toNatClampNeg)) : Rn r 109 115 [l0, l1, l2, l3, l4, l5, l6] [vI x0, vR (some a1), vL y2, vR z3] h Q ↔ Rn r 109 116 [l0, l1, l2, l3, l4, l5, l6] [vI (hI h a1 x0.toNatClampNeg), vL y2, vR z3] h Q := Rn_nx pg109 rfl ((if_pos ⟨hk, hk2⟩).trans (if_neg hx))
theorem sX6_drawThrow_116 (hk : hK h a2 = 15) : Rn r 109 116 [l0, l1, l2, l3, l4, l5, l6] [vI x0, vL y1, vR (some a2)] h Q ↔ Cl r 69 [vR (some a2), vL y1, vI x0] h (Kt r 109 119 [l0, l1, l2, l3, l4, l5, l6] [] Q) := Rn_call pg109 rfl (by simp only [am_exec, am_inv, am_pop, am_lk, hk]; rfl) pg69 rfl rfl rfl
theorem sX6_drawThrow_119 : Rn r 109 119 [l0, l1, l2, l3, l4, l5, l6] [vI x0] h Q ↔ Rn r 109 121 [l0, l1, l2, l3, l4, l5, some (vI x0)] [] h Q := Rn_nx pg109 rfl rfl
theorem sX6_drawThrow_121 : Rn r 109 121 [l0, l1, l2, l3, some (vI x), l5, l6] [] h Q ↔ Rn r 109 123 [l0, l1, l2, l3, some (vI x), l5, l6] [vI x] h Q := Rn_nx pg109 rfl rfl
theorem sX6_drawThrow_123 : Rn r 109 123 [l0, l1, l2, l3, l4, l5, some (vI x)] [vI x0] h Q ↔ Rn r 109 125 [l0, l1, l2, l3, l4, l5, some (vI x)] [vI x, vI x0] h Q := Rn_nx pg109 rfl rfl
theorem sX6_drawThrow_125 : Rn r 109 125 [l0, l1, l2, l3, l4, l5, l6] [vI x0, vI x1] h Q ↔ Rn r 109 126 [l0, l1, l2, l3, l4, l5, l6] [vI (-1), vI x0, vI x1] h Q := Rn_nx pg109 rfl rfl
theorem sX6_drawThrow_126 : Rn r 109 126 [l0, l1, l2, l3, l4, l5, l6] [vI x0, vI x1, vI x2] h Q ↔ if x1 ≠ x0 then Rn r 109 133 [l0, l1, l2, l3, l4, l5, l6] [vI x2] h Q else Rn r 109 129 [l0, l1, l2, l3, l4, l5, l6] [vI x2] h Q := Rn_if pg109 rfl rfl rfl
theorem sX6_drawThrow_129 : Rn r 109 129 [l0, l1, l2, l3, l4, l5, l6] [vI x0] h Q ↔ Rn r 109 130 [l0, l1, l2, l3, l4, l5, l6] [vI 0, vI x0] h Q := Rn_nx pg109 rfl rfl
theorem sX6_drawThrow_130 : Rn r 109 130 [l0, l1, l2, l3, l4, l5, l6] [vI x0, vI x1] h Q ↔ Rn r 109 134 [l0, l1, l2, l3, l4, l5, l6] [vI x0, vI x1] h Q := Rn_nx pg109 rfl rfl
theorem sX6_drawThrow_133 : Rn r 109 133 [l0, l1, l2, l3, l4, l5, l6] [vI x0] h Q ↔ Rn r 109 134 [l0, l1, l2, l3, l4, l5, l6] [vI 1, vI x0] h Q := Rn_nx pg109 rfl rfl
theorem sX6_drawThrow_134 : Rn r 109 134 [l0, l1, l2, l3, l4, l5, l6] [vI x0, vI x1] h Q ↔ Rn r 109 135 [l0, l1, l2, l3, l4, l5, l6] [vI (x1 - x0)] h Q := Rn_nx pg109 rfl rfl
theorem sX6_drawThrow_135 : Rn r 109 135 [l0, l1, l2, l3, l4, l5, l6] [vI x0] h Q ↔ Rn r 109 137 [l0, l1, l2, l3, some (vI x0), l5, l6] [] h Q := Rn_nx pg109 rfl rfl
theorem sX6_drawThrow_137 : Rn r 109 137 [l0, l1, l2, l3, some (vI x), l5, l6] [] h Q ↔ Rn r 109 139 [l0, l1, l2, l3, some (vI x), l5, l6] [vI x] h Q := Rn_nx pg109 rfl rfl
theorem sX6_drawThrow_139 : Rn r 109 139 [l0, l1, l2, l3, l4, l5, l6] [vI x0] h Q ↔ if x0 ≠ 0 then Rn r 109 162 [l0, l1, l2, l3, l4, l5, l6] [] h Q else Rn r 109 142 [l0, l1, l2, l3, l4, l5, l6] [] h Q := Rn_if pg109 rfl rfl rfl
theorem sX6_drawThrow_142 : Rn r 109 142 [l0, l1, l2, l3, l4, l5, some (vI x)] [] h Q ↔ Rn r 109 144 [l0, l1, l2, l3, l4, l5, some (vI x)] [vI x] h Q := Rn_nx pg109 rfl rfl
theorem sX6_drawThrow_144 : Rn r 109 144 [l0, l1, l2, l3, l4, l5, l6] [vI x0] h Q ↔ Rn r 109 145 [l0, l1, l2, l3, l4, l5, l6] [vI (-1), vI x0] h Q := Rn_nx pg109 rfl rfl
theorem sX6_drawThrow_145 : Rn r 109 145 [l0, l1, l2, l3, l4, l5, l6] [vI x0, vI x1] h Q ↔ if x1 = x0 then Rn r 109 162 [l0, l1, l2, l3, l4, l5, l6] [] h Q else Rn r 109 148 [l0, l1, l2, l3, l4, l5, l6] [] h Q := Rn_if pg109 rfl rfl rfl
theorem sX6_drawThrow_148 : Rn r 109 148 [some (vR z), l1, l2, l3, l4, l5, l6] [] h Q ↔ Rn r 109 149 [some (vR z), l1, l2, l3, l4, l5, l6] [vR z] h Q := Rn_nx pg109 rfl rfl
theorem sX6_drawThrow_149 (hk : hK h a0 = 15) : Rn r 109 149 [l0, l1, l2, l3, l4, l5, l6] [vR (some a0)] h Q ↔ Rn r 109 152 [l0, l1, l2, l3, l4, l5, l6] [vI (hI h a0 66)] h Q := Rn_nx pg109 rfl (if_pos ⟨(hk ▸ Nat.le_refl _), (hk ▸ Nat.le_refl _)⟩)
theorem sX6_drawThrow_152 : Rn r 109 152 [l0, l1, l2, l3, l4, l5, l6] [vI x0] h Q ↔ Rn r 109 153 [l0, l1, l2, l3, l4, l5, l6] [vI 1, vI x0] h Q := Rn_nx pg109 rfl rfl
theorem sX6_drawThrow_153 : Rn r 109 153 [l0, l1, l2, l3, l4, l5, l6] [vI x0, vI x1] h Q ↔ if x1 = x0 then Rn r 109 162 [l0, l1, l2, l3, l4, l5, l6] [] h Q else Rn r 109 156 [l0, l1, l2, l3, l4, l5, l6] [] h Q := Rn_if pg109 rfl rfl rfl
theorem sX6_drawThrow_156 : Rn r 109 156 [some (vR z), l1, l2, l3, l4, l5, l6] [] h Q ↔ Rn r 109 157 [some (vR z), l1, l2, l3, l4, l5, l6] [vR z] h Q := Rn_nx pg109 rfl rfl
theorem sX6_drawThrow_157 : Rn r 109 157 [l0, l1, l2, l3, l4, l5, some (vI x)] [vR z0] h Q ↔ Rn r 109 159 [l0, l1, l2, l3, l4, l5, some (vI x)] [vI x, vR z0] h Q := Rn_nx pg109 rfl rfl
theorem sX6_drawThrow_159 (hk : hK h a1 = 15) : Rn r 109 159 [l0, l1, l2, l3, l4, l5, l6] [vI x0, vR (some a1)] h Q ↔ Cl r 110 [vR (some a1), vI x0] h (Kt r 109 162 [l0, l1, l2, l3, l4, l5, l6] [] Q) := Rn_call pg109 rfl (by simp only [am_exec, am_inv, am_pop, am_lk, hk]; rfl) pg110 rfl rfl rfl
theorem sX6_drawThrow_162 : Rn r 109 162 [l0, l1, l2, l3, l4, some (vI x), l6] [] h Q ↔ Rn r 109 165 [l0, l1, l2, l3, l4, some (vI (x + 1)), l6] [] h Q := Rn_nx pg109 rfl rfl
theorem sX6_drawThrow_165 : Rn r 109 165 [l0, l1, l2, l3, l4, l5, l6] [] h Q ↔ Rn r 109 82 [l0, l1, l2, l3, l4, l5, l6] [] h Q := Rn_nx pg109 rfl rfl
theorem sX6_drawThrow_168 : Rn r 109 168 [l0, l1, l2, l3, l4, l5, l6] [] h Q ↔ Q (Sum.inl none) h := Rn_end pg109 rfl rfl
/-! 110 ThrowRulesModel.throwOne(I)V -/
theorem eX6_throwOne : Cl r 110 [vR z0, vI x1] h Q ↔ Rn r 110 0 [some (vR z0), some (vI x1)] [] h Q := Cl_in pg110 rfl
theorem sX6_throwOne_0 : Rn r 110 0 [some (vR z), l1] [] h Q ↔ Rn r 110 1 [some (vR z), l1] [vR z] h Q := Rn_nx pg110 rfl rfl
theorem sX6_throwOne_1 : Rn r 110 1 [l0, l1] [vR z0] h Q ↔ Rn r 110 2 [l0, l1] [vI 1, vR z0] h Q := Rn_nx pg110 rfl rfl
theorem sX6_throwOne_2 (hk : hK h a1 = 15) : Rn r 110 2 [l0, l1] [vI x0, vR (some a1)] h Q ↔ Rn r 110 5 [l0, l1] [] (putI h a1 66 x0) Q := Rn_nx pg110 rfl ((if_pos ⟨(hk ▸ Nat.le_refl _), (hk ▸ Nat.le_refl _)⟩).trans rfl)
theorem sX6_throwOne_5 : Rn r 110 5 [some (vR z), l1] [] h Q ↔ Rn r 110 6 [some (vR z), l1] [vR z] h Q := Rn_nx pg110 rfl rfl
theorem sX6_throwOne_6 : Rn r 110 6 [l0, some (vI x)] [vR z0] h Q ↔ Rn r 110 7 [l0, some (vI x)] [vI x, vR z0] h Q := Rn_nx pg110 rfl rfl
theorem sX6_throwOne_7 (hk : hK h a1 = 15) : Rn r 110 7 [l0, l1] [vI x0, vR (some a1)] h Q ↔ Rn r 110 10 [l0, l1] [] (putI h a1 67 x0) Q := Rn_nx pg110 rfl ((if_pos ⟨(hk ▸ Nat.le_refl _), (hk ▸ Nat.le_refl _)⟩).trans rfl)
theorem sX6_throwOne_10 : Rn r 110 10 [l0, l1] [] h Q ↔ Q (Sum.inl none) h := Rn_end pg110 rfl rfl
/-! 111 ThrowRulesModel.caughtKind(II)I -/
theorem eX6_caughtKind : Cl r 111 [vR z0, vI x1, vI x2] h Q ↔ Rn r 111 0 [some (vR z0), some (vI x1), some (vI x2)] [] h Q := Cl_in pg111 rfl
theorem sX6_caughtKind_0 : Rn r 111 0 [some (vR z), l1, l2] [] h Q ↔ Rn r 111 1 [some (vR z), l1, l2] [vR z] h Q := Rn_nx pg111 rfl rfl
theorem sX6_caughtKind_1 : Rn r 111 1 [some (vR z), l1, l2] [vR z0] h Q ↔ Rn r 111 2 [some (vR z), l1, l2] [vR z, vR z0] h Q := Rn_nx pg111 rfl rfl
theorem sX6_caughtKind_2 (hk : hK h a0 = 15) : Rn r 111 2 [l0, l1, l2] [vR (some a0), vR z1] h Q ↔ Rn r 111 5 [l0, l1, l2] [vR (hR h a0 38), vR z1] h Q := Rn_nx pg111 rfl (if_pos ⟨(hk ▸ Nat.le_refl _), (hk ▸ Nat.le_refl _)⟩)
theorem sX6_caughtKind_5 : Rn r 111 5 [l0, l1, l2] [vR z0, vR z1] h Q ↔ Rn r 111 6 [l0, l1, l2] [vI 4, vR z0, vR z1] h Q := Rn_nx pg111 rfl rfl
theorem sX6_caughtKind_6 : Rn r 111 6 [l0, some (vI x), l2] [vI x0, vR z1, vR z2] h Q ↔ Rn r 111 7 [l0, some (vI x), l2] [vI x, vI x0, vR z1, vR z2] h Q := Rn_nx pg111 rfl rfl
theorem sX6_caughtKind_7 : Rn r 111 7 [l0, l1, l2] [vI x0, vI x1, vR z2, vR z3] h Q ↔ Rn r 111 8 [l0, l1, l2] [vI (x1 * x0), vR z2, vR z3] h Q := Rn_nx pg111 rfl rfl
theorem sX6_caughtKind_8 : Rn r 111 8 [l0, l1, some (vI x)] [vI x0, vR z1, vR z2] h Q ↔ Rn r 111 9 [l0, l1, some (vI x)] [vI x, vI x0, vR z1, vR z2] h Q := Rn_nx pg111 rfl rfl
theorem sX6_caughtKind_9 : Rn r 111 9 [l0, l1, l2] [vI x0, vI x1, vR z2, vR z3] h Q ↔ Rn r 111 10 [l0, l1, l2] [vI (x1 + x0), vR z2, vR z3] h Q := Rn_nx pg111 rfl rfl
theorem sX6_caughtKind_10 (hk : hK h a1 = 42) (hx : ¬ (x0 < 0 ∨ hL h a1 ≤ x0.toNatClampNeg)) : Rn r 111 10 [l0, l1, l2] [vI x0, vR (some a1), vR z2] h Q ↔ Rn r 111 11 [l0, l1, l2] [vL (hJ h a1 x0.toNatClampNeg), vR z2] h Q := Rn_nx pg111 rfl ((if_pos ⟨(hk ▸ Nat.le_refl _), (hk ▸ Nat.le_refl _)⟩).trans (if_neg hx))
theorem sX6_caughtKind_11 : Rn r 111 11 [some (vR z), l1, l2] [vL y0, vR z1] h Q ↔ Rn r 111 12 [some (vR z), l1, l2] [vR z, vL y0, vR z1] h Q := Rn_nx pg111 rfl rfl
theorem sX6_caughtKind_12 (hk : hK h a0 = 15) : Rn r 111 12 [l0, l1, l2] [vR (some a0), vL y1, vR z2] h Q ↔ Rn r 111 15 [l0, l1, l2] [vR (hR h a0 39), vL y1, vR z2] h Q := Rn_nx pg111 rfl (if_pos ⟨(hk ▸ Nat.le_refl _), (hk ▸ Nat.le_refl _)⟩)
theorem sX6_caughtKind_15 : Rn r 111 15 [l0, l1, l2] [vR z0, vL y1, vR z2] h Q ↔ Rn r 111 16 [l0, l1, l2] [vI 4, vR z0, vL y1, vR z2] h Q := Rn_nx pg111 rfl rfl
theorem sX6_caughtKind_16 : Rn r 111 16 [l0, some (vI x), l2] [vI x0, vR z1, vL y2, vR z3] h Q ↔ Rn r 111 17 [l0, some (vI x), l2] [vI x, vI x0, vR z1, vL y2, vR z3] h Q := Rn_nx pg111 rfl rfl
theorem sX6_caughtKind_17 : Rn r 111 17 [l0, l1, l2] [vI x0, vI x1, vR z2, vL y3, vR z4] h Q ↔ Rn r 111 18 [l0, l1, l2] [vI (x1 * x0), vR z2, vL y3, vR z4] h Q := Rn_nx pg111 rfl rfl
theorem sX6_caughtKind_18 : Rn r 111 18 [l0, l1, some (vI x)] [vI x0, vR z1, vL y2, vR z3] h Q ↔ Rn r 111 19 [l0, l1, some (vI x)] [vI x, vI x0, vR z1, vL y2, vR z3] h Q := Rn_nx pg111 rfl rfl
theorem sX6_caughtKind_19 : Rn r 111 19 [l0, l1, l2] [vI x0, vI x1, vR z2, vL y3, vR z4] h Q ↔ Rn r 111 20 [l0, l1, l2] [vI (x1 + x0), vR z2, vL y3, vR z4] h Q := Rn_nx pg111 rfl rfl
theorem sX6_caughtKind_20 (hk : 40 ≤ hK h a1) (hk2 : hK h a1 ≤ 41) (hx : ¬ (x0 < 0 ∨ hL h a1 ≤ x0.toNatClampNeg)) : Rn r 111 20 [l0, l1, l2] [vI x0, vR (some a1), vL y2, vR z3] h Q ↔ Rn r 111 21 [l0, l1, l2] [vI (hI h a1 x0.toNatClampNeg), vL y2, vR z3] h Q := Rn_nx pg111 rfl ((if_pos ⟨hk, hk2⟩).trans (if_neg hx))
theorem sX6_caughtKind_21 (hk : hK h a2 = 15) : Rn r 111 21 [l0, l1, l2] [vI x0, vL y1, vR (some a2)] h Q ↔ Cl r 69 [vR (some a2), vL y1, vI x0] h (Kt r 111 24 [l0, l1, l2] [] Q) := Rn_call pg111 rfl (by simp only [am_exec, am_inv, am_pop, am_lk, hk]; rfl) pg69 rfl rfl rfl
theorem sX6_caughtKind_24 : Rn r 111 24 [l0, l1, l2] [vI x0] h Q ↔ Q (Sum.inl (some (vI x0))) h := Rn_end pg111 rfl rfl
/-! 112 ThrowRulesModel.target(I)I -/
theorem eX6_target : Cl r 112 [vR z0, vI x1] h Q ↔ Rn r 112 0 [some (vR z0), some (vI x1), none] [] h Q := Cl_in pg112 rfl
theorem sX6_target_0 : Rn r 112 0 [some (vR z), l1, l2] [] h Q ↔ Rn r 112 1 [some (vR z), l1, l2] [vR z] h Q := Rn_nx pg112 rfl rfl
theorem sX6_target_1 (hk : hK h a0 = 15) : Rn r 112 1 [l0, l1, l2] [vR (some a0)] h Q ↔ Rn r 112 4 [l0, l1, l2] [vR (hR h a0 22)] h Q := Rn_nx pg112 rfl (if_pos ⟨(hk ▸ Nat.le_refl _), (hk ▸ Nat.le_refl _)⟩)
theorem sX6_target_4 : Rn r 112 4 [l0, some (vI x), l2] [vR z0] h Q ↔ Rn r 112 5 [l0, some (vI x), l2] [vI x, vR z0] h Q := Rn_nx pg112 rfl rfl
theorem sX6_target_5 (hk : 40 ≤ hK h a1) (hk2 : hK h a1 ≤ 41) (hx : ¬ (x0 < 0 ∨ hL h a1 ≤ x0.toNatClampNeg)) : Rn r 112 5 [l0, l1, l2] [vI x0, vR (some a1)] h Q ↔ Rn r 112 6 [l0, l1, l2] [vI (hI h a1 x0.toNatClampNeg)] h Q := Rn_nx pg112 rfl ((if_pos ⟨hk, hk2⟩).trans (if_neg hx))
theorem sX6_target_6 : Rn r 112 6 [l0, l1, l2] [vI x0] h Q ↔ Rn r 112 7 [l0, l1, some (vI x0)] [] h Q := Rn_nx pg112 rfl rfl
theorem sX6_target_7 : Rn r 112 7 [some (vR z), l1, l2] [] h Q ↔ Rn r 112 8 [some (vR z), l1, l2] [vR z] h Q := Rn_nx pg112 rfl rfl
theorem sX6_target_8 (hk : hK h a0 = 15) : Rn r 112 8 [l0, l1, l2] [vR (some a0)] h Q ↔ Rn r 112 11 [l0, l1, l2] [vR (hR h a0 41)] h Q := Rn_nx pg112 rfl (if_pos ⟨(hk ▸ Nat.le_refl _), (hk ▸ Nat.le_refl _)⟩)
theorem sX6_target_11 : Rn r 112 11 [l0, l1, some (vI x)] [vR z0] h Q ↔ Rn r 112 12 [l0, l1, some (vI x)] [vI x, vR z0] h Q := Rn_nx pg112 rfl rfl
theorem sX6_target_12 (hk : 40 ≤ hK h a1) (hk2 : hK h a1 ≤ 41) (hx : ¬ (x0 < 0 ∨ hL h a1 ≤ x0.toNatClampNeg)) : Rn r 112 12 [l0, l1, l2] [vI x0, vR (some a1)] h Q ↔ Rn r 112 13 [l0, l1, l2] [vI (hI h a1 x0.toNatClampNeg)] h Q := Rn_nx pg112 rfl ((if_pos ⟨hk, hk2⟩).trans (if_neg hx))
theorem sX6_target_13 : Rn r 112 13 [l0, l1, l2] [vI x0] h Q ↔ if x0 = 0 then Rn r 112 69 [l0, l1, l2] [] h Q else Rn r 112 16 [l0, l1, l2] [] h Q := Rn_if pg112 rfl rfl rfl
theorem sX6_target_16 : Rn r 112 16 [some (vR z), l1, l2] [] h Q ↔ Rn r 112 17 [some (vR z), l1, l2] [vR z] h Q := Rn_nx pg112 rfl rfl
theorem sX6_target_17 (hk : hK h a0 = 15) : Rn r 112 17 [l0, l1, l2] [vR (some a0)] h Q ↔ Rn r 112 20 [l0, l1, l2] [vR (hR h a0 41)] h Q := Rn_nx pg112 rfl (if_pos ⟨(hk ▸ Nat.le_refl _), (hk ▸ Nat.le_refl _)⟩)
theorem sX6_target_20 : Rn r 112 20 [l0, l1, some (vI x)] [vR z0] h Q ↔ Rn r 112 21 [l0, l1, some (vI x)] [vI x, vR z0] h Q := Rn_nx pg112 rfl rfl
theorem sX6_target_21 (hk : 40 ≤ hK h a1) (hk2 : hK h a1 ≤ 41) (hx : ¬ (x0 < 0 ∨ hL h a1 ≤ x0.toNatClampNeg)) : Rn r 112 21 [l0, l1, l2] [vI x0, vR (some a1)] h Q ↔ Rn r 112 22 [l0, l1, l2] [vI (hI h a1 x0.toNatClampNeg)] h Q := Rn_nx pg112 rfl ((if_pos ⟨hk, hk2⟩).trans (if_neg hx))
theorem sX6_target_22 : Rn r 112 22 [l0, l1, l2] [vI x0] h Q ↔ Rn r 112 23 [l0, l1, l2] [vI 1, vI x0] h Q := Rn_nx pg112 rfl rfl
theorem sX6_target_23 : Rn r 112 23 [l0, l1, l2] [vI x0, vI x1] h Q ↔ if x1 = x0 then Rn r 112 69 [l0, l1, l2] [] h Q else Rn r 112 26 [l0, l1, l2] [] h Q := Rn_if pg112 rfl rfl rfl
theorem sX6_target_26 : Rn r 112 26 [some (vR z), l1, l2] [] h Q ↔ Rn r 112 27 [some (vR z), l1, l2] [vR z] h Q := Rn_nx pg112 rfl rfl
theorem sX6_target_27 (hk : hK h a0 = 15) : Rn r 112 27 [l0, l1, l2] [vR (some a0)] h Q ↔ Rn r 112 30 [l0, l1, l2] [vR (hR h a0 41)] h Q := Rn_nx pg112 rfl (if_pos ⟨(hk ▸ Nat.le_refl _), (hk ▸ Nat.le_refl _)⟩)
theorem sX6_target_30 : Rn r 112 30 [l0, l1, some (vI x)] [vR z0] h Q ↔ Rn r 112 31 [l0, l1, some (vI x)] [vI x, vR z0] h Q := Rn_nx pg112 rfl rfl
theorem sX6_target_31 (hk : 40 ≤ hK h a1) (hk2 : hK h a1 ≤ 41) (hx : ¬ (x0 < 0 ∨ hL h a1 ≤ x0.toNatClampNeg)) : Rn r 112 31 [l0, l1, l2] [vI x0, vR (some a1)] h Q ↔ Rn r 112 32 [l0, l1, l2] [vI (hI h a1 x0.toNatClampNeg)] h Q := Rn_nx pg112 rfl ((if_pos ⟨hk, hk2⟩).trans (if_neg hx))
theorem sX6_target_32 : Rn r 112 32 [l0, l1, l2] [vI x0] h Q ↔ Rn r 112 34 [l0, l1, l2] [vI 8, vI x0] h Q := Rn_nx pg112 rfl rfl
theorem sX6_target_34 : Rn r 112 34 [l0, l1, l2] [vI x0, vI x1] h Q ↔ if x1 = x0 then Rn r 112 69 [l0, l1, l2] [] h Q else Rn r 112 37 [l0, l1, l2] [] h Q := Rn_if pg112 rfl rfl rfl
theorem sX6_target_37 : Rn r 112 37 [some (vR z), l1, l2] [] h Q ↔ Rn r 112 38 [some (vR z), l1, l2] [vR z] h Q := Rn_nx pg112 rfl rfl
theorem sX6_target_38 (hk : hK h a0 = 15) : Rn r 112 38 [l0, l1, l2] [vR (some a0)] h Q ↔ Rn r 112 41 [l0, l1, l2] [vR (hR h a0 41)] h Q := Rn_nx pg112 rfl (if_pos ⟨(hk ▸ Nat.le_refl _), (hk ▸ Nat.le_refl _)⟩)
theorem sX6_target_41 : Rn r 112 41 [l0, l1, some (vI x)] [vR z0] h Q ↔ Rn r 112 42 [l0, l1, some (vI x)] [vI x, vR z0] h Q := Rn_nx pg112 rfl rfl
theorem sX6_target_42 (hk : 40 ≤ hK h a1) (hk2 : hK h a1 ≤ 41) (hx : ¬ (x0 < 0 ∨ hL h a1 ≤ x0.toNatClampNeg)) : Rn r 112 42 [l0, l1, l2] [vI x0, vR (some a1)] h Q ↔ Rn r 112 43 [l0, l1, l2] [vI (hI h a1 x0.toNatClampNeg)] h Q := Rn_nx pg112 rfl ((if_pos ⟨hk, hk2⟩).trans (if_neg hx))
theorem sX6_target_43 : Rn r 112 43 [l0, l1, l2] [vI x0] h Q ↔ Rn r 112 44 [l0, l1, l2] [vI 4, vI x0] h Q := Rn_nx pg112 rfl rfl
theorem sX6_target_44 : Rn r 112 44 [l0, l1, l2] [vI x0, vI x1] h Q ↔ if x1 ≠ x0 then Rn r 112 54 [l0, l1, l2] [] h Q else Rn r 112 47 [l0, l1, l2] [] h Q := Rn_if pg112 rfl rfl rfl
theorem sX6_target_47 : Rn r 112 47 [some (vR z), l1, l2] [] h Q ↔ Rn r 112 48 [some (vR z), l1, l2] [vR z] h Q := Rn_nx pg112 rfl rfl
theorem sX6_target_48 (hk : hK h a0 = 15) : Rn r 112 48 [l0, l1, l2] [vR (some a0)] h Q ↔ Rn r 112 51 [l0, l1, l2] [vR (hR h a0 42)] h Q := Rn_nx pg112 rfl (if_pos ⟨(hk ▸ Nat.le_refl _), (hk ▸ Nat.le_refl _)⟩)
theorem sX6_target_51 : Rn r 112 51 [l0, l1, some (vI x)] [vR z0] h Q ↔ Rn r 112 52 [l0, l1, some (vI x)] [vI x, vR z0] h Q := Rn_nx pg112 rfl rfl
theorem sX6_target_52 (hk : 40 ≤ hK h a1) (hk2 : hK h a1 ≤ 41) (hx : ¬ (x0 < 0 ∨ hL h a1 ≤ x0.toNatClampNeg)) : Rn r 112 52 [l0, l1, l2] [vI x0, vR (some a1)] h Q ↔ Rn r 112 53 [l0, l1, l2] [vI (hI h a1 x0.toNatClampNeg)] h Q := Rn_nx pg112 rfl ((if_pos ⟨hk, hk2⟩).trans (if_neg hx))
theorem sX6_target_53 : Rn r 112 53 [l0, l1, l2] [vI x0] h Q ↔ Q (Sum.inl (some (vI x0))) h := Rn_end pg112 rfl rfl
theorem sX6_target_54 : Rn r 112 54 [some (vR z), l1, l2] [] h Q ↔ Rn r 112 55 [some (vR z), l1, l2] [vR z] h Q := Rn_nx pg112 rfl rfl
theorem sX6_target_55 (hk : hK h a0 = 15) : Rn r 112 55 [l0, l1, l2] [vR (some a0)] h Q ↔ Rn r 112 58 [l0, l1, l2] [vR (hR h a0 22)] h Q := Rn_nx pg112 rfl (if_pos ⟨(hk ▸ Nat.le_refl _), (hk ▸ Nat.le_refl _)⟩)
theorem sX6_target_58 : Rn r 112 58 [some (vR z), l1, l2] [vR z0] h Q ↔ Rn r 112 59 [some (vR z), l1, l2] [vR z, vR z0] h Q := Rn_nx pg112 rfl rfl
theorem sX6_target_59 (hk : hK h a0 = 15) : Rn r 112 59 [l0, l1, l2] [vR (some a0), vR z1] h Q ↔ Rn r 112 62 [l0, l1, l2] [vR (hR h a0 42), vR z1] h Q := Rn_nx pg112 rfl (if_pos ⟨(hk ▸ Nat.le_refl _), (hk ▸ Nat.le_refl _)⟩)
theorem sX6_target_62 : Rn r 112 62 [l0, l1, some (vI x)] [vR z0, vR z1] h Q ↔ Rn r 112 63 [l0, l1, some (vI x)] [vI x, vR z0, vR z1] h Q := Rn_nx pg112 rfl rfl
theorem sX6_target_63 (hk : 40 ≤ hK h a1) (hk2 : hK h a1 ≤ 41) (hx : ¬ (x0 < 0 ∨ hL h a1 ≤ x0.toNatClampNeg)) : Rn r 112 63 [l0, l1, l2] [vI x0, vR (some a1), vR z2] h Q ↔ Rn r 112 64 [l0, l1, l2] [vI (hI h a1 x0.toNatClampNeg), vR z2] h Q := Rn_nx pg112 rfl ((if_pos ⟨hk, hk2⟩).trans (if_neg hx))
theorem sX6_target_64 (hk : 40 ≤ hK h a1) (hk2 : hK h a1 ≤ 41) (hx : ¬ (x0 < 0 ∨ hL h a1 ≤ x0.toNatClampNeg)) : Rn r 112 64 [l0, l1, l2] [vI x0, vR (some a1)] h Q ↔ Rn r 112 65 [l0, l1, l2] [vI (hI h a1 x0.toNatClampNeg)] h Q := Rn_nx pg112 rfl ((if_pos ⟨hk, hk2⟩).trans (if_neg hx))
theorem sX6_target_65 : Rn r 112 65 [l0, l1, l2] [vI x0] h Q ↔ Rn r 112 66 [l0, l1, some (vI x0)] [] h Q := Rn_nx pg112 rfl rfl
theorem sX6_target_66 : Rn r 112 66 [l0, l1, l2] [] h Q ↔ Rn r 112 7 [l0, l1, l2] [] h Q := Rn_nx pg112 rfl rfl
theorem sX6_target_69 : Rn r 112 69 [l0, l1, l2] [] h Q ↔ Rn r 112 70 [l0, l1, l2] [vI (-1)] h Q := Rn_nx pg112 rfl rfl
theorem sX6_target_70 : Rn r 112 70 [l0, l1, l2] [vI x0] h Q ↔ Q (Sum.inl (some (vI x0))) h := Rn_end pg112 rfl rfl
/-! 113 ThrowRulesModel.catching(I)I -/
theorem eX6_catching : Cl r 113 [vR z0, vI x1] h Q ↔ Rn r 113 0 [some (vR z0), some (vI x1), none] [] h Q := Cl_in pg113 rfl
theorem sX6_catching_0 : Rn r 113 0 [l0, l1, l2] [] h Q ↔ Rn r 113 1 [l0, l1, l2] [vI 0] h Q := Rn_nx pg113 rfl rfl
theorem sX6_catching_1 : Rn r 113 1 [l0, l1, l2] [vI x0] h Q ↔ Rn r 113 2 [l0, l1, some (vI x0)] [] h Q := Rn_nx pg113 rfl rfl
theorem sX6_catching_2 : Rn r 113 2 [l0, l1, some (vI x)] [] h Q ↔ Rn r 113 3 [l0, l1, some (vI x)] [vI x] h Q := Rn_nx pg113 rfl rfl
theorem sX6_catching_3 : Rn r 113 3 [some (vR z), l1, l2] [vI x0] h Q ↔ Rn r 113 4 [some (vR z), l1, l2] [vR z, vI x0] h Q := Rn_nx pg113 rfl rfl
theorem sX6_catching_4 (hk : hK h a0 = 15) : Rn r 113 4 [l0, l1, l2] [vR (some a0), vI x1] h Q ↔ Rn r 113 7 [l0, l1, l2] [vR (hR h a0 33), vI x1] h Q := Rn_nx pg113 rfl (if_pos ⟨(hk ▸ Nat.le_refl _), (hk ▸ Nat.le_refl _)⟩)
theorem sX6_catching_7 : Rn r 113 7 [l0, some (vI x), l2] [vR z0, vI x1] h Q ↔ Rn r 113 8 [l0, some (vI x), l2] [vI x, vR z0, vI x1] h Q := Rn_nx pg113 rfl rfl
theorem sX6_catching_8 (hk : 40 ≤ hK h a1) (hk2 : hK h a1 ≤ 41) (hx : ¬ (x0 < 0 ∨ hL h a1 ≤ x0.toNatClampNeg)) : Rn r 113 8 [l0, l1, l2] [vI x0, vR (some a1), vI x2] h Q ↔ Rn r 113 9 [l0, l1, l2] [vI (hI h a1 x0.toNatClampNeg), vI x2] h Q := Rn_nx pg113 rfl ((if_pos ⟨hk, hk2⟩).trans (if_neg hx))
theorem sX6_catching_9 : Rn r 113 9 [l0, l1, l2] [vI x0, vI x1] h Q ↔ if x0 ≤ x1 then Rn r 113 44 [l0, l1, l2] [] h Q else Rn r 113 12 [l0, l1, l2] [] h Q := Rn_if pg113 rfl rfl rfl
theorem sX6_catching_12 : Rn r 113 12 [some (vR z), l1, l2] [] h Q ↔ Rn r 113 13 [some (vR z), l1, l2] [vR z] h Q := Rn_nx pg113 rfl rfl
theorem sX6_catching_13 : Rn r 113 13 [some (vR z), l1, l2] [vR z0] h Q ↔ Rn r 113 14 [some (vR z), l1, l2] [vR z, vR z0] h Q := Rn_nx pg113 rfl rfl
theorem sX6_catching_14 (hk : hK h a0 = 15) : Rn r 113 14 [l0, l1, l2] [vR (some a0), vR z1] h Q ↔ Rn r 113 17 [l0, l1, l2] [vI (hI h a0 67), vR z1] h Q := Rn_nx pg113 rfl (if_pos ⟨(hk ▸ Nat.le_refl _), (hk ▸ Nat.le_refl _)⟩)
theorem sX6_catching_17 : Rn r 113 17 [some (vR z), l1, l2] [vI x0, vR z1] h Q ↔ Rn r 113 18 [some (vR z), l1, l2] [vR z, vI x0, vR z1] h Q := Rn_nx pg113 rfl rfl
theorem sX6_catching_18 : Rn r 113 18 [l0, l1, l2] [vR z0, vI x1, vR z2] h Q ↔ Rn r 113 19 [l0, l1, l2] [vI 4, vR z0, vI x1, vR z2] h Q := Rn_nx pg113 rfl rfl
theorem sX6_catching_19 : Rn r 113 19 [l0, some (vI x), l2] [vI x0, vR z1, vI x2, vR z3] h Q ↔ Rn r 113 20 [l0, some (vI x), l2] [vI x, vI x0, vR z1, vI x2, vR z3] h Q := Rn_nx pg113 rfl rfl
theorem sX6_catching_20 : Rn r 113 20 [l0, l1, l2] [vI x0, vI x1, vR z2, vI x3, vR z4] h Q ↔ Rn r 113 21 [l0, l1, l2] [vI (x1 * x0), vR z2, vI x3, vR z4] h Q := Rn_nx pg113 rfl rfl
theorem sX6_catching_21 : Rn r 113 21 [l0, l1, some (vI x)] [vI x0, vR z1, vI x2, vR z3] h Q ↔ Rn r 113 22 [l0, l1, some (vI x)] [vI x, vI x0, vR z1, vI x2, vR z3] h Q := Rn_nx pg113 rfl rfl
theorem sX6_catching_22 : Rn r 113 22 [l0, l1, l2] [vI x0, vI x1, vR z2, vI x3, vR z4] h Q ↔ Rn r 113 23 [l0, l1, l2] [vI (x1 + x0), vR z2, vI x3, vR z4] h Q := Rn_nx pg113 rfl rfl
theorem sX6_catching_23 (hk : hK h a1 = 15) : Rn r 113 23 [l0, l1, l2] [vI x0, vR (some a1), vI x2, vR z3] h Q ↔ Cl r 161 [vR (some a1), vI x0] h (Kt r 113 26 [l0, l1, l2] [vI x2, vR z3] Q) := Rn_call pg113 rfl (by simp only [am_exec, am_inv, am_pop, am_lk, hk]; rfl) pg161 rfl rfl rfl
theorem sX6_catching_26 (hk : hK h a2 = 15) : Rn r 113 26 [l0, l1, l2] [vI x0, vI x1, vR (some a2)] h Q ↔ Cl r 146 [vR (some a2), vI x1, vI x0] h (Kt r 113 29 [l0, l1, l2] [] Q) := Rn_call pg113 rfl (by simp only [am_exec, am_inv, am_pop, am_lk, hk]; rfl) pg146 rfl rfl rfl
theorem sX6_catching_29 : Rn r 113 29 [l0, l1, l2] [vI x0] h Q ↔ if x0 = 0 then Rn r 113 38 [l0, l1, l2] [] h Q else Rn r 113 32 [l0, l1, l2] [] h Q := Rn_if pg113 rfl rfl rfl
theorem sX6_catching_32 : Rn r 113 32 [l0, l1, l2] [] h Q ↔ Rn r 113 33 [l0, l1, l2] [vI 4] h Q := Rn_nx pg113 rfl rfl
theorem sX6_catching_33 : Rn r 113 33 [l0, some (vI x), l2] [vI x0] h Q ↔ Rn r 113 34 [l0, some (vI x), l2] [vI x, vI x0] h Q := Rn_nx pg113 rfl rfl
theorem sX6_catching_34 : Rn r 113 34 [l0, l1, l2] [vI x0, vI x1] h Q ↔ Rn r 113 35 [l0, l1, l2] [vI (x1 * x0)] h Q := Rn_nx pg113 rfl rfl
theorem sX6_catching_35 : Rn r 113 35 [l0, l1, some (vI x)] [vI x0] h Q ↔ Rn r 113 36 [l0, l1, some (vI x)] [vI x, vI x0] h Q := Rn_nx pg113 rfl rfl
theorem sX6_catching_36 : Rn r 113 36 [l0, l1, l2] [vI x0, vI x1] h Q ↔ Rn r 113 37 [l0, l1, l2] [vI (x1 + x0)] h Q := Rn_nx pg113 rfl rfl
theorem sX6_catching_37 : Rn r 113 37 [l0, l1, l2] [vI x0] h Q ↔ Q (Sum.inl (some (vI x0))) h := Rn_end pg113 rfl rfl
theorem sX6_catching_38 : Rn r 113 38 [l0, l1, some (vI x)] [] h Q ↔ Rn r 113 41 [l0, l1, some (vI (x + 1))] [] h Q := Rn_nx pg113 rfl rfl
theorem sX6_catching_41 : Rn r 113 41 [l0, l1, l2] [] h Q ↔ Rn r 113 2 [l0, l1, l2] [] h Q := Rn_nx pg113 rfl rfl
theorem sX6_catching_44 : Rn r 113 44 [l0, l1, l2] [] h Q ↔ Rn r 113 45 [l0, l1, l2] [vI (-1)] h Q := Rn_nx pg113 rfl rfl
theorem sX6_catching_45 : Rn r 113 45 [l0, l1, l2] [vI x0] h Q ↔ Q (Sum.inl (some (vI x0))) h := Rn_end pg113 rfl rfl
/-! 114 ThrowRulesModel.finish(I)V -/
theorem eX6_finish : Cl r 114 [vR z0, vI x1] h Q ↔ Rn r 114 0 [some (vR z0), some (vI x1)] [] h Q := Cl_in pg114 rfl
theorem sX6_finish_0 : Rn r 114 0 [some (vR z), l1] [] h Q ↔ Rn r 114 1 [some (vR z), l1] [vR z] h Q := Rn_nx pg114 rfl rfl
theorem sX6_finish_1 (hk : hK h a0 = 15) : Rn r 114 1 [l0, l1] [vR (some a0)] h Q ↔ Rn r 114 4 [l0, l1] [vR (hR h a0 29)] h Q := Rn_nx pg114 rfl (if_pos ⟨(hk ▸ Nat.le_refl _), (hk ▸ Nat.le_refl _)⟩)
theorem sX6_finish_4 : Rn r 114 4 [l0, some (vI x)] [vR z0] h Q ↔ Rn r 114 5 [l0, some (vI x)] [vI x, vR z0] h Q := Rn_nx pg114 rfl rfl
theorem sX6_finish_5 (hk : 40 ≤ hK h a1) (hk2 : hK h a1 ≤ 41) (hx : ¬ (x0 < 0 ∨ hL h a1 ≤ x0.toNatClampNeg)) : Rn r 114 5 [l0, l1] [vI x0, vR (some a1)] h Q ↔ Rn r 114 6 [l0, l1] [vI (hI h a1 x0.toNatClampNeg)] h Q := Rn_nx pg114 rfl ((if_pos ⟨hk, hk2⟩).trans (if_neg hx))
theorem sX6_finish_6 : Rn r 114 6 [l0, l1] [vI x0] h Q ↔ Rn r 114 7 [l0, l1] [vI (-1), vI x0] h Q := Rn_nx pg114 rfl rfl
theorem sX6_finish_7 : Rn r 114 7 [l0, l1] [vI x0, vI x1] h Q ↔ if x1 = x0 then Rn r 114 51 [l0, l1] [] h Q else Rn r 114 10 [l0, l1] [] h Q := Rn_if pg114 rfl rfl rfl
theorem sX6_finish_10 : Rn r 114 10 [some (vR z), l1] [] h Q ↔ Rn r 114 11 [some (vR z), l1] [vR z] h Q := Rn_nx pg114 rfl rfl
theorem sX6_finish_11 (hk : hK h a0 = 15) : Rn r 114 11 [l0, l1] [vR (some a0)] h Q ↔ Rn r 114 14 [l0, l1] [vR (hR h a0 72)] h Q := Rn_nx pg114 rfl (if_pos ⟨(hk ▸ Nat.le_refl _), (hk ▸ Nat.le_refl _)⟩)
theorem sX6_finish_14 : Rn r 114 14 [some (vR z), l1] [vR z0] h Q ↔ Rn r 114 15 [some (vR z), l1] [vR z, vR z0] h Q := Rn_nx pg114 rfl rfl
theorem sX6_finish_15 (hk : hK h a0 = 15) : Rn r 114 15 [l0, l1] [vR (some a0), vR z1] h Q ↔ Rn r 114 18 [l0, l1] [vI (hI h a0 69), vR z1] h Q := Rn_nx pg114 rfl (if_pos ⟨(hk ▸ Nat.le_refl _), (hk ▸ Nat.le_refl _)⟩)
theorem sX6_finish_18 : Rn r 114 18 [some (vR z), l1] [vI x0, vR z1] h Q ↔ Rn r 114 19 [some (vR z), l1] [vR z, vI x0, vR z1] h Q := Rn_nx pg114 rfl rfl
theorem sX6_finish_19 (hk : hK h a0 = 15) : Rn r 114 19 [l0, l1] [vR (some a0), vI x1, vR z2] h Q ↔ Rn r 114 22 [l0, l1] [vI (hI h a0 66), vI x1, vR z2] h Q := Rn_nx pg114 rfl (if_pos ⟨(hk ▸ Nat.le_refl _), (hk ▸ Nat.le_refl _)⟩)
theorem sX6_finish_22 (hk : hK h a2 = 40) (hx : ¬ (x1 < 0 ∨ hL h a2 ≤ x1.toNatClampNeg)) : Rn r 114 22 [l0, l1] [vI x0, vI x1, vR (some a2)] h Q ↔ Rn r 114 23 [l0, l1] [] (putI h a2 x1.toNatClampNeg x0) Q := Rn_nx pg114 rfl ((if_pos hk).trans (if_neg hx))
theorem sX6_finish_23 : Rn r 114 23 [some (vR z), l1] [] h Q ↔ Rn r 114 24 [some (vR z), l1] [vR z] h Q := Rn_nx pg114 rfl rfl
theorem sX6_finish_24 (hk : hK h a0 = 15) : Rn r 114 24 [l0, l1] [vR (some a0)] h Q ↔ Rn r 114 27 [l0, l1] [vR (hR h a0 73)] h Q := Rn_nx pg114 rfl (if_pos ⟨(hk ▸ Nat.le_refl _), (hk ▸ Nat.le_refl _)⟩)
theorem sX6_finish_27 : Rn r 114 27 [some (vR z), l1] [vR z0] h Q ↔ Rn r 114 28 [some (vR z), l1] [vR z, vR z0] h Q := Rn_nx pg114 rfl rfl
theorem sX6_finish_28 (hk : hK h a0 = 15) : Rn r 114 28 [l0, l1] [vR (some a0), vR z1] h Q ↔ Rn r 114 31 [l0, l1] [vI (hI h a0 69), vR z1] h Q := Rn_nx pg114 rfl (if_pos ⟨(hk ▸ Nat.le_refl _), (hk ▸ Nat.le_refl _)⟩)
theorem sX6_finish_31 : Rn r 114 31 [some (vR z), l1] [vI x0, vR z1] h Q ↔ Rn r 114 32 [some (vR z), l1] [vR z, vI x0, vR z1] h Q := Rn_nx pg114 rfl rfl
theorem sX6_finish_32 (hk : hK h a0 = 15) : Rn r 114 32 [l0, l1] [vR (some a0), vI x1, vR z2] h Q ↔ Rn r 114 35 [l0, l1] [vI (hI h a0 67), vI x1, vR z2] h Q := Rn_nx pg114 rfl (if_pos ⟨(hk ▸ Nat.le_refl _), (hk ▸ Nat.le_refl _)⟩)
theorem sX6_finish_35 (hk : hK h a2 = 40) (hx : ¬ (x1 < 0 ∨ hL h a2 ≤ x1.toNatClampNeg)) : Rn r 114 35 [l0, l1] [vI x0, vI x1, vR (some a2)] h Q ↔ Rn r 114 36 [l0, l1] [] (putI h a2 x1.toNatClampNeg x0) Q := Rn_nx pg114 rfl ((if_pos hk).trans (if_neg hx))
theorem sX6_finish_36 : Rn r 114 36 [some (vR z), l1] [] h Q ↔ Rn r 114 37 [some (vR z), l1] [vR z] h Q := Rn_nx pg114 rfl rfl
theorem sX6_finish_37 : Rn r 114 37 [l0, l1] [vR z0] h Q ↔ Rn r 114 38 [l0, l1] [vI 0, vR z0] h Q := Rn_nx pg114 rfl rfl
theorem sX6_finish_38 (hk : hK h a1 = 15) : Rn r 114 38 [l0, l1] [vI x0, vR (some a1)] h Q ↔ Rn r 114 41 [l0, l1] [] (putI h a1 66 x0) Q := Rn_nx pg114 rfl ((if_pos ⟨(hk ▸ Nat.le_refl _), (hk ▸ Nat.le_refl _)⟩).trans rfl)
theorem sX6_finish_41 : Rn r 114 41 [some (vR z), l1] [] h Q ↔ Rn r 114 42 [some (vR z), l1] [vR z] h Q := Rn_nx pg114 rfl rfl
theorem sX6_finish_42 : Rn r 114 42 [some (vR z), l1] [vR z0] h Q ↔ Rn r 114 43 [some (vR z), l1] [vR z, vR z0] h Q := Rn_nx pg114 rfl rfl
theorem sX6_finish_43 (hk : hK h a0 = 15) : Rn r 114 43 [l0, l1] [vR (some a0), vR z1] h Q ↔ Rn r 114 46 [l0, l1] [vR (hR h a0 29), vR z1] h Q := Rn_nx pg114 rfl (if_pos ⟨(hk ▸ Nat.le_refl _), (hk ▸ Nat.le_refl _)⟩)
theorem sX6_finish_46 : Rn r 114 46 [l0, some (vI x)] [vR z0, vR z1] h Q ↔ Rn r 114 47 [l0, some (vI x)] [vI x, vR z0, vR z1] h Q := Rn_nx pg114 rfl rfl
theorem sX6_finish_47 (hk : 40 ≤ hK h a1) (hk2 : hK h a1 ≤ 41) (hx : ¬ (x0 < 0 ∨ hL h a1 ≤ x0.toNatClampNeg)) : Rn r 114 47 [l0, l1] [vI x0, vR (some a1), vR z2] h Q ↔ Rn r 114 48 [l0, l1] [vI (hI h a1 x0.toNatClampNeg), vR z2] h Q := Rn_nx pg114 rfl ((if_pos ⟨hk, hk2⟩).trans (if_neg hx))
theorem sX6_finish_48 (hk : hK h a1 = 15) : Rn r 114 48 [l0, l1] [vI x0, vR (some a1)] h Q ↔ Cl r 71 [vR (some a1), vI x0] h (Kt r 114 51 [l0, l1] [] Q) := Rn_call pg114 rfl (by simp only [am_exec, am_inv, am_pop, am_lk, hk]; rfl) pg71 rfl rfl rfl
theorem sX6_finish_51 : Rn r 114 51 [l0, l1] [] h Q ↔ Q (Sum.inl none) h := Rn_end pg114 rfl rfl
/-! 115 java/lang/RuntimeException.<init>(Ljava/lang/String;Ljava/lang/Throwable;ZZ)V -/
theorem eJ2_init : Cl r 115 [vR z0, vR z1, vR z2, vI x3, vI x4] h Q ↔ Rn r 115 0 [some (vR z0), some (vR z1), some (vR z2), some (vI x3), some (vI x4)] [] h Q := Cl_in pg115 rfl
theorem sJ2_init_0 : Rn r 115 0 [some (vR z), l1, l2, l3, l4] [] h Q ↔ Rn r 115 1 [some (vR z), l1, l2, l3, l4] [vR z] h Q := Rn_nx pg115 rfl rfl
theorem sJ2_init_1 : Rn r 115 1 [l0, some (vR z), l2, l3, l4] [vR z0] h Q ↔ Rn r 115 2 [l0, some (vR z), l2, l3, l4] [vR z, vR z0] h Q := Rn_nx pg115 rfl rfl
theorem sJ2_init_2 : Rn r 115 2 [l0, l1, some (vR z), l3, l4] [vR z0, vR z1] h Q ↔ Rn r 115 3 [l0, l1, some (vR z), l3, l4] [vR z, vR z0, vR z1] h Q := Rn_nx pg115 rfl rfl
theorem sJ2_init_3 : Rn r 115 3 [l0, l1, l2, some (vI x), l4] [vR z0, vR z1, vR z2] h Q ↔ Rn r 115 4 [l0, l1, l2, some (vI x), l4] [vI x, vR z0, vR z1, vR z2] h Q := Rn_nx pg115 rfl rfl
theorem sJ2_init_4 : Rn r 115 4 [l0, l1, l2, l3, some (vI x)] [vI x0, vR z1, vR z2, vR z3] h Q ↔ Rn r 115 6 [l0, l1, l2, l3, some (vI x)] [vI x, vI x0, vR z1, vR z2, vR z3] h Q := Rn_nx pg115 rfl rfl
theorem sJ2_init_6 (hk : 0 < hK h a4) (hk2 : hK h a4 < 40) : Rn r 115 6 [l0, l1, l2, l3, l4] [vI x0, vI x1, vR z2, vR z3, vR (some a4)] h Q ↔ Cl r 162 [vR (some a4), vR z3, vR z2, vI x1, vI x0] h (Kt r 115 9 [l0, l1, l2, l3, l4] [] Q) := Rn_call pg115 rfl (if_pos ⟨hk, hk2⟩) pg162 rfl rfl rfl
theorem sJ2_init_9 : Rn r 115 9 [l0, l1, l2, l3, l4] [] h Q ↔ Q (Sum.inl none) h := Rn_end pg115 rfl rfl
/-! 116 java/util/AbstractList.<init>()V -/
theorem eJ4_init : Cl r 116 [vR z0] h Q ↔ Rn r 116 0 [some (vR z0)] [] h Q := Cl_in pg116 rfl
theorem sJ4_init_0 : Rn r 116 0 [some (vR z)] [] h Q ↔ Rn r 116 1 [some (vR z)] [vR z] h Q := Rn_nx pg116 rfl rfl
theorem sJ4_init_1 (hk : 0 < hK h a0) (hk2 : hK h a0 < 40) : Rn r 116 1 [l0] [vR (some a0)] h Q ↔ Cl r 163 [vR (some a0)] h (Kt r 116 4 [l0] [] Q) := Rn_call pg116 rfl (if_pos ⟨hk, hk2⟩) pg163 rfl rfl rfl
theorem sJ4_init_4 : Rn r 116 4 [some (vR z)] [] h Q ↔ Rn r 116 5 [some (vR z)] [vR z] h Q := Rn_nx pg116 rfl rfl
theorem sJ4_init_5 : Rn r 116 5 [l0] [vR z0] h Q ↔ Rn r 116 6 [l0] [vI 0, vR z0] h Q := Rn_nx pg116 rfl rfl
theorem sJ4_init_6 (hk : hK h a1 = 4) : Rn r 116 6 [l0] [vI x0, vR (some a1)] h Q ↔ Rn r 116 9 [l0] [] (putI h a1 0 x0) Q := Rn_nx pg116 rfl ((if_pos ⟨(hk ▸ Nat.le_refl _), (hk ▸ Nat.le_refl _)⟩).trans rfl)
theorem sJ4_init_9 : Rn r 116 9 [l0] [] h Q ↔ Q (Sum.inl none) h := Rn_end pg116 rfl rfl
/-! 117 java/util/AbstractMap.<init>()V -/
theorem eJ6_init : Cl r 117 [vR z0] h Q ↔ Rn r 117 0 [some (vR z0)] [] h Q := Cl_in pg117 rfl
theorem sJ6_init_0 : Rn r 117 0 [some (vR z)] [] h Q ↔ Rn r 117 1 [some (vR z)] [vR z] h Q := Rn_nx pg117 rfl rfl
theorem sJ6_init_1 : Rn r 117 1 [l0] [vR (some a0)] h Q ↔ Rn r 117 4 [l0] [] h Q := Rn_nx pg117 rfl rfl
theorem sJ6_init_4 : Rn r 117 4 [l0] [] h Q ↔ Q (Sum.inl none) h := Rn_end pg117 rfl rfl
/-! 118 ThrowRules$Kind.<init>(Ljava/lang/String;ILThrowRules$Kind;I)V -/
theorem eX4_init : Cl r 118 [vR z0, vR z1, vI x2, vR z3, vI x4] h Q ↔ Rn r 118 0 [some (vR z0), some (vR z1), some (vI x2), some (vR z3), some (vI x4)] [] h Q := Cl_in pg118 rfl
theorem sX4_init_0 : Rn r 118 0 [some (vR z), l1, l2, l3, l4] [] h Q ↔ Rn r 118 1 [some (vR z), l1, l2, l3, l4] [vR z] h Q := Rn_nx pg118 rfl rfl
theorem sX4_init_1 : Rn r 118 1 [l0, l1, l2, l3, l4] [vR (some a0)] h Q ↔ Rn r 118 4 [l0, l1, l2, l3, l4] [] h Q := Rn_nx pg118 rfl rfl
theorem sX4_init_4 : Rn r 118 4 [some (vR z), l1, l2, l3, l4] [] h Q ↔ Rn r 118 5 [some (vR z), l1, l2, l3, l4] [vR z] h Q := Rn_nx pg118 rfl rfl
theorem sX4_init_5 : Rn r 118 5 [l0, some (vR z), l2, l3, l4] [vR z0] h Q ↔ Rn r 118 6 [l0, some (vR z), l2, l3, l4] [vR z, vR z0] h Q := Rn_nx pg118 rfl rfl
theorem sX4_init_6 (hk : hK h a1 = 7) : Rn r 118 6 [l0, l1, l2, l3, l4] [vR z0, vR (some a1)] h Q ↔ Rn r 118 9 [l0, l1, l2, l3, l4] [] (putR h a1 0 z0) Q := Rn_nx pg118 rfl ((if_pos ⟨(hk ▸ Nat.le_refl _), (hk ▸ Nat.le_refl _)⟩).trans rfl)
theorem sX4_init_9 : Rn r 118 9 [some (vR z), l1, l2, l3, l4] [] h Q ↔ Rn r 118 10 [some (vR z), l1, l2, l3, l4] [vR z] h Q := Rn_nx pg118 rfl rfl
theorem sX4_init_10 : Rn r 118 10 [l0, l1, some (vI x), l3, l4] [vR z0] h Q ↔ Rn r 118 11 [l0, l1, some (vI x), l3, l4] [vI x, vR z0] h Q := Rn_nx pg118 rfl rfl
theorem sX4_init_11 (hk : hK h a1 = 7) : Rn r 118 11 [l0, l1, l2, l3, l4] [vI x0, vR (some a1)] h Q ↔ Rn r 118 14 [l0, l1, l2, l3, l4] [] (putI h a1 1 x0) Q := Rn_nx pg118 rfl ((if_pos ⟨(hk ▸ Nat.le_refl _), (hk ▸ Nat.le_refl _)⟩).trans rfl)
theorem sX4_init_14 : Rn r 118 14 [some (vR z), l1, l2, l3, l4] [] h Q ↔ Rn r 118 15 [some (vR z), l1, l2, l3, l4] [vR z] h Q := Rn_nx pg118 rfl rfl
theorem sX4_init_15 : Rn r 118 15 [l0, l1, l2, some (vR z), l4] [vR z0] h Q ↔ Rn r 118 16 [l0, l1, l2, some (vR z), l4] [vR z, vR z0] h Q := Rn_nx pg118 rfl rfl
theorem sX4_init_16 (hk : hK h a1 = 7) : Rn r 118 16 [l0, l1, l2, l3, l4] [vR z0, vR (some a1)] h Q ↔ Rn r 118 19 [l0, l1, l2, l3, l4] [] (putR h a1 2 z0) Q := Rn_nx pg118 rfl ((if_pos ⟨(hk ▸ Nat.le_refl _), (hk ▸ Nat.le_refl _)⟩).trans rfl)
theorem sX4_init_19 : Rn r 118 19 [some (vR z), l1, l2, l3, l4] [] h Q ↔ Rn r 118 20 [some (vR z), l1, l2, l3, l4] [vR z] h Q := Rn_nx pg118 rfl rfl
theorem sX4_init_20 : Rn r 118 20 [l0, l1, l2, l3, some (vI x)] [vR z0] h Q ↔ Rn r 118 22 [l0, l1, l2, l3, some (vI x)] [vI x, vR z0] h Q := Rn_nx pg118 rfl rfl
theorem sX4_init_22 (hk : hK h a1 = 7) : Rn r 118 22 [l0, l1, l2, l3, l4] [vI x0, vR (some a1)] h Q ↔ Rn r 118 25 [l0, l1, l2, l3, l4] [] (putI h a1 3 x0) Q := Rn_nx pg118 rfl ((if_pos ⟨(hk ▸ Nat.le_refl _), (hk ▸ Nat.le_refl _)⟩).trans rfl)
theorem sX4_init_25 : Rn r 118 25 [l0, l1, l2, l3, l4] [] h Q ↔ Q (Sum.inl none) h := Rn_end pg118 rfl rfl
/-! 119 java/util/ArrayList.add(Ljava/lang/Object;)Z -/
theorem eJ5_add : Cl r 119 [vR z0, vR z1] h Q ↔ Rn r 119 0 [some (vR z0), some (vR z1)] [] h Q := Cl_in pg119 rfl
theorem sJ5_add_0 : Rn r 119 0 [some (vR z), l1] [] h Q ↔ Rn r 119 1 [some (vR z), l1] [vR z] h Q := Rn_nx pg119 rfl rfl
theorem sJ5_add_1 : Rn r 119 1 [l0, l1] [vR z0] h Q ↔ Rn r 119 2 [l0, l1] [vR z0, vR z0] h Q := Rn_nx pg119 rfl rfl
theorem sJ5_add_2 (hk : hK h a0 = 4) : Rn r 119 2 [l0, l1] [vR (some a0), vR z1] h Q ↔ Rn r 119 5 [l0, l1] [vI (hI h a0 0), vR z1] h Q := Rn_nx pg119 rfl (if_pos ⟨(hk ▸ Nat.le_refl _), (hk ▸ Nat.le_refl _)⟩)
theorem sJ5_add_5 : Rn r 119 5 [l0, l1] [vI x0, vR z1] h Q ↔ Rn r 119 6 [l0, l1] [vI 1, vI x0, vR z1] h Q := Rn_nx pg119 rfl rfl
theorem sJ5_add_6 : Rn r 119 6 [l0, l1] [vI x0, vI x1, vR z2] h Q ↔ Rn r 119 7 [l0, l1] [vI (x1 + x0), vR z2] h Q := Rn_nx pg119 rfl rfl
theorem sJ5_add_7 (hk : hK h a1 = 4) : Rn r 119 7 [l0, l1] [vI x0, vR (some a1)] h Q ↔ Rn r 119 10 [l0, l1] [] (putI h a1 0 x0) Q := Rn_nx pg119 rfl ((if_pos ⟨(hk ▸ Nat.le_refl _), (hk ▸ Nat.le_refl _)⟩).trans rfl)
theorem sJ5_add_10 : Rn r 119 10 [some (vR z), l1] [] h Q ↔ Rn r 119 11 [some (vR z), l1] [vR z] h Q := Rn_nx pg119 rfl rfl
theorem sJ5_add_11 : Rn r 119 11 [l0, some (vR z)] [vR z0] h Q ↔ Rn r 119 12 [l0, some (vR z)] [vR z, vR z0] h Q := Rn_nx pg119 rfl rfl
theorem sJ5_add_12 : Rn r 119 12 [some (vR z), l1] [vR z0, vR z1] h Q ↔ Rn r 119 13 [some (vR z), l1] [vR z, vR z0, vR z1] h Q := Rn_nx pg119 rfl rfl
theorem sJ5_add_13 (hk : hK h a0 = 4) : Rn r 119 13 [l0, l1] [vR (some a0), vR z1, vR z2] h Q ↔ Rn r 119 16 [l0, l1] [vR (hR h a0 1), vR z1, vR z2] h Q := Rn_nx pg119 rfl (if_pos ⟨(hk ▸ Nat.le_refl _), (hk ▸ Nat.le_refl _)⟩)
theorem sJ5_add_16 : Rn r 119 16 [some (vR z), l1] [vR z0, vR z1, vR z2] h Q ↔ Rn r 119 17 [some (vR z), l1] [vR z, vR z0, vR z1, vR z2] h Q := Rn_nx pg119 rfl rfl
theorem sJ5_add_17 (hk : hK h a0 = 4) : Rn r 119 17 [l0, l1] [vR (some a0), vR z1, vR z2, vR z3] h Q ↔ Rn r 119 20 [l0, l1] [vI (hI h a0 2), vR z1, vR z2, vR z3] h Q := Rn_nx pg119 rfl (if_pos ⟨(hk ▸ Nat.le_refl _), (hk ▸ Nat.le_refl _)⟩)
theorem sJ5_add_20 (hk : hK h a3 = 4) : Rn r 119 20 [l0, l1] [vI x0, vR z1, vR z2, vR (some a3)] h Q ↔ Cl r 164 [vR (some a3), vR z2, vR z1, vI x0] h (Kt r 119 23 [l0, l1] [] Q) := Rn_call pg119 rfl (by simp only [am_exec, am_inv, am_pop, am_lk, hk]; rfl) pg164 rfl rfl rfl
theorem sJ5_add_23 : Rn r 119 23 [l0, l1] [] h Q ↔ Rn r 119 24 [l0, l1] [vI 1] h Q := Rn_nx pg119 rfl rfl
theorem sJ5_add_24 (hf : am_fit 4 x0 = true) : Rn r 119 24 [l0, l1] [vI x0] h Q ↔ Q (Sum.inl (some (vI x0))) h := Rn_end pg119 rfl (if_pos hf)
/-! 120 java/util/HashMap.containsKey(Ljava/lang/Object;)Z -/
theorem eJ7_containsKey : Cl r 120 [vR z0, vR z1] h Q ↔ Rn r 120 0 [some (vR z0), some (vR z1)] [] h Q := Cl_in pg120 rfl
theorem sJ7_containsKey_0 : Rn r 120 0 [some (vR z), l1] [] h Q ↔ Rn r 120 1 [some (vR z), l1] [vR z] h Q := Rn_nx pg120 rfl rfl
theorem sJ7_containsKey_1 : Rn r 120 1 [l0, some (vR z)] [vR z0] h Q ↔ Rn r 120 2 [l0, some (vR z)] [vR z, vR z0] h Q := Rn_nx pg120 rfl rfl
theorem sJ7_containsKey_2 (hk : hK h a1 = 6) : Rn r 120 2 [l0, l1] [vR z0, vR (some a1)] h Q ↔ Cl r 105 [vR (some a1), vR z0] h (Kt r 120 5 [l0, l1] [] Q) := Rn_call pg120 rfl (by simp only [am_exec, am_inv, am_pop, am_lk, hk]; rfl) pg105 rfl rfl rfl
theorem sJ7_containsKey_5 : Rn r 120 5 [l0, l1] [vR z0] h Q ↔ if z0 = none then Rn r 120 12 [l0, l1] [] h Q else Rn r 120 8 [l0, l1] [] h Q := Rn_if pg120 rfl rfl rfl
theorem sJ7_containsKey_8 : Rn r 120 8 [l0, l1] [] h Q ↔ Rn r 120 9 [l0, l1] [vI 1] h Q := Rn_nx pg120 rfl rfl
theorem sJ7_containsKey_9 : Rn r 120 9 [l0, l1] [vI x0] h Q ↔ Rn r 120 13 [l0, l1] [vI x0] h Q := Rn_nx pg120 rfl rfl
theorem sJ7_containsKey_12 : Rn r 120 12 [l0, l1] [] h Q ↔ Rn r 120 13 [l0, l1] [vI 0] h Q := Rn_nx pg120 rfl rfl
theorem sJ7_containsKey_13 (hf : am_fit 4 x0 = true) : Rn r 120 13 [l0, l1] [vI x0] h Q ↔ Q (Sum.inl (some (vI x0))) h := Rn_end pg120 rfl (if_pos hf)
/-! 121 java/util/HashMap.put(Ljava/lang/Object;Ljava/lang/Object;)Ljava/lang/Object; -/
theorem eJ7_put : Cl r 121 [vR z0, vR z1, vR z2] h Q ↔ Rn r 121 0 [some (vR z0), some (vR z1), some (vR z2)] [] h Q := Cl_in pg121 rfl
theorem sJ7_put_0 : Rn r 121 0 [some (vR z), l1, l2] [] h Q ↔ Rn r 121 1 [some (vR z), l1, l2] [vR z] h Q := Rn_nx pg121 rfl rfl
theorem sJ7_put_1 : Rn r 121 1 [l0, some (vR z), l2] [vR z0] h Q ↔ Rn r 121 2 [l0, some (vR z), l2] [vR z, vR z0] h Q := Rn_nx pg121 rfl rfl
theorem sJ7_put_2 : Rn r 121 2 [l0, l1, l2] [vR z0, vR z1] h Q ↔ Cl r 157 [vR z0] h (Kt r 121 5 [l0, l1, l2] [vR z1] Q) := Rn_call pg121 rfl rfl pg157 rfl rfl rfl
theorem sJ7_put_5 : Rn r 121 5 [l0, some (vR z), l2] [vI x0, vR z1] h Q ↔ Rn r 121 6 [l0, some (vR z), l2] [vR z, vI x0, vR z1] h Q := Rn_nx pg121 rfl rfl
theorem sJ7_put_6 : Rn r 121 6 [l0, l1, some (vR z)] [vR z0, vI x1, vR z2] h Q ↔ Rn r 121 7 [l0, l1, some (vR z)] [vR z, vR z0, vI x1, vR z2] h Q := Rn_nx pg121 rfl rfl
theorem sJ7_put_7 : Rn r 121 7 [l0, l1, l2] [vR z0, vR z1, vI x2, vR z3] h Q ↔ Rn r 121 8 [l0, l1, l2] [vI 0, vR z0, vR z1, vI x2, vR z3] h Q := Rn_nx pg121 rfl rfl
theorem sJ7_put_8 : Rn r 121 8 [l0, l1, l2] [vI x0, vR z1, vR z2, vI x3, vR z4] h Q ↔ Rn r 121 9 [l0, l1, l2] [vI 1, vI x0, vR z1, vR z2, vI x3, vR z4] h Q := Rn_nx pg121 rfl rfl
theorem sJ7_put_9 (hk : hK h a5 = 6) : Rn r 121 9 [l0, l1, l2] [vI x0, vI x1, vR z2, vR z3, vI x4, vR (some a5)] h Q ↔ Cl r 165 [vR (some a5), vI x4, vR z3, vR z2, vI x1, vI x0] h (Kt r 121 12 [l0, l1, l2] [] Q) := Rn_call pg121 rfl (by simp only [am_exec, am_inv, am_pop, am_lk, hk]; rfl) pg165 rfl rfl rfl
theorem sJ7_put_12 : Rn r 121 12 [l0, l1, l2] [vR z0] h Q ↔ Q (Sum.inl (some (vR z0))) h := Rn_end pg121 rfl rfl
/-! 122 ThrowRules$Reader.isLetter(I)Z -/
theorem eX1_isLetter : Cl r 122 [vI x0] h Q ↔ Rn r 122 0 [some (vI x0)] [] h Q := Cl_in pg122 rfl
theorem sX1_isLetter_0 : Rn r 122 0 [some (vI x)] [] h Q ↔ Rn r 122 1 [some (vI x)] [vI x] h Q := Rn_nx pg122 rfl rfl
theorem sX1_isLetter_1 : Rn r 122 1 [l0] [vI x0] h Q ↔ Rn r 122 3 [l0] [vI 97, vI x0] h Q := Rn_nx pg122 rfl rfl
theorem sX1_isLetter_3 : Rn r 122 3 [l0] [vI x0, vI x1] h Q ↔ if x1 < x0 then Rn r 122 16 [l0] [] h Q else Rn r 122 6 [l0] [] h Q := Rn_if pg122 rfl rfl rfl
theorem sX1_isLetter_6 : Rn r 122 6 [some (vI x)] [] h Q ↔ Rn r 122 7 [some (vI x)] [vI x] h Q := Rn_nx pg122 rfl rfl
theorem sX1_isLetter_7 : Rn r 122 7 [l0] [vI x0] h Q ↔ Rn r 122 9 [l0] [vI 122, vI x0] h Q := Rn_nx pg122 rfl rfl
theorem sX1_isLetter_9 : Rn r 122 9 [l0] [vI x0, vI x1] h Q ↔ if x0 < x1 then Rn r 122 16 [l0] [] h Q else Rn r 122 12 [l0] [] h Q := Rn_if pg122 rfl rfl rfl
theorem sX1_isLetter_12 : Rn r 122 12 [l0] [] h Q ↔ Rn r 122 13 [l0] [vI 1] h Q := Rn_nx pg122 rfl rfl
theorem sX1_isLetter_13 : Rn r 122 13 [l0] [vI x0] h Q ↔ Rn r 122 17 [l0] [vI x0] h Q := Rn_nx pg122 rfl rfl
theorem sX1_isLetter_16 : Rn r 122 16 [l0] [] h Q ↔ Rn r 122 17 [l0] [vI 0] h Q := Rn_nx pg122 rfl rfl
theorem sX1_isLetter_17 (hf : am_fit 4 x0 = true) : Rn r 122 17 [l0] [vI x0] h Q ↔ Q (Sum.inl (some (vI x0))) h := Rn_end pg122 rfl (if_pos hf)
/-! 123 ThrowRules$Reader.wrongAt(I)LThrowRules$Wrong; -/
theorem eX1_wrongAt : Cl r 123 [vR z0, vI x1] h Q ↔ Rn r 123 0 [some (vR z0), some (vI x1)] [] h Q := Cl_in pg123 rfl
theorem sX1_wrongAt_0 : Rn r 123 0 [some (vR z), l1] [] h Q ↔ Rn r 123 1 [some (vR z), l1] [vR z] h Q := Rn_nx pg123 rfl rfl
theorem sX1_wrongAt_1 (hk : hK h a0 = 2) : Rn r 123 1 [l0, l1] [vR (some a0)] h Q ↔ Rn r 123 4 [l0, l1] [vR (hR h a0 0)] h Q := Rn_nx pg123 rfl (if_pos ⟨(hk ▸ Nat.le_refl _), (hk ▸ Nat.le_refl _)⟩)
theorem sX1_wrongAt_4 : Rn r 123 4 [l0, some (vI x)] [vR z0] h Q ↔ Rn r 123 5 [l0, some (vI x)] [vI x, vR z0] h Q := Rn_nx pg123 rfl rfl
theorem sX1_wrongAt_5 (hk : hK h a1 = 3) : Rn r 123 5 [l0, l1] [vI x0, vR (some a1)] h Q ↔ Rn r 123 8 [l0, l1] [] (putI h a1 6 x0) Q := Rn_nx pg123 rfl ((if_pos ⟨(hk ▸ Nat.le_refl _), (hk ▸ Nat.le_refl _)⟩).trans rfl)
theorem sX1_wrongAt_8 : Rn r 123 8 [some (vR z), l1] [] h Q ↔ Rn r 123 9 [some (vR z), l1] [vR z] h Q := Rn_nx pg123 rfl rfl
theorem sX1_wrongAt_9 (hk : hK h a0 = 2) : Rn r 123 9 [l0, l1] [vR (some a0)] h Q ↔ Rn r 123 12 [l0, l1] [vR (hR h a0 0)] h Q := Rn_nx pg123 rfl (if_pos ⟨(hk ▸ Nat.le_refl _), (hk ▸ Nat.le_refl _)⟩)
theorem sX1_wrongAt_12 : Rn r 123 12 [l0, l1] [vR z0] h Q ↔ Q (Sum.inl (some (vR z0))) h := Rn_end pg123 rfl rfl
/-! 124 java/lang/String.indexOf(I)I -/
theorem eJ13_indexOf : Cl r 124 [vR z0, vI x1] h Q ↔ Rn r 124 0 [some (vR z0), some (vI x1)] [] h Q := Cl_in pg124 rfl
theorem sJ13_indexOf_0 : Rn r 124 0 [some (vR z), l1] [] h Q ↔ Rn r 124 1 [some (vR z), l1] [vR z] h Q := Rn_nx pg124 rfl rfl
theorem sJ13_indexOf_1 : Rn r 124 1 [l0, some (vI x)] [vR z0] h Q ↔ Rn r 124 2 [l0, some (vI x)] [vI x, vR z0] h Q := Rn_nx pg124 rfl rfl
theorem sJ13_indexOf_2 : Rn r 124 2 [l0, l1] [vI x0, vR z1] h Q ↔ Rn r 124 3 [l0, l1] [vI 0, vI x0, vR z1] h Q := Rn_nx pg124 rfl rfl
theorem sJ13_indexOf_3 (hk : 10 ≤ hK h a2) (hk2 : hK h a2 ≤ 11) : Rn r 124 3 [l0, l1] [vI x0, vI x1, vR (some a2)] h Q ↔ Cl r 166 [vR (some a2), vI x1, vI x0] h (Kt r 124 6 [l0, l1] [] Q) := Rn_call pg124 rfl (by rcases am_rng2 hk hk2 with q | q <;> simp only [am_exec, am_inv, am_pop, am_lk, q] <;> rfl) pg166 rfl rfl rfl
theorem sJ13_indexOf_6 : Rn r 124 6 [l0, l1] [vI x0] h Q ↔ Q (Sum.inl (some (vI x0))) h := Rn_end pg124 rfl rfl
/-! 125 java/lang/String.equals(Ljava/lang/Object;)Z -/
theorem eJ13_equals : Cl r 125 [vR z0, vR z1] h Q ↔ Rn r 125 0 [some (vR z0), some (vR z1), none] [] h Q := Cl_in pg125 rfl
theorem sJ13_equals_0 : Rn r 125 0 [some (vR z), l1, l2] [] h Q ↔ Rn r 125 1 [some (vR z), l1, l2] [vR z] h Q := Rn_nx pg125 rfl rfl
theorem sJ13_equals_1 : Rn r 125 1 [l0, some (vR z), l2] [vR z0] h Q ↔ Rn r 125 2 [l0, some (vR z), l2] [vR z, vR z0] h Q := Rn_nx pg125 rfl rfl
theorem sJ13_equals_2 : Rn r 125 2 [l0, l1, l2] [vR z0, vR z1] h Q ↔ if z1 ≠ z0 then Rn r 125 7 [l0, l1, l2] [] h Q else Rn r 125 5 [l0, l1, l2] [] h Q := Rn_if pg125 rfl rfl rfl
theorem sJ13_equals_5 : Rn r 125 5 [l0, l1, l2] [] h Q ↔ Rn r 125 6 [l0, l1, l2] [vI 1] h Q := Rn_nx pg125 rfl rfl
theorem sJ13_equals_6 (hf : am_fit 4 x0 = true) : Rn r 125 6 [l0, l1, l2] [vI x0] h Q ↔ Q (Sum.inl (some (vI x0))) h := Rn_end pg125 rfl (if_pos hf)
theorem sJ13_equals_7 : Rn r 125 7 [l0, some (vR z), l2] [] h Q ↔ Rn r 125 8 [l0, some (vR z), l2] [vR z] h Q := Rn_nx pg125 rfl rfl
theorem sJ13_equals_8_n : Rn r 125 8 [l0, l1, l2] [vR none] h Q ↔ Rn r 125 11 [l0, l1, l2] [vI 0] h Q := Rn_nx pg125 rfl rfl
theorem sJ13_equals_8 (hk : hK h a0 ∈ [10, 11]) : Rn r 125 8 [l0, l1, l2] [vR (some a0)] h Q ↔ Rn r 125 11 [l0, l1, l2] [vI 1] h Q := Rn_nx pg125 rfl (if_pos hk)
theorem sJ13_equals_11 : Rn r 125 11 [l0, l1, l2] [vI x0] h Q ↔ if x0 = 0 then Rn r 125 54 [l0, l1, l2] [] h Q else Rn r 125 14 [l0, l1, l2] [] h Q := Rn_if pg125 rfl rfl rfl
theorem sJ13_equals_14 : Rn r 125 14 [l0, some (vR z), l2] [] h Q ↔ Rn r 125 15 [l0, some (vR z), l2] [vR z] h Q := Rn_nx pg125 rfl rfl
theorem sJ13_equals_15_n : Rn r 125 15 [l0, l1, l2] [vR none] h Q ↔ Rn r 125 18 [l0, l1, l2] [vR none] h Q := Rn_nx pg125 rfl rfl
theorem sJ13_equals_15 (hk : hK h a0 ∈ [10, 11]) : Rn r 125 15 [l0, l1, l2] [vR (some a0)] h Q ↔ Rn r 125 18 [l0, l1, l2] [vR (some a0)] h Q := Rn_nx pg125 rfl (if_pos hk)
theorem sJ13_equals_18 : Rn r 125 18 [l0, l1, l2] [vR z0] h Q ↔ Rn r 125 19 [l0, l1, some (vR z0)] [] h Q := Rn_nx pg125 rfl rfl
theorem sJ13_equals_19 : Rn r 125 19 [l0, l1, l2] [] h Q ↔ Rn r 125 22 [l0, l1, l2] [vI 1] h Q := Rn_nx pg125 rfl rfl
theorem sJ13_equals_22 : Rn r 125 22 [l0, l1, l2] [vI x0] h Q ↔ if x0 = 0 then Rn r 125 36 [l0, l1, l2] [] h Q else Rn r 125 25 [l0, l1, l2] [] h Q := Rn_if pg125 rfl rfl rfl
theorem sJ13_equals_25 : Rn r 125 25 [some (vR z), l1, l2] [] h Q ↔ Rn r 125 26 [some (vR z), l1, l2] [vR z] h Q := Rn_nx pg125 rfl rfl
theorem sJ13_equals_26 (hk : 10 ≤ hK h a0) (hk2 : hK h a0 ≤ 11) : Rn r 125 26 [l0, l1, l2] [vR (some a0)] h Q ↔ Rn r 125 29 [l0, l1, l2] [vI (hI h a0 1)] h Q := Rn_nx pg125 rfl (if_pos ⟨hk, hk2⟩)
theorem sJ13_equals_29 : Rn r 125 29 [l0, l1, some (vR z)] [vI x0] h Q ↔ Rn r 125 30 [l0, l1, some (vR z)] [vR z, vI x0] h Q := Rn_nx pg125 rfl rfl
theorem sJ13_equals_30 (hk : 10 ≤ hK h a0) (hk2 : hK h a0 ≤ 11) : Rn r 125 30 [l0, l1, l2] [vR (some a0), vI x1] h Q ↔ Rn r 125 33 [l0, l1, l2] [vI (hI h a0 1), vI x1] h Q := Rn_nx pg125 rfl (if_pos ⟨hk, hk2⟩)
theorem sJ13_equals_33 : Rn r 125 33 [l0, l1, l2] [vI x0, vI x1] h Q ↔ if x1 ≠ x0 then Rn r 125 54 [l0, l1, l2] [] h Q else Rn r 125 36 [l0, l1, l2] [] h Q := Rn_if pg125 rfl rfl rfl
theorem sJ13_equals_36 : Rn r 125 36 [some (vR z), l1, l2] [] h Q ↔ Rn r 125 37 [some (vR z), l1, l2] [vR z] h Q := Rn_nx pg125 rfl rfl
theorem sJ13_equals_37 (hk : 10 ≤ hK h a0) (hk2 : hK h a0 ≤ 11) : Rn r 125 37 [l0, l1, l2] [vR (some a0)] h Q ↔ Rn r 125 40 [l0, l1, l2] [vR (hR h a0 0)] h Q := Rn_nx pg125 rfl (if_pos ⟨hk, hk2⟩)
theorem sJ13_equals_40 : Rn r 125 40 [l0, l1, some (vR z)] [vR z0] h Q ↔ Rn r 125 41 [l0, l1, some (vR z)] [vR z, vR z0] h Q := Rn_nx pg125 rfl rfl
theorem sJ13_equals_41 (hk : 10 ≤ hK h a0) (hk2 : hK h a0 ≤ 11) : Rn r 125 41 [l0, l1, l2] [vR (some a0), vR z1] h Q ↔ Rn r 125 44 [l0, l1, l2] [vR (hR h a0 0), vR z1] h Q := Rn_nx pg125 rfl (if_pos ⟨hk, hk2⟩)
theorem sJ13_equals_44 : Rn r 125 44 [l0, l1, l2] [vR z0, vR z1] h Q ↔ Cl r 167 [vR z1, vR z0] h (Kt r 125 47 [l0, l1, l2] [] Q) := Rn_call pg125 rfl rfl pg167 rfl rfl rfl
theorem sJ13_equals_47 : Rn r 125 47 [l0, l1, l2] [vI x0] h Q ↔ if x0 = 0 then Rn r 125 54 [l0, l1, l2] [] h Q else Rn r 125 50 [l0, l1, l2] [] h Q := Rn_if pg125 rfl rfl rfl
theorem sJ13_equals_50 : Rn r 125 50 [l0, l1, l2] [] h Q ↔ Rn r 125 51 [l0, l1, l2] [vI 1] h Q := Rn_nx pg125 rfl rfl
theorem sJ13_equals_51 : Rn r 125 51 [l0, l1, l2] [vI x0] h Q ↔ Rn r 125 55 [l0, l1, l2] [vI x0] h Q := Rn_nx pg125 rfl rfl
theorem sJ13_equals_54 : Rn r 125 54 [l0, l1, l2] [] h Q ↔ Rn r 125 55 [l0, l1, l2] [vI 0] h Q := Rn_nx pg125 rfl rfl
theorem sJ13_equals_55 (hf : am_fit 4 x0 = true) : Rn r 125 55 [l0, l1, l2] [vI x0] h Q ↔ Q (Sum.inl (some (vI x0))) h := Rn_end pg125 rfl (if_pos hf)
/-! 126 ThrowRules$Reader.name()Ljava/lang/String; -/
theorem eX1_name : Cl r 126 [vR z0] h Q ↔ Rn r 126 0 [some (vR z0), none] [] h Q := Cl_in pg126 rfl
theorem sX1_name_0 : Rn r 126 0 [some (vR z), l1] [] h Q ↔ Rn r 126 1 [some (vR z), l1] [vR z] h Q := Rn_nx pg126 rfl rfl
theorem sX1_name_1 : Rn r 126 1 [some (vR z), l1] [vR z0] h Q ↔ Rn r 126 2 [some (vR z), l1] [vR z, vR z0] h Q := Rn_nx pg126 rfl rfl
theorem sX1_name_2 (hk : hK h a0 = 2) : Rn r 126 2 [l0, l1] [vR (some a0), vR z1] h Q ↔ Rn r 126 5 [l0, l1] [vR (hR h a0 5), vR z1] h Q := Rn_nx pg126 rfl (if_pos ⟨(hk ▸ Nat.le_refl _), (hk ▸ Nat.le_refl _)⟩)
theorem sX1_name_5 : Rn r 126 5 [l0, l1] [vR z0, vR z1] h Q ↔ if z0 = none then Rn r 126 19 [l0, l1] [vR z1] h Q else Rn r 126 8 [l0, l1] [vR z1] h Q := Rn_if pg126 rfl rfl rfl
theorem sX1_name_8 : Rn r 126 8 [some (vR z), l1] [vR z0] h Q ↔ Rn r 126 9 [some (vR z), l1] [vR z, vR z0] h Q := Rn_nx pg126 rfl rfl
theorem sX1_name_9 (hk : hK h a0 = 2) : Rn r 126 9 [l0, l1] [vR (some a0), vR z1] h Q ↔ Cl r 168 [vR (some a0)] h (Kt r 126 12 [l0, l1] [vR z1] Q) := Rn_call pg126 rfl (by simp only [am_exec, am_inv, am_pop, am_lk, hk]; rfl) pg168 rfl rfl rfl
theorem sX1_name_12 : Rn r 126 12 [l0, l1] [vI x0, vR z1] h Q ↔ if x0 ≠ 0 then Rn r 126 19 [l0, l1] [vR z1] h Q else Rn r 126 15 [l0, l1] [vR z1] h Q := Rn_if pg126 rfl rfl rfl
theorem sX1_name_15 : Rn r 126 15 [l0, l1] [vR z0] h Q ↔ Rn r 126 16 [l0, l1] [vI 1, vR z0] h Q := Rn_nx pg126 rfl rfl
theorem sX1_name_16 : Rn r 126 16 [l0, l1] [vI x0, vR z1] h Q ↔ Rn r 126 20 [l0, l1] [vI x0, vR z1] h Q := Rn_nx pg126 rfl rfl
theorem sX1_name_19 : Rn r 126 19 [l0, l1] [vR z0] h Q ↔ Rn r 126 20 [l0, l1] [vI 0, vR z0] h Q := Rn_nx pg126 rfl rfl
theorem sX1_name_20 (hk : hK h a1 = 2) : Rn r 126 20 [l0, l1] [vI x0, vR (some a1)] h Q ↔ Cl r 83 [vR (some a1), vI x0] h (Kt r 126 23 [l0, l1] [] Q) := Rn_call pg126 rfl (by simp only [am_exec, am_inv, am_pop, am_lk, hk]; rfl) pg83 rfl rfl rfl
theorem sX1_name_23 : Rn r 126 23 [some (vR z), l1] [] h Q ↔ Rn r 126 24 [some (vR z), l1] [vR z] h Q := Rn_nx pg126 rfl rfl
theorem sX1_name_24 (hk : hK h a0 = 2) : Rn r 126 24 [l0, l1] [vR (some a0)] h Q ↔ Rn r 126 27 [l0, l1] [vR (hR h a0 5)] h Q := Rn_nx pg126 rfl (if_pos ⟨(hk ▸ Nat.le_refl _), (hk ▸ Nat.le_refl _)⟩)
theorem sX1_name_27 : Rn r 126 27 [l0, l1] [vR z0] h Q ↔ Rn r 126 28 [l0, some (vR z0)] [] h Q := Rn_nx pg126 rfl rfl
theorem sX1_name_28 : Rn r 126 28 [some (vR z), l1] [] h Q ↔ Rn r 126 29 [some (vR z), l1] [vR z] h Q := Rn_nx pg126 rfl rfl
theorem sX1_name_29 : Rn r 126 29 [some (vR z), l1] [vR z0] h Q ↔ Rn r 126 30 [some (vR z), l1] [vR z, vR z0] h Q := Rn_nx pg126 rfl rfl
theorem sX1_name_30 (hk : hK h a0 = 2) : Rn r 126 30 [l0, l1] [vR (some a0), vR z1] h Q ↔ Rn r 126 33 [l0, l1] [vI (hI h a0 4), vR z1] h Q := Rn_nx pg126 rfl (if_pos ⟨(hk ▸ Nat.le_refl _), (hk ▸ Nat.le_refl _)⟩)
theorem sX1_name_33 (hk : hK h a1 = 2) : Rn r 126 33 [l0, l1] [vI x0, vR (some a1)] h Q ↔ Rn r 126 36 [l0, l1] [] (putI h a1 14 x0) Q := Rn_nx pg126 rfl ((if_pos ⟨(hk ▸ Nat.le_refl _), (hk ▸ Nat.le_refl _)⟩).trans rfl)
theorem sX1_name_36 : Rn r 126 36 [some (vR z), l1] [] h Q ↔ Rn r 126 37 [some (vR z), l1] [vR z] h Q := Rn_nx pg126 rfl rfl
theorem sX1_name_37 (hk : hK h a0 = 2) : Rn r 126 37 [l0, l1] [vR (some a0)] h Q ↔ Cl r 80 [vR (some a0)] h (Kt r 126 40 [l0, l1] [] Q) := Rn_call pg126 rfl (by simp only [am_exec, am_inv, am_pop, am_lk, hk]; rfl) pg80 rfl rfl rfl
theorem sX1_name_40 : Rn r 126 40 [l0, some (vR z)] [] h Q ↔ Rn r 126 41 [l0, some (vR z)] [vR z] h Q := Rn_nx pg126 rfl rfl
theorem sX1_name_41 : Rn r 126 41 [l0, l1] [vR z0] h Q ↔ Q (Sum.inl (some (vR z0))) h := Rn_end pg126 rfl rfl
/-! 127 ThrowRules$Reader.want(Ljava/lang/String;)V -/
theorem eX1_want : Cl r 127 [vR z0, vR z1] h Q ↔ Rn r 127 0 [some (vR z0), some (vR z1)] [] h Q := Cl_in pg127 rfl
theorem sX1_want_0 : Rn r 127 0 [some (vR z), l1] [] h Q ↔ Rn r 127 1 [some (vR z), l1] [vR z] h Q := Rn_nx pg127 rfl rfl
theorem sX1_want_1 : Rn r 127 1 [some (vR z), l1] [vR z0] h Q ↔ Rn r 127 2 [some (vR z), l1] [vR z, vR z0] h Q := Rn_nx pg127 rfl rfl
theorem sX1_want_2 : Rn r 127 2 [l0, some (vR z)] [vR z0, vR z1] h Q ↔ Rn r 127 3 [l0, some (vR z)] [vR z, vR z0, vR z1] h Q := Rn_nx pg127 rfl rfl
theorem sX1_want_3 (hk : hK h a1 = 2) : Rn r 127 3 [l0, l1] [vR z0, vR (some a1), vR z2] h Q ↔ Cl r 81 [vR (some a1), vR z0] h (Kt r 127 6 [l0, l1] [vR z2] Q) := Rn_call pg127 rfl (by simp only [am_exec, am_inv, am_pop, am_lk, hk]; rfl) pg81 rfl rfl rfl
theorem sX1_want_6 (hk : hK h a1 = 2) : Rn r 127 6 [l0, l1] [vI x0, vR (some a1)] h Q ↔ Cl r 83 [vR (some a1), vI x0] h (Kt r 127 9 [l0, l1] [] Q) := Rn_call pg127 rfl (by simp only [am_exec, am_inv, am_pop, am_lk, hk]; rfl) pg83 rfl rfl rfl
theorem sX1_want_9 : Rn r 127 9 [some (vR z), l1] [] h Q ↔ Rn r 127 10 [some (vR z), l1] [vR z] h Q := Rn_nx pg127 rfl rfl
theorem sX1_want_10 (hk : hK h a0 = 2) : Rn r 127 10 [l0, l1] [vR (some a0)] h Q ↔ Cl r 80 [vR (some a0)] h (Kt r 127 13 [l0, l1] [] Q) := Rn_call pg127 rfl (by simp only [am_exec, am_inv, am_pop, am_lk, hk]; rfl) pg80 rfl rfl rfl
theorem sX1_want_13 : Rn r 127 13 [l0, l1] [] h Q ↔ Q (Sum.inl none) h := Rn_end pg127 rfl rfl
/-! 128 ThrowRules$Reader.want(I)V -/
theorem eX1_want_2 : Cl r 128 [vR z0, vI x1] h Q ↔ Rn r 128 0 [some (vR z0), some (vI x1)] [] h Q := Cl_in pg128 rfl
theorem sX1_want_2_0 : Rn r 128 0 [some (vR z), l1] [] h Q ↔ Rn r 128 1 [some (vR z), l1] [vR z] h Q := Rn_nx pg128 rfl rfl
theorem sX1_want_2_1 : Rn r 128 1 [some (vR z), l1] [vR z0] h Q ↔ Rn r 128 2 [some (vR z), l1] [vR z, vR z0] h Q := Rn_nx pg128 rfl rfl
theorem sX1_want_2_2 (hk : hK h a0 = 2) : Rn r 128 2 [l0, l1] [vR (some a0), vR z1] h Q ↔ Rn r 128 5 [l0, l1] [vI (hI h a0 6), vR z1] h Q := Rn_nx pg128 rfl (if_pos ⟨(hk ▸ Nat.le_refl _), (hk ▸ Nat.le_refl _)⟩)
theorem sX1_want_2_5 : Rn r 128 5 [l0, some (vI x)] [vI x0, vR z1] h Q ↔ Rn r 128 6 [l0, some (vI x)] [vI x, vI x0, vR z1] h Q := Rn_nx pg128 rfl rfl
theorem sX1_want_2_6 : Rn r 128 6 [l0, l1] [vI x0, vI x1, vR z2] h Q ↔ if x1 ≠ x0 then Rn r 128 13 [l0, l1] [vR z2] h Q else Rn r 128 9 [l0, l1] [vR z2] h Q := Rn_if pg128 rfl rfl rfl
theorem sX1_want_2_9 : Rn r 128 9 [l0, l1] [vR z0] h Q ↔ Rn r 128 10 [l0, l1] [vI 1, vR z0] h Q := Rn_nx pg128 rfl rfl
theorem sX1_want_2_10 : Rn r 128 10 [l0, l1] [vI x0, vR z1] h Q ↔ Rn r 128 14 [l0, l1] [vI x0, vR z1] h Q := Rn_nx pg128 rfl rfl
theorem sX1_want_2_13 : Rn r 128 13 [l0, l1] [vR z0] h Q ↔ Rn r 128 14 [l0, l1] [vI 0, vR z0] h Q := Rn_nx pg128 rfl rfl
theorem sX1_want_2_14 (hk : hK h a1 = 2) : Rn r 128 14 [l0, l1] [vI x0, vR (some a1)] h Q ↔ Cl r 83 [vR (some a1), vI x0] h (Kt r 128 17 [l0, l1] [] Q) := Rn_call pg128 rfl (by simp only [am_exec, am_inv, am_pop, am_lk, hk]; rfl) pg83 rfl rfl rfl
theorem sX1_want_2_17 : Rn r 128 17 [some (vR z), l1] [] h Q ↔ Rn r 128 18 [some (vR z), l1] [vR z] h Q := Rn_nx pg128 rfl rfl
theorem sX1_want_2_18 (hk : hK h a0 = 2) : Rn r 128 18 [l0, l1] [vR (some a0)] h Q ↔ Cl r 80 [vR (some a0)] h (Kt r 128 21 [l0, l1] [] Q) := Rn_call pg128 rfl (by simp only [am_exec, am_inv, am_pop, am_lk, hk]; rfl) pg80 rfl rfl rfl
theorem sX1_want_2_21 : Rn r 128 21 [l0, l1] [] h Q ↔ Q (Sum.inl none) h := Rn_end pg128 rfl rfl
/-! 129 ThrowRules$Reader.known(Ljava/lang/String;I)LThrowRules$Kind; -/
theorem eX1_known : Cl r 129 [vR z0, vR z1, vI x2] h Q ↔ Rn r 129 0 [some (vR z0), some (vR z1), some (vI x2), none] [] h Q := Cl_in pg129 rfl
theorem sX1_known_0 : Rn r 129 0 [some (vR z), l1, l2, l3] [] h Q ↔ Rn r 129 1 [some (vR z), l1, l2, l3] [vR z] h Q := Rn_nx pg129 rfl rfl
theorem sX1_known_1 (hk : hK h a0 = 2) : Rn r 129 1 [l0, l1, l2, l3] [vR (some a0)] h Q ↔ Rn r 129 4 [l0, l1, l2, l3] [vR (hR h a0 7)] h Q := Rn_nx pg129 rfl (if_pos ⟨(hk ▸ Nat.le_refl _), (hk ▸ Nat.le_refl _)⟩)
theorem sX1_known_4 (hk : hK h a0 = 5) : Rn r 129 4 [l0, l1, l2, l3] [vR (some a0)] h Q ↔ Rn r 129 7 [l0, l1, l2, l3] [vR (hR h a0 1)] h Q := Rn_nx pg129 rfl (if_pos ⟨(hk ▸ Nat.le_refl _), (hk ▸ Nat.le_refl _)⟩)
theorem sX1_known_7 : Rn r 129 7 [l0, some (vR z), l2, l3] [vR z0] h Q ↔ Rn r 129 8 [l0, some (vR z), l2, l3] [vR z, vR z0] h Q := Rn_nx pg129 rfl rfl
theorem sX1_known_8 (hk : hK h a1 = 6) : Rn r 129 8 [l0, l1, l2, l3] [vR z0, vR (some a1)] h Q ↔ Cl r 66 [vR (some a1), vR z0] h (Kt r 129 11 [l0, l1, l2, l3] [] Q) := Rn_call pg129 rfl (by simp only [am_exec, am_inv, am_pop, am_lk, hk]; rfl) pg66 rfl rfl rfl
theorem sX1_known_11_n : Rn r 129 11 [l0, l1, l2, l3] [vR none] h Q ↔ Rn r 129 14 [l0, l1, l2, l3] [vR none] h Q := Rn_nx pg129 rfl rfl
theorem sX1_known_11 (hk : hK h a0 ∈ [7]) : Rn r 129 11 [l0, l1, l2, l3] [vR (some a0)] h Q ↔ Rn r 129 14 [l0, l1, l2, l3] [vR (some a0)] h Q := Rn_nx pg129 rfl (if_pos hk)
theorem sX1_known_14 : Rn r 129 14 [l0, l1, l2, l3] [vR z0] h Q ↔ Rn r 129 15 [l0, l1, l2, some (vR z0)] [] h Q := Rn_nx pg129 rfl rfl
theorem sX1_known_15 : Rn r 129 15 [l0, l1, l2, some (vR z)] [] h Q ↔ Rn r 129 16 [l0, l1, l2, some (vR z)] [vR z] h Q := Rn_nx pg129 rfl rfl
theorem sX1_known_16 : Rn r 129 16 [l0, l1, l2, l3] [vR z0] h Q ↔ if z0 ≠ none then Rn r 129 29 [l0, l1, l2, l3] [] h Q else Rn r 129 19 [l0, l1, l2, l3] [] h Q := Rn_if pg129 rfl rfl rfl
theorem sX1_known_19 : Rn r 129 19 [some (vR z), l1, l2, l3] [] h Q ↔ Rn r 129 20 [some (vR z), l1, l2, l3] [vR z] h Q := Rn_nx pg129 rfl rfl
theorem sX1_known_20 (hk : hK h a0 = 2) : Rn r 129 20 [l0, l1, l2, l3] [vR (some a0)] h Q ↔ Rn r 129 23 [l0, l1, l2, l3] [vR (hR h a0 7)] h Q := Rn_nx pg129 rfl (if_pos ⟨(hk ▸ Nat.le_refl _), (hk ▸ Nat.le_refl _)⟩)
theorem sX1_known_23 : Rn r 129 23 [l0, l1, l2, l3] [vR z0] h Q ↔ Rn r 129 24 [l0, l1, l2, l3] [vI 1, vR z0] h Q := Rn_nx pg129 rfl rfl
theorem sX1_known_24 : Rn r 129 24 [l0, l1, some (vI x), l3] [vI x0, vR z1] h Q ↔ Rn r 129 25 [l0, l1, some (vI x), l3] [vI x, vI x0, vR z1] h Q := Rn_nx pg129 rfl rfl
theorem sX1_known_25 : Rn r 129 25 [l0, l1, l2, l3] [vI x0, vI x1, vR z2] h Q ↔ Rn r 129 26 [l0, l1, l2, l3] [vI (-1), vI x0, vI x1, vR z2] h Q := Rn_nx pg129 rfl rfl
theorem sX1_known_26 (hk : hK h a3 = 5) : Rn r 129 26 [l0, l1, l2, l3] [vI x0, vI x1, vI x2, vR (some a3)] h Q ↔ Cl r 130 [vR (some a3), vI x2, vI x1, vI x0] h (Kt r 129 29 [l0, l1, l2, l3] [] Q) := Rn_call pg129 rfl (by simp only [am_exec, am_inv, am_pop, am_lk, hk]; rfl) pg130 rfl rfl rfl
theorem sX1_known_29 : Rn r 129 29 [l0, l1, l2, some (vR z)] [] h Q ↔ Rn r 129 30 [l0, l1, l2, some (vR z)] [vR z] h Q := Rn_nx pg129 rfl rfl
theorem sX1_known_30 : Rn r 129 30 [l0, l1, l2, l3] [vR z0] h Q ↔ Q (Sum.inl (some (vR z0))) h := Rn_end pg129 rfl rfl
/-! 130 ThrowRules$Unit.mistake(III)V -/
theorem eX3_mistake : Cl r 130 [vR z0, vI x1, vI x2, vI x3] h Q ↔ Rn r 130 0 [some (vR z0), some (vI x1), some (vI x2), some (vI x3), none, none] [] h Q := Cl_in pg130 rfl
theorem sX3_mistake_0 : Rn r 130 0 [l0, l1, l2, l3, l4, l5] [] h Q ↔ Rn r 130 3 [l0, l1, l2, l3, l4, l5] [vR (some (hN h))] (newC h 17 3) Q := Rn_nx pg130 rfl rfl
theorem sX3_mistake_3 : Rn r 130 3 [l0, l1, l2, l3, l4, l5] [vR z0] h Q ↔ Rn r 130 4 [l0, l1, l2, l3, l4, l5] [vR z0, vR z0] h Q := Rn_nx pg130 rfl rfl
theorem sX3_mistake_4 : Rn r 130 4 [l0, some (vI x), l2, l3, l4, l5] [vR z0, vR z1] h Q ↔ Rn r 130 5 [l0, some (vI x), l2, l3, l4, l5] [vI x, vR z0, vR z1] h Q := Rn_nx pg130 rfl rfl
theorem sX3_mistake_5 : Rn r 130 5 [l0, l1, some (vI x), l3, l4, l5] [vI x0, vR z1, vR z2] h Q ↔ Rn r 130 6 [l0, l1, some (vI x), l3, l4, l5] [vI x, vI x0, vR z1, vR z2] h Q := Rn_nx pg130 rfl rfl
theorem sX3_mistake_6 : Rn r 130 6 [l0, l1, l2, some (vI x), l4, l5] [vI x0, vI x1, vR z2, vR z3] h Q ↔ Rn r 130 7 [l0, l1, l2, some (vI x), l4, l5] [vI x, vI x0, vI x1, vR z2, vR z3] h Q := Rn_nx pg130 rfl rfl
theorem sX3_mistake_7 (hk : 0 < hK h a3) (hk2 : hK h a3 < 40) : Rn r 130 7 [l0, l1, l2, l3, l4, l5] [vI x0, vI x1, vI x2, vR (some a3), vR z4] h Q ↔ Cl r 169 [vR (some a3), vI x2, vI x1, vI x0] h (Kt r 130 10 [l0, l1, l2, l3, l4, l5] [vR z4] Q) := Rn_call pg130 rfl (if_pos ⟨hk, hk2⟩) pg169 rfl rfl rfl
theorem sX3_mistake_10 : Rn r 130 10 [l0, l1, l2, l3, l4, l5] [vR z0] h Q ↔ Rn r 130 12 [l0, l1, l2, l3, some (vR z0), l5] [] h Q := Rn_nx pg130 rfl rfl
theorem sX3_mistake_12 : Rn r 130 12 [some (vR z), l1, l2, l3, l4, l5] [] h Q ↔ Rn r 130 13 [some (vR z), l1, l2, l3, l4, l5] [vR z] h Q := Rn_nx pg130 rfl rfl
theorem sX3_mistake_13 (hk : hK h a0 = 5) : Rn r 130 13 [l0, l1, l2, l3, l4, l5] [vR (some a0)] h Q ↔ Rn r 130 16 [l0, l1, l2, l3, l4, l5] [vR (hR h a0 5)] h Q := Rn_nx pg130 rfl (if_pos ⟨(hk ▸ Nat.le_refl _), (hk ▸ Nat.le_refl _)⟩)
theorem sX3_mistake_16 (hk : hK h a0 = 4) : Rn r 130 16 [l0, l1, l2, l3, l4, l5] [vR (some a0)] h Q ↔ Cl r 34 [vR (some a0)] h (Kt r 130 19 [l0, l1, l2, l3, l4, l5] [] Q) := Rn_call pg130 rfl (by simp only [am_exec, am_inv, am_pop, am_lk, hk]; rfl) pg34 rfl rfl rfl
theorem sX3_mistake_19 : Rn r 130 19 [l0, l1, l2, l3, l4, l5] [vI x0] h Q ↔ Rn r 130 21 [l0, l1, l2, l3, l4, some (vI x0)] [] h Q := Rn_nx pg130 rfl rfl
theorem sX3_mistake_21 : Rn r 130 21 [l0, l1, l2, l3, l4, some (vI x)] [] h Q ↔ Rn r 130 23 [l0, l1, l2, l3, l4, some (vI x)] [vI x] h Q := Rn_nx pg130 rfl rfl
theorem sX3_mistake_23 : Rn r 130 23 [l0, l1, l2, l3, l4, l5] [vI x0] h Q ↔ if x0 ≤ 0 then Rn r 130 54 [l0, l1, l2, l3, l4, l5] [] h Q else Rn r 130 26 [l0, l1, l2, l3, l4, l5] [] h Q := Rn_if pg130 rfl rfl rfl
theorem sX3_mistake_26 : Rn r 130 26 [l0, l1, l2, l3, some (vR z), l5] [] h Q ↔ Rn r 130 28 [l0, l1, l2, l3, some (vR z), l5] [vR z] h Q := Rn_nx pg130 rfl rfl
theorem sX3_mistake_28 : Rn r 130 28 [some (vR z), l1, l2, l3, l4, l5] [vR z0] h Q ↔ Rn r 130 29 [some (vR z), l1, l2, l3, l4, l5] [vR z, vR z0] h Q := Rn_nx pg130 rfl rfl
theorem sX3_mistake_29 (hk : hK h a0 = 5) : Rn r 130 29 [l0, l1, l2, l3, l4, l5] [vR (some a0), vR z1] h Q ↔ Rn r 130 32 [l0, l1, l2, l3, l4, l5] [vR (hR h a0 5), vR z1] h Q := Rn_nx pg130 rfl (if_pos ⟨(hk ▸ Nat.le_refl _), (hk ▸ Nat.le_refl _)⟩)
theorem sX3_mistake_32 : Rn r 130 32 [l0, l1, l2, l3, l4, some (vI x)] [vR z0, vR z1] h Q ↔ Rn r 130 34 [l0, l1, l2, l3, l4, some (vI x)] [vI x, vR z0, vR z1] h Q := Rn_nx pg130 rfl rfl
theorem sX3_mistake_34 : Rn r 130 34 [l0, l1, l2, l3, l4, l5] [vI x0, vR z1, vR z2] h Q ↔ Rn r 130 35 [l0, l1, l2, l3, l4, l5] [vI 1, vI x0, vR z1, vR z2] h Q := Rn_nx pg130 rfl rfl
theorem sX3_mistake_35 : Rn r 130 35 [l0, l1, l2, l3, l4, l5] [vI x0, vI x1, vR z2, vR z3] h Q ↔ Rn r 130 36 [l0, l1, l2, l3, l4, l5] [vI (x1 - x0), vR z2, vR z3] h Q := Rn_nx pg130 rfl rfl
theorem sX3_mistake_36 (hk : hK h a1 = 4) : Rn r 130 36 [l0, l1, l2, l3, l4, l5] [vI x0, vR (some a1), vR z2] h Q ↔ Cl r 43 [vR (some a1), vI x0] h (Kt r 130 39 [l0, l1, l2, l3, l4, l5] [vR z2] Q) := Rn_call pg130 rfl (by simp only [am_exec, am_inv, am_pop, am_lk, hk]; rfl) pg43 rfl rfl rfl
theorem sX3_mistake_39_n : Rn r 130 39 [l0, l1, l2, l3, l4, l5] [vR none, vR z1] h Q ↔ Rn r 130 42 [l0, l1, l2, l3, l4, l5] [vR none, vR z1] h Q := Rn_nx pg130 rfl rfl
theorem sX3_mistake_39 (hk : hK h a0 ∈ [17]) : Rn r 130 39 [l0, l1, l2, l3, l4, l5] [vR (some a0), vR z1] h Q ↔ Rn r 130 42 [l0, l1, l2, l3, l4, l5] [vR (some a0), vR z1] h Q := Rn_nx pg130 rfl (if_pos hk)
theorem sX3_mistake_42 (hk : hK h a1 = 17) : Rn r 130 42 [l0, l1, l2, l3, l4, l5] [vR z0, vR (some a1)] h Q ↔ Cl r 170 [vR (some a1), vR z0] h (Kt r 130 45 [l0, l1, l2, l3, l4, l5] [] Q) := Rn_call pg130 rfl (by simp only [am_exec, am_inv, am_pop, am_lk, hk]; rfl) pg170 rfl rfl rfl
theorem sX3_mistake_45 : Rn r 130 45 [l0, l1, l2, l3, l4, l5] [vI x0] h Q ↔ if x0 = 0 then Rn r 130 54 [l0, l1, l2, l3, l4, l5] [] h Q else Rn r 130 48 [l0, l1, l2, l3, l4, l5] [] h Q := Rn_if pg130 rfl rfl rfl
theorem sX3_mistake_48 : Rn r 130 48 [l0, l1, l2, l3, l4, some (vI x)] [] h Q ↔ Rn r 130 51 [l0, l1, l2, l3, l4, some (vI (x + (-1)))] [] h Q := Rn_nx pg130 rfl rfl
theorem sX3_mistake_51 : Rn r 130 51 [l0, l1, l2, l3, l4, l5] [] h Q ↔ Rn r 130 21 [l0, l1, l2, l3, l4, l5] [] h Q := Rn_nx pg130 rfl rfl
theorem sX3_mistake_54 : Rn r 130 54 [some (vR z), l1, l2, l3, l4, l5] [] h Q ↔ Rn r 130 55 [some (vR z), l1, l2, l3, l4, l5] [vR z] h Q := Rn_nx pg130 rfl rfl
theorem sX3_mistake_55 (hk : hK h a0 = 5) : Rn r 130 55 [l0, l1, l2, l3, l4, l5] [vR (some a0)] h Q ↔ Rn r 130 58 [l0, l1, l2, l3, l4, l5] [vR (hR h a0 5)] h Q := Rn_nx pg130 rfl (if_pos ⟨(hk ▸ Nat.le_refl _), (hk ▸ Nat.le_refl _)⟩)
theorem sX3_mistake_58 : Rn r 130 58 [l0, l1, l2, l3, l4, some (vI x)] [vR z0] h Q ↔ Rn r 130 60 [l0, l1, l2, l3, l4, some (vI x)] [vI x, vR z0] h Q := Rn_nx pg130 rfl rfl
theorem sX3_mistake_60 : Rn r 130 60 [l0, l1, l2, l3, some (vR z), l5] [vI x0, vR z1] h Q ↔ Rn r 130 62 [l0, l1, l2, l3, some (vR z), l5] [vR z, vI x0, vR z1] h Q := Rn_nx pg130 rfl rfl
theorem sX3_mistake_62 (hk : hK h a2 = 4) : Rn r 130 62 [l0, l1, l2, l3, l4, l5] [vR z0, vI x1, vR (some a2)] h Q ↔ Cl r 171 [vR (some a2), vI x1, vR z0] h (Kt r 130 65 [l0, l1, l2, l3, l4, l5] [] Q) := Rn_call pg130 rfl (by simp only [am_exec, am_inv, am_pop, am_lk, hk]; rfl) pg171 rfl rfl rfl
theorem sX3_mistake_65 : Rn r 130 65 [l0, l1, l2, l3, l4, l5] [] h Q ↔ Q (Sum.inl none) h := Rn_end pg130 rfl rfl
/-! 131 ThrowRules$Method.<init>(Ljava/lang/String;II)V -/
theorem eX8_init : Cl r 131 [vR z0, vR z1, vI x2, vI x3] h Q ↔ Rn r 131 0 [some (vR z0), some (vR z1), some (vI x2), some (vI x3)] [] h Q := Cl_in pg131 rfl
theorem sX8_init_0 : Rn r 131 0 [some (vR z), l1, l2, l3] [] h Q ↔ Rn r 131 1 [some (vR z), l1, l2, l3] [vR z] h Q := Rn_nx pg131 rfl rfl
theorem sX8_init_1 : Rn r 131 1 [l0, l1, l2, l3] [vR (some a0)] h Q ↔ Rn r 131 4 [l0, l1, l2, l3] [] h Q := Rn_nx pg131 rfl rfl
theorem sX8_init_4 : Rn r 131 4 [some (vR z), l1, l2, l3] [] h Q ↔ Rn r 131 5 [some (vR z), l1, l2, l3] [vR z] h Q := Rn_nx pg131 rfl rfl
theorem sX8_init_5 : Rn r 131 5 [l0, l1, l2, l3] [vR z0] h Q ↔ Rn r 131 8 [l0, l1, l2, l3] [vR (some (hN h)), vR z0] (newC h 4 3) Q := Rn_nx pg131 rfl rfl
theorem sX8_init_8 : Rn r 131 8 [l0, l1, l2, l3] [vR z0, vR z1] h Q ↔ Rn r 131 9 [l0, l1, l2, l3] [vR z0, vR z0, vR z1] h Q := Rn_nx pg131 rfl rfl
theorem sX8_init_9 : Rn r 131 9 [l0, l1, l2, l3] [vR z0, vR z1, vR z2] h Q ↔ Rn r 131 10 [l0, l1, l2, l3] [vI 2, vR z0, vR z1, vR z2] h Q := Rn_nx pg131 rfl rfl
theorem sX8_init_10 (hk : 0 < hK h a1) (hk2 : hK h a1 < 40) : Rn r 131 10 [l0, l1, l2, l3] [vI x0, vR (some a1), vR z2, vR z3] h Q ↔ Cl r 172 [vR (some a1), vI x0] h (Kt r 131 13 [l0, l1, l2, l3] [vR z2, vR z3] Q) := Rn_call pg131 rfl (if_pos ⟨hk, hk2⟩) pg172 rfl rfl rfl
theorem sX8_init_13 (hk : hK h a1 = 18) : Rn r 131 13 [l0, l1, l2, l3] [vR z0, vR (some a1)] h Q ↔ Rn r 131 16 [l0, l1, l2, l3] [] (putR h a1 7 z0) Q := Rn_nx pg131 rfl ((if_pos ⟨(hk ▸ Nat.le_refl _), (hk ▸ Nat.le_refl _)⟩).trans rfl)
theorem sX8_init_16 : Rn r 131 16 [some (vR z), l1, l2, l3] [] h Q ↔ Rn r 131 17 [some (vR z), l1, l2, l3] [vR z] h Q := Rn_nx pg131 rfl rfl
theorem sX8_init_17 : Rn r 131 17 [l0, some (vR z), l2, l3] [vR z0] h Q ↔ Rn r 131 18 [l0, some (vR z), l2, l3] [vR z, vR z0] h Q := Rn_nx pg131 rfl rfl
theorem sX8_init_18 (hk : hK h a1 = 18) : Rn r 131 18 [l0, l1, l2, l3] [vR z0, vR (some a1)] h Q ↔ Rn r 131 21 [l0, l1, l2, l3] [] (putR h a1 0 z0) Q := Rn_nx pg131 rfl ((if_pos ⟨(hk ▸ Nat.le_refl _), (hk ▸ Nat.le_refl _)⟩).trans rfl)
theorem sX8_init_21 : Rn r 131 21 [some (vR z), l1, l2, l3] [] h Q ↔ Rn r 131 22 [some (vR z), l1, l2, l3] [vR z] h Q := Rn_nx pg131 rfl rfl
theorem sX8_init_22 : Rn r 131 22 [l0, l1, some (vI x), l3] [vR z0] h Q ↔ Rn r 131 23 [l0, l1, some (vI x), l3] [vI x, vR z0] h Q := Rn_nx pg131 rfl rfl
theorem sX8_init_23 (hk : hK h a1 = 18) : Rn r 131 23 [l0, l1, l2, l3] [vI x0, vR (some a1)] h Q ↔ Rn r 131 26 [l0, l1, l2, l3] [] (putI h a1 1 x0) Q := Rn_nx pg131 rfl ((if_pos ⟨(hk ▸ Nat.le_refl _), (hk ▸ Nat.le_refl _)⟩).trans rfl)
theorem sX8_init_26 : Rn r 131 26 [some (vR z), l1, l2, l3] [] h Q ↔ Rn r 131 27 [some (vR z), l1, l2, l3] [vR z] h Q := Rn_nx pg131 rfl rfl
theorem sX8_init_27 : Rn r 131 27 [l0, l1, l2, some (vI x)] [vR z0] h Q ↔ Rn r 131 28 [l0, l1, l2, some (vI x)] [vI x, vR z0] h Q := Rn_nx pg131 rfl rfl
theorem sX8_init_28 (hk : hK h a1 = 18) : Rn r 131 28 [l0, l1, l2, l3] [vI x0, vR (some a1)] h Q ↔ Rn r 131 31 [l0, l1, l2, l3] [] (putI h a1 2 x0) Q := Rn_nx pg131 rfl ((if_pos ⟨(hk ▸ Nat.le_refl _), (hk ▸ Nat.le_refl _)⟩).trans rfl)
theorem sX8_init_31 : Rn r 131 31 [l0, l1, l2, l3] [] h Q ↔ Q (Sum.inl none) h := Rn_end pg131 rfl rfl
/-! 132 ThrowRules$Reader.throwsList()Ljava/util/ArrayList; -/
theorem eX1_throwsList : Cl r 132 [vR z0] h Q ↔ Rn r 132 0 [some (vR z0), none, none] [] h Q := Cl_in pg132 rfl
theorem sX1_throwsList_0 : Rn r 132 0 [l0, l1, l2] [] h Q ↔ Rn r 132 3 [l0, l1, l2] [vR (some (hN h))] (newC h 4 3) Q := Rn_nx pg132 rfl rfl
theorem sX1_throwsList_3 : Rn r 132 3 [l0, l1, l2] [vR z0] h Q ↔ Rn r 132 4 [l0, l1, l2] [vR z0, vR z0] h Q := Rn_nx pg132 rfl rfl
theorem sX1_throwsList_4 : Rn r 132 4 [l0, l1, l2] [vR z0, vR z1] h Q ↔ Rn r 132 5 [l0, l1, l2] [vI 2, vR z0, vR z1] h Q := Rn_nx pg132 rfl rfl
theorem sX1_throwsList_5 (hk : 0 < hK h a1) (hk2 : hK h a1 < 40) : Rn r 132 5 [l0, l1, l2] [vI x0, vR (some a1), vR z2] h Q ↔ Cl r 172 [vR (some a1), vI x0] h (Kt r 132 8 [l0, l1, l2] [vR z2] Q) := Rn_call pg132 rfl (if_pos ⟨hk, hk2⟩) pg172 rfl rfl rfl
theorem sX1_throwsList_8 : Rn r 132 8 [l0, l1, l2] [vR z0] h Q ↔ Rn r 132 9 [l0, some (vR z0), l2] [] h Q := Rn_nx pg132 rfl rfl
theorem sX1_throwsList_9 : Rn r 132 9 [some (vR z), l1, l2] [] h Q ↔ Rn r 132 10 [some (vR z), l1, l2] [vR z] h Q := Rn_nx pg132 rfl rfl
theorem sX1_throwsList_10 : Rn r 132 10 [l0, l1, l2] [vR z0] h Q ↔ Rn r 132 12 [l0, l1, l2] [vR (some (hE h 12)), vR z0] h Q := Rn_nx pg132 rfl rfl
theorem sX1_throwsList_12 (hk : hK h a1 = 2) : Rn r 132 12 [l0, l1, l2] [vR z0, vR (some a1)] h Q ↔ Cl r 81 [vR (some a1), vR z0] h (Kt r 132 15 [l0, l1, l2] [] Q) := Rn_call pg132 rfl (by simp only [am_exec, am_inv, am_pop, am_lk, hk]; rfl) pg81 rfl rfl rfl
theorem sX1_throwsList_15 : Rn r 132 15 [l0, l1, l2] [vI x0] h Q ↔ if x0 = 0 then Rn r 132 78 [l0, l1, l2] [] h Q else Rn r 132 18 [l0, l1, l2] [] h Q := Rn_if pg132 rfl rfl rfl
theorem sX1_throwsList_18 : Rn r 132 18 [some (vR z), l1, l2] [] h Q ↔ Rn r 132 19 [some (vR z), l1, l2] [vR z] h Q := Rn_nx pg132 rfl rfl
theorem sX1_throwsList_19 (hk : hK h a0 = 2) : Rn r 132 19 [l0, l1, l2] [vR (some a0)] h Q ↔ Cl r 80 [vR (some a0)] h (Kt r 132 22 [l0, l1, l2] [] Q) := Rn_call pg132 rfl (by simp only [am_exec, am_inv, am_pop, am_lk, hk]; rfl) pg80 rfl rfl rfl
theorem sX1_throwsList_22 : Rn r 132 22 [some (vR z), l1, l2] [] h Q ↔ Rn r 132 23 [some (vR z), l1, l2] [vR z] h Q := Rn_nx pg132 rfl rfl
theorem sX1_throwsList_23 : Rn r 132 23 [l0, some (vR z), l2] [vR z0] h Q ↔ Rn r 132 24 [l0, some (vR z), l2] [vR z, vR z0] h Q := Rn_nx pg132 rfl rfl
theorem sX1_throwsList_24 (hk : hK h a0 = 4) : Rn r 132 24 [l0, l1, l2] [vR (some a0), vR z1] h Q ↔ Cl r 34 [vR (some a0)] h (Kt r 132 27 [l0, l1, l2] [vR z1] Q) := Rn_call pg132 rfl (by simp only [am_exec, am_inv, am_pop, am_lk, hk]; rfl) pg34 rfl rfl rfl
theorem sX1_throwsList_27 : Rn r 132 27 [l0, l1, l2] [vI x0, vR z1] h Q ↔ Rn r 132 28 [l0, l1, l2] [vI 4, vI x0, vR z1] h Q := Rn_nx pg132 rfl rfl
theorem sX1_throwsList_28 : Rn r 132 28 [l0, l1, l2] [vI x0, vI x1, vR z2] h Q ↔ if x0 ≤ x1 then Rn r 132 35 [l0, l1, l2] [vR z2] h Q else Rn r 132 31 [l0, l1, l2] [vR z2] h Q := Rn_if pg132 rfl rfl rfl
theorem sX1_throwsList_31 : Rn r 132 31 [l0, l1, l2] [vR z0] h Q ↔ Rn r 132 32 [l0, l1, l2] [vI 1, vR z0] h Q := Rn_nx pg132 rfl rfl
theorem sX1_throwsList_32 : Rn r 132 32 [l0, l1, l2] [vI x0, vR z1] h Q ↔ Rn r 132 36 [l0, l1, l2] [vI x0, vR z1] h Q := Rn_nx pg132 rfl rfl
theorem sX1_throwsList_35 : Rn r 132 35 [l0, l1, l2] [vR z0] h Q ↔ Rn r 132 36 [l0, l1, l2] [vI 0, vR z0] h Q := Rn_nx pg132 rfl rfl
theorem sX1_throwsList_36 (hk : hK h a1 = 2) : Rn r 132 36 [l0, l1, l2] [vI x0, vR (some a1)] h Q ↔ Cl r 83 [vR (some a1), vI x0] h (Kt r 132 39 [l0, l1, l2] [] Q) := Rn_call pg132 rfl (by simp only [am_exec, am_inv, am_pop, am_lk, hk]; rfl) pg83 rfl rfl rfl
theorem sX1_throwsList_39 : Rn r 132 39 [some (vR z), l1, l2] [] h Q ↔ Rn r 132 40 [some (vR z), l1, l2] [vR z] h Q := Rn_nx pg132 rfl rfl
theorem sX1_throwsList_40 (hk : hK h a0 = 2) : Rn r 132 40 [l0, l1, l2] [vR (some a0)] h Q ↔ Cl r 126 [vR (some a0)] h (Kt r 132 43 [l0, l1, l2] [] Q) := Rn_call pg132 rfl (by simp only [am_exec, am_inv, am_pop, am_lk, hk]; rfl) pg126 rfl rfl rfl
theorem sX1_throwsList_43 : Rn r 132 43 [l0, l1, l2] [vR z0] h Q ↔ Rn r 132 44 [l0, l1, some (vR z0)] [] h Q := Rn_nx pg132 rfl rfl
theorem sX1_throwsList_44 : Rn r 132 44 [l0, some (vR z), l2] [] h Q ↔ Rn r 132 45 [l0, some (vR z), l2] [vR z] h Q := Rn_nx pg132 rfl rfl
theorem sX1_throwsList_45 : Rn r 132 45 [l0, l1, l2] [vR z0] h Q ↔ Rn r 132 48 [l0, l1, l2] [vR (some (hN h)), vR z0] (newC h 19 2) Q := Rn_nx pg132 rfl rfl
theorem sX1_throwsList_48 : Rn r 132 48 [l0, l1, l2] [vR z0, vR z1] h Q ↔ Rn r 132 49 [l0, l1, l2] [vR z0, vR z0, vR z1] h Q := Rn_nx pg132 rfl rfl
theorem sX1_throwsList_49 : Rn r 132 49 [some (vR z), l1, l2] [vR z0, vR z1, vR z2] h Q ↔ Rn r 132 50 [some (vR z), l1, l2] [vR z, vR z0, vR z1, vR z2] h Q := Rn_nx pg132 rfl rfl
theorem sX1_throwsList_50 : Rn r 132 50 [l0, l1, some (vR z)] [vR z0, vR z1, vR z2, vR z3] h Q ↔ Rn r 132 51 [l0, l1, some (vR z)] [vR z, vR z0, vR z1, vR z2, vR z3] h Q := Rn_nx pg132 rfl rfl
theorem sX1_throwsList_51 : Rn r 132 51 [some (vR z), l1, l2] [vR z0, vR z1, vR z2, vR z3, vR z4] h Q ↔ Rn r 132 52 [some (vR z), l1, l2] [vR z, vR z0, vR z1, vR z2, vR z3, vR z4] h Q := Rn_nx pg132 rfl rfl
theorem sX1_throwsList_52 (hk : hK h a0 = 2) : Rn r 132 52 [l0, l1, l2] [vR (some a0), vR z1, vR z2, vR z3, vR z4, vR z5] h Q ↔ Rn r 132 55 [l0, l1, l2] [vI (hI h a0 14), vR z1, vR z2, vR z3, vR z4, vR z5] h Q := Rn_nx pg132 rfl (if_pos ⟨(hk ▸ Nat.le_refl _), (hk ▸ Nat.le_refl _)⟩)
theorem sX1_throwsList_55 (hk : hK h a2 = 2) : Rn r 132 55 [l0, l1, l2] [vI x0, vR z1, vR (some a2), vR z3, vR z4, vR z5] h Q ↔ Cl r 129 [vR (some a2), vR z1, vI x0] h (Kt r 132 58 [l0, l1, l2] [vR z3, vR z4, vR z5] Q) := Rn_call pg132 rfl (by simp only [am_exec, am_inv, am_pop, am_lk, hk]; rfl) pg129 rfl rfl rfl
theorem sX1_throwsList_58 : Rn r 132 58 [some (vR z), l1, l2] [vR z0, vR z1, vR z2, vR z3] h Q ↔ Rn r 132 59 [some (vR z), l1, l2] [vR z, vR z0, vR z1, vR z2, vR z3] h Q := Rn_nx pg132 rfl rfl
theorem sX1_throwsList_59 (hk : hK h a0 = 2) : Rn r 132 59 [l0, l1, l2] [vR (some a0), vR z1, vR z2, vR z3, vR z4] h Q ↔ Rn r 132 62 [l0, l1, l2] [vI (hI h a0 14), vR z1, vR z2, vR z3, vR z4] h Q := Rn_nx pg132 rfl (if_pos ⟨(hk ▸ Nat.le_refl _), (hk ▸ Nat.le_refl _)⟩)
theorem sX1_throwsList_62 (hk : 0 < hK h a2) (hk2 : hK h a2 < 40) : Rn r 132 62 [l0, l1, l2] [vI x0, vR z1, vR (some a2), vR z3, vR z4] h Q ↔ Cl r 173 [vR (some a2), vR z1, vI x0] h (Kt r 132 65 [l0, l1, l2] [vR z3, vR z4] Q) := Rn_call pg132 rfl (if_pos ⟨hk, hk2⟩) pg173 rfl rfl rfl
theorem sX1_throwsList_65 (hk : hK h a1 = 4) : Rn r 132 65 [l0, l1, l2] [vR z0, vR (some a1)] h Q ↔ Cl r 119 [vR (some a1), vR z0] h (Kt r 132 68 [l0, l1, l2] [] Q) := Rn_call pg132 rfl (by simp only [am_exec, am_inv, am_pop, am_lk, hk]; rfl) pg119 rfl rfl rfl
theorem sX1_throwsList_68 : Rn r 132 68 [l0, l1, l2] [vI x0] h Q ↔ Rn r 132 69 [l0, l1, l2] [] h Q := Rn_nx pg132 rfl rfl
theorem sX1_throwsList_69 : Rn r 132 69 [some (vR z), l1, l2] [] h Q ↔ Rn r 132 70 [some (vR z), l1, l2] [vR z] h Q := Rn_nx pg132 rfl rfl
theorem sX1_throwsList_70 (hk : hK h a0 = 2) : Rn r 132 70 [l0, l1, l2] [vR (some a0)] h Q ↔ Rn r 132 73 [l0, l1, l2] [vI (hI h a0 6)] h Q := Rn_nx pg132 rfl (if_pos ⟨(hk ▸ Nat.le_refl _), (hk ▸ Nat.le_refl _)⟩)
theorem sX1_throwsList_73 : Rn r 132 73 [l0, l1, l2] [vI x0] h Q ↔ Rn r 132 75 [l0, l1, l2] [vI 44, vI x0] h Q := Rn_nx pg132 rfl rfl
theorem sX1_throwsList_75 : Rn r 132 75 [l0, l1, l2] [vI x0, vI x1] h Q ↔ if x1 = x0 then Rn r 132 18 [l0, l1, l2] [] h Q else Rn r 132 78 [l0, l1, l2] [] h Q := Rn_if pg132 rfl rfl rfl
theorem sX1_throwsList_78 : Rn r 132 78 [l0, some (vR z), l2] [] h Q ↔ Rn r 132 79 [l0, some (vR z), l2] [vR z] h Q := Rn_nx pg132 rfl rfl
theorem sX1_throwsList_79 : Rn r 132 79 [l0, l1, l2] [vR z0] h Q ↔ Q (Sum.inl (some (vR z0))) h := Rn_end pg132 rfl rfl
/-! 133 ThrowRules$Around.<init>(LThrowRules$Around;)V -/
theorem eX10_init : Cl r 133 [vR z0, vR z1] h Q ↔ Rn r 133 0 [some (vR z0), some (vR z1)] [] h Q := Cl_in pg133 rfl
theorem sX10_init_0 : Rn r 133 0 [some (vR z), l1] [] h Q ↔ Rn r 133 1 [some (vR z), l1] [vR z] h Q := Rn_nx pg133 rfl rfl
theorem sX10_init_1 : Rn r 133 1 [l0, l1] [vR (some a0)] h Q ↔ Rn r 133 4 [l0, l1] [] h Q := Rn_nx pg133 rfl rfl
theorem sX10_init_4 : Rn r 133 4 [some (vR z), l1] [] h Q ↔ Rn r 133 5 [some (vR z), l1] [vR z] h Q := Rn_nx pg133 rfl rfl
theorem sX10_init_5 : Rn r 133 5 [l0, some (vR z)] [vR z0] h Q ↔ Rn r 133 6 [l0, some (vR z)] [vR z, vR z0] h Q := Rn_nx pg133 rfl rfl
theorem sX10_init_6 (hk : hK h a1 = 20) : Rn r 133 6 [l0, l1] [vR z0, vR (some a1)] h Q ↔ Rn r 133 9 [l0, l1] [] (putR h a1 0 z0) Q := Rn_nx pg133 rfl ((if_pos ⟨(hk ▸ Nat.le_refl _), (hk ▸ Nat.le_refl _)⟩).trans rfl)
theorem sX10_init_9 : Rn r 133 9 [l0, l1] [] h Q ↔ Q (Sum.inl none) h := Rn_end pg133 rfl rfl
/-! 134 ThrowRules$Reader.block(LThrowRules$Around;)LThrowRules$Block; -/
theorem eX1_block : Cl r 134 [vR z0, vR z1] h Q ↔ Rn r 134 0 [some (vR z0), some (vR z1), none] [] h Q := Cl_in pg134 rfl
theorem sX1_block_0 : Rn r 134 0 [some (vR z), l1, l2] [] h Q ↔ Rn r 134 1 [some (vR z), l1, l2] [vR z] h Q := Rn_nx pg134 rfl rfl
theorem sX1_block_1 : Rn r 134 1 [some (vR z), l1, l2] [vR z0] h Q ↔ Rn r 134 2 [some (vR z), l1, l2] [vR z, vR z0] h Q := Rn_nx pg134 rfl rfl
theorem sX1_block_2 (hk : hK h a0 = 2) : Rn r 134 2 [l0, l1, l2] [vR (some a0), vR z1] h Q ↔ Rn r 134 5 [l0, l1, l2] [vI (hI h a0 6), vR z1] h Q := Rn_nx pg134 rfl (if_pos ⟨(hk ▸ Nat.le_refl _), (hk ▸ Nat.le_refl _)⟩)
theorem sX1_block_5 : Rn r 134 5 [l0, l1, l2] [vI x0, vR z1] h Q ↔ Rn r 134 7 [l0, l1, l2] [vI 123, vI x0, vR z1] h Q := Rn_nx pg134 rfl rfl
theorem sX1_block_7 : Rn r 134 7 [l0, l1, l2] [vI x0, vI x1, vR z2] h Q ↔ if x1 ≠ x0 then Rn r 134 23 [l0, l1, l2] [vR z2] h Q else Rn r 134 10 [l0, l1, l2] [vR z2] h Q := Rn_if pg134 rfl rfl rfl
theorem sX1_block_10 : Rn r 134 10 [some (vR z), l1, l2] [vR z0] h Q ↔ Rn r 134 11 [some (vR z), l1, l2] [vR z, vR z0] h Q := Rn_nx pg134 rfl rfl
theorem sX1_block_11 (hk : hK h a0 = 2) : Rn r 134 11 [l0, l1, l2] [vR (some a0), vR z1] h Q ↔ Rn r 134 14 [l0, l1, l2] [vI (hI h a0 9), vR z1] h Q := Rn_nx pg134 rfl (if_pos ⟨(hk ▸ Nat.le_refl _), (hk ▸ Nat.le_refl _)⟩)
theorem sX1_block_14 : Rn r 134 14 [l0, l1, l2] [vI x0, vR z1] h Q ↔ Rn r 134 16 [l0, l1, l2] [vI 8, vI x0, vR z1] h Q := Rn_nx pg134 rfl rfl
theorem sX1_block_16 : Rn r 134 16 [l0, l1, l2] [vI x0, vI x1, vR z2] h Q ↔ if x0 ≤ x1 then Rn r 134 23 [l0, l1, l2] [vR z2] h Q else Rn r 134 19 [l0, l1, l2] [vR z2] h Q := Rn_if pg134 rfl rfl rfl
theorem sX1_block_19 : Rn r 134 19 [l0, l1, l2] [vR z0] h Q ↔ Rn r 134 20 [l0, l1, l2] [vI 1, vR z0] h Q := Rn_nx pg134 rfl rfl
theorem sX1_block_20 : Rn r 134 20 [l0, l1, l2] [vI x0, vR z1] h Q ↔ Rn r 134 24 [l0, l1, l2] [vI x0, vR z1] h Q := Rn_nx pg134 rfl rfl
theorem sX1_block_23 : Rn r 134 23 [l0, l1, l2] [vR z0] h Q ↔ Rn r 134 24 [l0, l1, l2] [vI 0, vR z0] h Q := Rn_nx pg134 rfl rfl
theorem sX1_block_24 (hk : hK h a1 = 2) : Rn r 134 24 [l0, l1, l2] [vI x0, vR (some a1)] h Q ↔ Cl r 83 [vR (some a1), vI x0] h (Kt r 134 27 [l0, l1, l2] [] Q) := Rn_call pg134 rfl (by simp only [am_exec, am_inv, am_pop, am_lk, hk]; rfl) pg83 rfl rfl rfl
theorem sX1_block_27 : Rn r 134 27 [some (vR z), l1, l2] [] h Q ↔ Rn r 134 28 [some (vR z), l1, l2] [vR z] h Q := Rn_nx pg134 rfl rfl
theorem sX1_block_28 : Rn r 134 28 [l0, l1, l2] [vR z0] h Q ↔ Rn r 134 29 [l0, l1, l2] [vR z0, vR z0] h Q := Rn_nx pg134 rfl rfl
theorem sX1_block_29 (hk : hK h a0 = 2) : Rn r 134 29 [l0, l1, l2] [vR (some a0), vR z1] h Q ↔ Rn r 134 32 [l0, l1, l2] [vI (hI h a0 9), vR z1] h Q := Rn_nx pg134 rfl (if_pos ⟨(hk ▸ Nat.le_refl _), (hk ▸ Nat.le_refl _)⟩)
theorem sX1_block_32 : Rn r 134 32 [l0, l1, l2] [vI x0, vR z1] h Q ↔ Rn r 134 33 [l0, l1, l2] [vI 1, vI x0, vR z1] h Q := Rn_nx pg134 rfl rfl
theorem sX1_block_33 : Rn r 134 33 [l0, l1, l2] [vI x0, vI x1, vR z2] h Q ↔ Rn r 134 34 [l0, l1, l2] [vI (x1 + x0), vR z2] h Q := Rn_nx pg134 rfl rfl
theorem sX1_block_34 (hk : hK h a1 = 2) : Rn r 134 34 [l0, l1, l2] [vI x0, vR (some a1)] h Q ↔ Rn r 134 37 [l0, l1, l2] [] (putI h a1 9 x0) Q := Rn_nx pg134 rfl ((if_pos ⟨(hk ▸ Nat.le_refl _), (hk ▸ Nat.le_refl _)⟩).trans rfl)
theorem sX1_block_37 : Rn r 134 37 [l0, l1, l2] [] h Q ↔ Rn r 134 40 [l0, l1, l2] [vR (some (hN h))] (newC h 21 4) Q := Rn_nx pg134 rfl rfl
theorem sX1_block_40 : Rn r 134 40 [l0, l1, l2] [vR z0] h Q ↔ Rn r 134 41 [l0, l1, l2] [vR z0, vR z0] h Q := Rn_nx pg134 rfl rfl
theorem sX1_block_41 (hk : 0 < hK h a0) (hk2 : hK h a0 < 40) : Rn r 134 41 [l0, l1, l2] [vR (some a0), vR z1] h Q ↔ Cl r 174 [vR (some a0)] h (Kt r 134 44 [l0, l1, l2] [vR z1] Q) := Rn_call pg134 rfl (if_pos ⟨hk, hk2⟩) pg174 rfl rfl rfl
theorem sX1_block_44 : Rn r 134 44 [l0, l1, l2] [vR z0] h Q ↔ Rn r 134 45 [l0, l1, some (vR z0)] [] h Q := Rn_nx pg134 rfl rfl
theorem sX1_block_45 : Rn r 134 45 [l0, l1, some (vR z)] [] h Q ↔ Rn r 134 46 [l0, l1, some (vR z)] [vR z] h Q := Rn_nx pg134 rfl rfl
theorem sX1_block_46 : Rn r 134 46 [some (vR z), l1, l2] [vR z0] h Q ↔ Rn r 134 47 [some (vR z), l1, l2] [vR z, vR z0] h Q := Rn_nx pg134 rfl rfl
theorem sX1_block_47 (hk : hK h a0 = 2) : Rn r 134 47 [l0, l1, l2] [vR (some a0), vR z1] h Q ↔ Rn r 134 50 [l0, l1, l2] [vI (hI h a0 4), vR z1] h Q := Rn_nx pg134 rfl (if_pos ⟨(hk ▸ Nat.le_refl _), (hk ▸ Nat.le_refl _)⟩)
theorem sX1_block_50 (hk : hK h a1 = 21) : Rn r 134 50 [l0, l1, l2] [vI x0, vR (some a1)] h Q ↔ Rn r 134 53 [l0, l1, l2] [] (putI h a1 1 x0) Q := Rn_nx pg134 rfl ((if_pos ⟨(hk ▸ Nat.le_refl _), (hk ▸ Nat.le_refl _)⟩).trans rfl)
theorem sX1_block_53 : Rn r 134 53 [some (vR z), l1, l2] [] h Q ↔ Rn r 134 54 [some (vR z), l1, l2] [vR z] h Q := Rn_nx pg134 rfl rfl
theorem sX1_block_54 (hk : hK h a0 = 2) : Rn r 134 54 [l0, l1, l2] [vR (some a0)] h Q ↔ Cl r 80 [vR (some a0)] h (Kt r 134 57 [l0, l1, l2] [] Q) := Rn_call pg134 rfl (by simp only [am_exec, am_inv, am_pop, am_lk, hk]; rfl) pg80 rfl rfl rfl
theorem sX1_block_57 : Rn r 134 57 [some (vR z), l1, l2] [] h Q ↔ Rn r 134 58 [some (vR z), l1, l2] [vR z] h Q := Rn_nx pg134 rfl rfl
theorem sX1_block_58 (hk : hK h a0 = 2) : Rn r 134 58 [l0, l1, l2] [vR (some a0)] h Q ↔ Rn r 134 61 [l0, l1, l2] [vI (hI h a0 6)] h Q := Rn_nx pg134 rfl (if_pos ⟨(hk ▸ Nat.le_refl _), (hk ▸ Nat.le_refl _)⟩)
theorem sX1_block_61 : Rn r 134 61 [l0, l1, l2] [vI x0] h Q ↔ Rn r 134 63 [l0, l1, l2] [vI 125, vI x0] h Q := Rn_nx pg134 rfl rfl
theorem sX1_block_63 : Rn r 134 63 [l0, l1, l2] [vI x0, vI x1] h Q ↔ if x1 = x0 then Rn r 134 82 [l0, l1, l2] [] h Q else Rn r 134 66 [l0, l1, l2] [] h Q := Rn_if pg134 rfl rfl rfl
theorem sX1_block_66 : Rn r 134 66 [l0, l1, some (vR z)] [] h Q ↔ Rn r 134 67 [l0, l1, some (vR z)] [vR z] h Q := Rn_nx pg134 rfl rfl
theorem sX1_block_67 (hk : hK h a0 = 21) : Rn r 134 67 [l0, l1, l2] [vR (some a0)] h Q ↔ Rn r 134 70 [l0, l1, l2] [vR (hR h a0 0)] h Q := Rn_nx pg134 rfl (if_pos ⟨(hk ▸ Nat.le_refl _), (hk ▸ Nat.le_refl _)⟩)
theorem sX1_block_70 : Rn r 134 70 [some (vR z), l1, l2] [vR z0] h Q ↔ Rn r 134 71 [some (vR z), l1, l2] [vR z, vR z0] h Q := Rn_nx pg134 rfl rfl
theorem sX1_block_71 : Rn r 134 71 [l0, some (vR z), l2] [vR z0, vR z1] h Q ↔ Rn r 134 72 [l0, some (vR z), l2] [vR z, vR z0, vR z1] h Q := Rn_nx pg134 rfl rfl
theorem sX1_block_72 (hk : hK h a1 = 2) : Rn r 134 72 [l0, l1, l2] [vR z0, vR (some a1), vR z2] h Q ↔ Cl r 175 [vR (some a1), vR z0] h (Kt r 134 75 [l0, l1, l2] [vR z2] Q) := Rn_call pg134 rfl (by simp only [am_exec, am_inv, am_pop, am_lk, hk]; rfl) pg175 rfl rfl rfl
theorem sX1_block_75 (hk : hK h a1 = 4) : Rn r 134 75 [l0, l1, l2] [vR z0, vR (some a1)] h Q ↔ Cl r 119 [vR (some a1), vR z0] h (Kt r 134 78 [l0, l1, l2] [] Q) := Rn_call pg134 rfl (by simp only [am_exec, am_inv, am_pop, am_lk, hk]; rfl) pg119 rfl rfl rfl
theorem sX1_block_78 : Rn r 134 78 [l0, l1, l2] [vI x0] h Q ↔ Rn r 134 79 [l0, l1, l2] [] h Q := Rn_nx pg134 rfl rfl
theorem sX1_block_79 : Rn r 134 79 [l0, l1, l2] [] h Q ↔ Rn r 134 57 [l0, l1, l2] [] h Q := Rn_nx pg134 rfl rfl
theorem sX1_block_82 : Rn r 134 82 [some (vR z), l1, l2] [] h Q ↔ Rn r 134 83 [some (vR z), l1, l2] [vR z] h Q := Rn_nx pg134 rfl rfl
theorem sX1_block_83 (hk : hK h a0 = 2) : Rn r 134 83 [l0, l1, l2] [vR (some a0)] h Q ↔ Cl r 80 [vR (some a0)] h (Kt r 134 86 [l0, l1, l2] [] Q) := Rn_call pg134 rfl (by simp only [am_exec, am_inv, am_pop, am_lk, hk]; rfl) pg80 rfl rfl rfl
theorem sX1_block_86 : Rn r 134 86 [some (vR z), l1, l2] [] h Q ↔ Rn r 134 87 [some (vR z), l1, l2] [vR z] h Q := Rn_nx pg134 rfl rfl
theorem sX1_block_87 : Rn r 134 87 [l0, l1, l2] [vR z0] h Q ↔ Rn r 134 88 [l0, l1, l2] [vR z0, vR z0] h Q := Rn_nx pg134 rfl rfl
theorem sX1_block_88 (hk : hK h a0 = 2) : Rn r 134 88 [l0, l1, l2] [vR (some a0), vR z1] h Q ↔ Rn r 134 91 [l0, l1, l2] [vI (hI h a0 9), vR z1] h Q := Rn_nx pg134 rfl (if_pos ⟨(hk ▸ Nat.le_refl _), (hk ▸ Nat.le_refl _)⟩)
theorem sX1_block_91 : Rn r 134 91 [l0, l1, l2] [vI x0, vR z1] h Q ↔ Rn r 134 92 [l0, l1, l2] [vI 1, vI x0, vR z1] h Q := Rn_nx pg134 rfl rfl
theorem sX1_block_92 : Rn r 134 92 [l0, l1, l2] [vI x0, vI x1, vR z2] h Q ↔ Rn r 134 93 [l0, l1, l2] [vI (x1 - x0), vR z2] h Q := Rn_nx pg134 rfl rfl
theorem sX1_block_93 (hk : hK h a1 = 2) : Rn r 134 93 [l0, l1, l2] [vI x0, vR (some a1)] h Q ↔ Rn r 134 96 [l0, l1, l2] [] (putI h a1 9 x0) Q := Rn_nx pg134 rfl ((if_pos ⟨(hk ▸ Nat.le_refl _), (hk ▸ Nat.le_refl _)⟩).trans rfl)
theorem sX1_block_96 : Rn r 134 96 [l0, l1, some (vR z)] [] h Q ↔ Rn r 134 97 [l0, l1, some (vR z)] [vR z] h Q := Rn_nx pg134 rfl rfl
theorem sX1_block_97 : Rn r 134 97 [l0, l1, l2] [vR z0] h Q ↔ Q (Sum.inl (some (vR z0))) h := Rn_end pg134 rfl rfl
/-! 135 java/lang/Integer.intValue()I -/
theorem eJ12_intValue : Cl r 135 [vR z0] h Q ↔ Rn r 135 0 [some (vR z0)] [] h Q := Cl_in pg135 rfl
theorem sJ12_intValue_0 : Rn r 135 0 [some (vR z)] [] h Q ↔ Rn r 135 1 [some (vR z)] [vR z] h Q := Rn_nx pg135 rfl rfl
theorem sJ12_intValue_1 (hk : 8 ≤ hK h a0) (hk2 : hK h a0 ≤ 9) : Rn r 135 1 [l0] [vR (some a0)] h Q ↔ Rn r 135 4 [l0] [vI (hI h a0 0)] h Q := Rn_nx pg135 rfl (if_pos ⟨hk, hk2⟩)
theorem sJ12_intValue_4 : Rn r 135 4 [l0] [vI x0] h Q ↔ Q (Sum.inl (some (vI x0))) h := Rn_end pg135 rfl rfl
/-! 136 ThrowRules$Reader.method(Ljava/lang/String;I)LThrowRules$Method; -/
theorem eX1_method : Cl r 136 [vR z0, vR z1, vI x2] h Q ↔ Rn r 136 0 [some (vR z0), some (vR z1), some (vI x2), none] [] h Q := Cl_in pg136 rfl
theorem sX1_method_0 : Rn r 136 0 [some (vR z), l1, l2, l3] [] h Q ↔ Rn r 136 1 [some (vR z), l1, l2, l3] [vR z] h Q := Rn_nx pg136 rfl rfl
theorem sX1_method_1 (hk : hK h a0 = 2) : Rn r 136 1 [l0, l1, l2, l3] [vR (some a0)] h Q ↔ Rn r 136 4 [l0, l1, l2, l3] [vR (hR h a0 7)] h Q := Rn_nx pg136 rfl (if_pos ⟨(hk ▸ Nat.le_refl _), (hk ▸ Nat.le_refl _)⟩)
theorem sX1_method_4 (hk : hK h a0 = 5) : Rn r 136 4 [l0, l1, l2, l3] [vR (some a0)] h Q ↔ Rn r 136 7 [l0, l1, l2, l3] [vR (hR h a0 3)] h Q := Rn_nx pg136 rfl (if_pos ⟨(hk ▸ Nat.le_refl _), (hk ▸ Nat.le_refl _)⟩)
theorem sX1_method_7 : Rn r 136 7 [l0, some (vR z), l2, l3] [vR z0] h Q ↔ Rn r 136 8 [l0, some (vR z), l2, l3] [vR z, vR z0] h Q := Rn_nx pg136 rfl rfl
theorem sX1_method_8 (hk : hK h a1 = 6) : Rn r 136 8 [l0, l1, l2, l3] [vR z0, vR (some a1)] h Q ↔ Cl r 66 [vR (some a1), vR z0] h (Kt r 136 11 [l0, l1, l2, l3] [] Q) := Rn_call pg136 rfl (by simp only [am_exec, am_inv, am_pop, am_lk, hk]; rfl) pg66 rfl rfl rfl
theorem sX1_method_11_n : Rn r 136 11 [l0, l1, l2, l3] [vR none] h Q ↔ Rn r 136 14 [l0, l1, l2, l3] [vR none] h Q := Rn_nx pg136 rfl rfl
theorem sX1_method_11 (hk : hK h a0 ∈ [18]) : Rn r 136 11 [l0, l1, l2, l3] [vR (some a0)] h Q ↔ Rn r 136 14 [l0, l1, l2, l3] [vR (some a0)] h Q := Rn_nx pg136 rfl (if_pos hk)
theorem sX1_method_14 : Rn r 136 14 [l0, l1, l2, l3] [vR z0] h Q ↔ Rn r 136 15 [l0, l1, l2, some (vR z0)] [] h Q := Rn_nx pg136 rfl rfl
theorem sX1_method_15 : Rn r 136 15 [l0, l1, l2, some (vR z)] [] h Q ↔ Rn r 136 16 [l0, l1, l2, some (vR z)] [vR z] h Q := Rn_nx pg136 rfl rfl
theorem sX1_method_16 : Rn r 136 16 [l0, l1, l2, l3] [vR z0] h Q ↔ if z0 ≠ none then Rn r 136 29 [l0, l1, l2, l3] [] h Q else Rn r 136 19 [l0, l1, l2, l3] [] h Q := Rn_if pg136 rfl rfl rfl
theorem sX1_method_19 : Rn r 136 19 [some (vR z), l1, l2, l3] [] h Q ↔ Rn r 136 20 [some (vR z), l1, l2, l3] [vR z] h Q := Rn_nx pg136 rfl rfl
theorem sX1_method_20 (hk : hK h a0 = 2) : Rn r 136 20 [l0, l1, l2, l3] [vR (some a0)] h Q ↔ Rn r 136 23 [l0, l1, l2, l3] [vR (hR h a0 7)] h Q := Rn_nx pg136 rfl (if_pos ⟨(hk ▸ Nat.le_refl _), (hk ▸ Nat.le_refl _)⟩)
theorem sX1_method_23 : Rn r 136 23 [l0, l1, l2, l3] [vR z0] h Q ↔ Rn r 136 24 [l0, l1, l2, l3] [vI 1, vR z0] h Q := Rn_nx pg136 rfl rfl
theorem sX1_method_24 : Rn r 136 24 [l0, l1, some (vI x), l3] [vI x0, vR z1] h Q ↔ Rn r 136 25 [l0, l1, some (vI x), l3] [vI x, vI x0, vR z1] h Q := Rn_nx pg136 rfl rfl
theorem sX1_method_25 : Rn r 136 25 [l0, l1, l2, l3] [vI x0, vI x1, vR z2] h Q ↔ Rn r 136 26 [l0, l1, l2, l3] [vI (-1), vI x0, vI x1, vR z2] h Q := Rn_nx pg136 rfl rfl
theorem sX1_method_26 (hk : hK h a3 = 5) : Rn r 136 26 [l0, l1, l2, l3] [vI x0, vI x1, vI x2, vR (some a3)] h Q ↔ Cl r 130 [vR (some a3), vI x2, vI x1, vI x0] h (Kt r 136 29 [l0, l1, l2, l3] [] Q) := Rn_call pg136 rfl (by simp only [am_exec, am_inv, am_pop, am_lk, hk]; rfl) pg130 rfl rfl rfl
theorem sX1_method_29 : Rn r 136 29 [l0, l1, l2, some (vR z)] [] h Q ↔ Rn r 136 30 [l0, l1, l2, some (vR z)] [vR z] h Q := Rn_nx pg136 rfl rfl
theorem sX1_method_30 : Rn r 136 30 [l0, l1, l2, l3] [vR z0] h Q ↔ Q (Sum.inl (some (vR z0))) h := Rn_end pg136 rfl rfl
/-! 137 ThrowRules$Block.judge(LThrowRules$Unit;)V -/
theorem eX11_judge : Cl r 137 [vR z0, vR z1] h Q ↔ Rn r 137 0 [some (vR z0), some (vR z1), none, none] [] h Q := Cl_in pg137 rfl
theorem sX11_judge_0 : Rn r 137 0 [some (vR z), l1, l2, l3] [] h Q ↔ Rn r 137 1 [some (vR z), l1, l2, l3] [vR z] h Q := Rn_nx pg137 rfl rfl
theorem sX11_judge_1 : Rn r 137 1 [l0, l1, l2, l3] [vR z0] h Q ↔ Rn r 137 2 [l0, l1, l2, l3] [vI 0, vR z0] h Q := Rn_nx pg137 rfl rfl
theorem sX11_judge_2 (hk : hK h a1 = 21) : Rn r 137 2 [l0, l1, l2, l3] [vI x0, vR (some a1)] h Q ↔ Rn r 137 5 [l0, l1, l2, l3] [] (putI h a1 2 x0) Q := Rn_nx pg137 rfl ((if_pos ⟨(hk ▸ Nat.le_refl _), (hk ▸ Nat.le_refl _)⟩).trans rfl)
theorem sX11_judge_5 : Rn r 137 5 [some (vR z), l1, l2, l3] [] h Q ↔ Rn r 137 6 [some (vR z), l1, l2, l3] [vR z] h Q := Rn_nx pg137 rfl rfl
theorem sX11_judge_6 : Rn r 137 6 [l0, l1, l2, l3] [vR z0] h Q ↔ Rn r 137 7 [l0, l1, l2, l3] [vI 1, vR z0] h Q := Rn_nx pg137 rfl rfl
theorem sX11_judge_7 (hk : hK h a1 = 21) (hf : am_fit 4 x0 = true) : Rn r 137 7 [l0, l1, l2, l3] [vI x0, vR (some a1)] h Q ↔ Rn r 137 10 [l0, l1, l2, l3] [] (putI h a1 3 x0) Q := Rn_nx pg137 rfl ((if_pos ⟨(hk ▸ Nat.le_refl _), (hk ▸ Nat.le_refl _)⟩).trans (if_pos hf))
theorem sX11_judge_10 : Rn r 137 10 [l0, l1, l2, l3] [] h Q ↔ Rn r 137 11 [l0, l1, l2, l3] [vI 0] h Q := Rn_nx pg137 rfl rfl
theorem sX11_judge_11 : Rn r 137 11 [l0, l1, l2, l3] [vI x0] h Q ↔ Rn r 137 12 [l0, l1, some (vI x0), l3] [] h Q := Rn_nx pg137 rfl rfl
theorem sX11_judge_12 : Rn r 137 12 [l0, l1, some (vI x), l3] [] h Q ↔ Rn r 137 13 [l0, l1, some (vI x), l3] [vI x] h Q := Rn_nx pg137 rfl rfl
theorem sX11_judge_13 : Rn r 137 13 [some (vR z), l1, l2, l3] [vI x0] h Q ↔ Rn r 137 14 [some (vR z), l1, l2, l3] [vR z, vI x0] h Q := Rn_nx pg137 rfl rfl
theorem sX11_judge_14 (hk : hK h a0 = 21) : Rn r 137 14 [l0, l1, l2, l3] [vR (some a0), vI x1] h Q ↔ Rn r 137 17 [l0, l1, l2, l3] [vR (hR h a0 0), vI x1] h Q := Rn_nx pg137 rfl (if_pos ⟨(hk ▸ Nat.le_refl _), (hk ▸ Nat.le_refl _)⟩)
theorem sX11_judge_17 (hk : hK h a0 = 4) : Rn r 137 17 [l0, l1, l2, l3] [vR (some a0), vI x1] h Q ↔ Cl r 34 [vR (some a0)] h (Kt r 137 20 [l0, l1, l2, l3] [vI x1] Q) := Rn_call pg137 rfl (by simp only [am_exec, am_inv, am_pop, am_lk, hk]; rfl) pg34 rfl rfl rfl
theorem sX11_judge_20 : Rn r 137 20 [l0, l1, l2, l3] [vI x0, vI x1] h Q ↔ if x0 ≤ x1 then Rn r 137 85 [l0, l1, l2, l3] [] h Q else Rn r 137 23 [l0, l1, l2, l3] [] h Q := Rn_if pg137 rfl rfl rfl
theorem sX11_judge_23 : Rn r 137 23 [some (vR z), l1, l2, l3] [] h Q ↔ Rn r 137 24 [some (vR z), l1, l2, l3] [vR z] h Q := Rn_nx pg137 rfl rfl
theorem sX11_judge_24 (hk : hK h a0 = 21) : Rn r 137 24 [l0, l1, l2, l3] [vR (some a0)] h Q ↔ Rn r 137 27 [l0, l1, l2, l3] [vR (hR h a0 0)] h Q := Rn_nx pg137 rfl (if_pos ⟨(hk ▸ Nat.le_refl _), (hk ▸ Nat.le_refl _)⟩)
theorem sX11_judge_27 : Rn r 137 27 [l0, l1, some (vI x), l3] [vR z0] h Q ↔ Rn r 137 28 [l0, l1, some (vI x), l3] [vI x, vR z0] h Q := Rn_nx pg137 rfl rfl
theorem sX11_judge_28 (hk : hK h a1 = 4) : Rn r 137 28 [l0, l1, l2, l3] [vI x0, vR (some a1)] h Q ↔ Cl r 43 [vR (some a1), vI x0] h (Kt r 137 31 [l0, l1, l2, l3] [] Q) := Rn_call pg137 rfl (by simp only [am_exec, am_inv, am_pop, am_lk, hk]; rfl) pg43 rfl rfl rfl
theorem sX11_judge_31_n : Rn r 137 31 [l0, l1, l2, l3] [vR none] h Q ↔ Rn r 137 34 [l0, l1, l2, l3] [vR none] h Q := Rn_nx pg137 rfl rfl
theorem sX11_judge_31 (hk : hK h a0 ∈ [30, 31, 32, 33, 34, 35, 36, 37, 38]) : Rn r 137 31 [l0, l1, l2, l3] [vR (some a0)] h Q ↔ Rn r 137 34 [l0, l1, l2, l3] [vR (some a0)] h Q := Rn_nx pg137 rfl (if_pos hk)
theorem sX11_judge_34 : Rn r 137 34 [l0, l1, l2, l3] [vR z0] h Q ↔ Rn r 137 35 [l0, l1, l2, some (vR z0)] [] h Q := Rn_nx pg137 rfl rfl
theorem sX11_judge_35 : Rn r 137 35 [some (vR z), l1, l2, l3] [] h Q ↔ Rn r 137 36 [some (vR z), l1, l2, l3] [vR z] h Q := Rn_nx pg137 rfl rfl
theorem sX11_judge_36 (hk : hK h a0 = 21) : Rn r 137 36 [l0, l1, l2, l3] [vR (some a0)] h Q ↔ Rn r 137 39 [l0, l1, l2, l3] [vI (hI h a0 3)] h Q := Rn_nx pg137 rfl (if_pos ⟨(hk ▸ Nat.le_refl _), (hk ▸ Nat.le_refl _)⟩)
theorem sX11_judge_39 : Rn r 137 39 [l0, l1, l2, l3] [vI x0] h Q ↔ if x0 ≠ 0 then Rn r 137 53 [l0, l1, l2, l3] [] h Q else Rn r 137 42 [l0, l1, l2, l3] [] h Q := Rn_if pg137 rfl rfl rfl
theorem sX11_judge_42 : Rn r 137 42 [l0, some (vR z), l2, l3] [] h Q ↔ Rn r 137 43 [l0, some (vR z), l2, l3] [vR z] h Q := Rn_nx pg137 rfl rfl
theorem sX11_judge_43 : Rn r 137 43 [l0, l1, l2, l3] [vR z0] h Q ↔ Rn r 137 45 [l0, l1, l2, l3] [vI 7, vR z0] h Q := Rn_nx pg137 rfl rfl
theorem sX11_judge_45 : Rn r 137 45 [l0, l1, l2, some (vR z)] [vI x0, vR z1] h Q ↔ Rn r 137 46 [l0, l1, l2, some (vR z)] [vR z, vI x0, vR z1] h Q := Rn_nx pg137 rfl rfl
theorem sX11_judge_46 (hk : 30 ≤ hK h a0) (hk2 : hK h a0 ≤ 38) : Rn r 137 46 [l0, l1, l2, l3] [vR (some a0), vI x1, vR z2] h Q ↔ Rn r 137 49 [l0, l1, l2, l3] [vI (hI h a0 1), vI x1, vR z2] h Q := Rn_nx pg137 rfl (if_pos ⟨hk, hk2⟩)
theorem sX11_judge_49 : Rn r 137 49 [l0, l1, l2, l3] [vI x0, vI x1, vR z2] h Q ↔ Rn r 137 50 [l0, l1, l2, l3] [vI (-1), vI x0, vI x1, vR z2] h Q := Rn_nx pg137 rfl rfl
theorem sX11_judge_50 (hk : hK h a3 = 5) : Rn r 137 50 [l0, l1, l2, l3] [vI x0, vI x1, vI x2, vR (some a3)] h Q ↔ Cl r 130 [vR (some a3), vI x2, vI x1, vI x0] h (Kt r 137 53 [l0, l1, l2, l3] [] Q) := Rn_call pg137 rfl (by simp only [am_exec, am_inv, am_pop, am_lk, hk]; rfl) pg130 rfl rfl rfl
theorem sX11_judge_53 : Rn r 137 53 [l0, l1, l2, some (vR z)] [] h Q ↔ Rn r 137 54 [l0, l1, l2, some (vR z)] [vR z] h Q := Rn_nx pg137 rfl rfl
theorem sX11_judge_54 : Rn r 137 54 [l0, some (vR z), l2, l3] [vR z0] h Q ↔ Rn r 137 55 [l0, some (vR z), l2, l3] [vR z, vR z0] h Q := Rn_nx pg137 rfl rfl
theorem sX11_judge_55 (hk : 30 ≤ hK h a1) (hk2 : hK h a1 ≤ 38) : Rn r 137 55 [l0, l1, l2, l3] [vR z0, vR (some a1)] h Q ↔ Cl r 176 [vR (some a1), vR z0] h (Kt r 137 58 [l0, l1, l2, l3] [] Q) := Rn_call pg137 rfl (by rcases am_rng9 hk hk2 with q | q | q | q | q | q | q | q | q <;> simp only [am_exec, am_inv, am_pop, am_lk, q] <;> rfl) pg176 rfl rfl rfl
theorem sX11_judge_58 : Rn r 137 58 [some (vR z), l1, l2, l3] [] h Q ↔ Rn r 137 59 [some (vR z), l1, l2, l3] [vR z] h Q := Rn_nx pg137 rfl rfl
theorem sX11_judge_59 : Rn r 137 59 [l0, l1, l2, l3] [vR z0] h Q ↔ Rn r 137 60 [l0, l1, l2, l3] [vR z0, vR z0] h Q := Rn_nx pg137 rfl rfl
theorem sX11_judge_60 (hk : hK h a0 = 21) : Rn r 137 60 [l0, l1, l2, l3] [vR (some a0), vR z1] h Q ↔ Rn r 137 63 [l0, l1, l2, l3] [vI (hI h a0 2), vR z1] h Q := Rn_nx pg137 rfl (if_pos ⟨(hk ▸ Nat.le_refl _), (hk ▸ Nat.le_refl _)⟩)
theorem sX11_judge_63 : Rn r 137 63 [l0, l1, l2, some (vR z)] [vI x0, vR z1] h Q ↔ Rn r 137 64 [l0, l1, l2, some (vR z)] [vR z, vI x0, vR z1] h Q := Rn_nx pg137 rfl rfl
theorem sX11_judge_64 (hk : 30 ≤ hK h a0) (hk2 : hK h a0 ≤ 38) : Rn r 137 64 [l0, l1, l2, l3] [vR (some a0), vI x1, vR z2] h Q ↔ Rn r 137 67 [l0, l1, l2, l3] [vI (hI h a0 3), vI x1, vR z2] h Q := Rn_nx pg137 rfl (if_pos ⟨hk, hk2⟩)
theorem sX11_judge_67 : Rn r 137 67 [l0, l1, l2, l3] [vI x0, vI x1, vR z2] h Q ↔ Rn r 137 68 [l0, l1, l2, l3] [vI (x1 ||| x0), vR z2] h Q := Rn_nx pg137 rfl rfl
theorem sX11_judge_68 (hk : hK h a1 = 21) : Rn r 137 68 [l0, l1, l2, l3] [vI x0, vR (some a1)] h Q ↔ Rn r 137 71 [l0, l1, l2, l3] [] (putI h a1 2 x0) Q := Rn_nx pg137 rfl ((if_pos ⟨(hk ▸ Nat.le_refl _), (hk ▸ Nat.le_refl _)⟩).trans rfl)
theorem sX11_judge_71 : Rn r 137 71 [some (vR z), l1, l2, l3] [] h Q ↔ Rn r 137 72 [some (vR z), l1, l2, l3] [vR z] h Q := Rn_nx pg137 rfl rfl
theorem sX11_judge_72 : Rn r 137 72 [l0, l1, l2, some (vR z)] [vR z0] h Q ↔ Rn r 137 73 [l0, l1, l2, some (vR z)] [vR z, vR z0] h Q := Rn_nx pg137 rfl rfl
theorem sX11_judge_73 (hk : 30 ≤ hK h a0) (hk2 : hK h a0 ≤ 38) : Rn r 137 73 [l0, l1, l2, l3] [vR (some a0), vR z1] h Q ↔ Rn r 137 76 [l0, l1, l2, l3] [vI (hI h a0 4), vR z1] h Q := Rn_nx pg137 rfl (if_pos ⟨hk, hk2⟩)
theorem sX11_judge_76 (hk : hK h a1 = 21) (hf : am_fit 4 x0 = true) : Rn r 137 76 [l0, l1, l2, l3] [vI x0, vR (some a1)] h Q ↔ Rn r 137 79 [l0, l1, l2, l3] [] (putI h a1 3 x0) Q := Rn_nx pg137 rfl ((if_pos ⟨(hk ▸ Nat.le_refl _), (hk ▸ Nat.le_refl _)⟩).trans (if_pos hf))
theorem sX11_judge_79 : Rn r 137 79 [l0, l1, some (vI x), l3] [] h Q ↔ Rn r 137 82 [l0, l1, some (vI (x + 1)), l3] [] h Q := Rn_nx pg137 rfl rfl
theorem sX11_judge_82 : Rn r 137 82 [l0, l1, l2, l3] [] h Q ↔ Rn r 137 12 [l0, l1, l2, l3] [] h Q := Rn_nx pg137 rfl rfl
theorem sX11_judge_85 : Rn r 137 85 [l0, l1, l2, l3] [] h Q ↔ Q (Sum.inl none) h := Rn_end pg137 rfl rfl
/-! 138 ThrowRules$Unit.report(III)V -/
theorem eX3_report : Cl r 138 [vR z0, vI x1, vI x2, vI x3] h Q ↔ Rn r 138 0 [some (vR z0), some (vI x1), some (vI x2), some (vI x3), none, none] [] h Q := Cl_in pg138 rfl
theorem sX3_report_0 : Rn r 138 0 [some (vR z), l1, l2, l3, l4, l5] [] h Q ↔ Rn r 138 1 [some (vR z), l1, l2, l3, l4, l5] [vR z] h Q := Rn_nx pg138 rfl rfl
theorem sX3_report_1 : Rn r 138 1 [some (vR z), l1, l2, l3, l4, l5] [vR z0] h Q ↔ Rn r 138 2 [some (vR z), l1, l2, l3, l4, l5] [vR z, vR z0] h Q := Rn_nx pg138 rfl rfl
theorem sX3_report_2 : Rn r 138 2 [l0, some (vI x), l2, l3, l4, l5] [vR z0, vR z1] h Q ↔ Rn r 138 3 [l0, some (vI x), l2, l3, l4, l5] [vI x, vR z0, vR z1] h Q := Rn_nx pg138 rfl rfl
theorem sX3_report_3 (hk : hK h a1 = 5) : Rn r 138 3 [l0, l1, l2, l3, l4, l5] [vI x0, vR (some a1), vR z2] h Q ↔ Cl r 177 [vR (some a1), vI x0] h (Kt r 138 6 [l0, l1, l2, l3, l4, l5] [vR z2] Q) := Rn_call pg138 rfl (by simp only [am_exec, am_inv, am_pop, am_lk, hk]; rfl) pg177 rfl rfl rfl
theorem sX3_report_6 : Rn r 138 6 [l0, l1, some (vI x), l3, l4, l5] [vI x0, vR z1] h Q ↔ Rn r 138 7 [l0, l1, some (vI x), l3, l4, l5] [vI x, vI x0, vR z1] h Q := Rn_nx pg138 rfl rfl
theorem sX3_report_7 (hk : hK h a2 = 5) : Rn r 138 7 [l0, l1, l2, l3, l4, l5] [vI x0, vI x1, vR (some a2)] h Q ↔ Cl r 178 [vR (some a2), vI x1, vI x0] h (Kt r 138 10 [l0, l1, l2, l3, l4, l5] [] Q) := Rn_call pg138 rfl (by simp only [am_exec, am_inv, am_pop, am_lk, hk]; rfl) pg178 rfl rfl rfl
theorem sX3_report_10 : Rn r 138 10 [l0, l1, l2, l3, l4, l5] [vI x0] h Q ↔ Rn r 138 12 [l0, l1, l2, l3, some (vI x0), l5] [] h Q := Rn_nx pg138 rfl rfl
theorem sX3_report_12 : Rn r 138 12 [l0, l1, l2, l3, l4, l5] [] h Q ↔ Rn r 138 13 [l0, l1, l2, l3, l4, l5] [vI 0] h Q := Rn_nx pg138 rfl rfl
theorem sX3_report_13 : Rn r 138 13 [l0, l1, l2, l3, l4, l5] [vI x0] h Q ↔ Rn r 138 15 [l0, l1, l2, l3, l4, some (vI x0)] [] h Q := Rn_nx pg138 rfl rfl
theorem sX3_report_15 : Rn r 138 15 [l0, l1, l2, l3, l4, some (vI x)] [] h Q ↔ Rn r 138 17 [l0, l1, l2, l3, l4, some (vI x)] [vI x] h Q := Rn_nx pg138 rfl rfl
theorem sX3_report_17 : Rn r 138 17 [some (vR z), l1, l2, l3, l4, l5] [vI x0] h Q ↔ Rn r 138 18 [some (vR z), l1, l2, l3, l4, l5] [vR z, vI x0] h Q := Rn_nx pg138 rfl rfl
theorem sX3_report_18 (hk : hK h a0 = 5) : Rn r 138 18 [l0, l1, l2, l3, l4, l5] [vR (some a0), vI x1] h Q ↔ Rn r 138 21 [l0, l1, l2, l3, l4, l5] [vR (hR h a0 0), vI x1] h Q := Rn_nx pg138 rfl (if_pos ⟨(hk ▸ Nat.le_refl _), (hk ▸ Nat.le_refl _)⟩)
theorem sX3_report_21 (hk : hK h a0 = 4) : Rn r 138 21 [l0, l1, l2, l3, l4, l5] [vR (some a0), vI x1] h Q ↔ Cl r 34 [vR (some a0)] h (Kt r 138 24 [l0, l1, l2, l3, l4, l5] [vI x1] Q) := Rn_call pg138 rfl (by simp only [am_exec, am_inv, am_pop, am_lk, hk]; rfl) pg34 rfl rfl rfl
theorem sX3_report_24 : Rn r 138 24 [l0, l1, l2, l3, l4, l5] [vI x0, vI x1] h Q ↔ if x0 ≤ x1 then Rn r 138 53 [l0, l1, l2, l3, l4, l5] [] h Q else Rn r 138 27 [l0, l1, l2, l3, l4, l5] [] h Q := Rn_if pg138 rfl rfl rfl
theorem sX3_report_27 : Rn r 138 27 [l0, l1, l2, l3, some (vI x), l5] [] h Q ↔ Rn r 138 29 [l0, l1, l2, l3, some (vI x), l5] [vI x] h Q := Rn_nx pg138 rfl rfl
theorem sX3_report_29 : Rn r 138 29 [l0, l1, l2, l3, l4, some (vI x)] [vI x0] h Q ↔ Rn r 138 31 [l0, l1, l2, l3, l4, some (vI x)] [vI x, vI x0] h Q := Rn_nx pg138 rfl rfl
theorem sX3_report_31 : Rn r 138 31 [l0, l1, l2, l3, l4, l5] [vI x0, vI x1] h Q ↔ Rn r 138 32 [l0, l1, l2, l3, l4, l5] [vI (x1 >>> (x0 &&& 31))] h Q := Rn_nx pg138 rfl rfl
theorem sX3_report_32 : Rn r 138 32 [l0, l1, l2, l3, l4, l5] [vI x0] h Q ↔ Rn r 138 33 [l0, l1, l2, l3, l4, l5] [vI 1, vI x0] h Q := Rn_nx pg138 rfl rfl
theorem sX3_report_33 : Rn r 138 33 [l0, l1, l2, l3, l4, l5] [vI x0, vI x1] h Q ↔ Rn r 138 34 [l0, l1, l2, l3, l4, l5] [vI (x1 &&& x0)] h Q := Rn_nx pg138 rfl rfl
theorem sX3_report_34 : Rn r 138 34 [l0, l1, l2, l3, l4, l5] [vI x0] h Q ↔ Rn r 138 35 [l0, l1, l2, l3, l4, l5] [vI 1, vI x0] h Q := Rn_nx pg138 rfl rfl
theorem sX3_report_35 : Rn r 138 35 [l0, l1, l2, l3, l4, l5] [vI x0, vI x1] h Q ↔ if x1 ≠ x0 then Rn r 138 47 [l0, l1, l2, l3, l4, l5] [] h Q else Rn r 138 38 [l0, l1, l2, l3, l4, l5] [] h Q := Rn_if pg138 rfl rfl rfl
theorem sX3_report_38 : Rn r 138 38 [some (vR z), l1, l2, l3, l4, l5] [] h Q ↔ Rn r 138 39 [some (vR z), l1, l2, l3, l4, l5] [vR z] h Q := Rn_nx pg138 rfl rfl
theorem sX3_report_39 : Rn r 138 39 [l0, l1, l2, l3, l4, l5] [vR z0] h Q ↔ Rn r 138 41 [l0, l1, l2, l3, l4, l5] [vI 9, vR z0] h Q := Rn_nx pg138 rfl rfl
theorem sX3_report_41 : Rn r 138 41 [l0, l1, l2, some (vI x), l4, l5] [vI x0, vR z1] h Q ↔ Rn r 138 42 [l0, l1, l2, some (vI x), l4, l5] [vI x, vI x0, vR z1] h Q := Rn_nx pg138 rfl rfl
theorem sX3_report_42 : Rn r 138 42 [l0, l1, l2, l3, l4, some (vI x)] [vI x0, vI x1, vR z2] h Q ↔ Rn r 138 44 [l0, l1, l2, l3, l4, some (vI x)] [vI x, vI x0, vI x1, vR z2] h Q := Rn_nx pg138 rfl rfl
theorem sX3_report_44 (hk : hK h a3 = 5) : Rn r 138 44 [l0, l1, l2, l3, l4, l5] [vI x0, vI x1, vI x2, vR (some a3)] h Q ↔ Cl r 130 [vR (some a3), vI x2, vI x1, vI x0] h (Kt r 138 47 [l0, l1, l2, l3, l4, l5] [] Q) := Rn_call pg138 rfl (by simp only [am_exec, am_inv, am_pop, am_lk, hk]; rfl) pg130 rfl rfl rfl
theorem sX3_report_47 : Rn r 138 47 [l0, l1, l2, l3, l4, some (vI x)] [] h Q ↔ Rn r 138 50 [l0, l1, l2, l3, l4, some (vI (x + 1))] [] h Q := Rn_nx pg138 rfl rfl
theorem sX3_report_50 : Rn r 138 50 [l0, l1, l2, l3, l4, l5] [] h Q ↔ Rn r 138 15 [l0, l1, l2, l3, l4, l5] [] h Q := Rn_nx pg138 rfl rfl
theorem sX3_report_53 : Rn r 138 53 [l0, l1, l2, l3, l4, l5] [] h Q ↔ Q (Sum.inl none) h := Rn_end pg138 rfl rfl
/-! 139 ThrowRules$Unit.isBelowAny(LThrowRules$Kind;I)Z -/
theorem eX3_isBelowAny : Cl r 139 [vR z0, vR z1, vI x2] h Q ↔ Rn r 139 0 [some (vR z0), some (vR z1), some (vI x2), none, none] [] h Q := Cl_in pg139 rfl
theorem sX3_isBelowAny_0 : Rn r 139 0 [l0, l1, l2, l3, l4] [] h Q ↔ Rn r 139 1 [l0, l1, l2, l3, l4] [vI 0] h Q := Rn_nx pg139 rfl rfl
theorem sX3_isBelowAny_1 : Rn r 139 1 [l0, l1, l2, l3, l4] [vI x0] h Q ↔ Rn r 139 2 [l0, l1, l2, some (vI x0), l4] [] h Q := Rn_nx pg139 rfl rfl
theorem sX3_isBelowAny_2 : Rn r 139 2 [l0, l1, l2, l3, l4] [] h Q ↔ Rn r 139 3 [l0, l1, l2, l3, l4] [vI 0] h Q := Rn_nx pg139 rfl rfl
theorem sX3_isBelowAny_3 : Rn r 139 3 [l0, l1, l2, l3, l4] [vI x0] h Q ↔ Rn r 139 5 [l0, l1, l2, l3, some (vI x0)] [] h Q := Rn_nx pg139 rfl rfl
theorem sX3_isBelowAny_5 : Rn r 139 5 [l0, l1, l2, l3, some (vI x)] [] h Q ↔ Rn r 139 7 [l0, l1, l2, l3, some (vI x)] [vI x] h Q := Rn_nx pg139 rfl rfl
theorem sX3_isBelowAny_7 : Rn r 139 7 [some (vR z), l1, l2, l3, l4] [vI x0] h Q ↔ Rn r 139 8 [some (vR z), l1, l2, l3, l4] [vR z, vI x0] h Q := Rn_nx pg139 rfl rfl
theorem sX3_isBelowAny_8 (hk : hK h a0 = 5) : Rn r 139 8 [l0, l1, l2, l3, l4] [vR (some a0), vI x1] h Q ↔ Rn r 139 11 [l0, l1, l2, l3, l4] [vR (hR h a0 0), vI x1] h Q := Rn_nx pg139 rfl (if_pos ⟨(hk ▸ Nat.le_refl _), (hk ▸ Nat.le_refl _)⟩)
theorem sX3_isBelowAny_11 (hk : hK h a0 = 4) : Rn r 139 11 [l0, l1, l2, l3, l4] [vR (some a0), vI x1] h Q ↔ Cl r 34 [vR (some a0)] h (Kt r 139 14 [l0, l1, l2, l3, l4] [vI x1] Q) := Rn_call pg139 rfl (by simp only [am_exec, am_inv, am_pop, am_lk, hk]; rfl) pg34 rfl rfl rfl
theorem sX3_isBelowAny_14 : Rn r 139 14 [l0, l1, l2, l3, l4] [vI x0, vI x1] h Q ↔ if x0 ≤ x1 then Rn r 139 60 [l0, l1, l2, l3, l4] [] h Q else Rn r 139 17 [l0, l1, l2, l3, l4] [] h Q := Rn_if pg139 rfl rfl rfl
theorem sX3_isBelowAny_17 : Rn r 139 17 [l0, l1, l2, some (vI x), l4] [] h Q ↔ Rn r 139 18 [l0, l1, l2, some (vI x), l4] [vI x] h Q := Rn_nx pg139 rfl rfl
theorem sX3_isBelowAny_18 : Rn r 139 18 [l0, l1, some (vI x), l3, l4] [vI x0] h Q ↔ Rn r 139 19 [l0, l1, some (vI x), l3, l4] [vI x, vI x0] h Q := Rn_nx pg139 rfl rfl
theorem sX3_isBelowAny_19 : Rn r 139 19 [l0, l1, l2, l3, some (vI x)] [vI x0, vI x1] h Q ↔ Rn r 139 21 [l0, l1, l2, l3, some (vI x)] [vI x, vI x0, vI x1] h Q := Rn_nx pg139 rfl rfl
theorem sX3_isBelowAny_21 : Rn r 139 21 [l0, l1, l2, l3, l4] [vI x0, vI x1, vI x2] h Q ↔ Rn r 139 22 [l0, l1, l2, l3, l4] [vI (x1 >>> (x0 &&& 31)), vI x2] h Q := Rn_nx pg139 rfl rfl
theorem sX3_isBelowAny_22 : Rn r 139 22 [l0, l1, l2, l3, l4] [vI x0, vI x1] h Q ↔ Rn r 139 23 [l0, l1, l2, l3, l4] [vI 1, vI x0, vI x1] h Q := Rn_nx pg139 rfl rfl
theorem sX3_isBelowAny_23 : Rn r 139 23 [l0, l1, l2, l3, l4] [vI x0, vI x1, vI x2] h Q ↔ Rn r 139 24 [l0, l1, l2, l3, l4] [vI (x1 &&& x0), vI x2] h Q := Rn_nx pg139 rfl rfl
theorem sX3_isBelowAny_24 : Rn r 139 24 [l0, l1, l2, l3, l4] [vI x0, vI x1] h Q ↔ Rn r 139 25 [l0, l1, l2, l3, l4] [vI 1, vI x0, vI x1] h Q := Rn_nx pg139 rfl rfl
theorem sX3_isBelowAny_25 : Rn r 139 25 [l0, l1, l2, l3, l4] [vI x0, vI x1, vI x2] h Q ↔ if x1 ≠ x0 then Rn r 139 51 [l0, l1, l2, l3, l4] [vI x2] h Q else Rn r 139 28 [l0, l1, l2, l3, l4] [vI x2] h Q := Rn_if pg139 rfl rfl rfl
theorem sX3_isBelowAny_28 : Rn r 139 28 [l0, some (vR z), l2, l3, l4] [vI x0] h Q ↔ Rn r 139 29 [l0, some (vR z), l2, l3, l4] [vR z, vI x0] h Q := Rn_nx pg139 rfl rfl
theorem sX3_isBelowAny_29 : Rn r 139 29 [some (vR z), l1, l2, l3, l4] [vR z0, vI x1] h Q ↔ Rn r 139 30 [some (vR z), l1, l2, l3, l4] [vR z, vR z0, vI x1] h Q := Rn_nx pg139 rfl rfl
theorem sX3_isBelowAny_30 (hk : hK h a0 = 5) : Rn r 139 30 [l0, l1, l2, l3, l4] [vR (some a0), vR z1, vI x2] h Q ↔ Rn r 139 33 [l0, l1, l2, l3, l4] [vR (hR h a0 0), vR z1, vI x2] h Q := Rn_nx pg139 rfl (if_pos ⟨(hk ▸ Nat.le_refl _), (hk ▸ Nat.le_refl _)⟩)
theorem sX3_isBelowAny_33 : Rn r 139 33 [l0, l1, l2, l3, some (vI x)] [vR z0, vR z1, vI x2] h Q ↔ Rn r 139 35 [l0, l1, l2, l3, some (vI x)] [vI x, vR z0, vR z1, vI x2] h Q := Rn_nx pg139 rfl rfl
theorem sX3_isBelowAny_35 (hk : hK h a1 = 4) : Rn r 139 35 [l0, l1, l2, l3, l4] [vI x0, vR (some a1), vR z2, vI x3] h Q ↔ Cl r 43 [vR (some a1), vI x0] h (Kt r 139 38 [l0, l1, l2, l3, l4] [vR z2, vI x3] Q) := Rn_call pg139 rfl (by simp only [am_exec, am_inv, am_pop, am_lk, hk]; rfl) pg43 rfl rfl rfl
theorem sX3_isBelowAny_38_n : Rn r 139 38 [l0, l1, l2, l3, l4] [vR none, vR z1, vI x2] h Q ↔ Rn r 139 41 [l0, l1, l2, l3, l4] [vR none, vR z1, vI x2] h Q := Rn_nx pg139 rfl rfl
theorem sX3_isBelowAny_38 (hk : hK h a0 ∈ [7]) : Rn r 139 38 [l0, l1, l2, l3, l4] [vR (some a0), vR z1, vI x2] h Q ↔ Rn r 139 41 [l0, l1, l2, l3, l4] [vR (some a0), vR z1, vI x2] h Q := Rn_nx pg139 rfl (if_pos hk)
theorem sX3_isBelowAny_41 (hk : hK h a1 = 7) : Rn r 139 41 [l0, l1, l2, l3, l4] [vR z0, vR (some a1), vI x2] h Q ↔ Cl r 47 [vR (some a1), vR z0] h (Kt r 139 44 [l0, l1, l2, l3, l4] [vI x2] Q) := Rn_call pg139 rfl (by simp only [am_exec, am_inv, am_pop, am_lk, hk]; rfl) pg47 rfl rfl rfl
theorem sX3_isBelowAny_44 : Rn r 139 44 [l0, l1, l2, l3, l4] [vI x0, vI x1] h Q ↔ if x0 = 0 then Rn r 139 51 [l0, l1, l2, l3, l4] [vI x1] h Q else Rn r 139 47 [l0, l1, l2, l3, l4] [vI x1] h Q := Rn_if pg139 rfl rfl rfl
theorem sX3_isBelowAny_47 : Rn r 139 47 [l0, l1, l2, l3, l4] [vI x0] h Q ↔ Rn r 139 48 [l0, l1, l2, l3, l4] [vI 1, vI x0] h Q := Rn_nx pg139 rfl rfl
theorem sX3_isBelowAny_48 : Rn r 139 48 [l0, l1, l2, l3, l4] [vI x0, vI x1] h Q ↔ Rn r 139 52 [l0, l1, l2, l3, l4] [vI x0, vI x1] h Q := Rn_nx pg139 rfl rfl
theorem sX3_isBelowAny_51 : Rn r 139 51 [l0, l1, l2, l3, l4] [vI x0] h Q ↔ Rn r 139 52 [l0, l1, l2, l3, l4] [vI 0, vI x0] h Q := Rn_nx pg139 rfl rfl
theorem sX3_isBelowAny_52 : Rn r 139 52 [l0, l1, l2, l3, l4] [vI x0, vI x1] h Q ↔ Rn r 139 53 [l0, l1, l2, l3, l4] [vI (x1 ||| x0)] h Q := Rn_nx pg139 rfl rfl
theorem sX3_isBelowAny_53 : Rn r 139 53 [l0, l1, l2, l3, l4] [vI x0] h Q ↔ Rn r 139 54 [l0, l1, l2, some (vI x0), l4] [] h Q := Rn_nx pg139 rfl rfl
theorem sX3_isBelowAny_54 : Rn r 139 54 [l0, l1, l2, l3, some (vI x)] [] h Q ↔ Rn r 139 57 [l0, l1, l2, l3, some (vI (x + 1))] [] h Q := Rn_nx pg139 rfl rfl
theorem sX3_isBelowAny_57 : Rn r 139 57 [l0, l1, l2, l3, l4] [] h Q ↔ Rn r 139 5 [l0, l1, l2, l3, l4] [] h Q := Rn_nx pg139 rfl rfl
theorem sX3_isBelowAny_60 : Rn r 139 60 [l0, l1, l2, some (vI x), l4] [] h Q ↔ Rn r 139 61 [l0, l1, l2, some (vI x), l4] [vI x] h Q := Rn_nx pg139 rfl rfl
theorem sX3_isBelowAny_61 (hf : am_fit 4 x0 = true) : Rn r 139 61 [l0, l1, l2, l3, l4] [vI x0] h Q ↔ Q (Sum.inl (some (vI x0))) h := Rn_end pg139 rfl (if_pos hf)
/-! 140 ThrowRulesModel.readCatch(I)V -/
theorem eX6_readCatch : Cl r 140 [vR z0, vI x1] h Q ↔ Rn r 140 0 [some (vR z0), some (vI x1), none, none] [] h Q := Cl_in pg140 rfl
theorem sX6_readCatch_0 : Rn r 140 0 [l0, l1, l2, l3] [] h Q ↔ Rn r 140 1 [l0, l1, l2, l3] [vI 4] h Q := Rn_nx pg140 rfl rfl
theorem sX6_readCatch_1 : Rn r 140 1 [l0, some (vI x), l2, l3] [vI x0] h Q ↔ Rn r 140 2 [l0, some (vI x), l2, l3] [vI x, vI x0] h Q := Rn_nx pg140 rfl rfl
theorem sX6_readCatch_2 : Rn r 140 2 [l0, l1, l2, l3] [vI x0, vI x1] h Q ↔ Rn r 140 3 [l0, l1, l2, l3] [vI (x1 * x0)] h Q := Rn_nx pg140 rfl rfl
theorem sX6_readCatch_3 : Rn r 140 3 [some (vR z), l1, l2, l3] [vI x0] h Q ↔ Rn r 140 4 [some (vR z), l1, l2, l3] [vR z, vI x0] h Q := Rn_nx pg140 rfl rfl
theorem sX6_readCatch_4 (hk : hK h a0 = 15) : Rn r 140 4 [l0, l1, l2, l3] [vR (some a0), vI x1] h Q ↔ Rn r 140 7 [l0, l1, l2, l3] [vR (hR h a0 33), vI x1] h Q := Rn_nx pg140 rfl (if_pos ⟨(hk ▸ Nat.le_refl _), (hk ▸ Nat.le_refl _)⟩)
theorem sX6_readCatch_7 : Rn r 140 7 [l0, some (vI x), l2, l3] [vR z0, vI x1] h Q ↔ Rn r 140 8 [l0, some (vI x), l2, l3] [vI x, vR z0, vI x1] h Q := Rn_nx pg140 rfl rfl
theorem sX6_readCatch_8 (hk : 40 ≤ hK h a1) (hk2 : hK h a1 ≤ 41) (hx : ¬ (x0 < 0 ∨ hL h a1 ≤ x0.toNatClampNeg)) : Rn r 140 8 [l0, l1, l2, l3] [vI x0, vR (some a1), vI x2] h Q ↔ Rn r 140 9 [l0, l1, l2, l3] [vI (hI h a1 x0.toNatClampNeg), vI x2] h Q := Rn_nx pg140 rfl ((if_pos ⟨hk, hk2⟩).trans (if_neg hx))
theorem sX6_readCatch_9 : Rn r 140 9 [l0, l1, l2, l3] [vI x0, vI x1] h Q ↔ Rn r 140 10 [l0, l1, l2, l3] [vI (x1 + x0)] h Q := Rn_nx pg140 rfl rfl
theorem sX6_readCatch_10 : Rn r 140 10 [l0, l1, l2, l3] [vI x0] h Q ↔ Rn r 140 11 [l0, l1, some (vI x0), l3] [] h Q := Rn_nx pg140 rfl rfl
theorem sX6_readCatch_11 : Rn r 140 11 [some (vR z), l1, l2, l3] [] h Q ↔ Rn r 140 12 [some (vR z), l1, l2, l3] [vR z] h Q := Rn_nx pg140 rfl rfl
theorem sX6_readCatch_12 (hk : hK h a0 = 15) : Rn r 140 12 [l0, l1, l2, l3] [vR (some a0)] h Q ↔ Rn r 140 15 [l0, l1, l2, l3] [vR (hR h a0 33)] h Q := Rn_nx pg140 rfl (if_pos ⟨(hk ▸ Nat.le_refl _), (hk ▸ Nat.le_refl _)⟩)
theorem sX6_readCatch_15 : Rn r 140 15 [l0, some (vI x), l2, l3] [vR z0] h Q ↔ Rn r 140 16 [l0, some (vI x), l2, l3] [vI x, vR z0] h Q := Rn_nx pg140 rfl rfl
theorem sX6_readCatch_16 (hk : 40 ≤ hK h a1) (hk2 : hK h a1 ≤ 41) (hx : ¬ (x0 < 0 ∨ hL h a1 ≤ x0.toNatClampNeg)) : Rn r 140 16 [l0, l1, l2, l3] [vI x0, vR (some a1)] h Q ↔ Rn r 140 17 [l0, l1, l2, l3] [vI (hI h a1 x0.toNatClampNeg)] h Q := Rn_nx pg140 rfl ((if_pos ⟨hk, hk2⟩).trans (if_neg hx))
theorem sX6_readCatch_17 : Rn r 140 17 [l0, l1, l2, l3] [vI x0] h Q ↔ Rn r 140 18 [l0, l1, l2, l3] [vI 4, vI x0] h Q := Rn_nx pg140 rfl rfl
theorem sX6_readCatch_18 : Rn r 140 18 [l0, l1, l2, l3] [vI x0, vI x1] h Q ↔ if x1 ≠ x0 then Rn r 140 27 [l0, l1, l2, l3] [] h Q else Rn r 140 21 [l0, l1, l2, l3] [] h Q := Rn_if pg140 rfl rfl rfl
theorem sX6_readCatch_21 : Rn r 140 21 [some (vR z), l1, l2, l3] [] h Q ↔ Rn r 140 22 [some (vR z), l1, l2, l3] [vR z] h Q := Rn_nx pg140 rfl rfl
theorem sX6_readCatch_22 (hk : hK h a0 = 15) : Rn r 140 22 [l0, l1, l2, l3] [vR (some a0)] h Q ↔ Cl r 39 [vR (some a0)] h (Kt r 140 25 [l0, l1, l2, l3] [] Q) := Rn_call pg140 rfl (by simp only [am_exec, am_inv, am_pop, am_lk, hk]; rfl) pg39 rfl rfl rfl
theorem sX6_readCatch_25 : Rn r 140 25 [l0, l1, l2, l3] [vI x0] h Q ↔ Rn r 140 26 [l0, l1, l2, l3] [] h Q := Rn_nx pg140 rfl rfl
theorem sX6_readCatch_26 : Rn r 140 26 [l0, l1, l2, l3] [] h Q ↔ Q (Sum.inl none) h := Rn_end pg140 rfl rfl
theorem sX6_readCatch_27 : Rn r 140 27 [some (vR z), l1, l2, l3] [] h Q ↔ Rn r 140 28 [some (vR z), l1, l2, l3] [vR z] h Q := Rn_nx pg140 rfl rfl
theorem sX6_readCatch_28 (hk : hK h a0 = 15) : Rn r 140 28 [l0, l1, l2, l3] [vR (some a0)] h Q ↔ Cl r 35 [vR (some a0)] h (Kt r 140 31 [l0, l1, l2, l3] [] Q) := Rn_call pg140 rfl (by simp only [am_exec, am_inv, am_pop, am_lk, hk]; rfl) pg35 rfl rfl rfl
theorem sX6_readCatch_31 : Rn r 140 31 [some (vR z), l1, l2, l3] [] h Q ↔ Rn r 140 32 [some (vR z), l1, l2, l3] [vR z] h Q := Rn_nx pg140 rfl rfl
theorem sX6_readCatch_32 (hk : hK h a0 = 15) : Rn r 140 32 [l0, l1, l2, l3] [vR (some a0)] h Q ↔ Rn r 140 35 [l0, l1, l2, l3] [vR (hR h a0 37)] h Q := Rn_nx pg140 rfl (if_pos ⟨(hk ▸ Nat.le_refl _), (hk ▸ Nat.le_refl _)⟩)
theorem sX6_readCatch_35 : Rn r 140 35 [l0, l1, some (vI x), l3] [vR z0] h Q ↔ Rn r 140 36 [l0, l1, some (vI x), l3] [vI x, vR z0] h Q := Rn_nx pg140 rfl rfl
theorem sX6_readCatch_36 : Rn r 140 36 [l0, l1, l2, l3] [vI x0, vR z1] h Q ↔ Rn r 140 37 [l0, l1, l2, l3] [vI 0, vI x0, vR z1] h Q := Rn_nx pg140 rfl rfl
theorem sX6_readCatch_37 (hk : hK h a2 = 40) (hx : ¬ (x1 < 0 ∨ hL h a2 ≤ x1.toNatClampNeg)) : Rn r 140 37 [l0, l1, l2, l3] [vI x0, vI x1, vR (some a2)] h Q ↔ Rn r 140 38 [l0, l1, l2, l3] [] (putI h a2 x1.toNatClampNeg x0) Q := Rn_nx pg140 rfl ((if_pos hk).trans (if_neg hx))
theorem sX6_readCatch_38 : Rn r 140 38 [some (vR z), l1, l2, l3] [] h Q ↔ Rn r 140 39 [some (vR z), l1, l2, l3] [vR z] h Q := Rn_nx pg140 rfl rfl
theorem sX6_readCatch_39 (hk : hK h a0 = 15) : Rn r 140 39 [l0, l1, l2, l3] [vR (some a0)] h Q ↔ Rn r 140 42 [l0, l1, l2, l3] [vI (hI h a0 51)] h Q := Rn_nx pg140 rfl (if_pos ⟨(hk ▸ Nat.le_refl _), (hk ▸ Nat.le_refl _)⟩)
theorem sX6_readCatch_42 : Rn r 140 42 [l0, l1, l2, l3] [vI x0] h Q ↔ Rn r 140 44 [l0, l1, l2, l3] [vI 40, vI x0] h Q := Rn_nx pg140 rfl rfl
theorem sX6_readCatch_44 : Rn r 140 44 [l0, l1, l2, l3] [vI x0, vI x1] h Q ↔ if x1 = x0 then Rn r 140 53 [l0, l1, l2, l3] [] h Q else Rn r 140 47 [l0, l1, l2, l3] [] h Q := Rn_if pg140 rfl rfl rfl
theorem sX6_readCatch_47 : Rn r 140 47 [some (vR z), l1, l2, l3] [] h Q ↔ Rn r 140 48 [some (vR z), l1, l2, l3] [vR z] h Q := Rn_nx pg140 rfl rfl
theorem sX6_readCatch_48 (hk : hK h a0 = 15) : Rn r 140 48 [l0, l1, l2, l3] [vR (some a0)] h Q ↔ Cl r 39 [vR (some a0)] h (Kt r 140 51 [l0, l1, l2, l3] [] Q) := Rn_call pg140 rfl (by simp only [am_exec, am_inv, am_pop, am_lk, hk]; rfl) pg39 rfl rfl rfl
theorem sX6_readCatch_51 : Rn r 140 51 [l0, l1, l2, l3] [vI x0] h Q ↔ Rn r 140 52 [l0, l1, l2, l3] [] h Q := Rn_nx pg140 rfl rfl
theorem sX6_readCatch_52 : Rn r 140 52 [l0, l1, l2, l3] [] h Q ↔ Q (Sum.inl none) h := Rn_end pg140 rfl rfl
theorem sX6_readCatch_53 : Rn r 140 53 [l0, l1, l2, l3] [] h Q ↔ Rn r 140 54 [l0, l1, l2, l3] [vI 1] h Q := Rn_nx pg140 rfl rfl
theorem sX6_readCatch_54 : Rn r 140 54 [l0, l1, l2, l3] [vI x0] h Q ↔ Rn r 140 55 [l0, l1, l2, some (vI x0)] [] h Q := Rn_nx pg140 rfl rfl
theorem sX6_readCatch_55 : Rn r 140 55 [l0, l1, l2, some (vI x)] [] h Q ↔ Rn r 140 56 [l0, l1, l2, some (vI x)] [vI x] h Q := Rn_nx pg140 rfl rfl
theorem sX6_readCatch_56 : Rn r 140 56 [l0, l1, l2, l3] [vI x0] h Q ↔ if x0 = 0 then Rn r 140 153 [l0, l1, l2, l3] [] h Q else Rn r 140 59 [l0, l1, l2, l3] [] h Q := Rn_if pg140 rfl rfl rfl
theorem sX6_readCatch_59 : Rn r 140 59 [some (vR z), l1, l2, l3] [] h Q ↔ Rn r 140 60 [some (vR z), l1, l2, l3] [vR z] h Q := Rn_nx pg140 rfl rfl
theorem sX6_readCatch_60 (hk : hK h a0 = 15) : Rn r 140 60 [l0, l1, l2, l3] [vR (some a0)] h Q ↔ Cl r 35 [vR (some a0)] h (Kt r 140 63 [l0, l1, l2, l3] [] Q) := Rn_call pg140 rfl (by simp only [am_exec, am_inv, am_pop, am_lk, hk]; rfl) pg35 rfl rfl rfl
theorem sX6_readCatch_63 : Rn r 140 63 [some (vR z), l1, l2, l3] [] h Q ↔ Rn r 140 64 [some (vR z), l1, l2, l3] [vR z] h Q := Rn_nx pg140 rfl rfl
theorem sX6_readCatch_64 (hk : hK h a0 = 15) : Rn r 140 64 [l0, l1, l2, l3] [vR (some a0)] h Q ↔ Rn r 140 67 [l0, l1, l2, l3] [vR (hR h a0 37)] h Q := Rn_nx pg140 rfl (if_pos ⟨(hk ▸ Nat.le_refl _), (hk ▸ Nat.le_refl _)⟩)
theorem sX6_readCatch_67 : Rn r 140 67 [l0, l1, some (vI x), l3] [vR z0] h Q ↔ Rn r 140 68 [l0, l1, some (vI x), l3] [vI x, vR z0] h Q := Rn_nx pg140 rfl rfl
theorem sX6_readCatch_68 (hk : 40 ≤ hK h a1) (hk2 : hK h a1 ≤ 41) (hx : ¬ (x0 < 0 ∨ hL h a1 ≤ x0.toNatClampNeg)) : Rn r 140 68 [l0, l1, l2, l3] [vI x0, vR (some a1)] h Q ↔ Rn r 140 69 [l0, l1, l2, l3] [vI (hI h a1 x0.toNatClampNeg)] h Q := Rn_nx pg140 rfl ((if_pos ⟨hk, hk2⟩).trans (if_neg hx))
theorem sX6_readCatch_69 : Rn r 140 69 [l0, l1, l2, l3] [vI x0] h Q ↔ Rn r 140 70 [l0, l1, l2, l3] [vI 4, vI x0] h Q := Rn_nx pg140 rfl rfl
theorem sX6_readCatch_70 : Rn r 140 70 [l0, l1, l2, l3] [vI x0, vI x1] h Q ↔ if x1 ≠ x0 then Rn r 140 79 [l0, l1, l2, l3] [] h Q else Rn r 140 73 [l0, l1, l2, l3] [] h Q := Rn_if pg140 rfl rfl rfl
theorem sX6_readCatch_73 : Rn r 140 73 [some (vR z), l1, l2, l3] [] h Q ↔ Rn r 140 74 [some (vR z), l1, l2, l3] [vR z] h Q := Rn_nx pg140 rfl rfl
theorem sX6_readCatch_74 (hk : hK h a0 = 15) : Rn r 140 74 [l0, l1, l2, l3] [vR (some a0)] h Q ↔ Cl r 39 [vR (some a0)] h (Kt r 140 77 [l0, l1, l2, l3] [] Q) := Rn_call pg140 rfl (by simp only [am_exec, am_inv, am_pop, am_lk, hk]; rfl) pg39 rfl rfl rfl
theorem sX6_readCatch_77 : Rn r 140 77 [l0, l1, l2, l3] [vI x0] h Q ↔ Rn r 140 78 [l0, l1, l2, l3] [] h Q := Rn_nx pg140 rfl rfl
theorem sX6_readCatch_78 : Rn r 140 78 [l0, l1, l2, l3] [] h Q ↔ Q (Sum.inl none) h := Rn_end pg140 rfl rfl
theorem sX6_readCatch_79 : Rn r 140 79 [some (vR z), l1, l2, l3] [] h Q ↔ Rn r 140 80 [some (vR z), l1, l2, l3] [vR z] h Q := Rn_nx pg140 rfl rfl
theorem sX6_readCatch_80 (hk : hK h a0 = 15) : Rn r 140 80 [l0, l1, l2, l3] [vR (some a0)] h Q ↔ Cl r 88 [vR (some a0)] h (Kt r 140 83 [l0, l1, l2, l3] [] Q) := Rn_call pg140 rfl (by simp only [am_exec, am_inv, am_pop, am_lk, hk]; rfl) pg88 rfl rfl rfl
theorem sX6_readCatch_83 : Rn r 140 83 [l0, l1, l2, l3] [vI x0] h Q ↔ if x0 ≠ 0 then Rn r 140 87 [l0, l1, l2, l3] [] h Q else Rn r 140 86 [l0, l1, l2, l3] [] h Q := Rn_if pg140 rfl rfl rfl
theorem sX6_readCatch_86 : Rn r 140 86 [l0, l1, l2, l3] [] h Q ↔ Q (Sum.inl none) h := Rn_end pg140 rfl rfl
theorem sX6_readCatch_87 : Rn r 140 87 [some (vR z), l1, l2, l3] [] h Q ↔ Rn r 140 88 [some (vR z), l1, l2, l3] [vR z] h Q := Rn_nx pg140 rfl rfl
theorem sX6_readCatch_88 (hk : hK h a0 = 15) : Rn r 140 88 [l0, l1, l2, l3] [vR (some a0)] h Q ↔ Rn r 140 91 [l0, l1, l2, l3] [vR (hR h a0 38)] h Q := Rn_nx pg140 rfl (if_pos ⟨(hk ▸ Nat.le_refl _), (hk ▸ Nat.le_refl _)⟩)
theorem sX6_readCatch_91 : Rn r 140 91 [l0, l1, l2, l3] [vR z0] h Q ↔ Rn r 140 92 [l0, l1, l2, l3] [vI 4, vR z0] h Q := Rn_nx pg140 rfl rfl
theorem sX6_readCatch_92 : Rn r 140 92 [l0, l1, some (vI x), l3] [vI x0, vR z1] h Q ↔ Rn r 140 93 [l0, l1, some (vI x), l3] [vI x, vI x0, vR z1] h Q := Rn_nx pg140 rfl rfl
theorem sX6_readCatch_93 : Rn r 140 93 [l0, l1, l2, l3] [vI x0, vI x1, vR z2] h Q ↔ Rn r 140 94 [l0, l1, l2, l3] [vI (x1 * x0), vR z2] h Q := Rn_nx pg140 rfl rfl
theorem sX6_readCatch_94 : Rn r 140 94 [some (vR z), l1, l2, l3] [vI x0, vR z1] h Q ↔ Rn r 140 95 [some (vR z), l1, l2, l3] [vR z, vI x0, vR z1] h Q := Rn_nx pg140 rfl rfl
theorem sX6_readCatch_95 (hk : hK h a0 = 15) : Rn r 140 95 [l0, l1, l2, l3] [vR (some a0), vI x1, vR z2] h Q ↔ Rn r 140 98 [l0, l1, l2, l3] [vR (hR h a0 37), vI x1, vR z2] h Q := Rn_nx pg140 rfl (if_pos ⟨(hk ▸ Nat.le_refl _), (hk ▸ Nat.le_refl _)⟩)
theorem sX6_readCatch_98 : Rn r 140 98 [l0, l1, some (vI x), l3] [vR z0, vI x1, vR z2] h Q ↔ Rn r 140 99 [l0, l1, some (vI x), l3] [vI x, vR z0, vI x1, vR z2] h Q := Rn_nx pg140 rfl rfl
theorem sX6_readCatch_99 (hk : 40 ≤ hK h a1) (hk2 : hK h a1 ≤ 41) (hx : ¬ (x0 < 0 ∨ hL h a1 ≤ x0.toNatClampNeg)) : Rn r 140 99 [l0, l1, l2, l3] [vI x0, vR (some a1), vI x2, vR z3] h Q ↔ Rn r 140 100 [l0, l1, l2, l3] [vI (hI h a1 x0.toNatClampNeg), vI x2, vR z3] h Q := Rn_nx pg140 rfl ((if_pos ⟨hk, hk2⟩).trans (if_neg hx))
theorem sX6_readCatch_100 : Rn r 140 100 [l0, l1, l2, l3] [vI x0, vI x1, vR z2] h Q ↔ Rn r 140 101 [l0, l1, l2, l3] [vI (x1 + x0), vR z2] h Q := Rn_nx pg140 rfl rfl
theorem sX6_readCatch_101 : Rn r 140 101 [some (vR z), l1, l2, l3] [vI x0, vR z1] h Q ↔ Rn r 140 102 [some (vR z), l1, l2, l3] [vR z, vI x0, vR z1] h Q := Rn_nx pg140 rfl rfl
theorem sX6_readCatch_102 (hk : hK h a0 = 15) : Rn r 140 102 [l0, l1, l2, l3] [vR (some a0), vI x1, vR z2] h Q ↔ Rn r 140 105 [l0, l1, l2, l3] [vL (hJ h a0 53), vI x1, vR z2] h Q := Rn_nx pg140 rfl (if_pos ⟨(hk ▸ Nat.le_refl _), (hk ▸ Nat.le_refl _)⟩)
theorem sX6_readCatch_105 (hk : hK h a2 = 42) (hx : ¬ (x1 < 0 ∨ hL h a2 ≤ x1.toNatClampNeg)) : Rn r 140 105 [l0, l1, l2, l3] [vL y0, vI x1, vR (some a2)] h Q ↔ Rn r 140 106 [l0, l1, l2, l3] [] (putJ h a2 x1.toNatClampNeg y0) Q := Rn_nx pg140 rfl ((if_pos hk).trans (if_neg hx))
theorem sX6_readCatch_106 : Rn r 140 106 [some (vR z), l1, l2, l3] [] h Q ↔ Rn r 140 107 [some (vR z), l1, l2, l3] [vR z] h Q := Rn_nx pg140 rfl rfl
theorem sX6_readCatch_107 (hk : hK h a0 = 15) : Rn r 140 107 [l0, l1, l2, l3] [vR (some a0)] h Q ↔ Rn r 140 110 [l0, l1, l2, l3] [vR (hR h a0 39)] h Q := Rn_nx pg140 rfl (if_pos ⟨(hk ▸ Nat.le_refl _), (hk ▸ Nat.le_refl _)⟩)
theorem sX6_readCatch_110 : Rn r 140 110 [l0, l1, l2, l3] [vR z0] h Q ↔ Rn r 140 111 [l0, l1, l2, l3] [vI 4, vR z0] h Q := Rn_nx pg140 rfl rfl
theorem sX6_readCatch_111 : Rn r 140 111 [l0, l1, some (vI x), l3] [vI x0, vR z1] h Q ↔ Rn r 140 112 [l0, l1, some (vI x), l3] [vI x, vI x0, vR z1] h Q := Rn_nx pg140 rfl rfl
theorem sX6_readCatch_112 : Rn r 140 112 [l0, l1, l2, l3] [vI x0, vI x1, vR z2] h Q ↔ Rn r 140 113 [l0, l1, l2, l3] [vI (x1 * x0), vR z2] h Q := Rn_nx pg140 rfl rfl
theorem sX6_readCatch_113 : Rn r 140 113 [some (vR z), l1, l2, l3] [vI x0, vR z1] h Q ↔ Rn r 140 114 [some (vR z), l1, l2, l3] [vR z, vI x0, vR z1] h Q := Rn_nx pg140 rfl rfl
theorem sX6_readCatch_114 (hk : hK h a0 = 15) : Rn r 140 114 [l0, l1, l2, l3] [vR (some a0), vI x1, vR z2] h Q ↔ Rn r 140 117 [l0, l1, l2, l3] [vR (hR h a0 37), vI x1, vR z2] h Q := Rn_nx pg140 rfl (if_pos ⟨(hk ▸ Nat.le_refl _), (hk ▸ Nat.le_refl _)⟩)
theorem sX6_readCatch_117 : Rn r 140 117 [l0, l1, some (vI x), l3] [vR z0, vI x1, vR z2] h Q ↔ Rn r 140 118 [l0, l1, some (vI x), l3] [vI x, vR z0, vI x1, vR z2] h Q := Rn_nx pg140 rfl rfl
theorem sX6_readCatch_118 (hk : 40 ≤ hK h a1) (hk2 : hK h a1 ≤ 41) (hx : ¬ (x0 < 0 ∨ hL h a1 ≤ x0.toNatClampNeg)) : Rn r 140 118 [l0, l1, l2, l3] [vI x0, vR (some a1), vI x2, vR z3] h Q ↔ Rn r 140 119 [l0, l1, l2, l3] [vI (hI h a1 x0.toNatClampNeg), vI x2, vR z3] h Q := Rn_nx pg140 rfl ((if_pos ⟨hk, hk2⟩).trans (if_neg hx))
theorem sX6_readCatch_119 : Rn r 140 119 [l0, l1, l2, l3] [vI x0, vI x1, vR z2] h Q ↔ Rn r 140 120 [l0, l1, l2, l3] [vI (x1 + x0), vR z2] h Q := Rn_nx pg140 rfl rfl
theorem sX6_readCatch_120 : Rn r 140 120 [some (vR z), l1, l2, l3] [vI x0, vR z1] h Q ↔ Rn r 140 121 [some (vR z), l1, l2, l3] [vR z, vI x0, vR z1] h Q := Rn_nx pg140 rfl rfl
theorem sX6_readCatch_121 (hk : hK h a0 = 15) : Rn r 140 121 [l0, l1, l2, l3] [vR (some a0), vI x1, vR z2] h Q ↔ Rn r 140 124 [l0, l1, l2, l3] [vI (hI h a0 54), vI x1, vR z2] h Q := Rn_nx pg140 rfl (if_pos ⟨(hk ▸ Nat.le_refl _), (hk ▸ Nat.le_refl _)⟩)
theorem sX6_readCatch_124 (hk : hK h a2 = 40) (hx : ¬ (x1 < 0 ∨ hL h a2 ≤ x1.toNatClampNeg)) : Rn r 140 124 [l0, l1, l2, l3] [vI x0, vI x1, vR (some a2)] h Q ↔ Rn r 140 125 [l0, l1, l2, l3] [] (putI h a2 x1.toNatClampNeg x0) Q := Rn_nx pg140 rfl ((if_pos hk).trans (if_neg hx))
theorem sX6_readCatch_125 : Rn r 140 125 [some (vR z), l1, l2, l3] [] h Q ↔ Rn r 140 126 [some (vR z), l1, l2, l3] [vR z] h Q := Rn_nx pg140 rfl rfl
theorem sX6_readCatch_126 (hk : hK h a0 = 15) : Rn r 140 126 [l0, l1, l2, l3] [vR (some a0)] h Q ↔ Rn r 140 129 [l0, l1, l2, l3] [vR (hR h a0 37)] h Q := Rn_nx pg140 rfl (if_pos ⟨(hk ▸ Nat.le_refl _), (hk ▸ Nat.le_refl _)⟩)
theorem sX6_readCatch_129 : Rn r 140 129 [l0, l1, some (vI x), l3] [vR z0] h Q ↔ Rn r 140 130 [l0, l1, some (vI x), l3] [vI x, vR z0] h Q := Rn_nx pg140 rfl rfl
theorem sX6_readCatch_130 : Rn r 140 130 [l0, l1, l2, l3] [vI x0, vR z1] h Q ↔ Rn r 140 131 [l0, l1, l2, l3] [vI x0, vR z1, vI x0, vR z1] h Q := Rn_nx pg140 rfl rfl
theorem sX6_readCatch_131 (hk : 40 ≤ hK h a1) (hk2 : hK h a1 ≤ 41) (hx : ¬ (x0 < 0 ∨ hL h a1 ≤ x0.toNatClampNeg)) : Rn r 140 131 [l0, l1, l2, l3] [vI x0, vR (some a1), vI x2, vR z3] h Q ↔ Rn r 140 132 [l0, l1, l2, l3] [vI (hI h a1 x0.toNatClampNeg), vI x2, vR z3] h Q := Rn_nx pg140 rfl ((if_pos ⟨hk, hk2⟩).trans (if_neg hx))
theorem sX6_readCatch_132 : Rn r 140 132 [l0, l1, l2, l3] [vI x0, vI x1, vR z2] h Q ↔ Rn r 140 133 [l0, l1, l2, l3] [vI 1, vI x0, vI x1, vR z2] h Q := Rn_nx pg140 rfl rfl
theorem sX6_readCatch_133 : Rn r 140 133 [l0, l1, l2, l3] [vI x0, vI x1, vI x2, vR z3] h Q ↔ Rn r 140 134 [l0, l1, l2, l3] [vI (x1 + x0), vI x2, vR z3] h Q := Rn_nx pg140 rfl rfl
theorem sX6_readCatch_134 (hk : hK h a2 = 40) (hx : ¬ (x1 < 0 ∨ hL h a2 ≤ x1.toNatClampNeg)) : Rn r 140 134 [l0, l1, l2, l3] [vI x0, vI x1, vR (some a2)] h Q ↔ Rn r 140 135 [l0, l1, l2, l3] [] (putI h a2 x1.toNatClampNeg x0) Q := Rn_nx pg140 rfl ((if_pos hk).trans (if_neg hx))
theorem sX6_readCatch_135 : Rn r 140 135 [some (vR z), l1, l2, l3] [] h Q ↔ Rn r 140 136 [some (vR z), l1, l2, l3] [vR z] h Q := Rn_nx pg140 rfl rfl
theorem sX6_readCatch_136 (hk : hK h a0 = 15) : Rn r 140 136 [l0, l1, l2, l3] [vR (some a0)] h Q ↔ Rn r 140 139 [l0, l1, l2, l3] [vI (hI h a0 51)] h Q := Rn_nx pg140 rfl (if_pos ⟨(hk ▸ Nat.le_refl _), (hk ▸ Nat.le_refl _)⟩)
theorem sX6_readCatch_139 : Rn r 140 139 [l0, l1, l2, l3] [vI x0] h Q ↔ Rn r 140 141 [l0, l1, l2, l3] [vI 124, vI x0] h Q := Rn_nx pg140 rfl rfl
theorem sX6_readCatch_141 : Rn r 140 141 [l0, l1, l2, l3] [vI x0, vI x1] h Q ↔ if x1 ≠ x0 then Rn r 140 148 [l0, l1, l2, l3] [] h Q else Rn r 140 144 [l0, l1, l2, l3] [] h Q := Rn_if pg140 rfl rfl rfl
theorem sX6_readCatch_144 : Rn r 140 144 [l0, l1, l2, l3] [] h Q ↔ Rn r 140 145 [l0, l1, l2, l3] [vI 1] h Q := Rn_nx pg140 rfl rfl
theorem sX6_readCatch_145 : Rn r 140 145 [l0, l1, l2, l3] [vI x0] h Q ↔ Rn r 140 149 [l0, l1, l2, l3] [vI x0] h Q := Rn_nx pg140 rfl rfl
theorem sX6_readCatch_148 : Rn r 140 148 [l0, l1, l2, l3] [] h Q ↔ Rn r 140 149 [l0, l1, l2, l3] [vI 0] h Q := Rn_nx pg140 rfl rfl
theorem sX6_readCatch_149 : Rn r 140 149 [l0, l1, l2, l3] [vI x0] h Q ↔ Rn r 140 150 [l0, l1, l2, some (vI x0)] [] h Q := Rn_nx pg140 rfl rfl
theorem sX6_readCatch_150 : Rn r 140 150 [l0, l1, l2, l3] [] h Q ↔ Rn r 140 55 [l0, l1, l2, l3] [] h Q := Rn_nx pg140 rfl rfl
theorem sX6_readCatch_153 : Rn r 140 153 [some (vR z), l1, l2, l3] [] h Q ↔ Rn r 140 154 [some (vR z), l1, l2, l3] [vR z] h Q := Rn_nx pg140 rfl rfl
theorem sX6_readCatch_154 (hk : hK h a0 = 15) : Rn r 140 154 [l0, l1, l2, l3] [vR (some a0)] h Q ↔ Cl r 88 [vR (some a0)] h (Kt r 140 157 [l0, l1, l2, l3] [] Q) := Rn_call pg140 rfl (by simp only [am_exec, am_inv, am_pop, am_lk, hk]; rfl) pg88 rfl rfl rfl
theorem sX6_readCatch_157 : Rn r 140 157 [l0, l1, l2, l3] [vI x0] h Q ↔ if x0 ≠ 0 then Rn r 140 161 [l0, l1, l2, l3] [] h Q else Rn r 140 160 [l0, l1, l2, l3] [] h Q := Rn_if pg140 rfl rfl rfl
theorem sX6_readCatch_160 : Rn r 140 160 [l0, l1, l2, l3] [] h Q ↔ Q (Sum.inl none) h := Rn_end pg140 rfl rfl
theorem sX6_readCatch_161 : Rn r 140 161 [some (vR z), l1, l2, l3] [] h Q ↔ Rn r 140 162 [some (vR z), l1, l2, l3] [vR z] h Q := Rn_nx pg140 rfl rfl
theorem sX6_readCatch_162 (hk : hK h a0 = 15) : Rn r 140 162 [l0, l1, l2, l3] [vR (some a0)] h Q ↔ Rn r 140 165 [l0, l1, l2, l3] [vR (hR h a0 35)] h Q := Rn_nx pg140 rfl (if_pos ⟨(hk ▸ Nat.le_refl _), (hk ▸ Nat.le_refl _)⟩)
theorem sX6_readCatch_165 : Rn r 140 165 [l0, l1, some (vI x), l3] [vR z0] h Q ↔ Rn r 140 166 [l0, l1, some (vI x), l3] [vI x, vR z0] h Q := Rn_nx pg140 rfl rfl
theorem sX6_readCatch_166 : Rn r 140 166 [some (vR z), l1, l2, l3] [vI x0, vR z1] h Q ↔ Rn r 140 167 [some (vR z), l1, l2, l3] [vR z, vI x0, vR z1] h Q := Rn_nx pg140 rfl rfl
theorem sX6_readCatch_167 (hk : hK h a0 = 15) : Rn r 140 167 [l0, l1, l2, l3] [vR (some a0), vI x1, vR z2] h Q ↔ Rn r 140 170 [l0, l1, l2, l3] [vL (hJ h a0 53), vI x1, vR z2] h Q := Rn_nx pg140 rfl (if_pos ⟨(hk ▸ Nat.le_refl _), (hk ▸ Nat.le_refl _)⟩)
theorem sX6_readCatch_170 (hk : hK h a2 = 42) (hx : ¬ (x1 < 0 ∨ hL h a2 ≤ x1.toNatClampNeg)) : Rn r 140 170 [l0, l1, l2, l3] [vL y0, vI x1, vR (some a2)] h Q ↔ Rn r 140 171 [l0, l1, l2, l3] [] (putJ h a2 x1.toNatClampNeg y0) Q := Rn_nx pg140 rfl ((if_pos hk).trans (if_neg hx))
theorem sX6_readCatch_171 : Rn r 140 171 [some (vR z), l1, l2, l3] [] h Q ↔ Rn r 140 172 [some (vR z), l1, l2, l3] [vR z] h Q := Rn_nx pg140 rfl rfl
theorem sX6_readCatch_172 (hk : hK h a0 = 15) : Rn r 140 172 [l0, l1, l2, l3] [vR (some a0)] h Q ↔ Rn r 140 175 [l0, l1, l2, l3] [vR (hR h a0 36)] h Q := Rn_nx pg140 rfl (if_pos ⟨(hk ▸ Nat.le_refl _), (hk ▸ Nat.le_refl _)⟩)
theorem sX6_readCatch_175 : Rn r 140 175 [l0, l1, some (vI x), l3] [vR z0] h Q ↔ Rn r 140 176 [l0, l1, some (vI x), l3] [vI x, vR z0] h Q := Rn_nx pg140 rfl rfl
theorem sX6_readCatch_176 : Rn r 140 176 [some (vR z), l1, l2, l3] [vI x0, vR z1] h Q ↔ Rn r 140 177 [some (vR z), l1, l2, l3] [vR z, vI x0, vR z1] h Q := Rn_nx pg140 rfl rfl
theorem sX6_readCatch_177 (hk : hK h a0 = 15) : Rn r 140 177 [l0, l1, l2, l3] [vR (some a0), vI x1, vR z2] h Q ↔ Rn r 140 180 [l0, l1, l2, l3] [vI (hI h a0 54), vI x1, vR z2] h Q := Rn_nx pg140 rfl (if_pos ⟨(hk ▸ Nat.le_refl _), (hk ▸ Nat.le_refl _)⟩)
theorem sX6_readCatch_180 (hk : hK h a2 = 40) (hx : ¬ (x1 < 0 ∨ hL h a2 ≤ x1.toNatClampNeg)) : Rn r 140 180 [l0, l1, l2, l3] [vI x0, vI x1, vR (some a2)] h Q ↔ Rn r 140 181 [l0, l1, l2, l3] [] (putI h a2 x1.toNatClampNeg x0) Q := Rn_nx pg140 rfl ((if_pos hk).trans (if_neg hx))
theorem sX6_readCatch_181 : Rn r 140 181 [some (vR z), l1, l2, l3] [] h Q ↔ Rn r 140 182 [some (vR z), l1, l2, l3] [vR z] h Q := Rn_nx pg140 rfl rfl
theorem sX6_readCatch_182 : Rn r 140 182 [l0, l1, l2, l3] [vR z0] h Q ↔ Rn r 140 184 [l0, l1, l2, l3] [vI 41, vR z0] h Q := Rn_nx pg140 rfl rfl
theorem sX6_readCatch_184 (hk : hK h a1 = 15) : Rn r 140 184 [l0, l1, l2, l3] [vI x0, vR (some a1)] h Q ↔ Cl r 90 [vR (some a1), vI x0] h (Kt r 140 187 [l0, l1, l2, l3] [] Q) := Rn_call pg140 rfl (by simp only [am_exec, am_inv, am_pop, am_lk, hk]; rfl) pg90 rfl rfl rfl
theorem sX6_readCatch_187 : Rn r 140 187 [l0, l1, l2, l3] [vI x0] h Q ↔ if x0 ≠ 0 then Rn r 140 191 [l0, l1, l2, l3] [] h Q else Rn r 140 190 [l0, l1, l2, l3] [] h Q := Rn_if pg140 rfl rfl rfl
theorem sX6_readCatch_190 : Rn r 140 190 [l0, l1, l2, l3] [] h Q ↔ Q (Sum.inl none) h := Rn_end pg140 rfl rfl
theorem sX6_readCatch_191 : Rn r 140 191 [some (vR z), l1, l2, l3] [] h Q ↔ Rn r 140 192 [some (vR z), l1, l2, l3] [vR z] h Q := Rn_nx pg140 rfl rfl
theorem sX6_readCatch_192 (hk : hK h a0 = 15) : Rn r 140 192 [l0, l1, l2, l3] [vR (some a0)] h Q ↔ Rn r 140 195 [l0, l1, l2, l3] [vR (hR h a0 33)] h Q := Rn_nx pg140 rfl (if_pos ⟨(hk ▸ Nat.le_refl _), (hk ▸ Nat.le_refl _)⟩)
theorem sX6_readCatch_195 : Rn r 140 195 [l0, some (vI x), l2, l3] [vR z0] h Q ↔ Rn r 140 196 [l0, some (vI x), l2, l3] [vI x, vR z0] h Q := Rn_nx pg140 rfl rfl
theorem sX6_readCatch_196 : Rn r 140 196 [l0, l1, l2, l3] [vI x0, vR z1] h Q ↔ Rn r 140 197 [l0, l1, l2, l3] [vI x0, vR z1, vI x0, vR z1] h Q := Rn_nx pg140 rfl rfl
theorem sX6_readCatch_197 (hk : 40 ≤ hK h a1) (hk2 : hK h a1 ≤ 41) (hx : ¬ (x0 < 0 ∨ hL h a1 ≤ x0.toNatClampNeg)) : Rn r 140 197 [l0, l1, l2, l3] [vI x0, vR (some a1), vI x2, vR z3] h Q ↔ Rn r 140 198 [l0, l1, l2, l3] [vI (hI h a1 x0.toNatClampNeg), vI x2, vR z3] h Q := Rn_nx pg140 rfl ((if_pos ⟨hk, hk2⟩).trans (if_neg hx))
theorem sX6_readCatch_198 : Rn r 140 198 [l0, l1, l2, l3] [vI x0, vI x1, vR z2] h Q ↔ Rn r 140 199 [l0, l1, l2, l3] [vI 1, vI x0, vI x1, vR z2] h Q := Rn_nx pg140 rfl rfl
theorem sX6_readCatch_199 : Rn r 140 199 [l0, l1, l2, l3] [vI x0, vI x1, vI x2, vR z3] h Q ↔ Rn r 140 200 [l0, l1, l2, l3] [vI (x1 + x0), vI x2, vR z3] h Q := Rn_nx pg140 rfl rfl
theorem sX6_readCatch_200 (hk : hK h a2 = 40) (hx : ¬ (x1 < 0 ∨ hL h a2 ≤ x1.toNatClampNeg)) : Rn r 140 200 [l0, l1, l2, l3] [vI x0, vI x1, vR (some a2)] h Q ↔ Rn r 140 201 [l0, l1, l2, l3] [] (putI h a2 x1.toNatClampNeg x0) Q := Rn_nx pg140 rfl ((if_pos hk).trans (if_neg hx))
theorem sX6_readCatch_201 : Rn r 140 201 [some (vR z), l1, l2, l3] [] h Q ↔ Rn r 140 202 [some (vR z), l1, l2, l3] [vR z] h Q := Rn_nx pg140 rfl rfl
theorem sX6_readCatch_202 (hk : hK h a0 = 15) : Rn r 140 202 [l0, l1, l2, l3] [vR (some a0)] h Q ↔ Rn r 140 205 [l0, l1, l2, l3] [vR (hR h a0 34)] h Q := Rn_nx pg140 rfl (if_pos ⟨(hk ▸ Nat.le_refl _), (hk ▸ Nat.le_refl _)⟩)
theorem sX6_readCatch_205 : Rn r 140 205 [l0, l1, some (vI x), l3] [vR z0] h Q ↔ Rn r 140 206 [l0, l1, some (vI x), l3] [vI x, vR z0] h Q := Rn_nx pg140 rfl rfl
theorem sX6_readCatch_206 : Rn r 140 206 [some (vR z), l1, l2, l3] [vI x0, vR z1] h Q ↔ Rn r 140 207 [some (vR z), l1, l2, l3] [vR z, vI x0, vR z1] h Q := Rn_nx pg140 rfl rfl
theorem sX6_readCatch_207 : Rn r 140 207 [l0, l1, l2, l3] [vR z0, vI x1, vR z2] h Q ↔ Rn r 140 209 [l0, l1, l2, l3] [vI 6, vR z0, vI x1, vR z2] h Q := Rn_nx pg140 rfl rfl
theorem sX6_readCatch_209 : Rn r 140 209 [l0, some (vI x), l2, l3] [vI x0, vR z1, vI x2, vR z3] h Q ↔ Rn r 140 210 [l0, some (vI x), l2, l3] [vI x, vI x0, vR z1, vI x2, vR z3] h Q := Rn_nx pg140 rfl rfl
theorem sX6_readCatch_210 : Rn r 140 210 [some (vR z), l1, l2, l3] [vI x0, vI x1, vR z2, vI x3, vR z4] h Q ↔ Rn r 140 211 [some (vR z), l1, l2, l3] [vR z, vI x0, vI x1, vR z2, vI x3, vR z4] h Q := Rn_nx pg140 rfl rfl
theorem sX6_readCatch_211 (hk : hK h a0 = 15) : Rn r 140 211 [l0, l1, l2, l3] [vR (some a0), vI x1, vI x2, vR z3, vI x4, vR z5] h Q ↔ Rn r 140 214 [l0, l1, l2, l3] [vR (hR h a0 33), vI x1, vI x2, vR z3, vI x4, vR z5] h Q := Rn_nx pg140 rfl (if_pos ⟨(hk ▸ Nat.le_refl _), (hk ▸ Nat.le_refl _)⟩)
theorem sX6_readCatch_214 : Rn r 140 214 [l0, some (vI x), l2, l3] [vR z0, vI x1, vI x2, vR z3, vI x4, vR z5] h Q ↔ Rn r 140 215 [l0, some (vI x), l2, l3] [vI x, vR z0, vI x1, vI x2, vR z3, vI x4, vR z5] h Q := Rn_nx pg140 rfl rfl
theorem sX6_readCatch_215 (hk : 40 ≤ hK h a1) (hk2 : hK h a1 ≤ 41) (hx : ¬ (x0 < 0 ∨ hL h a1 ≤ x0.toNatClampNeg)) : Rn r 140 215 [l0, l1, l2, l3] [vI x0, vR (some a1), vI x2, vI x3, vR z4, vI x5, vR z6] h Q ↔ Rn r 140 216 [l0, l1, l2, l3] [vI (hI h a1 x0.toNatClampNeg), vI x2, vI x3, vR z4, vI x5, vR z6] h Q := Rn_nx pg140 rfl ((if_pos ⟨hk, hk2⟩).trans (if_neg hx))
theorem sX6_readCatch_216 : Rn r 140 216 [l0, l1, l2, l3] [vI x0, vI x1, vI x2, vR z3, vI x4, vR z5] h Q ↔ Rn r 140 217 [l0, l1, l2, l3] [vI 1, vI x0, vI x1, vI x2, vR z3, vI x4, vR z5] h Q := Rn_nx pg140 rfl rfl
theorem sX6_readCatch_217 : Rn r 140 217 [l0, l1, l2, l3] [vI x0, vI x1, vI x2, vI x3, vR z4, vI x5, vR z6] h Q ↔ Rn r 140 218 [l0, l1, l2, l3] [vI (x1 - x0), vI x2, vI x3, vR z4, vI x5, vR z6] h Q := Rn_nx pg140 rfl rfl
theorem sX6_readCatch_218 (hk : hK h a3 = 15) : Rn r 140 218 [l0, l1, l2, l3] [vI x0, vI x1, vI x2, vR (some a3), vI x4, vR z5] h Q ↔ Cl r 91 [vR (some a3), vI x2, vI x1, vI x0] h (Kt r 140 221 [l0, l1, l2, l3] [vI x4, vR z5] Q) := Rn_call pg140 rfl (by simp only [am_exec, am_inv, am_pop, am_lk, hk]; rfl) pg91 rfl rfl rfl
theorem sX6_readCatch_221 (hk : hK h a2 = 40) (hx : ¬ (x1 < 0 ∨ hL h a2 ≤ x1.toNatClampNeg)) : Rn r 140 221 [l0, l1, l2, l3] [vI x0, vI x1, vR (some a2)] h Q ↔ Rn r 140 222 [l0, l1, l2, l3] [] (putI h a2 x1.toNatClampNeg x0) Q := Rn_nx pg140 rfl ((if_pos hk).trans (if_neg hx))
theorem sX6_readCatch_222 : Rn r 140 222 [l0, l1, l2, l3] [] h Q ↔ Q (Sum.inl none) h := Rn_end pg140 rfl rfl
/-! 141 ThrowRulesModel.isHeld(II)Z -/
theorem eX6_isHeld : Cl r 141 [vR z0, vI x1, vI x2] h Q ↔ Rn r 141 0 [some (vR z0), some (vI x1), some (vI x2), none, none, none] [] h Q := Cl_in pg141 rfl
theorem sX6_isHeld_0 : Rn r 141 0 [l0, l1, l2, l3, l4, l5] [] h Q ↔ Rn r 141 1 [l0, l1, l2, l3, l4, l5] [vI 0] h Q := Rn_nx pg141 rfl rfl
theorem sX6_isHeld_1 : Rn r 141 1 [l0, l1, l2, l3, l4, l5] [vI x0] h Q ↔ Rn r 141 2 [l0, l1, l2, some (vI x0), l4, l5] [] h Q := Rn_nx pg141 rfl rfl
theorem sX6_isHeld_2 : Rn r 141 2 [some (vR z), l1, l2, l3, l4, l5] [] h Q ↔ Rn r 141 3 [some (vR z), l1, l2, l3, l4, l5] [vR z] h Q := Rn_nx pg141 rfl rfl
theorem sX6_isHeld_3 (hk : hK h a0 = 15) : Rn r 141 3 [l0, l1, l2, l3, l4, l5] [vR (some a0)] h Q ↔ Rn r 141 6 [l0, l1, l2, l3, l4, l5] [vR (hR h a0 22)] h Q := Rn_nx pg141 rfl (if_pos ⟨(hk ▸ Nat.le_refl _), (hk ▸ Nat.le_refl _)⟩)
theorem sX6_isHeld_6 : Rn r 141 6 [l0, some (vI x), l2, l3, l4, l5] [vR z0] h Q ↔ Rn r 141 7 [l0, some (vI x), l2, l3, l4, l5] [vI x, vR z0] h Q := Rn_nx pg141 rfl rfl
theorem sX6_isHeld_7 (hk : 40 ≤ hK h a1) (hk2 : hK h a1 ≤ 41) (hx : ¬ (x0 < 0 ∨ hL h a1 ≤ x0.toNatClampNeg)) : Rn r 141 7 [l0, l1, l2, l3, l4, l5] [vI x0, vR (some a1)] h Q ↔ Rn r 141 8 [l0, l1, l2, l3, l4, l5] [vI (hI h a1 x0.toNatClampNeg)] h Q := Rn_nx pg141 rfl ((if_pos ⟨hk, hk2⟩).trans (if_neg hx))
theorem sX6_isHeld_8 : Rn r 141 8 [l0, l1, l2, l3, l4, l5] [vI x0] h Q ↔ Rn r 141 10 [l0, l1, l2, l3, some (vI x0), l5] [] h Q := Rn_nx pg141 rfl rfl
theorem sX6_isHeld_10 : Rn r 141 10 [some (vR z), l1, l2, l3, l4, l5] [] h Q ↔ Rn r 141 11 [some (vR z), l1, l2, l3, l4, l5] [vR z] h Q := Rn_nx pg141 rfl rfl
theorem sX6_isHeld_11 (hk : hK h a0 = 15) : Rn r 141 11 [l0, l1, l2, l3, l4, l5] [vR (some a0)] h Q ↔ Rn r 141 14 [l0, l1, l2, l3, l4, l5] [vR (hR h a0 42)] h Q := Rn_nx pg141 rfl (if_pos ⟨(hk ▸ Nat.le_refl _), (hk ▸ Nat.le_refl _)⟩)
theorem sX6_isHeld_14 : Rn r 141 14 [l0, l1, l2, l3, some (vI x), l5] [vR z0] h Q ↔ Rn r 141 16 [l0, l1, l2, l3, some (vI x), l5] [vI x, vR z0] h Q := Rn_nx pg141 rfl rfl
theorem sX6_isHeld_16 (hk : 40 ≤ hK h a1) (hk2 : hK h a1 ≤ 41) (hx : ¬ (x0 < 0 ∨ hL h a1 ≤ x0.toNatClampNeg)) : Rn r 141 16 [l0, l1, l2, l3, l4, l5] [vI x0, vR (some a1)] h Q ↔ Rn r 141 17 [l0, l1, l2, l3, l4, l5] [vI (hI h a1 x0.toNatClampNeg)] h Q := Rn_nx pg141 rfl ((if_pos ⟨hk, hk2⟩).trans (if_neg hx))
theorem sX6_isHeld_17 : Rn r 141 17 [l0, l1, some (vI x), l3, l4, l5] [vI x0] h Q ↔ Rn r 141 18 [l0, l1, some (vI x), l3, l4, l5] [vI x, vI x0] h Q := Rn_nx pg141 rfl rfl
theorem sX6_isHeld_18 : Rn r 141 18 [l0, l1, l2, l3, l4, l5] [vI x0, vI x1] h Q ↔ if x1 = x0 then Rn r 141 101 [l0, l1, l2, l3, l4, l5] [] h Q else Rn r 141 21 [l0, l1, l2, l3, l4, l5] [] h Q := Rn_if pg141 rfl rfl rfl
theorem sX6_isHeld_21 : Rn r 141 21 [some (vR z), l1, l2, l3, l4, l5] [] h Q ↔ Rn r 141 22 [some (vR z), l1, l2, l3, l4, l5] [vR z] h Q := Rn_nx pg141 rfl rfl
theorem sX6_isHeld_22 (hk : hK h a0 = 15) : Rn r 141 22 [l0, l1, l2, l3, l4, l5] [vR (some a0)] h Q ↔ Rn r 141 25 [l0, l1, l2, l3, l4, l5] [vR (hR h a0 42)] h Q := Rn_nx pg141 rfl (if_pos ⟨(hk ▸ Nat.le_refl _), (hk ▸ Nat.le_refl _)⟩)
theorem sX6_isHeld_25 : Rn r 141 25 [l0, l1, l2, l3, some (vI x), l5] [vR z0] h Q ↔ Rn r 141 27 [l0, l1, l2, l3, some (vI x), l5] [vI x, vR z0] h Q := Rn_nx pg141 rfl rfl
theorem sX6_isHeld_27 (hk : 40 ≤ hK h a1) (hk2 : hK h a1 ≤ 41) (hx : ¬ (x0 < 0 ∨ hL h a1 ≤ x0.toNatClampNeg)) : Rn r 141 27 [l0, l1, l2, l3, l4, l5] [vI x0, vR (some a1)] h Q ↔ Rn r 141 28 [l0, l1, l2, l3, l4, l5] [vI (hI h a1 x0.toNatClampNeg)] h Q := Rn_nx pg141 rfl ((if_pos ⟨hk, hk2⟩).trans (if_neg hx))
theorem sX6_isHeld_28 : Rn r 141 28 [l0, l1, l2, l3, l4, l5] [vI x0] h Q ↔ Rn r 141 30 [l0, l1, l2, l3, l4, some (vI x0)] [] h Q := Rn_nx pg141 rfl rfl
theorem sX6_isHeld_30 : Rn r 141 30 [l0, l1, l2, some (vI x), l4, l5] [] h Q ↔ Rn r 141 31 [l0, l1, l2, some (vI x), l4, l5] [vI x] h Q := Rn_nx pg141 rfl rfl
theorem sX6_isHeld_31 : Rn r 141 31 [l0, l1, l2, l3, l4, l5] [vI x0] h Q ↔ if x0 ≠ 0 then Rn r 141 83 [l0, l1, l2, l3, l4, l5] [] h Q else Rn r 141 34 [l0, l1, l2, l3, l4, l5] [] h Q := Rn_if pg141 rfl rfl rfl
theorem sX6_isHeld_34 : Rn r 141 34 [some (vR z), l1, l2, l3, l4, l5] [] h Q ↔ Rn r 141 35 [some (vR z), l1, l2, l3, l4, l5] [vR z] h Q := Rn_nx pg141 rfl rfl
theorem sX6_isHeld_35 (hk : hK h a0 = 15) : Rn r 141 35 [l0, l1, l2, l3, l4, l5] [vR (some a0)] h Q ↔ Rn r 141 38 [l0, l1, l2, l3, l4, l5] [vR (hR h a0 20)] h Q := Rn_nx pg141 rfl (if_pos ⟨(hk ▸ Nat.le_refl _), (hk ▸ Nat.le_refl _)⟩)
theorem sX6_isHeld_38 : Rn r 141 38 [l0, l1, l2, l3, l4, some (vI x)] [vR z0] h Q ↔ Rn r 141 40 [l0, l1, l2, l3, l4, some (vI x)] [vI x, vR z0] h Q := Rn_nx pg141 rfl rfl
theorem sX6_isHeld_40 (hk : 40 ≤ hK h a1) (hk2 : hK h a1 ≤ 41) (hx : ¬ (x0 < 0 ∨ hL h a1 ≤ x0.toNatClampNeg)) : Rn r 141 40 [l0, l1, l2, l3, l4, l5] [vI x0, vR (some a1)] h Q ↔ Rn r 141 41 [l0, l1, l2, l3, l4, l5] [vI (hI h a1 x0.toNatClampNeg)] h Q := Rn_nx pg141 rfl ((if_pos ⟨hk, hk2⟩).trans (if_neg hx))
theorem sX6_isHeld_41 : Rn r 141 41 [l0, l1, l2, l3, l4, l5] [vI x0] h Q ↔ Rn r 141 43 [l0, l1, l2, l3, l4, l5] [vI 9, vI x0] h Q := Rn_nx pg141 rfl rfl
theorem sX6_isHeld_43 : Rn r 141 43 [l0, l1, l2, l3, l4, l5] [vI x0, vI x1] h Q ↔ if x1 ≠ x0 then Rn r 141 87 [l0, l1, l2, l3, l4, l5] [] h Q else Rn r 141 46 [l0, l1, l2, l3, l4, l5] [] h Q := Rn_if pg141 rfl rfl rfl
theorem sX6_isHeld_46 : Rn r 141 46 [some (vR z), l1, l2, l3, l4, l5] [] h Q ↔ Rn r 141 47 [some (vR z), l1, l2, l3, l4, l5] [vR z] h Q := Rn_nx pg141 rfl rfl
theorem sX6_isHeld_47 (hk : hK h a0 = 15) : Rn r 141 47 [l0, l1, l2, l3, l4, l5] [vR (some a0)] h Q ↔ Rn r 141 50 [l0, l1, l2, l3, l4, l5] [vR (hR h a0 41)] h Q := Rn_nx pg141 rfl (if_pos ⟨(hk ▸ Nat.le_refl _), (hk ▸ Nat.le_refl _)⟩)
theorem sX6_isHeld_50 : Rn r 141 50 [l0, l1, l2, l3, some (vI x), l5] [vR z0] h Q ↔ Rn r 141 52 [l0, l1, l2, l3, some (vI x), l5] [vI x, vR z0] h Q := Rn_nx pg141 rfl rfl
theorem sX6_isHeld_52 (hk : 40 ≤ hK h a1) (hk2 : hK h a1 ≤ 41) (hx : ¬ (x0 < 0 ∨ hL h a1 ≤ x0.toNatClampNeg)) : Rn r 141 52 [l0, l1, l2, l3, l4, l5] [vI x0, vR (some a1)] h Q ↔ Rn r 141 53 [l0, l1, l2, l3, l4, l5] [vI (hI h a1 x0.toNatClampNeg)] h Q := Rn_nx pg141 rfl ((if_pos ⟨hk, hk2⟩).trans (if_neg hx))
theorem sX6_isHeld_53 : Rn r 141 53 [l0, l1, l2, l3, l4, l5] [vI x0] h Q ↔ Rn r 141 55 [l0, l1, l2, l3, l4, l5] [vI 7, vI x0] h Q := Rn_nx pg141 rfl rfl
theorem sX6_isHeld_55 : Rn r 141 55 [l0, l1, l2, l3, l4, l5] [vI x0, vI x1] h Q ↔ if x1 = x0 then Rn r 141 87 [l0, l1, l2, l3, l4, l5] [] h Q else Rn r 141 58 [l0, l1, l2, l3, l4, l5] [] h Q := Rn_if pg141 rfl rfl rfl
theorem sX6_isHeld_58 : Rn r 141 58 [some (vR z), l1, l2, l3, l4, l5] [] h Q ↔ Rn r 141 59 [some (vR z), l1, l2, l3, l4, l5] [vR z] h Q := Rn_nx pg141 rfl rfl
theorem sX6_isHeld_59 (hk : hK h a0 = 15) : Rn r 141 59 [l0, l1, l2, l3, l4, l5] [vR (some a0)] h Q ↔ Rn r 141 62 [l0, l1, l2, l3, l4, l5] [vR (hR h a0 29)] h Q := Rn_nx pg141 rfl (if_pos ⟨(hk ▸ Nat.le_refl _), (hk ▸ Nat.le_refl _)⟩)
theorem sX6_isHeld_62 : Rn r 141 62 [l0, l1, l2, l3, l4, some (vI x)] [vR z0] h Q ↔ Rn r 141 64 [l0, l1, l2, l3, l4, some (vI x)] [vI x, vR z0] h Q := Rn_nx pg141 rfl rfl
theorem sX6_isHeld_64 (hk : 40 ≤ hK h a1) (hk2 : hK h a1 ≤ 41) (hx : ¬ (x0 < 0 ∨ hL h a1 ≤ x0.toNatClampNeg)) : Rn r 141 64 [l0, l1, l2, l3, l4, l5] [vI x0, vR (some a1)] h Q ↔ Rn r 141 65 [l0, l1, l2, l3, l4, l5] [vI (hI h a1 x0.toNatClampNeg)] h Q := Rn_nx pg141 rfl ((if_pos ⟨hk, hk2⟩).trans (if_neg hx))
theorem sX6_isHeld_65 : Rn r 141 65 [l0, l1, l2, l3, l4, l5] [vI x0] h Q ↔ Rn r 141 66 [l0, l1, l2, l3, l4, l5] [vI (-1), vI x0] h Q := Rn_nx pg141 rfl rfl
theorem sX6_isHeld_66 : Rn r 141 66 [l0, l1, l2, l3, l4, l5] [vI x0, vI x1] h Q ↔ if x1 = x0 then Rn r 141 87 [l0, l1, l2, l3, l4, l5] [] h Q else Rn r 141 69 [l0, l1, l2, l3, l4, l5] [] h Q := Rn_if pg141 rfl rfl rfl
theorem sX6_isHeld_69 : Rn r 141 69 [some (vR z), l1, l2, l3, l4, l5] [] h Q ↔ Rn r 141 70 [some (vR z), l1, l2, l3, l4, l5] [vR z] h Q := Rn_nx pg141 rfl rfl
theorem sX6_isHeld_70 : Rn r 141 70 [some (vR z), l1, l2, l3, l4, l5] [vR z0] h Q ↔ Rn r 141 71 [some (vR z), l1, l2, l3, l4, l5] [vR z, vR z0] h Q := Rn_nx pg141 rfl rfl
theorem sX6_isHeld_71 (hk : hK h a0 = 15) : Rn r 141 71 [l0, l1, l2, l3, l4, l5] [vR (some a0), vR z1] h Q ↔ Rn r 141 74 [l0, l1, l2, l3, l4, l5] [vR (hR h a0 29), vR z1] h Q := Rn_nx pg141 rfl (if_pos ⟨(hk ▸ Nat.le_refl _), (hk ▸ Nat.le_refl _)⟩)
theorem sX6_isHeld_74 : Rn r 141 74 [l0, l1, l2, l3, l4, some (vI x)] [vR z0, vR z1] h Q ↔ Rn r 141 76 [l0, l1, l2, l3, l4, some (vI x)] [vI x, vR z0, vR z1] h Q := Rn_nx pg141 rfl rfl
theorem sX6_isHeld_76 (hk : 40 ≤ hK h a1) (hk2 : hK h a1 ≤ 41) (hx : ¬ (x0 < 0 ∨ hL h a1 ≤ x0.toNatClampNeg)) : Rn r 141 76 [l0, l1, l2, l3, l4, l5] [vI x0, vR (some a1), vR z2] h Q ↔ Rn r 141 77 [l0, l1, l2, l3, l4, l5] [vI (hI h a1 x0.toNatClampNeg), vR z2] h Q := Rn_nx pg141 rfl ((if_pos ⟨hk, hk2⟩).trans (if_neg hx))
theorem sX6_isHeld_77 (hk : hK h a1 = 15) : Rn r 141 77 [l0, l1, l2, l3, l4, l5] [vI x0, vR (some a1)] h Q ↔ Cl r 52 [vR (some a1), vI x0] h (Kt r 141 80 [l0, l1, l2, l3, l4, l5] [] Q) := Rn_call pg141 rfl (by simp only [am_exec, am_inv, am_pop, am_lk, hk]; rfl) pg52 rfl rfl rfl
theorem sX6_isHeld_80 : Rn r 141 80 [l0, l1, l2, l3, l4, l5] [vI x0] h Q ↔ if x0 ≠ 0 then Rn r 141 87 [l0, l1, l2, l3, l4, l5] [] h Q else Rn r 141 83 [l0, l1, l2, l3, l4, l5] [] h Q := Rn_if pg141 rfl rfl rfl
theorem sX6_isHeld_83 : Rn r 141 83 [l0, l1, l2, l3, l4, l5] [] h Q ↔ Rn r 141 84 [l0, l1, l2, l3, l4, l5] [vI 1] h Q := Rn_nx pg141 rfl rfl
theorem sX6_isHeld_84 : Rn r 141 84 [l0, l1, l2, l3, l4, l5] [vI x0] h Q ↔ Rn r 141 88 [l0, l1, l2, l3, l4, l5] [vI x0] h Q := Rn_nx pg141 rfl rfl
theorem sX6_isHeld_87 : Rn r 141 87 [l0, l1, l2, l3, l4, l5] [] h Q ↔ Rn r 141 88 [l0, l1, l2, l3, l4, l5] [vI 0] h Q := Rn_nx pg141 rfl rfl
theorem sX6_isHeld_88 : Rn r 141 88 [l0, l1, l2, l3, l4, l5] [vI x0] h Q ↔ Rn r 141 89 [l0, l1, l2, some (vI x0), l4, l5] [] h Q := Rn_nx pg141 rfl rfl
theorem sX6_isHeld_89 : Rn r 141 89 [some (vR z), l1, l2, l3, l4, l5] [] h Q ↔ Rn r 141 90 [some (vR z), l1, l2, l3, l4, l5] [vR z] h Q := Rn_nx pg141 rfl rfl
theorem sX6_isHeld_90 (hk : hK h a0 = 15) : Rn r 141 90 [l0, l1, l2, l3, l4, l5] [vR (some a0)] h Q ↔ Rn r 141 93 [l0, l1, l2, l3, l4, l5] [vR (hR h a0 22)] h Q := Rn_nx pg141 rfl (if_pos ⟨(hk ▸ Nat.le_refl _), (hk ▸ Nat.le_refl _)⟩)
theorem sX6_isHeld_93 : Rn r 141 93 [l0, l1, l2, l3, l4, some (vI x)] [vR z0] h Q ↔ Rn r 141 95 [l0, l1, l2, l3, l4, some (vI x)] [vI x, vR z0] h Q := Rn_nx pg141 rfl rfl
theorem sX6_isHeld_95 (hk : 40 ≤ hK h a1) (hk2 : hK h a1 ≤ 41) (hx : ¬ (x0 < 0 ∨ hL h a1 ≤ x0.toNatClampNeg)) : Rn r 141 95 [l0, l1, l2, l3, l4, l5] [vI x0, vR (some a1)] h Q ↔ Rn r 141 96 [l0, l1, l2, l3, l4, l5] [vI (hI h a1 x0.toNatClampNeg)] h Q := Rn_nx pg141 rfl ((if_pos ⟨hk, hk2⟩).trans (if_neg hx))
theorem sX6_isHeld_96 : Rn r 141 96 [l0, l1, l2, l3, l4, l5] [vI x0] h Q ↔ Rn r 141 98 [l0, l1, l2, l3, some (vI x0), l5] [] h Q := Rn_nx pg141 rfl rfl
theorem sX6_isHeld_98 : Rn r 141 98 [l0, l1, l2, l3, l4, l5] [] h Q ↔ Rn r 141 10 [l0, l1, l2, l3, l4, l5] [] h Q := Rn_nx pg141 rfl rfl
theorem sX6_isHeld_101 : Rn r 141 101 [l0, l1, l2, some (vI x), l4, l5] [] h Q ↔ Rn r 141 102 [l0, l1, l2, some (vI x), l4, l5] [vI x] h Q := Rn_nx pg141 rfl rfl
theorem sX6_isHeld_102 (hf : am_fit 4 x0 = true) : Rn r 141 102 [l0, l1, l2, l3, l4, l5] [vI x0] h Q ↔ Q (Sum.inl (some (vI x0))) h := Rn_end pg141 rfl (if_pos hf)
/-! 142 ThrowRulesModel.called(I)I -/
theorem eX6_called : Cl r 142 [vR z0, vI x1] h Q ↔ Rn r 142 0 [some (vR z0), some (vI x1), none, none, none] [] h Q := Cl_in pg142 rfl
theorem sX6_called_0 : Rn r 142 0 [some (vR z), l1, l2, l3, l4] [] h Q ↔ Rn r 142 1 [some (vR z), l1, l2, l3, l4] [vR z] h Q := Rn_nx pg142 rfl rfl
theorem sX6_called_1 : Rn r 142 1 [some (vR z), l1, l2, l3, l4] [vR z0] h Q ↔ Rn r 142 2 [some (vR z), l1, l2, l3, l4] [vR z, vR z0] h Q := Rn_nx pg142 rfl rfl
theorem sX6_called_2 (hk : hK h a0 = 15) : Rn r 142 2 [l0, l1, l2, l3, l4] [vR (some a0), vR z1] h Q ↔ Rn r 142 5 [l0, l1, l2, l3, l4] [vR (hR h a0 25), vR z1] h Q := Rn_nx pg142 rfl (if_pos ⟨(hk ▸ Nat.le_refl _), (hk ▸ Nat.le_refl _)⟩)
theorem sX6_called_5 : Rn r 142 5 [l0, some (vI x), l2, l3, l4] [vR z0, vR z1] h Q ↔ Rn r 142 6 [l0, some (vI x), l2, l3, l4] [vI x, vR z0, vR z1] h Q := Rn_nx pg142 rfl rfl
theorem sX6_called_6 (hk : hK h a1 = 42) (hx : ¬ (x0 < 0 ∨ hL h a1 ≤ x0.toNatClampNeg)) : Rn r 142 6 [l0, l1, l2, l3, l4] [vI x0, vR (some a1), vR z2] h Q ↔ Rn r 142 7 [l0, l1, l2, l3, l4] [vL (hJ h a1 x0.toNatClampNeg), vR z2] h Q := Rn_nx pg142 rfl ((if_pos ⟨(hk ▸ Nat.le_refl _), (hk ▸ Nat.le_refl _)⟩).trans (if_neg hx))
theorem sX6_called_7 (hk : hK h a1 = 15) : Rn r 142 7 [l0, l1, l2, l3, l4] [vL y0, vR (some a1)] h Q ↔ Cl r 53 [vR (some a1), vL y0] h (Kt r 142 10 [l0, l1, l2, l3, l4] [] Q) := Rn_call pg142 rfl (by simp only [am_exec, am_inv, am_pop, am_lk, hk]; rfl) pg53 rfl rfl rfl
theorem sX6_called_10 : Rn r 142 10 [l0, l1, l2, l3, l4] [vI x0] h Q ↔ Rn r 142 11 [l0, l1, some (vI x0), l3, l4] [] h Q := Rn_nx pg142 rfl rfl
theorem sX6_called_11 : Rn r 142 11 [some (vR z), l1, l2, l3, l4] [] h Q ↔ Rn r 142 12 [some (vR z), l1, l2, l3, l4] [vR z] h Q := Rn_nx pg142 rfl rfl
theorem sX6_called_12 : Rn r 142 12 [l0, l1, some (vI x), l3, l4] [vR z0] h Q ↔ Rn r 142 13 [l0, l1, some (vI x), l3, l4] [vI x, vR z0] h Q := Rn_nx pg142 rfl rfl
theorem sX6_called_13 (hk : hK h a1 = 15) : Rn r 142 13 [l0, l1, l2, l3, l4] [vI x0, vR (some a1)] h Q ↔ Cl r 51 [vR (some a1), vI x0] h (Kt r 142 16 [l0, l1, l2, l3, l4] [] Q) := Rn_call pg142 rfl (by simp only [am_exec, am_inv, am_pop, am_lk, hk]; rfl) pg51 rfl rfl rfl
theorem sX6_called_16 : Rn r 142 16 [l0, l1, l2, l3, l4] [vI x0] h Q ↔ Rn r 142 17 [l0, l1, l2, some (vI x0), l4] [] h Q := Rn_nx pg142 rfl rfl
theorem sX6_called_17 : Rn r 142 17 [l0, l1, some (vI x), l3, l4] [] h Q ↔ Rn r 142 18 [l0, l1, some (vI x), l3, l4] [vI x] h Q := Rn_nx pg142 rfl rfl
theorem sX6_called_18 : Rn r 142 18 [l0, l1, l2, l3, l4] [vI x0] h Q ↔ Rn r 142 19 [l0, l1, l2, l3, l4] [vI (-1), vI x0] h Q := Rn_nx pg142 rfl rfl
theorem sX6_called_19 : Rn r 142 19 [l0, l1, l2, l3, l4] [vI x0, vI x1] h Q ↔ if x1 = x0 then Rn r 142 76 [l0, l1, l2, l3, l4] [] h Q else Rn r 142 22 [l0, l1, l2, l3, l4] [] h Q := Rn_if pg142 rfl rfl rfl
theorem sX6_called_22 : Rn r 142 22 [some (vR z), l1, l2, l3, l4] [] h Q ↔ Rn r 142 23 [some (vR z), l1, l2, l3, l4] [vR z] h Q := Rn_nx pg142 rfl rfl
theorem sX6_called_23 (hk : hK h a0 = 15) : Rn r 142 23 [l0, l1, l2, l3, l4] [vR (some a0)] h Q ↔ Rn r 142 26 [l0, l1, l2, l3, l4] [vR (hR h a0 14)] h Q := Rn_nx pg142 rfl (if_pos ⟨(hk ▸ Nat.le_refl _), (hk ▸ Nat.le_refl _)⟩)
theorem sX6_called_26 : Rn r 142 26 [some (vR z), l1, l2, l3, l4] [vR z0] h Q ↔ Rn r 142 27 [some (vR z), l1, l2, l3, l4] [vR z, vR z0] h Q := Rn_nx pg142 rfl rfl
theorem sX6_called_27 (hk : hK h a0 = 15) : Rn r 142 27 [l0, l1, l2, l3, l4] [vR (some a0), vR z1] h Q ↔ Rn r 142 30 [l0, l1, l2, l3, l4] [vI (hI h a0 2), vR z1] h Q := Rn_nx pg142 rfl (if_pos ⟨(hk ▸ Nat.le_refl _), (hk ▸ Nat.le_refl _)⟩)
theorem sX6_called_30 : Rn r 142 30 [l0, l1, l2, l3, l4] [vI x0, vR z1] h Q ↔ Rn r 142 32 [l0, l1, l2, l3, l4] [vI 12, vI x0, vR z1] h Q := Rn_nx pg142 rfl rfl
theorem sX6_called_32 : Rn r 142 32 [l0, l1, l2, l3, l4] [vI x0, vI x1, vR z2] h Q ↔ Rn r 142 33 [l0, l1, l2, l3, l4] [vI (x1 * x0), vR z2] h Q := Rn_nx pg142 rfl rfl
theorem sX6_called_33 : Rn r 142 33 [l0, l1, some (vI x), l3, l4] [vI x0, vR z1] h Q ↔ Rn r 142 34 [l0, l1, some (vI x), l3, l4] [vI x, vI x0, vR z1] h Q := Rn_nx pg142 rfl rfl
theorem sX6_called_34 : Rn r 142 34 [l0, l1, l2, l3, l4] [vI x0, vI x1, vR z2] h Q ↔ Rn r 142 35 [l0, l1, l2, l3, l4] [vI (x1 + x0), vR z2] h Q := Rn_nx pg142 rfl rfl
theorem sX6_called_35 (hk : 43 ≤ hK h a1) (hk2 : hK h a1 ≤ 45) (hx : ¬ (x0 < 0 ∨ hL h a1 ≤ x0.toNatClampNeg)) : Rn r 142 35 [l0, l1, l2, l3, l4] [vI x0, vR (some a1)] h Q ↔ Rn r 142 36 [l0, l1, l2, l3, l4] [vI (hI h a1 x0.toNatClampNeg)] h Q := Rn_nx pg142 rfl ((if_pos ⟨hk, hk2⟩).trans (if_neg hx))
theorem sX6_called_36 : Rn r 142 36 [l0, l1, l2, l3, l4] [vI x0] h Q ↔ if x0 = 0 then Rn r 142 76 [l0, l1, l2, l3, l4] [] h Q else Rn r 142 39 [l0, l1, l2, l3, l4] [] h Q := Rn_if pg142 rfl rfl rfl
theorem sX6_called_39 : Rn r 142 39 [some (vR z), l1, l2, l3, l4] [] h Q ↔ Rn r 142 40 [some (vR z), l1, l2, l3, l4] [vR z] h Q := Rn_nx pg142 rfl rfl
theorem sX6_called_40 : Rn r 142 40 [some (vR z), l1, l2, l3, l4] [vR z0] h Q ↔ Rn r 142 41 [some (vR z), l1, l2, l3, l4] [vR z, vR z0] h Q := Rn_nx pg142 rfl rfl
theorem sX6_called_41 : Rn r 142 41 [some (vR z), l1, l2, l3, l4] [vR z0, vR z1] h Q ↔ Rn r 142 42 [some (vR z), l1, l2, l3, l4] [vR z, vR z0, vR z1] h Q := Rn_nx pg142 rfl rfl
theorem sX6_called_42 (hk : hK h a0 = 15) : Rn r 142 42 [l0, l1, l2, l3, l4] [vR (some a0), vR z1, vR z2] h Q ↔ Rn r 142 45 [l0, l1, l2, l3, l4] [vR (hR h a0 27), vR z1, vR z2] h Q := Rn_nx pg142 rfl (if_pos ⟨(hk ▸ Nat.le_refl _), (hk ▸ Nat.le_refl _)⟩)
theorem sX6_called_45 : Rn r 142 45 [l0, some (vI x), l2, l3, l4] [vR z0, vR z1, vR z2] h Q ↔ Rn r 142 46 [l0, some (vI x), l2, l3, l4] [vI x, vR z0, vR z1, vR z2] h Q := Rn_nx pg142 rfl rfl
theorem sX6_called_46 (hk : 40 ≤ hK h a1) (hk2 : hK h a1 ≤ 41) (hx : ¬ (x0 < 0 ∨ hL h a1 ≤ x0.toNatClampNeg)) : Rn r 142 46 [l0, l1, l2, l3, l4] [vI x0, vR (some a1), vR z2, vR z3] h Q ↔ Rn r 142 47 [l0, l1, l2, l3, l4] [vI (hI h a1 x0.toNatClampNeg), vR z2, vR z3] h Q := Rn_nx pg142 rfl ((if_pos ⟨hk, hk2⟩).trans (if_neg hx))
theorem sX6_called_47 (hk : hK h a1 = 15) : Rn r 142 47 [l0, l1, l2, l3, l4] [vI x0, vR (some a1), vR z2] h Q ↔ Cl r 50 [vR (some a1), vI x0] h (Kt r 142 50 [l0, l1, l2, l3, l4] [vR z2] Q) := Rn_call pg142 rfl (by simp only [am_exec, am_inv, am_pop, am_lk, hk]; rfl) pg50 rfl rfl rfl
theorem sX6_called_50 (hk : hK h a1 = 15) : Rn r 142 50 [l0, l1, l2, l3, l4] [vI x0, vR (some a1)] h Q ↔ Cl r 179 [vR (some a1), vI x0] h (Kt r 142 53 [l0, l1, l2, l3, l4] [] Q) := Rn_call pg142 rfl (by simp only [am_exec, am_inv, am_pop, am_lk, hk]; rfl) pg179 rfl rfl rfl
theorem sX6_called_53 : Rn r 142 53 [l0, l1, l2, l3, l4] [vI x0] h Q ↔ Rn r 142 55 [l0, l1, l2, l3, some (vI x0)] [] h Q := Rn_nx pg142 rfl rfl
theorem sX6_called_55 : Rn r 142 55 [l0, l1, l2, some (vI x), l4] [] h Q ↔ Rn r 142 56 [l0, l1, l2, some (vI x), l4] [vI x] h Q := Rn_nx pg142 rfl rfl
theorem sX6_called_56 : Rn r 142 56 [l0, l1, l2, l3, some (vI x)] [vI x0] h Q ↔ Rn r 142 58 [l0, l1, l2, l3, some (vI x)] [vI x, vI x0] h Q := Rn_nx pg142 rfl rfl
theorem sX6_called_58 : Rn r 142 58 [l0, l1, l2, l3, l4] [vI x0, vI x1] h Q ↔ if x0 ≠ 0 then Rn r 142 65 [l0, l1, l2, l3, l4] [vI x1] h Q else Rn r 142 61 [l0, l1, l2, l3, l4] [vI x1] h Q := Rn_if pg142 rfl rfl rfl
theorem sX6_called_61 : Rn r 142 61 [l0, l1, l2, l3, l4] [vI x0] h Q ↔ Rn r 142 62 [l0, l1, l2, l3, l4] [vI 2, vI x0] h Q := Rn_nx pg142 rfl rfl
theorem sX6_called_62 : Rn r 142 62 [l0, l1, l2, l3, l4] [vI x0, vI x1] h Q ↔ Rn r 142 71 [l0, l1, l2, l3, l4] [vI x0, vI x1] h Q := Rn_nx pg142 rfl rfl
theorem sX6_called_65 : Rn r 142 65 [some (vR z), l1, l2, l3, l4] [vI x0] h Q ↔ Rn r 142 66 [some (vR z), l1, l2, l3, l4] [vR z, vI x0] h Q := Rn_nx pg142 rfl rfl
theorem sX6_called_66 : Rn r 142 66 [l0, l1, l2, l3, some (vI x)] [vR z0, vI x1] h Q ↔ Rn r 142 68 [l0, l1, l2, l3, some (vI x)] [vI x, vR z0, vI x1] h Q := Rn_nx pg142 rfl rfl
theorem sX6_called_68 (hk : hK h a1 = 15) : Rn r 142 68 [l0, l1, l2, l3, l4] [vI x0, vR (some a1), vI x2] h Q ↔ Cl r 180 [vR (some a1), vI x0] h (Kt r 142 71 [l0, l1, l2, l3, l4] [vI x2] Q) := Rn_call pg142 rfl (by simp only [am_exec, am_inv, am_pop, am_lk, hk]; rfl) pg180 rfl rfl rfl
theorem sX6_called_71 : Rn r 142 71 [l0, l1, l2, l3, l4] [vI x0, vI x1] h Q ↔ Cl r 101 [vI x0] h (Kt r 142 74 [l0, l1, l2, l3, l4] [vI x1] Q) := Rn_call pg142 rfl rfl pg101 rfl rfl rfl
theorem sX6_called_74 : Rn r 142 74 [l0, l1, l2, l3, l4] [vI x0, vI x1] h Q ↔ Rn r 142 75 [l0, l1, l2, l3, l4] [vI (x1 ||| x0)] h Q := Rn_nx pg142 rfl rfl
theorem sX6_called_75 : Rn r 142 75 [l0, l1, l2, l3, l4] [vI x0] h Q ↔ Rn r 142 76 [l0, l1, l2, some (vI x0), l4] [] h Q := Rn_nx pg142 rfl rfl
theorem sX6_called_76 : Rn r 142 76 [l0, l1, l2, some (vI x), l4] [] h Q ↔ Rn r 142 77 [l0, l1, l2, some (vI x), l4] [vI x] h Q := Rn_nx pg142 rfl rfl
theorem sX6_called_77 : Rn r 142 77 [l0, l1, l2, l3, l4] [vI x0] h Q ↔ Q (Sum.inl (some (vI x0))) h := Rn_end pg142 rfl rfl
/-! 143 ThrowRulesModel.thrown(I)I -/
theorem eX6_thrown : Cl r 143 [vR z0, vI x1] h Q ↔ Rn r 143 0 [some (vR z0), some (vI x1), none] [] h Q := Cl_in pg143 rfl
theorem sX6_thrown_0 : Rn r 143 0 [some (vR z), l1, l2] [] h Q ↔ Rn r 143 1 [some (vR z), l1, l2] [vR z] h Q := Rn_nx pg143 rfl rfl
theorem sX6_thrown_1 : Rn r 143 1 [some (vR z), l1, l2] [vR z0] h Q ↔ Rn r 143 2 [some (vR z), l1, l2] [vR z, vR z0] h Q := Rn_nx pg143 rfl rfl
theorem sX6_thrown_2 (hk : hK h a0 = 15) : Rn r 143 2 [l0, l1, l2] [vR (some a0), vR z1] h Q ↔ Rn r 143 5 [l0, l1, l2] [vR (hR h a0 25), vR z1] h Q := Rn_nx pg143 rfl (if_pos ⟨(hk ▸ Nat.le_refl _), (hk ▸ Nat.le_refl _)⟩)
theorem sX6_thrown_5 : Rn r 143 5 [l0, some (vI x), l2] [vR z0, vR z1] h Q ↔ Rn r 143 6 [l0, some (vI x), l2] [vI x, vR z0, vR z1] h Q := Rn_nx pg143 rfl rfl
theorem sX6_thrown_6 (hk : hK h a1 = 42) (hx : ¬ (x0 < 0 ∨ hL h a1 ≤ x0.toNatClampNeg)) : Rn r 143 6 [l0, l1, l2] [vI x0, vR (some a1), vR z2] h Q ↔ Rn r 143 7 [l0, l1, l2] [vL (hJ h a1 x0.toNatClampNeg), vR z2] h Q := Rn_nx pg143 rfl ((if_pos ⟨(hk ▸ Nat.le_refl _), (hk ▸ Nat.le_refl _)⟩).trans (if_neg hx))
theorem sX6_thrown_7 : Rn r 143 7 [some (vR z), l1, l2] [vL y0, vR z1] h Q ↔ Rn r 143 8 [some (vR z), l1, l2] [vR z, vL y0, vR z1] h Q := Rn_nx pg143 rfl rfl
theorem sX6_thrown_8 (hk : hK h a0 = 15) : Rn r 143 8 [l0, l1, l2] [vR (some a0), vL y1, vR z2] h Q ↔ Rn r 143 11 [l0, l1, l2] [vR (hR h a0 22), vL y1, vR z2] h Q := Rn_nx pg143 rfl (if_pos ⟨(hk ▸ Nat.le_refl _), (hk ▸ Nat.le_refl _)⟩)
theorem sX6_thrown_11 : Rn r 143 11 [l0, some (vI x), l2] [vR z0, vL y1, vR z2] h Q ↔ Rn r 143 12 [l0, some (vI x), l2] [vI x, vR z0, vL y1, vR z2] h Q := Rn_nx pg143 rfl rfl
theorem sX6_thrown_12 (hk : 40 ≤ hK h a1) (hk2 : hK h a1 ≤ 41) (hx : ¬ (x0 < 0 ∨ hL h a1 ≤ x0.toNatClampNeg)) : Rn r 143 12 [l0, l1, l2] [vI x0, vR (some a1), vL y2, vR z3] h Q ↔ Rn r 143 13 [l0, l1, l2] [vI (hI h a1 x0.toNatClampNeg), vL y2, vR z3] h Q := Rn_nx pg143 rfl ((if_pos ⟨hk, hk2⟩).trans (if_neg hx))
theorem sX6_thrown_13 (hk : hK h a2 = 15) : Rn r 143 13 [l0, l1, l2] [vI x0, vL y1, vR (some a2)] h Q ↔ Cl r 107 [vR (some a2), vL y1, vI x0] h (Kt r 143 16 [l0, l1, l2] [] Q) := Rn_call pg143 rfl (by simp only [am_exec, am_inv, am_pop, am_lk, hk]; rfl) pg107 rfl rfl rfl
theorem sX6_thrown_16 : Rn r 143 16 [l0, l1, l2] [vI x0] h Q ↔ Rn r 143 17 [l0, l1, some (vI x0)] [] h Q := Rn_nx pg143 rfl rfl
theorem sX6_thrown_17 : Rn r 143 17 [l0, l1, some (vI x)] [] h Q ↔ Rn r 143 18 [l0, l1, some (vI x)] [vI x] h Q := Rn_nx pg143 rfl rfl
theorem sX6_thrown_18 : Rn r 143 18 [l0, l1, l2] [vI x0] h Q ↔ Rn r 143 19 [l0, l1, l2] [vI (-1), vI x0] h Q := Rn_nx pg143 rfl rfl
theorem sX6_thrown_19 : Rn r 143 19 [l0, l1, l2] [vI x0, vI x1] h Q ↔ if x1 ≠ x0 then Rn r 143 42 [l0, l1, l2] [] h Q else Rn r 143 22 [l0, l1, l2] [] h Q := Rn_if pg143 rfl rfl rfl
theorem sX6_thrown_22 : Rn r 143 22 [some (vR z), l1, l2] [] h Q ↔ Rn r 143 23 [some (vR z), l1, l2] [vR z] h Q := Rn_nx pg143 rfl rfl
theorem sX6_thrown_23 : Rn r 143 23 [some (vR z), l1, l2] [vR z0] h Q ↔ Rn r 143 24 [some (vR z), l1, l2] [vR z, vR z0] h Q := Rn_nx pg143 rfl rfl
theorem sX6_thrown_24 (hk : hK h a0 = 15) : Rn r 143 24 [l0, l1, l2] [vR (some a0), vR z1] h Q ↔ Rn r 143 27 [l0, l1, l2] [vR (hR h a0 25), vR z1] h Q := Rn_nx pg143 rfl (if_pos ⟨(hk ▸ Nat.le_refl _), (hk ▸ Nat.le_refl _)⟩)
theorem sX6_thrown_27 : Rn r 143 27 [l0, some (vI x), l2] [vR z0, vR z1] h Q ↔ Rn r 143 28 [l0, some (vI x), l2] [vI x, vR z0, vR z1] h Q := Rn_nx pg143 rfl rfl
theorem sX6_thrown_28 (hk : hK h a1 = 42) (hx : ¬ (x0 < 0 ∨ hL h a1 ≤ x0.toNatClampNeg)) : Rn r 143 28 [l0, l1, l2] [vI x0, vR (some a1), vR z2] h Q ↔ Rn r 143 29 [l0, l1, l2] [vL (hJ h a1 x0.toNatClampNeg), vR z2] h Q := Rn_nx pg143 rfl ((if_pos ⟨(hk ▸ Nat.le_refl _), (hk ▸ Nat.le_refl _)⟩).trans (if_neg hx))
theorem sX6_thrown_29 : Rn r 143 29 [some (vR z), l1, l2] [vL y0, vR z1] h Q ↔ Rn r 143 30 [some (vR z), l1, l2] [vR z, vL y0, vR z1] h Q := Rn_nx pg143 rfl rfl
theorem sX6_thrown_30 (hk : hK h a0 = 15) : Rn r 143 30 [l0, l1, l2] [vR (some a0), vL y1, vR z2] h Q ↔ Rn r 143 33 [l0, l1, l2] [vR (hR h a0 26), vL y1, vR z2] h Q := Rn_nx pg143 rfl (if_pos ⟨(hk ▸ Nat.le_refl _), (hk ▸ Nat.le_refl _)⟩)
theorem sX6_thrown_33 : Rn r 143 33 [l0, some (vI x), l2] [vR z0, vL y1, vR z2] h Q ↔ Rn r 143 34 [l0, some (vI x), l2] [vI x, vR z0, vL y1, vR z2] h Q := Rn_nx pg143 rfl rfl
theorem sX6_thrown_34 (hk : 40 ≤ hK h a1) (hk2 : hK h a1 ≤ 41) (hx : ¬ (x0 < 0 ∨ hL h a1 ≤ x0.toNatClampNeg)) : Rn r 143 34 [l0, l1, l2] [vI x0, vR (some a1), vL y2, vR z3] h Q ↔ Rn r 143 35 [l0, l1, l2] [vI (hI h a1 x0.toNatClampNeg), vL y2, vR z3] h Q := Rn_nx pg143 rfl ((if_pos ⟨hk, hk2⟩).trans (if_neg hx))
theorem sX6_thrown_35 (hk : hK h a2 = 15) : Rn r 143 35 [l0, l1, l2] [vI x0, vL y1, vR (some a2)] h Q ↔ Cl r 69 [vR (some a2), vL y1, vI x0] h (Kt r 143 38 [l0, l1, l2] [] Q) := Rn_call pg143 rfl (by simp only [am_exec, am_inv, am_pop, am_lk, hk]; rfl) pg69 rfl rfl rfl
theorem sX6_thrown_38 : Rn r 143 38 [l0, l1, l2] [vI x0] h Q ↔ Cl r 101 [vI x0] h (Kt r 143 41 [l0, l1, l2] [] Q) := Rn_call pg143 rfl rfl pg101 rfl rfl rfl
theorem sX6_thrown_41 : Rn r 143 41 [l0, l1, l2] [vI x0] h Q ↔ Q (Sum.inl (some (vI x0))) h := Rn_end pg143 rfl rfl
theorem sX6_thrown_42 : Rn r 143 42 [some (vR z), l1, l2] [] h Q ↔ Rn r 143 43 [some (vR z), l1, l2] [vR z] h Q := Rn_nx pg143 rfl rfl
theorem sX6_thrown_43 : Rn r 143 43 [l0, l1, some (vI x)] [vR z0] h Q ↔ Rn r 143 44 [l0, l1, some (vI x)] [vI x, vR z0] h Q := Rn_nx pg143 rfl rfl
theorem sX6_thrown_44 (hk : hK h a1 = 15) : Rn r 143 44 [l0, l1, l2] [vI x0, vR (some a1)] h Q ↔ Cl r 148 [vR (some a1), vI x0] h (Kt r 143 47 [l0, l1, l2] [] Q) := Rn_call pg143 rfl (by simp only [am_exec, am_inv, am_pop, am_lk, hk]; rfl) pg148 rfl rfl rfl
theorem sX6_thrown_47 : Rn r 143 47 [l0, l1, l2] [vI x0] h Q ↔ if x0 = 0 then Rn r 143 58 [l0, l1, l2] [] h Q else Rn r 143 50 [l0, l1, l2] [] h Q := Rn_if pg143 rfl rfl rfl
theorem sX6_thrown_50 : Rn r 143 50 [some (vR z), l1, l2] [] h Q ↔ Rn r 143 51 [some (vR z), l1, l2] [vR z] h Q := Rn_nx pg143 rfl rfl
theorem sX6_thrown_51 : Rn r 143 51 [l0, l1, some (vI x)] [vR z0] h Q ↔ Rn r 143 52 [l0, l1, some (vI x)] [vI x, vR z0] h Q := Rn_nx pg143 rfl rfl
theorem sX6_thrown_52 (hk : hK h a1 = 15) : Rn r 143 52 [l0, l1, l2] [vI x0, vR (some a1)] h Q ↔ Cl r 161 [vR (some a1), vI x0] h (Kt r 143 55 [l0, l1, l2] [] Q) := Rn_call pg143 rfl (by simp only [am_exec, am_inv, am_pop, am_lk, hk]; rfl) pg161 rfl rfl rfl
theorem sX6_thrown_55 : Rn r 143 55 [l0, l1, l2] [vI x0] h Q ↔ Rn r 143 63 [l0, l1, l2] [vI x0] h Q := Rn_nx pg143 rfl rfl
theorem sX6_thrown_58 : Rn r 143 58 [some (vR z), l1, l2] [] h Q ↔ Rn r 143 59 [some (vR z), l1, l2] [vR z] h Q := Rn_nx pg143 rfl rfl
theorem sX6_thrown_59 : Rn r 143 59 [l0, l1, some (vI x)] [vR z0] h Q ↔ Rn r 143 60 [l0, l1, some (vI x)] [vI x, vR z0] h Q := Rn_nx pg143 rfl rfl
theorem sX6_thrown_60 (hk : hK h a1 = 15) : Rn r 143 60 [l0, l1, l2] [vI x0, vR (some a1)] h Q ↔ Cl r 181 [vR (some a1), vI x0] h (Kt r 143 63 [l0, l1, l2] [] Q) := Rn_call pg143 rfl (by simp only [am_exec, am_inv, am_pop, am_lk, hk]; rfl) pg181 rfl rfl rfl
theorem sX6_thrown_63 : Rn r 143 63 [l0, l1, l2] [vI x0] h Q ↔ Q (Sum.inl (some (vI x0))) h := Rn_end pg143 rfl rfl
/-! 144 ThrowRulesModel.tried(I)I -/
theorem eX6_tried : Cl r 144 [vR z0, vI x1] h Q ↔ Rn r 144 0 [some (vR z0), some (vI x1), none, none, none, none] [] h Q := Cl_in pg144 rfl
theorem sX6_tried_0 : Rn r 144 0 [some (vR z), l1, l2, l3, l4, l5] [] h Q ↔ Rn r 144 1 [some (vR z), l1, l2, l3, l4, l5] [vR z] h Q := Rn_nx pg144 rfl rfl
theorem sX6_tried_1 : Rn r 144 1 [l0, some (vI x), l2, l3, l4, l5] [vR z0] h Q ↔ Rn r 144 2 [l0, some (vI x), l2, l3, l4, l5] [vI x, vR z0] h Q := Rn_nx pg144 rfl rfl
theorem sX6_tried_2 (hk : hK h a1 = 15) : Rn r 144 2 [l0, l1, l2, l3, l4, l5] [vI x0, vR (some a1)] h Q ↔ Cl r 182 [vR (some a1), vI x0] h (Kt r 144 5 [l0, l1, l2, l3, l4, l5] [] Q) := Rn_call pg144 rfl (by simp only [am_exec, am_inv, am_pop, am_lk, hk]; rfl) pg182 rfl rfl rfl
theorem sX6_tried_5 : Rn r 144 5 [l0, l1, l2, l3, l4, l5] [vI x0] h Q ↔ Rn r 144 6 [l0, l1, some (vI x0), l3, l4, l5] [] h Q := Rn_nx pg144 rfl rfl
theorem sX6_tried_6 : Rn r 144 6 [l0, l1, l2, l3, l4, l5] [] h Q ↔ Rn r 144 7 [l0, l1, l2, l3, l4, l5] [vI 0] h Q := Rn_nx pg144 rfl rfl
theorem sX6_tried_7 : Rn r 144 7 [l0, l1, l2, l3, l4, l5] [vI x0] h Q ↔ Rn r 144 8 [l0, l1, l2, some (vI x0), l4, l5] [] h Q := Rn_nx pg144 rfl rfl
theorem sX6_tried_8 : Rn r 144 8 [l0, l1, l2, l3, l4, l5] [] h Q ↔ Rn r 144 9 [l0, l1, l2, l3, l4, l5] [vI 0] h Q := Rn_nx pg144 rfl rfl
theorem sX6_tried_9 : Rn r 144 9 [l0, l1, l2, l3, l4, l5] [vI x0] h Q ↔ Rn r 144 11 [l0, l1, l2, l3, some (vI x0), l5] [] h Q := Rn_nx pg144 rfl rfl
theorem sX6_tried_11 : Rn r 144 11 [l0, l1, l2, l3, l4, l5] [] h Q ↔ Rn r 144 12 [l0, l1, l2, l3, l4, l5] [vI 0] h Q := Rn_nx pg144 rfl rfl
theorem sX6_tried_12 : Rn r 144 12 [l0, l1, l2, l3, l4, l5] [vI x0] h Q ↔ Rn r 144 14 [l0, l1, l2, l3, l4, some (vI x0)] [] h Q := Rn_nx pg144 rfl rfl
theorem sX6_tried_14 : Rn r 144 14 [l0, l1, l2, l3, l4, some (vI x)] [] h Q ↔ Rn r 144 16 [l0, l1, l2, l3, l4, some (vI x)] [vI x] h Q := Rn_nx pg144 rfl rfl
theorem sX6_tried_16 : Rn r 144 16 [some (vR z), l1, l2, l3, l4, l5] [vI x0] h Q ↔ Rn r 144 17 [some (vR z), l1, l2, l3, l4, l5] [vR z, vI x0] h Q := Rn_nx pg144 rfl rfl
theorem sX6_tried_17 (hk : hK h a0 = 15) : Rn r 144 17 [l0, l1, l2, l3, l4, l5] [vR (some a0), vI x1] h Q ↔ Rn r 144 20 [l0, l1, l2, l3, l4, l5] [vR (hR h a0 33), vI x1] h Q := Rn_nx pg144 rfl (if_pos ⟨(hk ▸ Nat.le_refl _), (hk ▸ Nat.le_refl _)⟩)
theorem sX6_tried_20 : Rn r 144 20 [l0, some (vI x), l2, l3, l4, l5] [vR z0, vI x1] h Q ↔ Rn r 144 21 [l0, some (vI x), l2, l3, l4, l5] [vI x, vR z0, vI x1] h Q := Rn_nx pg144 rfl rfl
theorem sX6_tried_21 (hk : 40 ≤ hK h a1) (hk2 : hK h a1 ≤ 41) (hx : ¬ (x0 < 0 ∨ hL h a1 ≤ x0.toNatClampNeg)) : Rn r 144 21 [l0, l1, l2, l3, l4, l5] [vI x0, vR (some a1), vI x2] h Q ↔ Rn r 144 22 [l0, l1, l2, l3, l4, l5] [vI (hI h a1 x0.toNatClampNeg), vI x2] h Q := Rn_nx pg144 rfl ((if_pos ⟨hk, hk2⟩).trans (if_neg hx))
theorem sX6_tried_22 : Rn r 144 22 [l0, l1, l2, l3, l4, l5] [vI x0, vI x1] h Q ↔ if x0 ≤ x1 then Rn r 144 64 [l0, l1, l2, l3, l4, l5] [] h Q else Rn r 144 25 [l0, l1, l2, l3, l4, l5] [] h Q := Rn_if pg144 rfl rfl rfl
theorem sX6_tried_25 : Rn r 144 25 [l0, l1, l2, some (vI x), l4, l5] [] h Q ↔ Rn r 144 26 [l0, l1, l2, some (vI x), l4, l5] [vI x] h Q := Rn_nx pg144 rfl rfl
theorem sX6_tried_26 : Rn r 144 26 [some (vR z), l1, l2, l3, l4, l5] [vI x0] h Q ↔ Rn r 144 27 [some (vR z), l1, l2, l3, l4, l5] [vR z, vI x0] h Q := Rn_nx pg144 rfl rfl
theorem sX6_tried_27 : Rn r 144 27 [l0, l1, l2, l3, l4, l5] [vR z0, vI x1] h Q ↔ Rn r 144 28 [l0, l1, l2, l3, l4, l5] [vI 4, vR z0, vI x1] h Q := Rn_nx pg144 rfl rfl
theorem sX6_tried_28 : Rn r 144 28 [l0, some (vI x), l2, l3, l4, l5] [vI x0, vR z1, vI x2] h Q ↔ Rn r 144 29 [l0, some (vI x), l2, l3, l4, l5] [vI x, vI x0, vR z1, vI x2] h Q := Rn_nx pg144 rfl rfl
theorem sX6_tried_29 : Rn r 144 29 [l0, l1, l2, l3, l4, l5] [vI x0, vI x1, vR z2, vI x3] h Q ↔ Rn r 144 30 [l0, l1, l2, l3, l4, l5] [vI (x1 * x0), vR z2, vI x3] h Q := Rn_nx pg144 rfl rfl
theorem sX6_tried_30 : Rn r 144 30 [l0, l1, l2, l3, l4, some (vI x)] [vI x0, vR z1, vI x2] h Q ↔ Rn r 144 32 [l0, l1, l2, l3, l4, some (vI x)] [vI x, vI x0, vR z1, vI x2] h Q := Rn_nx pg144 rfl rfl
theorem sX6_tried_32 : Rn r 144 32 [l0, l1, l2, l3, l4, l5] [vI x0, vI x1, vR z2, vI x3] h Q ↔ Rn r 144 33 [l0, l1, l2, l3, l4, l5] [vI (x1 + x0), vR z2, vI x3] h Q := Rn_nx pg144 rfl rfl
theorem sX6_tried_33 (hk : hK h a1 = 15) : Rn r 144 33 [l0, l1, l2, l3, l4, l5] [vI x0, vR (some a1), vI x2] h Q ↔ Cl r 161 [vR (some a1), vI x0] h (Kt r 144 36 [l0, l1, l2, l3, l4, l5] [vI x2] Q) := Rn_call pg144 rfl (by simp only [am_exec, am_inv, am_pop, am_lk, hk]; rfl) pg161 rfl rfl rfl
theorem sX6_tried_36 : Rn r 144 36 [l0, l1, l2, l3, l4, l5] [vI x0, vI x1] h Q ↔ Rn r 144 37 [l0, l1, l2, l3, l4, l5] [vI (x1 ||| x0)] h Q := Rn_nx pg144 rfl rfl
theorem sX6_tried_37 : Rn r 144 37 [l0, l1, l2, l3, l4, l5] [vI x0] h Q ↔ Rn r 144 38 [l0, l1, l2, some (vI x0), l4, l5] [] h Q := Rn_nx pg144 rfl rfl
theorem sX6_tried_38 : Rn r 144 38 [l0, l1, l2, l3, some (vI x), l5] [] h Q ↔ Rn r 144 40 [l0, l1, l2, l3, some (vI x), l5] [vI x] h Q := Rn_nx pg144 rfl rfl
theorem sX6_tried_40 : Rn r 144 40 [some (vR z), l1, l2, l3, l4, l5] [vI x0] h Q ↔ Rn r 144 41 [some (vR z), l1, l2, l3, l4, l5] [vR z, vI x0] h Q := Rn_nx pg144 rfl rfl
theorem sX6_tried_41 : Rn r 144 41 [some (vR z), l1, l2, l3, l4, l5] [vR z0, vI x1] h Q ↔ Rn r 144 42 [some (vR z), l1, l2, l3, l4, l5] [vR z, vR z0, vI x1] h Q := Rn_nx pg144 rfl rfl
theorem sX6_tried_42 (hk : hK h a0 = 15) : Rn r 144 42 [l0, l1, l2, l3, l4, l5] [vR (some a0), vR z1, vI x2] h Q ↔ Rn r 144 45 [l0, l1, l2, l3, l4, l5] [vR (hR h a0 34), vR z1, vI x2] h Q := Rn_nx pg144 rfl (if_pos ⟨(hk ▸ Nat.le_refl _), (hk ▸ Nat.le_refl _)⟩)
theorem sX6_tried_45 : Rn r 144 45 [l0, l1, l2, l3, l4, l5] [vR z0, vR z1, vI x2] h Q ↔ Rn r 144 46 [l0, l1, l2, l3, l4, l5] [vI 4, vR z0, vR z1, vI x2] h Q := Rn_nx pg144 rfl rfl
theorem sX6_tried_46 : Rn r 144 46 [l0, some (vI x), l2, l3, l4, l5] [vI x0, vR z1, vR z2, vI x3] h Q ↔ Rn r 144 47 [l0, some (vI x), l2, l3, l4, l5] [vI x, vI x0, vR z1, vR z2, vI x3] h Q := Rn_nx pg144 rfl rfl
theorem sX6_tried_47 : Rn r 144 47 [l0, l1, l2, l3, l4, l5] [vI x0, vI x1, vR z2, vR z3, vI x4] h Q ↔ Rn r 144 48 [l0, l1, l2, l3, l4, l5] [vI (x1 * x0), vR z2, vR z3, vI x4] h Q := Rn_nx pg144 rfl rfl
theorem sX6_tried_48 : Rn r 144 48 [l0, l1, l2, l3, l4, some (vI x)] [vI x0, vR z1, vR z2, vI x3] h Q ↔ Rn r 144 50 [l0, l1, l2, l3, l4, some (vI x)] [vI x, vI x0, vR z1, vR z2, vI x3] h Q := Rn_nx pg144 rfl rfl
theorem sX6_tried_50 : Rn r 144 50 [l0, l1, l2, l3, l4, l5] [vI x0, vI x1, vR z2, vR z3, vI x4] h Q ↔ Rn r 144 51 [l0, l1, l2, l3, l4, l5] [vI (x1 + x0), vR z2, vR z3, vI x4] h Q := Rn_nx pg144 rfl rfl
theorem sX6_tried_51 (hk : 40 ≤ hK h a1) (hk2 : hK h a1 ≤ 41) (hx : ¬ (x0 < 0 ∨ hL h a1 ≤ x0.toNatClampNeg)) : Rn r 144 51 [l0, l1, l2, l3, l4, l5] [vI x0, vR (some a1), vR z2, vI x3] h Q ↔ Rn r 144 52 [l0, l1, l2, l3, l4, l5] [vI (hI h a1 x0.toNatClampNeg), vR z2, vI x3] h Q := Rn_nx pg144 rfl ((if_pos ⟨hk, hk2⟩).trans (if_neg hx))
theorem sX6_tried_52 (hk : hK h a1 = 15) : Rn r 144 52 [l0, l1, l2, l3, l4, l5] [vI x0, vR (some a1), vI x2] h Q ↔ Cl r 50 [vR (some a1), vI x0] h (Kt r 144 55 [l0, l1, l2, l3, l4, l5] [vI x2] Q) := Rn_call pg144 rfl (by simp only [am_exec, am_inv, am_pop, am_lk, hk]; rfl) pg50 rfl rfl rfl
theorem sX6_tried_55 : Rn r 144 55 [l0, l1, l2, l3, l4, l5] [vI x0, vI x1] h Q ↔ Rn r 144 56 [l0, l1, l2, l3, l4, l5] [vI (x1 ||| x0)] h Q := Rn_nx pg144 rfl rfl
theorem sX6_tried_56 : Rn r 144 56 [l0, l1, l2, l3, l4, l5] [vI x0] h Q ↔ Rn r 144 58 [l0, l1, l2, l3, some (vI x0), l5] [] h Q := Rn_nx pg144 rfl rfl
theorem sX6_tried_58 : Rn r 144 58 [l0, l1, l2, l3, l4, some (vI x)] [] h Q ↔ Rn r 144 61 [l0, l1, l2, l3, l4, some (vI (x + 1))] [] h Q := Rn_nx pg144 rfl rfl
theorem sX6_tried_61 : Rn r 144 61 [l0, l1, l2, l3, l4, l5] [] h Q ↔ Rn r 144 14 [l0, l1, l2, l3, l4, l5] [] h Q := Rn_nx pg144 rfl rfl
theorem sX6_tried_64 : Rn r 144 64 [some (vR z), l1, l2, l3, l4, l5] [] h Q ↔ Rn r 144 65 [some (vR z), l1, l2, l3, l4, l5] [vR z] h Q := Rn_nx pg144 rfl rfl
theorem sX6_tried_65 : Rn r 144 65 [l0, l1, some (vI x), l3, l4, l5] [vR z0] h Q ↔ Rn r 144 66 [l0, l1, some (vI x), l3, l4, l5] [vI x, vR z0] h Q := Rn_nx pg144 rfl rfl
theorem sX6_tried_66 : Rn r 144 66 [l0, l1, l2, some (vI x), l4, l5] [vI x0, vR z1] h Q ↔ Rn r 144 67 [l0, l1, l2, some (vI x), l4, l5] [vI x, vI x0, vR z1] h Q := Rn_nx pg144 rfl rfl
theorem sX6_tried_67 (hk : hK h a2 = 15) : Rn r 144 67 [l0, l1, l2, l3, l4, l5] [vI x0, vI x1, vR (some a2)] h Q ↔ Cl r 183 [vR (some a2), vI x1, vI x0] h (Kt r 144 70 [l0, l1, l2, l3, l4, l5] [] Q) := Rn_call pg144 rfl (by simp only [am_exec, am_inv, am_pop, am_lk, hk]; rfl) pg183 rfl rfl rfl
theorem sX6_tried_70 : Rn r 144 70 [l0, l1, l2, l3, some (vI x), l5] [vI x0] h Q ↔ Rn r 144 72 [l0, l1, l2, l3, some (vI x), l5] [vI x, vI x0] h Q := Rn_nx pg144 rfl rfl
theorem sX6_tried_72 : Rn r 144 72 [l0, l1, l2, l3, l4, l5] [vI x0, vI x1] h Q ↔ Rn r 144 73 [l0, l1, l2, l3, l4, l5] [vI (x1 ||| x0)] h Q := Rn_nx pg144 rfl rfl
theorem sX6_tried_73 : Rn r 144 73 [l0, l1, l2, l3, l4, l5] [vI x0] h Q ↔ Rn r 144 74 [l0, l1, some (vI x0), l3, l4, l5] [] h Q := Rn_nx pg144 rfl rfl
theorem sX6_tried_74 : Rn r 144 74 [some (vR z), l1, l2, l3, l4, l5] [] h Q ↔ Rn r 144 75 [some (vR z), l1, l2, l3, l4, l5] [vR z] h Q := Rn_nx pg144 rfl rfl
theorem sX6_tried_75 (hk : hK h a0 = 15) : Rn r 144 75 [l0, l1, l2, l3, l4, l5] [vR (some a0)] h Q ↔ Rn r 144 78 [l0, l1, l2, l3, l4, l5] [vR (hR h a0 29)] h Q := Rn_nx pg144 rfl (if_pos ⟨(hk ▸ Nat.le_refl _), (hk ▸ Nat.le_refl _)⟩)
theorem sX6_tried_78 : Rn r 144 78 [l0, some (vI x), l2, l3, l4, l5] [vR z0] h Q ↔ Rn r 144 79 [l0, some (vI x), l2, l3, l4, l5] [vI x, vR z0] h Q := Rn_nx pg144 rfl rfl
theorem sX6_tried_79 (hk : 40 ≤ hK h a1) (hk2 : hK h a1 ≤ 41) (hx : ¬ (x0 < 0 ∨ hL h a1 ≤ x0.toNatClampNeg)) : Rn r 144 79 [l0, l1, l2, l3, l4, l5] [vI x0, vR (some a1)] h Q ↔ Rn r 144 80 [l0, l1, l2, l3, l4, l5] [vI (hI h a1 x0.toNatClampNeg)] h Q := Rn_nx pg144 rfl ((if_pos ⟨hk, hk2⟩).trans (if_neg hx))
theorem sX6_tried_80 : Rn r 144 80 [l0, l1, l2, l3, l4, l5] [vI x0] h Q ↔ Rn r 144 81 [l0, l1, l2, l3, l4, l5] [vI (-1), vI x0] h Q := Rn_nx pg144 rfl rfl
theorem sX6_tried_81 : Rn r 144 81 [l0, l1, l2, l3, l4, l5] [vI x0, vI x1] h Q ↔ if x1 ≠ x0 then Rn r 144 88 [l0, l1, l2, l3, l4, l5] [] h Q else Rn r 144 84 [l0, l1, l2, l3, l4, l5] [] h Q := Rn_if pg144 rfl rfl rfl
theorem sX6_tried_84 : Rn r 144 84 [l0, l1, some (vI x), l3, l4, l5] [] h Q ↔ Rn r 144 85 [l0, l1, some (vI x), l3, l4, l5] [vI x] h Q := Rn_nx pg144 rfl rfl
theorem sX6_tried_85 : Rn r 144 85 [l0, l1, l2, l3, l4, l5] [vI x0] h Q ↔ Rn r 144 126 [l0, l1, l2, l3, l4, l5] [vI x0] h Q := Rn_nx pg144 rfl rfl
theorem sX6_tried_88 : Rn r 144 88 [some (vR z), l1, l2, l3, l4, l5] [] h Q ↔ Rn r 144 89 [some (vR z), l1, l2, l3, l4, l5] [vR z] h Q := Rn_nx pg144 rfl rfl
theorem sX6_tried_89 : Rn r 144 89 [some (vR z), l1, l2, l3, l4, l5] [vR z0] h Q ↔ Rn r 144 90 [some (vR z), l1, l2, l3, l4, l5] [vR z, vR z0] h Q := Rn_nx pg144 rfl rfl
theorem sX6_tried_90 (hk : hK h a0 = 15) : Rn r 144 90 [l0, l1, l2, l3, l4, l5] [vR (some a0), vR z1] h Q ↔ Rn r 144 93 [l0, l1, l2, l3, l4, l5] [vR (hR h a0 29), vR z1] h Q := Rn_nx pg144 rfl (if_pos ⟨(hk ▸ Nat.le_refl _), (hk ▸ Nat.le_refl _)⟩)
theorem sX6_tried_93 : Rn r 144 93 [l0, some (vI x), l2, l3, l4, l5] [vR z0, vR z1] h Q ↔ Rn r 144 94 [l0, some (vI x), l2, l3, l4, l5] [vI x, vR z0, vR z1] h Q := Rn_nx pg144 rfl rfl
theorem sX6_tried_94 (hk : 40 ≤ hK h a1) (hk2 : hK h a1 ≤ 41) (hx : ¬ (x0 < 0 ∨ hL h a1 ≤ x0.toNatClampNeg)) : Rn r 144 94 [l0, l1, l2, l3, l4, l5] [vI x0, vR (some a1), vR z2] h Q ↔ Rn r 144 95 [l0, l1, l2, l3, l4, l5] [vI (hI h a1 x0.toNatClampNeg), vR z2] h Q := Rn_nx pg144 rfl ((if_pos ⟨hk, hk2⟩).trans (if_neg hx))
theorem sX6_tried_95 (hk : hK h a1 = 15) : Rn r 144 95 [l0, l1, l2, l3, l4, l5] [vI x0, vR (some a1)] h Q ↔ Cl r 52 [vR (some a1), vI x0] h (Kt r 144 98 [l0, l1, l2, l3, l4, l5] [] Q) := Rn_call pg144 rfl (by simp only [am_exec, am_inv, am_pop, am_lk, hk]; rfl) pg52 rfl rfl rfl
theorem sX6_tried_98 : Rn r 144 98 [l0, l1, l2, l3, l4, l5] [vI x0] h Q ↔ if x0 = 0 then Rn r 144 116 [l0, l1, l2, l3, l4, l5] [] h Q else Rn r 144 101 [l0, l1, l2, l3, l4, l5] [] h Q := Rn_if pg144 rfl rfl rfl
theorem sX6_tried_101 : Rn r 144 101 [l0, l1, some (vI x), l3, l4, l5] [] h Q ↔ Rn r 144 102 [l0, l1, some (vI x), l3, l4, l5] [vI x] h Q := Rn_nx pg144 rfl rfl
theorem sX6_tried_102 : Rn r 144 102 [some (vR z), l1, l2, l3, l4, l5] [vI x0] h Q ↔ Rn r 144 103 [some (vR z), l1, l2, l3, l4, l5] [vR z, vI x0] h Q := Rn_nx pg144 rfl rfl
theorem sX6_tried_103 : Rn r 144 103 [some (vR z), l1, l2, l3, l4, l5] [vR z0, vI x1] h Q ↔ Rn r 144 104 [some (vR z), l1, l2, l3, l4, l5] [vR z, vR z0, vI x1] h Q := Rn_nx pg144 rfl rfl
theorem sX6_tried_104 (hk : hK h a0 = 15) : Rn r 144 104 [l0, l1, l2, l3, l4, l5] [vR (some a0), vR z1, vI x2] h Q ↔ Rn r 144 107 [l0, l1, l2, l3, l4, l5] [vR (hR h a0 29), vR z1, vI x2] h Q := Rn_nx pg144 rfl (if_pos ⟨(hk ▸ Nat.le_refl _), (hk ▸ Nat.le_refl _)⟩)
theorem sX6_tried_107 : Rn r 144 107 [l0, some (vI x), l2, l3, l4, l5] [vR z0, vR z1, vI x2] h Q ↔ Rn r 144 108 [l0, some (vI x), l2, l3, l4, l5] [vI x, vR z0, vR z1, vI x2] h Q := Rn_nx pg144 rfl rfl
theorem sX6_tried_108 (hk : 40 ≤ hK h a1) (hk2 : hK h a1 ≤ 41) (hx : ¬ (x0 < 0 ∨ hL h a1 ≤ x0.toNatClampNeg)) : Rn r 144 108 [l0, l1, l2, l3, l4, l5] [vI x0, vR (some a1), vR z2, vI x3] h Q ↔ Rn r 144 109 [l0, l1, l2, l3, l4, l5] [vI (hI h a1 x0.toNatClampNeg), vR z2, vI x3] h Q := Rn_nx pg144 rfl ((if_pos ⟨hk, hk2⟩).trans (if_neg hx))
theorem sX6_tried_109 (hk : hK h a1 = 15) : Rn r 144 109 [l0, l1, l2, l3, l4, l5] [vI x0, vR (some a1), vI x2] h Q ↔ Cl r 50 [vR (some a1), vI x0] h (Kt r 144 112 [l0, l1, l2, l3, l4, l5] [vI x2] Q) := Rn_call pg144 rfl (by simp only [am_exec, am_inv, am_pop, am_lk, hk]; rfl) pg50 rfl rfl rfl
theorem sX6_tried_112 : Rn r 144 112 [l0, l1, l2, l3, l4, l5] [vI x0, vI x1] h Q ↔ Rn r 144 113 [l0, l1, l2, l3, l4, l5] [vI (x1 ||| x0)] h Q := Rn_nx pg144 rfl rfl
theorem sX6_tried_113 : Rn r 144 113 [l0, l1, l2, l3, l4, l5] [vI x0] h Q ↔ Rn r 144 126 [l0, l1, l2, l3, l4, l5] [vI x0] h Q := Rn_nx pg144 rfl rfl
theorem sX6_tried_116 : Rn r 144 116 [some (vR z), l1, l2, l3, l4, l5] [] h Q ↔ Rn r 144 117 [some (vR z), l1, l2, l3, l4, l5] [vR z] h Q := Rn_nx pg144 rfl rfl
theorem sX6_tried_117 : Rn r 144 117 [some (vR z), l1, l2, l3, l4, l5] [vR z0] h Q ↔ Rn r 144 118 [some (vR z), l1, l2, l3, l4, l5] [vR z, vR z0] h Q := Rn_nx pg144 rfl rfl
theorem sX6_tried_118 (hk : hK h a0 = 15) : Rn r 144 118 [l0, l1, l2, l3, l4, l5] [vR (some a0), vR z1] h Q ↔ Rn r 144 121 [l0, l1, l2, l3, l4, l5] [vR (hR h a0 29), vR z1] h Q := Rn_nx pg144 rfl (if_pos ⟨(hk ▸ Nat.le_refl _), (hk ▸ Nat.le_refl _)⟩)
theorem sX6_tried_121 : Rn r 144 121 [l0, some (vI x), l2, l3, l4, l5] [vR z0, vR z1] h Q ↔ Rn r 144 122 [l0, some (vI x), l2, l3, l4, l5] [vI x, vR z0, vR z1] h Q := Rn_nx pg144 rfl rfl
theorem sX6_tried_122 (hk : 40 ≤ hK h a1) (hk2 : hK h a1 ≤ 41) (hx : ¬ (x0 < 0 ∨ hL h a1 ≤ x0.toNatClampNeg)) : Rn r 144 122 [l0, l1, l2, l3, l4, l5] [vI x0, vR (some a1), vR z2] h Q ↔ Rn r 144 123 [l0, l1, l2, l3, l4, l5] [vI (hI h a1 x0.toNatClampNeg), vR z2] h Q := Rn_nx pg144 rfl ((if_pos ⟨hk, hk2⟩).trans (if_neg hx))
theorem sX6_tried_123 (hk : hK h a1 = 15) : Rn r 144 123 [l0, l1, l2, l3, l4, l5] [vI x0, vR (some a1)] h Q ↔ Cl r 50 [vR (some a1), vI x0] h (Kt r 144 126 [l0, l1, l2, l3, l4, l5] [] Q) := Rn_call pg144 rfl (by simp only [am_exec, am_inv, am_pop, am_lk, hk]; rfl) pg50 rfl rfl rfl
theorem sX6_tried_126 : Rn r 144 126 [l0, l1, l2, l3, l4, l5] [vI x0] h Q ↔ Q (Sum.inl (some (vI x0))) h := Rn_end pg144 rfl rfl
end ST3
