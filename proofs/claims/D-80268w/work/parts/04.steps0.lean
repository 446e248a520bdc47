/-! STEP LEMMAS, printed by gen_steps.py -/
set_option maxRecDepth 100000
section ST0
variable {r : Nat} {h : am_H} {Q : am_O → am_H → Prop} {x x0 x1 x2 x3 x4 x5 x6 x7 x8 x9 x10 x11 : Int32} {y y0 y1 y2 y3 y4 y5 y6 y7 y8 y9 y10 y11 : Int64} {z z0 z1 z2 z3 z4 z5 z6 z7 z8 z9 z10 z11 : Option Nat} {w0 w1 w2 : UInt32} {a0 a1 a2 a3 a4 a5 a6 a7 a8 a9 a10 a11 : Nat} {l0 l1 l2 l3 l4 l5 l6 l7 l8 l9 l10 l11 l12 l13 l14 l15 l16 l17 l18 l19 : Option am_V}
/-! 0 ThrowRulesLaw.law([I)Z -/
theorem eL_law : Cl r 0 [vR z0] h Q ↔ Rn r 0 0 [some (vR z0), none, none, none] [] h Q := Cl_in pg0 rfl
theorem sL_law_0 : Rn r 0 0 [l0, l1, l2, l3] [] h Q ↔ Rn r 0 3 [l0, l1, l2, l3] [vR (some (hN h))] (newC h 1 5) Q := Rn_nx pg0 rfl rfl
theorem sL_law_3 : Rn r 0 3 [l0, l1, l2, l3] [vR z0] h Q ↔ Rn r 0 4 [l0, l1, l2, l3] [vR z0, vR z0] h Q := Rn_nx pg0 rfl rfl
theorem sL_law_4 (hk : 0 < hK h a0) (hk2 : hK h a0 < 40) : Rn r 0 4 [l0, l1, l2, l3] [vR (some a0), vR z1] h Q ↔ Cl r 1 [vR (some a0)] h (Kt r 0 7 [l0, l1, l2, l3] [vR z1] Q) := Rn_call pg0 rfl (if_pos ⟨hk, hk2⟩) pg1 rfl rfl rfl
theorem sL_law_7 : Rn r 0 7 [l0, l1, l2, l3] [vR z0] h Q ↔ Rn r 0 8 [l0, some (vR z0), l2, l3] [] h Q := Rn_nx pg0 rfl rfl
theorem sL_law_8 : Rn r 0 8 [l0, l1, l2, l3] [] h Q ↔ Rn r 0 11 [l0, l1, l2, l3] [vR (some (hN h))] (newC h 15 75) Q := Rn_nx pg0 rfl rfl
theorem sL_law_11 : Rn r 0 11 [l0, l1, l2, l3] [vR z0] h Q ↔ Rn r 0 12 [l0, l1, l2, l3] [vR z0, vR z0] h Q := Rn_nx pg0 rfl rfl
theorem sL_law_12 (hk : 0 < hK h a0) (hk2 : hK h a0 < 40) : Rn r 0 12 [l0, l1, l2, l3] [vR (some a0), vR z1] h Q ↔ Cl r 2 [vR (some a0)] h (Kt r 0 15 [l0, l1, l2, l3] [vR z1] Q) := Rn_call pg0 rfl (if_pos ⟨hk, hk2⟩) pg2 rfl rfl rfl
theorem sL_law_15 : Rn r 0 15 [l0, l1, l2, l3] [vR z0] h Q ↔ Rn r 0 16 [l0, l1, some (vR z0), l3] [] h Q := Rn_nx pg0 rfl rfl
theorem sL_law_16 : Rn r 0 16 [l0, l1, l2, l3] [] h Q ↔ Rn r 0 17 [l0, l1, l2, l3] [vI 0] h Q := Rn_nx pg0 rfl rfl
theorem sL_law_17 : Rn r 0 17 [l0, l1, l2, l3] [vI x0] h Q ↔ Rn r 0 18 [l0, l1, l2, some (vI x0)] [] h Q := Rn_nx pg0 rfl rfl
theorem sL_law_18 : Rn r 0 18 [l0, l1, l2, some (vI x)] [] h Q ↔ Rn r 0 19 [l0, l1, l2, some (vI x)] [vI x] h Q := Rn_nx pg0 rfl rfl
theorem sL_law_19 : Rn r 0 19 [some (vR z), l1, l2, l3] [vI x0] h Q ↔ Rn r 0 20 [some (vR z), l1, l2, l3] [vR z, vI x0] h Q := Rn_nx pg0 rfl rfl
theorem sL_law_20 (hk : 40 ≤ hK h a0) (hk2 : hK h a0 ≤ 49) : Rn r 0 20 [l0, l1, l2, l3] [vR (some a0), vI x1] h Q ↔ Rn r 0 21 [l0, l1, l2, l3] [vI (nI (hL h a0)), vI x1] h Q := Rn_nx pg0 rfl (if_pos ⟨hk, hk2⟩)
theorem sL_law_21 : Rn r 0 21 [l0, l1, l2, l3] [vI x0, vI x1] h Q ↔ Rn r 0 23 [l0, l1, l2, l3] [vI 6, vI x0, vI x1] h Q := Rn_nx pg0 rfl rfl
theorem sL_law_23 : Rn r 0 23 [l0, l1, l2, l3] [vI x0, vI x1, vI x2] h Q ↔ Rn r 0 24 [l0, l1, l2, l3] [vI (x1 - x0), vI x2] h Q := Rn_nx pg0 rfl rfl
theorem sL_law_24 : Rn r 0 24 [l0, l1, l2, l3] [vI x0, vI x1] h Q ↔ if x0 < x1 then Rn r 0 478 [l0, l1, l2, l3] [] h Q else Rn r 0 27 [l0, l1, l2, l3] [] h Q := Rn_if pg0 rfl rfl rfl
theorem sL_law_27 : Rn r 0 27 [some (vR z), l1, l2, l3] [] h Q ↔ Rn r 0 28 [some (vR z), l1, l2, l3] [vR z] h Q := Rn_nx pg0 rfl rfl
theorem sL_law_28 : Rn r 0 28 [l0, l1, l2, some (vI x)] [vR z0] h Q ↔ Rn r 0 29 [l0, l1, l2, some (vI x)] [vI x, vR z0] h Q := Rn_nx pg0 rfl rfl
theorem sL_law_29 (hk : 40 ≤ hK h a1) (hk2 : hK h a1 ≤ 41) (hx : ¬ (x0 < 0 ∨ hL h a1 ≤ x0.toNatClampNeg)) : Rn r 0 29 [l0, l1, l2, l3] [vI x0, vR (some a1)] h Q ↔ Rn r 0 30 [l0, l1, l2, l3] [vI (hI h a1 x0.toNatClampNeg)] h Q := Rn_nx pg0 rfl ((if_pos ⟨hk, hk2⟩).trans (if_neg hx))
theorem sL_law_30 : Rn r 0 30 [l0, l1, l2, l3] [vI x0] h Q ↔ Rn r 0 32 [l0, l1, l2, l3] [vI 15, vI x0] h Q := Rn_nx pg0 rfl rfl
theorem sL_law_32 : Rn r 0 32 [l0, l1, l2, l3] [vI x0, vI x1] h Q ↔ Rn r 0 33 [l0, l1, l2, l3] [vI (x1 &&& x0)] h Q := Rn_nx pg0 rfl rfl
theorem sL_law_33 : Rn r 0 33 [l0, l1, l2, l3] [vI x0] h Q ↔ Rn r 0 (if x0 = 0 then 96 else if x0 = 1 then 159 else if x0 = 2 then 182 else if x0 = 3 then 195 else if x0 = 4 then 218 else if x0 = 5 then 251 else if x0 = 6 then 284 else if x0 = 7 then 317 else if x0 = 8 then 350 else if x0 = 9 then 383 else if x0 = 10 then 396 else if x0 = 11 then 459 else 472) [l0, l1, l2, l3] [] h Q := Rn_nx pg0 rfl rfl
theorem sL_law_96 : Rn r 0 96 [l0, some (vR z), l2, l3] [] h Q ↔ Rn r 0 97 [l0, some (vR z), l2, l3] [vR z] h Q := Rn_nx pg0 rfl rfl
theorem sL_law_97 : Rn r 0 97 [some (vR z), l1, l2, l3] [vR z0] h Q ↔ Rn r 0 98 [some (vR z), l1, l2, l3] [vR z, vR z0] h Q := Rn_nx pg0 rfl rfl
theorem sL_law_98 : Rn r 0 98 [l0, l1, l2, some (vI x)] [vR z0, vR z1] h Q ↔ Rn r 0 99 [l0, l1, l2, some (vI x)] [vI x, vR z0, vR z1] h Q := Rn_nx pg0 rfl rfl
theorem sL_law_99 : Rn r 0 99 [l0, l1, l2, l3] [vI x0, vR z1, vR z2] h Q ↔ Rn r 0 100 [l0, l1, l2, l3] [vI 1, vI x0, vR z1, vR z2] h Q := Rn_nx pg0 rfl rfl
theorem sL_law_100 : Rn r 0 100 [l0, l1, l2, l3] [vI x0, vI x1, vR z2, vR z3] h Q ↔ Rn r 0 101 [l0, l1, l2, l3] [vI (x1 + x0), vR z2, vR z3] h Q := Rn_nx pg0 rfl rfl
theorem sL_law_101 (hk : 40 ≤ hK h a1) (hk2 : hK h a1 ≤ 41) (hx : ¬ (x0 < 0 ∨ hL h a1 ≤ x0.toNatClampNeg)) : Rn r 0 101 [l0, l1, l2, l3] [vI x0, vR (some a1), vR z2] h Q ↔ Rn r 0 102 [l0, l1, l2, l3] [vI (hI h a1 x0.toNatClampNeg), vR z2] h Q := Rn_nx pg0 rfl ((if_pos ⟨hk, hk2⟩).trans (if_neg hx))
theorem sL_law_102 : Rn r 0 102 [some (vR z), l1, l2, l3] [vI x0, vR z1] h Q ↔ Rn r 0 103 [some (vR z), l1, l2, l3] [vR z, vI x0, vR z1] h Q := Rn_nx pg0 rfl rfl
theorem sL_law_103 : Rn r 0 103 [l0, l1, l2, some (vI x)] [vR z0, vI x1, vR z2] h Q ↔ Rn r 0 104 [l0, l1, l2, some (vI x)] [vI x, vR z0, vI x1, vR z2] h Q := Rn_nx pg0 rfl rfl
theorem sL_law_104 : Rn r 0 104 [l0, l1, l2, l3] [vI x0, vR z1, vI x2, vR z3] h Q ↔ Rn r 0 105 [l0, l1, l2, l3] [vI 2, vI x0, vR z1, vI x2, vR z3] h Q := Rn_nx pg0 rfl rfl
theorem sL_law_105 : Rn r 0 105 [l0, l1, l2, l3] [vI x0, vI x1, vR z2, vI x3, vR z4] h Q ↔ Rn r 0 106 [l0, l1, l2, l3] [vI (x1 + x0), vR z2, vI x3, vR z4] h Q := Rn_nx pg0 rfl rfl
theorem sL_law_106 (hk : 40 ≤ hK h a1) (hk2 : hK h a1 ≤ 41) (hx : ¬ (x0 < 0 ∨ hL h a1 ≤ x0.toNatClampNeg)) : Rn r 0 106 [l0, l1, l2, l3] [vI x0, vR (some a1), vI x2, vR z3] h Q ↔ Rn r 0 107 [l0, l1, l2, l3] [vI (hI h a1 x0.toNatClampNeg), vI x2, vR z3] h Q := Rn_nx pg0 rfl ((if_pos ⟨hk, hk2⟩).trans (if_neg hx))
theorem sL_law_107 : Rn r 0 107 [some (vR z), l1, l2, l3] [vI x0, vI x1, vR z2] h Q ↔ Rn r 0 108 [some (vR z), l1, l2, l3] [vR z, vI x0, vI x1, vR z2] h Q := Rn_nx pg0 rfl rfl
theorem sL_law_108 : Rn r 0 108 [l0, l1, l2, some (vI x)] [vR z0, vI x1, vI x2, vR z3] h Q ↔ Rn r 0 109 [l0, l1, l2, some (vI x)] [vI x, vR z0, vI x1, vI x2, vR z3] h Q := Rn_nx pg0 rfl rfl
theorem sL_law_109 : Rn r 0 109 [l0, l1, l2, l3] [vI x0, vR z1, vI x2, vI x3, vR z4] h Q ↔ Rn r 0 110 [l0, l1, l2, l3] [vI 3, vI x0, vR z1, vI x2, vI x3, vR z4] h Q := Rn_nx pg0 rfl rfl
theorem sL_law_110 : Rn r 0 110 [l0, l1, l2, l3] [vI x0, vI x1, vR z2, vI x3, vI x4, vR z5] h Q ↔ Rn r 0 111 [l0, l1, l2, l3] [vI (x1 + x0), vR z2, vI x3, vI x4, vR z5] h Q := Rn_nx pg0 rfl rfl
theorem sL_law_111 (hk : 40 ≤ hK h a1) (hk2 : hK h a1 ≤ 41) (hx : ¬ (x0 < 0 ∨ hL h a1 ≤ x0.toNatClampNeg)) : Rn r 0 111 [l0, l1, l2, l3] [vI x0, vR (some a1), vI x2, vI x3, vR z4] h Q ↔ Rn r 0 112 [l0, l1, l2, l3] [vI (hI h a1 x0.toNatClampNeg), vI x2, vI x3, vR z4] h Q := Rn_nx pg0 rfl ((if_pos ⟨hk, hk2⟩).trans (if_neg hx))
theorem sL_law_112 : Rn r 0 112 [some (vR z), l1, l2, l3] [vI x0, vI x1, vI x2, vR z3] h Q ↔ Rn r 0 113 [some (vR z), l1, l2, l3] [vR z, vI x0, vI x1, vI x2, vR z3] h Q := Rn_nx pg0 rfl rfl
theorem sL_law_113 : Rn r 0 113 [l0, l1, l2, some (vI x)] [vR z0, vI x1, vI x2, vI x3, vR z4] h Q ↔ Rn r 0 114 [l0, l1, l2, some (vI x)] [vI x, vR z0, vI x1, vI x2, vI x3, vR z4] h Q := Rn_nx pg0 rfl rfl
theorem sL_law_114 : Rn r 0 114 [l0, l1, l2, l3] [vI x0, vR z1, vI x2, vI x3, vI x4, vR z5] h Q ↔ Rn r 0 115 [l0, l1, l2, l3] [vI 4, vI x0, vR z1, vI x2, vI x3, vI x4, vR z5] h Q := Rn_nx pg0 rfl rfl
theorem sL_law_115 : Rn r 0 115 [l0, l1, l2, l3] [vI x0, vI x1, vR z2, vI x3, vI x4, vI x5, vR z6] h Q ↔ Rn r 0 116 [l0, l1, l2, l3] [vI (x1 + x0), vR z2, vI x3, vI x4, vI x5, vR z6] h Q := Rn_nx pg0 rfl rfl
theorem sL_law_116 (hk : 40 ≤ hK h a1) (hk2 : hK h a1 ≤ 41) (hx : ¬ (x0 < 0 ∨ hL h a1 ≤ x0.toNatClampNeg)) : Rn r 0 116 [l0, l1, l2, l3] [vI x0, vR (some a1), vI x2, vI x3, vI x4, vR z5] h Q ↔ Rn r 0 117 [l0, l1, l2, l3] [vI (hI h a1 x0.toNatClampNeg), vI x2, vI x3, vI x4, vR z5] h Q := Rn_nx pg0 rfl ((if_pos ⟨hk, hk2⟩).trans (if_neg hx))
theorem sL_law_117 : Rn r 0 117 [some (vR z), l1, l2, l3] [vI x0, vI x1, vI x2, vI x3, vR z4] h Q ↔ Rn r 0 118 [some (vR z), l1, l2, l3] [vR z, vI x0, vI x1, vI x2, vI x3, vR z4] h Q := Rn_nx pg0 rfl rfl
theorem sL_law_118 : Rn r 0 118 [l0, l1, l2, some (vI x)] [vR z0, vI x1, vI x2, vI x3, vI x4, vR z5] h Q ↔ Rn r 0 119 [l0, l1, l2, some (vI x)] [vI x, vR z0, vI x1, vI x2, vI x3, vI x4, vR z5] h Q := Rn_nx pg0 rfl rfl
theorem sL_law_119 : Rn r 0 119 [l0, l1, l2, l3] [vI x0, vR z1, vI x2, vI x3, vI x4, vI x5, vR z6] h Q ↔ Rn r 0 120 [l0, l1, l2, l3] [vI 5, vI x0, vR z1, vI x2, vI x3, vI x4, vI x5, vR z6] h Q := Rn_nx pg0 rfl rfl
theorem sL_law_120 : Rn r 0 120 [l0, l1, l2, l3] [vI x0, vI x1, vR z2, vI x3, vI x4, vI x5, vI x6, vR z7] h Q ↔ Rn r 0 121 [l0, l1, l2, l3] [vI (x1 + x0), vR z2, vI x3, vI x4, vI x5, vI x6, vR z7] h Q := Rn_nx pg0 rfl rfl
theorem sL_law_121 (hk : 40 ≤ hK h a1) (hk2 : hK h a1 ≤ 41) (hx : ¬ (x0 < 0 ∨ hL h a1 ≤ x0.toNatClampNeg)) : Rn r 0 121 [l0, l1, l2, l3] [vI x0, vR (some a1), vI x2, vI x3, vI x4, vI x5, vR z6] h Q ↔ Rn r 0 122 [l0, l1, l2, l3] [vI (hI h a1 x0.toNatClampNeg), vI x2, vI x3, vI x4, vI x5, vR z6] h Q := Rn_nx pg0 rfl ((if_pos ⟨hk, hk2⟩).trans (if_neg hx))
theorem sL_law_122 (hk : hK h a5 = 1) : Rn r 0 122 [l0, l1, l2, l3] [vI x0, vI x1, vI x2, vI x3, vI x4, vR (some a5)] h Q ↔ Cl r 3 [vR (some a5), vI x4, vI x3, vI x2, vI x1, vI x0] h (Kt r 0 125 [l0, l1, l2, l3] [] Q) := Rn_call pg0 rfl (by simp only [am_exec, am_inv, am_pop, am_lk, hk]; rfl) pg3 rfl rfl rfl
theorem sL_law_125 : Rn r 0 125 [l0, l1, some (vR z), l3] [vI x0] h Q ↔ Rn r 0 126 [l0, l1, some (vR z), l3] [vR z, vI x0] h Q := Rn_nx pg0 rfl rfl
theorem sL_law_126 : Rn r 0 126 [some (vR z), l1, l2, l3] [vR z0, vI x1] h Q ↔ Rn r 0 127 [some (vR z), l1, l2, l3] [vR z, vR z0, vI x1] h Q := Rn_nx pg0 rfl rfl
theorem sL_law_127 : Rn r 0 127 [l0, l1, l2, some (vI x)] [vR z0, vR z1, vI x2] h Q ↔ Rn r 0 128 [l0, l1, l2, some (vI x)] [vI x, vR z0, vR z1, vI x2] h Q := Rn_nx pg0 rfl rfl
theorem sL_law_128 : Rn r 0 128 [l0, l1, l2, l3] [vI x0, vR z1, vR z2, vI x3] h Q ↔ Rn r 0 129 [l0, l1, l2, l3] [vI 1, vI x0, vR z1, vR z2, vI x3] h Q := Rn_nx pg0 rfl rfl
theorem sL_law_129 : Rn r 0 129 [l0, l1, l2, l3] [vI x0, vI x1, vR z2, vR z3, vI x4] h Q ↔ Rn r 0 130 [l0, l1, l2, l3] [vI (x1 + x0), vR z2, vR z3, vI x4] h Q := Rn_nx pg0 rfl rfl
theorem sL_law_130 (hk : 40 ≤ hK h a1) (hk2 : hK h a1 ≤ 41) (hx : ¬ (x0 < 0 ∨ hL h a1 ≤ x0.toNatClampNeg)) : Rn r 0 130 [l0, l1, l2, l3] [vI x0, vR (some a1), vR z2, vI x3] h Q ↔ Rn r 0 131 [l0, l1, l2, l3] [vI (hI h a1 x0.toNatClampNeg), vR z2, vI x3] h Q := Rn_nx pg0 rfl ((if_pos ⟨hk, hk2⟩).trans (if_neg hx))
theorem sL_law_131 : Rn r 0 131 [some (vR z), l1, l2, l3] [vI x0, vR z1, vI x2] h Q ↔ Rn r 0 132 [some (vR z), l1, l2, l3] [vR z, vI x0, vR z1, vI x2] h Q := Rn_nx pg0 rfl rfl
theorem sL_law_132 : Rn r 0 132 [l0, l1, l2, some (vI x)] [vR z0, vI x1, vR z2, vI x3] h Q ↔ Rn r 0 133 [l0, l1, l2, some (vI x)] [vI x, vR z0, vI x1, vR z2, vI x3] h Q := Rn_nx pg0 rfl rfl
theorem sL_law_133 : Rn r 0 133 [l0, l1, l2, l3] [vI x0, vR z1, vI x2, vR z3, vI x4] h Q ↔ Rn r 0 134 [l0, l1, l2, l3] [vI 2, vI x0, vR z1, vI x2, vR z3, vI x4] h Q := Rn_nx pg0 rfl rfl
theorem sL_law_134 : Rn r 0 134 [l0, l1, l2, l3] [vI x0, vI x1, vR z2, vI x3, vR z4, vI x5] h Q ↔ Rn r 0 135 [l0, l1, l2, l3] [vI (x1 + x0), vR z2, vI x3, vR z4, vI x5] h Q := Rn_nx pg0 rfl rfl
theorem sL_law_135 (hk : 40 ≤ hK h a1) (hk2 : hK h a1 ≤ 41) (hx : ¬ (x0 < 0 ∨ hL h a1 ≤ x0.toNatClampNeg)) : Rn r 0 135 [l0, l1, l2, l3] [vI x0, vR (some a1), vI x2, vR z3, vI x4] h Q ↔ Rn r 0 136 [l0, l1, l2, l3] [vI (hI h a1 x0.toNatClampNeg), vI x2, vR z3, vI x4] h Q := Rn_nx pg0 rfl ((if_pos ⟨hk, hk2⟩).trans (if_neg hx))
theorem sL_law_136 : Rn r 0 136 [some (vR z), l1, l2, l3] [vI x0, vI x1, vR z2, vI x3] h Q ↔ Rn r 0 137 [some (vR z), l1, l2, l3] [vR z, vI x0, vI x1, vR z2, vI x3] h Q := Rn_nx pg0 rfl rfl
theorem sL_law_137 : Rn r 0 137 [l0, l1, l2, some (vI x)] [vR z0, vI x1, vI x2, vR z3, vI x4] h Q ↔ Rn r 0 138 [l0, l1, l2, some (vI x)] [vI x, vR z0, vI x1, vI x2, vR z3, vI x4] h Q := Rn_nx pg0 rfl rfl
theorem sL_law_138 : Rn r 0 138 [l0, l1, l2, l3] [vI x0, vR z1, vI x2, vI x3, vR z4, vI x5] h Q ↔ Rn r 0 139 [l0, l1, l2, l3] [vI 3, vI x0, vR z1, vI x2, vI x3, vR z4, vI x5] h Q := Rn_nx pg0 rfl rfl
theorem sL_law_139 : Rn r 0 139 [l0, l1, l2, l3] [vI x0, vI x1, vR z2, vI x3, vI x4, vR z5, vI x6] h Q ↔ Rn r 0 140 [l0, l1, l2, l3] [vI (x1 + x0), vR z2, vI x3, vI x4, vR z5, vI x6] h Q := Rn_nx pg0 rfl rfl
theorem sL_law_140 (hk : 40 ≤ hK h a1) (hk2 : hK h a1 ≤ 41) (hx : ¬ (x0 < 0 ∨ hL h a1 ≤ x0.toNatClampNeg)) : Rn r 0 140 [l0, l1, l2, l3] [vI x0, vR (some a1), vI x2, vI x3, vR z4, vI x5] h Q ↔ Rn r 0 141 [l0, l1, l2, l3] [vI (hI h a1 x0.toNatClampNeg), vI x2, vI x3, vR z4, vI x5] h Q := Rn_nx pg0 rfl ((if_pos ⟨hk, hk2⟩).trans (if_neg hx))
theorem sL_law_141 : Rn r 0 141 [some (vR z), l1, l2, l3] [vI x0, vI x1, vI x2, vR z3, vI x4] h Q ↔ Rn r 0 142 [some (vR z), l1, l2, l3] [vR z, vI x0, vI x1, vI x2, vR z3, vI x4] h Q := Rn_nx pg0 rfl rfl
theorem sL_law_142 : Rn r 0 142 [l0, l1, l2, some (vI x)] [vR z0, vI x1, vI x2, vI x3, vR z4, vI x5] h Q ↔ Rn r 0 143 [l0, l1, l2, some (vI x)] [vI x, vR z0, vI x1, vI x2, vI x3, vR z4, vI x5] h Q := Rn_nx pg0 rfl rfl
theorem sL_law_143 : Rn r 0 143 [l0, l1, l2, l3] [vI x0, vR z1, vI x2, vI x3, vI x4, vR z5, vI x6] h Q ↔ Rn r 0 144 [l0, l1, l2, l3] [vI 4, vI x0, vR z1, vI x2, vI x3, vI x4, vR z5, vI x6] h Q := Rn_nx pg0 rfl rfl
theorem sL_law_144 : Rn r 0 144 [l0, l1, l2, l3] [vI x0, vI x1, vR z2, vI x3, vI x4, vI x5, vR z6, vI x7] h Q ↔ Rn r 0 145 [l0, l1, l2, l3] [vI (x1 + x0), vR z2, vI x3, vI x4, vI x5, vR z6, vI x7] h Q := Rn_nx pg0 rfl rfl
theorem sL_law_145 (hk : 40 ≤ hK h a1) (hk2 : hK h a1 ≤ 41) (hx : ¬ (x0 < 0 ∨ hL h a1 ≤ x0.toNatClampNeg)) : Rn r 0 145 [l0, l1, l2, l3] [vI x0, vR (some a1), vI x2, vI x3, vI x4, vR z5, vI x6] h Q ↔ Rn r 0 146 [l0, l1, l2, l3] [vI (hI h a1 x0.toNatClampNeg), vI x2, vI x3, vI x4, vR z5, vI x6] h Q := Rn_nx pg0 rfl ((if_pos ⟨hk, hk2⟩).trans (if_neg hx))
theorem sL_law_146 : Rn r 0 146 [some (vR z), l1, l2, l3] [vI x0, vI x1, vI x2, vI x3, vR z4, vI x5] h Q ↔ Rn r 0 147 [some (vR z), l1, l2, l3] [vR z, vI x0, vI x1, vI x2, vI x3, vR z4, vI x5] h Q := Rn_nx pg0 rfl rfl
theorem sL_law_147 : Rn r 0 147 [l0, l1, l2, some (vI x)] [vR z0, vI x1, vI x2, vI x3, vI x4, vR z5, vI x6] h Q ↔ Rn r 0 148 [l0, l1, l2, some (vI x)] [vI x, vR z0, vI x1, vI x2, vI x3, vI x4, vR z5, vI x6] h Q := Rn_nx pg0 rfl rfl
theorem sL_law_148 : Rn r 0 148 [l0, l1, l2, l3] [vI x0, vR z1, vI x2, vI x3, vI x4, vI x5, vR z6, vI x7] h Q ↔ Rn r 0 149 [l0, l1, l2, l3] [vI 5, vI x0, vR z1, vI x2, vI x3, vI x4, vI x5, vR z6, vI x7] h Q := Rn_nx pg0 rfl rfl
theorem sL_law_149 : Rn r 0 149 [l0, l1, l2, l3] [vI x0, vI x1, vR z2, vI x3, vI x4, vI x5, vI x6, vR z7, vI x8] h Q ↔ Rn r 0 150 [l0, l1, l2, l3] [vI (x1 + x0), vR z2, vI x3, vI x4, vI x5, vI x6, vR z7, vI x8] h Q := Rn_nx pg0 rfl rfl
theorem sL_law_150 (hk : 40 ≤ hK h a1) (hk2 : hK h a1 ≤ 41) (hx : ¬ (x0 < 0 ∨ hL h a1 ≤ x0.toNatClampNeg)) : Rn r 0 150 [l0, l1, l2, l3] [vI x0, vR (some a1), vI x2, vI x3, vI x4, vI x5, vR z6, vI x7] h Q ↔ Rn r 0 151 [l0, l1, l2, l3] [vI (hI h a1 x0.toNatClampNeg), vI x2, vI x3, vI x4, vI x5, vR z6, vI x7] h Q := Rn_nx pg0 rfl ((if_pos ⟨hk, hk2⟩).trans (if_neg hx))
theorem sL_law_151 (hk : hK h a5 = 15) : Rn r 0 151 [l0, l1, l2, l3] [vI x0, vI x1, vI x2, vI x3, vI x4, vR (some a5), vI x6] h Q ↔ Cl r 4 [vR (some a5), vI x4, vI x3, vI x2, vI x1, vI x0] h (Kt r 0 154 [l0, l1, l2, l3] [vI x6] Q) := Rn_call pg0 rfl (by simp only [am_exec, am_inv, am_pop, am_lk, hk]; rfl) pg4 rfl rfl rfl
theorem sL_law_154 : Rn r 0 154 [l0, l1, l2, l3] [vI x0, vI x1] h Q ↔ if x1 = x0 then Rn r 0 472 [l0, l1, l2, l3] [] h Q else Rn r 0 157 [l0, l1, l2, l3] [] h Q := Rn_if pg0 rfl rfl rfl
theorem sL_law_157 : Rn r 0 157 [l0, l1, l2, l3] [] h Q ↔ Rn r 0 158 [l0, l1, l2, l3] [vI 0] h Q := Rn_nx pg0 rfl rfl
theorem sL_law_158 (hf : am_fit 4 x0 = true) : Rn r 0 158 [l0, l1, l2, l3] [vI x0] h Q ↔ Q (Sum.inl (some (vI x0))) h := Rn_end pg0 rfl (if_pos hf)
theorem sL_law_159 : Rn r 0 159 [l0, some (vR z), l2, l3] [] h Q ↔ Rn r 0 160 [l0, some (vR z), l2, l3] [vR z] h Q := Rn_nx pg0 rfl rfl
theorem sL_law_160 : Rn r 0 160 [some (vR z), l1, l2, l3] [vR z0] h Q ↔ Rn r 0 161 [some (vR z), l1, l2, l3] [vR z, vR z0] h Q := Rn_nx pg0 rfl rfl
theorem sL_law_161 : Rn r 0 161 [l0, l1, l2, some (vI x)] [vR z0, vR z1] h Q ↔ Rn r 0 162 [l0, l1, l2, some (vI x)] [vI x, vR z0, vR z1] h Q := Rn_nx pg0 rfl rfl
theorem sL_law_162 : Rn r 0 162 [l0, l1, l2, l3] [vI x0, vR z1, vR z2] h Q ↔ Rn r 0 163 [l0, l1, l2, l3] [vI 1, vI x0, vR z1, vR z2] h Q := Rn_nx pg0 rfl rfl
theorem sL_law_163 : Rn r 0 163 [l0, l1, l2, l3] [vI x0, vI x1, vR z2, vR z3] h Q ↔ Rn r 0 164 [l0, l1, l2, l3] [vI (x1 + x0), vR z2, vR z3] h Q := Rn_nx pg0 rfl rfl
theorem sL_law_164 (hk : 40 ≤ hK h a1) (hk2 : hK h a1 ≤ 41) (hx : ¬ (x0 < 0 ∨ hL h a1 ≤ x0.toNatClampNeg)) : Rn r 0 164 [l0, l1, l2, l3] [vI x0, vR (some a1), vR z2] h Q ↔ Rn r 0 165 [l0, l1, l2, l3] [vI (hI h a1 x0.toNatClampNeg), vR z2] h Q := Rn_nx pg0 rfl ((if_pos ⟨hk, hk2⟩).trans (if_neg hx))
theorem sL_law_165 (hk : hK h a1 = 1) : Rn r 0 165 [l0, l1, l2, l3] [vI x0, vR (some a1)] h Q ↔ Cl r 5 [vR (some a1), vI x0] h (Kt r 0 168 [l0, l1, l2, l3] [] Q) := Rn_call pg0 rfl (by simp only [am_exec, am_inv, am_pop, am_lk, hk]; rfl) pg5 rfl rfl rfl
theorem sL_law_168 : Rn r 0 168 [l0, l1, some (vR z), l3] [vI x0] h Q ↔ Rn r 0 169 [l0, l1, some (vR z), l3] [vR z, vI x0] h Q := Rn_nx pg0 rfl rfl
theorem sL_law_169 : Rn r 0 169 [some (vR z), l1, l2, l3] [vR z0, vI x1] h Q ↔ Rn r 0 170 [some (vR z), l1, l2, l3] [vR z, vR z0, vI x1] h Q := Rn_nx pg0 rfl rfl
theorem sL_law_170 : Rn r 0 170 [l0, l1, l2, some (vI x)] [vR z0, vR z1, vI x2] h Q ↔ Rn r 0 171 [l0, l1, l2, some (vI x)] [vI x, vR z0, vR z1, vI x2] h Q := Rn_nx pg0 rfl rfl
theorem sL_law_171 : Rn r 0 171 [l0, l1, l2, l3] [vI x0, vR z1, vR z2, vI x3] h Q ↔ Rn r 0 172 [l0, l1, l2, l3] [vI 1, vI x0, vR z1, vR z2, vI x3] h Q := Rn_nx pg0 rfl rfl
theorem sL_law_172 : Rn r 0 172 [l0, l1, l2, l3] [vI x0, vI x1, vR z2, vR z3, vI x4] h Q ↔ Rn r 0 173 [l0, l1, l2, l3] [vI (x1 + x0), vR z2, vR z3, vI x4] h Q := Rn_nx pg0 rfl rfl
theorem sL_law_173 (hk : 40 ≤ hK h a1) (hk2 : hK h a1 ≤ 41) (hx : ¬ (x0 < 0 ∨ hL h a1 ≤ x0.toNatClampNeg)) : Rn r 0 173 [l0, l1, l2, l3] [vI x0, vR (some a1), vR z2, vI x3] h Q ↔ Rn r 0 174 [l0, l1, l2, l3] [vI (hI h a1 x0.toNatClampNeg), vR z2, vI x3] h Q := Rn_nx pg0 rfl ((if_pos ⟨hk, hk2⟩).trans (if_neg hx))
theorem sL_law_174 (hk : hK h a1 = 15) : Rn r 0 174 [l0, l1, l2, l3] [vI x0, vR (some a1), vI x2] h Q ↔ Cl r 6 [vR (some a1), vI x0] h (Kt r 0 177 [l0, l1, l2, l3] [vI x2] Q) := Rn_call pg0 rfl (by simp only [am_exec, am_inv, am_pop, am_lk, hk]; rfl) pg6 rfl rfl rfl
theorem sL_law_177 : Rn r 0 177 [l0, l1, l2, l3] [vI x0, vI x1] h Q ↔ if x1 = x0 then Rn r 0 472 [l0, l1, l2, l3] [] h Q else Rn r 0 180 [l0, l1, l2, l3] [] h Q := Rn_if pg0 rfl rfl rfl
theorem sL_law_180 : Rn r 0 180 [l0, l1, l2, l3] [] h Q ↔ Rn r 0 181 [l0, l1, l2, l3] [vI 0] h Q := Rn_nx pg0 rfl rfl
theorem sL_law_181 (hf : am_fit 4 x0 = true) : Rn r 0 181 [l0, l1, l2, l3] [vI x0] h Q ↔ Q (Sum.inl (some (vI x0))) h := Rn_end pg0 rfl (if_pos hf)
theorem sL_law_182 : Rn r 0 182 [l0, some (vR z), l2, l3] [] h Q ↔ Rn r 0 183 [l0, some (vR z), l2, l3] [vR z] h Q := Rn_nx pg0 rfl rfl
theorem sL_law_183 (hk : hK h a0 = 1) : Rn r 0 183 [l0, l1, l2, l3] [vR (some a0)] h Q ↔ Cl r 7 [vR (some a0)] h (Kt r 0 186 [l0, l1, l2, l3] [] Q) := Rn_call pg0 rfl (by simp only [am_exec, am_inv, am_pop, am_lk, hk]; rfl) pg7 rfl rfl rfl
theorem sL_law_186 : Rn r 0 186 [l0, l1, some (vR z), l3] [vI x0] h Q ↔ Rn r 0 187 [l0, l1, some (vR z), l3] [vR z, vI x0] h Q := Rn_nx pg0 rfl rfl
theorem sL_law_187 (hk : hK h a0 = 15) : Rn r 0 187 [l0, l1, l2, l3] [vR (some a0), vI x1] h Q ↔ Cl r 8 [vR (some a0)] h (Kt r 0 190 [l0, l1, l2, l3] [vI x1] Q) := Rn_call pg0 rfl (by simp only [am_exec, am_inv, am_pop, am_lk, hk]; rfl) pg8 rfl rfl rfl
theorem sL_law_190 : Rn r 0 190 [l0, l1, l2, l3] [vI x0, vI x1] h Q ↔ if x1 = x0 then Rn r 0 472 [l0, l1, l2, l3] [] h Q else Rn r 0 193 [l0, l1, l2, l3] [] h Q := Rn_if pg0 rfl rfl rfl
theorem sL_law_193 : Rn r 0 193 [l0, l1, l2, l3] [] h Q ↔ Rn r 0 194 [l0, l1, l2, l3] [vI 0] h Q := Rn_nx pg0 rfl rfl
theorem sL_law_194 (hf : am_fit 4 x0 = true) : Rn r 0 194 [l0, l1, l2, l3] [vI x0] h Q ↔ Q (Sum.inl (some (vI x0))) h := Rn_end pg0 rfl (if_pos hf)
theorem sL_law_195 : Rn r 0 195 [l0, some (vR z), l2, l3] [] h Q ↔ Rn r 0 196 [l0, some (vR z), l2, l3] [vR z] h Q := Rn_nx pg0 rfl rfl
theorem sL_law_196 : Rn r 0 196 [some (vR z), l1, l2, l3] [vR z0] h Q ↔ Rn r 0 197 [some (vR z), l1, l2, l3] [vR z, vR z0] h Q := Rn_nx pg0 rfl rfl
theorem sL_law_197 : Rn r 0 197 [l0, l1, l2, some (vI x)] [vR z0, vR z1] h Q ↔ Rn r 0 198 [l0, l1, l2, some (vI x)] [vI x, vR z0, vR z1] h Q := Rn_nx pg0 rfl rfl
theorem sL_law_198 : Rn r 0 198 [l0, l1, l2, l3] [vI x0, vR z1, vR z2] h Q ↔ Rn r 0 199 [l0, l1, l2, l3] [vI 1, vI x0, vR z1, vR z2] h Q := Rn_nx pg0 rfl rfl
theorem sL_law_199 : Rn r 0 199 [l0, l1, l2, l3] [vI x0, vI x1, vR z2, vR z3] h Q ↔ Rn r 0 200 [l0, l1, l2, l3] [vI (x1 + x0), vR z2, vR z3] h Q := Rn_nx pg0 rfl rfl
theorem sL_law_200 (hk : 40 ≤ hK h a1) (hk2 : hK h a1 ≤ 41) (hx : ¬ (x0 < 0 ∨ hL h a1 ≤ x0.toNatClampNeg)) : Rn r 0 200 [l0, l1, l2, l3] [vI x0, vR (some a1), vR z2] h Q ↔ Rn r 0 201 [l0, l1, l2, l3] [vI (hI h a1 x0.toNatClampNeg), vR z2] h Q := Rn_nx pg0 rfl ((if_pos ⟨hk, hk2⟩).trans (if_neg hx))
theorem sL_law_201 (hk : hK h a1 = 1) : Rn r 0 201 [l0, l1, l2, l3] [vI x0, vR (some a1)] h Q ↔ Cl r 9 [vR (some a1), vI x0] h (Kt r 0 204 [l0, l1, l2, l3] [] Q) := Rn_call pg0 rfl (by simp only [am_exec, am_inv, am_pop, am_lk, hk]; rfl) pg9 rfl rfl rfl
theorem sL_law_204 : Rn r 0 204 [l0, l1, some (vR z), l3] [vI x0] h Q ↔ Rn r 0 205 [l0, l1, some (vR z), l3] [vR z, vI x0] h Q := Rn_nx pg0 rfl rfl
theorem sL_law_205 : Rn r 0 205 [some (vR z), l1, l2, l3] [vR z0, vI x1] h Q ↔ Rn r 0 206 [some (vR z), l1, l2, l3] [vR z, vR z0, vI x1] h Q := Rn_nx pg0 rfl rfl
theorem sL_law_206 : Rn r 0 206 [l0, l1, l2, some (vI x)] [vR z0, vR z1, vI x2] h Q ↔ Rn r 0 207 [l0, l1, l2, some (vI x)] [vI x, vR z0, vR z1, vI x2] h Q := Rn_nx pg0 rfl rfl
theorem sL_law_207 : Rn r 0 207 [l0, l1, l2, l3] [vI x0, vR z1, vR z2, vI x3] h Q ↔ Rn r 0 208 [l0, l1, l2, l3] [vI 1, vI x0, vR z1, vR z2, vI x3] h Q := Rn_nx pg0 rfl rfl
theorem sL_law_208 : Rn r 0 208 [l0, l1, l2, l3] [vI x0, vI x1, vR z2, vR z3, vI x4] h Q ↔ Rn r 0 209 [l0, l1, l2, l3] [vI (x1 + x0), vR z2, vR z3, vI x4] h Q := Rn_nx pg0 rfl rfl
theorem sL_law_209 (hk : 40 ≤ hK h a1) (hk2 : hK h a1 ≤ 41) (hx : ¬ (x0 < 0 ∨ hL h a1 ≤ x0.toNatClampNeg)) : Rn r 0 209 [l0, l1, l2, l3] [vI x0, vR (some a1), vR z2, vI x3] h Q ↔ Rn r 0 210 [l0, l1, l2, l3] [vI (hI h a1 x0.toNatClampNeg), vR z2, vI x3] h Q := Rn_nx pg0 rfl ((if_pos ⟨hk, hk2⟩).trans (if_neg hx))
theorem sL_law_210 (hk : hK h a1 = 15) : Rn r 0 210 [l0, l1, l2, l3] [vI x0, vR (some a1), vI x2] h Q ↔ Cl r 10 [vR (some a1), vI x0] h (Kt r 0 213 [l0, l1, l2, l3] [vI x2] Q) := Rn_call pg0 rfl (by simp only [am_exec, am_inv, am_pop, am_lk, hk]; rfl) pg10 rfl rfl rfl
theorem sL_law_213 : Rn r 0 213 [l0, l1, l2, l3] [vI x0, vI x1] h Q ↔ if x1 = x0 then Rn r 0 472 [l0, l1, l2, l3] [] h Q else Rn r 0 216 [l0, l1, l2, l3] [] h Q := Rn_if pg0 rfl rfl rfl
theorem sL_law_216 : Rn r 0 216 [l0, l1, l2, l3] [] h Q ↔ Rn r 0 217 [l0, l1, l2, l3] [vI 0] h Q := Rn_nx pg0 rfl rfl
theorem sL_law_217 (hf : am_fit 4 x0 = true) : Rn r 0 217 [l0, l1, l2, l3] [vI x0] h Q ↔ Q (Sum.inl (some (vI x0))) h := Rn_end pg0 rfl (if_pos hf)
theorem sL_law_218 : Rn r 0 218 [l0, some (vR z), l2, l3] [] h Q ↔ Rn r 0 219 [l0, some (vR z), l2, l3] [vR z] h Q := Rn_nx pg0 rfl rfl
theorem sL_law_219 : Rn r 0 219 [some (vR z), l1, l2, l3] [vR z0] h Q ↔ Rn r 0 220 [some (vR z), l1, l2, l3] [vR z, vR z0] h Q := Rn_nx pg0 rfl rfl
theorem sL_law_220 : Rn r 0 220 [l0, l1, l2, some (vI x)] [vR z0, vR z1] h Q ↔ Rn r 0 221 [l0, l1, l2, some (vI x)] [vI x, vR z0, vR z1] h Q := Rn_nx pg0 rfl rfl
theorem sL_law_221 : Rn r 0 221 [l0, l1, l2, l3] [vI x0, vR z1, vR z2] h Q ↔ Rn r 0 222 [l0, l1, l2, l3] [vI 1, vI x0, vR z1, vR z2] h Q := Rn_nx pg0 rfl rfl
theorem sL_law_222 : Rn r 0 222 [l0, l1, l2, l3] [vI x0, vI x1, vR z2, vR z3] h Q ↔ Rn r 0 223 [l0, l1, l2, l3] [vI (x1 + x0), vR z2, vR z3] h Q := Rn_nx pg0 rfl rfl
theorem sL_law_223 (hk : 40 ≤ hK h a1) (hk2 : hK h a1 ≤ 41) (hx : ¬ (x0 < 0 ∨ hL h a1 ≤ x0.toNatClampNeg)) : Rn r 0 223 [l0, l1, l2, l3] [vI x0, vR (some a1), vR z2] h Q ↔ Rn r 0 224 [l0, l1, l2, l3] [vI (hI h a1 x0.toNatClampNeg), vR z2] h Q := Rn_nx pg0 rfl ((if_pos ⟨hk, hk2⟩).trans (if_neg hx))
theorem sL_law_224 : Rn r 0 224 [some (vR z), l1, l2, l3] [vI x0, vR z1] h Q ↔ Rn r 0 225 [some (vR z), l1, l2, l3] [vR z, vI x0, vR z1] h Q := Rn_nx pg0 rfl rfl
theorem sL_law_225 : Rn r 0 225 [l0, l1, l2, some (vI x)] [vR z0, vI x1, vR z2] h Q ↔ Rn r 0 226 [l0, l1, l2, some (vI x)] [vI x, vR z0, vI x1, vR z2] h Q := Rn_nx pg0 rfl rfl
theorem sL_law_226 : Rn r 0 226 [l0, l1, l2, l3] [vI x0, vR z1, vI x2, vR z3] h Q ↔ Rn r 0 227 [l0, l1, l2, l3] [vI 2, vI x0, vR z1, vI x2, vR z3] h Q := Rn_nx pg0 rfl rfl
theorem sL_law_227 : Rn r 0 227 [l0, l1, l2, l3] [vI x0, vI x1, vR z2, vI x3, vR z4] h Q ↔ Rn r 0 228 [l0, l1, l2, l3] [vI (x1 + x0), vR z2, vI x3, vR z4] h Q := Rn_nx pg0 rfl rfl
theorem sL_law_228 (hk : 40 ≤ hK h a1) (hk2 : hK h a1 ≤ 41) (hx : ¬ (x0 < 0 ∨ hL h a1 ≤ x0.toNatClampNeg)) : Rn r 0 228 [l0, l1, l2, l3] [vI x0, vR (some a1), vI x2, vR z3] h Q ↔ Rn r 0 229 [l0, l1, l2, l3] [vI (hI h a1 x0.toNatClampNeg), vI x2, vR z3] h Q := Rn_nx pg0 rfl ((if_pos ⟨hk, hk2⟩).trans (if_neg hx))
theorem sL_law_229 (hk : hK h a2 = 1) : Rn r 0 229 [l0, l1, l2, l3] [vI x0, vI x1, vR (some a2)] h Q ↔ Cl r 11 [vR (some a2), vI x1, vI x0] h (Kt r 0 232 [l0, l1, l2, l3] [] Q) := Rn_call pg0 rfl (by simp only [am_exec, am_inv, am_pop, am_lk, hk]; rfl) pg11 rfl rfl rfl
theorem sL_law_232 : Rn r 0 232 [l0, l1, some (vR z), l3] [vI x0] h Q ↔ Rn r 0 233 [l0, l1, some (vR z), l3] [vR z, vI x0] h Q := Rn_nx pg0 rfl rfl
theorem sL_law_233 : Rn r 0 233 [some (vR z), l1, l2, l3] [vR z0, vI x1] h Q ↔ Rn r 0 234 [some (vR z), l1, l2, l3] [vR z, vR z0, vI x1] h Q := Rn_nx pg0 rfl rfl
theorem sL_law_234 : Rn r 0 234 [l0, l1, l2, some (vI x)] [vR z0, vR z1, vI x2] h Q ↔ Rn r 0 235 [l0, l1, l2, some (vI x)] [vI x, vR z0, vR z1, vI x2] h Q := Rn_nx pg0 rfl rfl
theorem sL_law_235 : Rn r 0 235 [l0, l1, l2, l3] [vI x0, vR z1, vR z2, vI x3] h Q ↔ Rn r 0 236 [l0, l1, l2, l3] [vI 1, vI x0, vR z1, vR z2, vI x3] h Q := Rn_nx pg0 rfl rfl
theorem sL_law_236 : Rn r 0 236 [l0, l1, l2, l3] [vI x0, vI x1, vR z2, vR z3, vI x4] h Q ↔ Rn r 0 237 [l0, l1, l2, l3] [vI (x1 + x0), vR z2, vR z3, vI x4] h Q := Rn_nx pg0 rfl rfl
theorem sL_law_237 (hk : 40 ≤ hK h a1) (hk2 : hK h a1 ≤ 41) (hx : ¬ (x0 < 0 ∨ hL h a1 ≤ x0.toNatClampNeg)) : Rn r 0 237 [l0, l1, l2, l3] [vI x0, vR (some a1), vR z2, vI x3] h Q ↔ Rn r 0 238 [l0, l1, l2, l3] [vI (hI h a1 x0.toNatClampNeg), vR z2, vI x3] h Q := Rn_nx pg0 rfl ((if_pos ⟨hk, hk2⟩).trans (if_neg hx))
theorem sL_law_238 : Rn r 0 238 [some (vR z), l1, l2, l3] [vI x0, vR z1, vI x2] h Q ↔ Rn r 0 239 [some (vR z), l1, l2, l3] [vR z, vI x0, vR z1, vI x2] h Q := Rn_nx pg0 rfl rfl
theorem sL_law_239 : Rn r 0 239 [l0, l1, l2, some (vI x)] [vR z0, vI x1, vR z2, vI x3] h Q ↔ Rn r 0 240 [l0, l1, l2, some (vI x)] [vI x, vR z0, vI x1, vR z2, vI x3] h Q := Rn_nx pg0 rfl rfl
theorem sL_law_240 : Rn r 0 240 [l0, l1, l2, l3] [vI x0, vR z1, vI x2, vR z3, vI x4] h Q ↔ Rn r 0 241 [l0, l1, l2, l3] [vI 2, vI x0, vR z1, vI x2, vR z3, vI x4] h Q := Rn_nx pg0 rfl rfl
theorem sL_law_241 : Rn r 0 241 [l0, l1, l2, l3] [vI x0, vI x1, vR z2, vI x3, vR z4, vI x5] h Q ↔ Rn r 0 242 [l0, l1, l2, l3] [vI (x1 + x0), vR z2, vI x3, vR z4, vI x5] h Q := Rn_nx pg0 rfl rfl
theorem sL_law_242 (hk : 40 ≤ hK h a1) (hk2 : hK h a1 ≤ 41) (hx : ¬ (x0 < 0 ∨ hL h a1 ≤ x0.toNatClampNeg)) : Rn r 0 242 [l0, l1, l2, l3] [vI x0, vR (some a1), vI x2, vR z3, vI x4] h Q ↔ Rn r 0 243 [l0, l1, l2, l3] [vI (hI h a1 x0.toNatClampNeg), vI x2, vR z3, vI x4] h Q := Rn_nx pg0 rfl ((if_pos ⟨hk, hk2⟩).trans (if_neg hx))
theorem sL_law_243 (hk : hK h a2 = 15) : Rn r 0 243 [l0, l1, l2, l3] [vI x0, vI x1, vR (some a2), vI x3] h Q ↔ Cl r 12 [vR (some a2), vI x1, vI x0] h (Kt r 0 246 [l0, l1, l2, l3] [vI x3] Q) := Rn_call pg0 rfl (by simp only [am_exec, am_inv, am_pop, am_lk, hk]; rfl) pg12 rfl rfl rfl
theorem sL_law_246 : Rn r 0 246 [l0, l1, l2, l3] [vI x0, vI x1] h Q ↔ if x1 = x0 then Rn r 0 472 [l0, l1, l2, l3] [] h Q else Rn r 0 249 [l0, l1, l2, l3] [] h Q := Rn_if pg0 rfl rfl rfl
theorem sL_law_249 : Rn r 0 249 [l0, l1, l2, l3] [] h Q ↔ Rn r 0 250 [l0, l1, l2, l3] [vI 0] h Q := Rn_nx pg0 rfl rfl
theorem sL_law_250 (hf : am_fit 4 x0 = true) : Rn r 0 250 [l0, l1, l2, l3] [vI x0] h Q ↔ Q (Sum.inl (some (vI x0))) h := Rn_end pg0 rfl (if_pos hf)
theorem sL_law_251 : Rn r 0 251 [l0, some (vR z), l2, l3] [] h Q ↔ Rn r 0 252 [l0, some (vR z), l2, l3] [vR z] h Q := Rn_nx pg0 rfl rfl
theorem sL_law_252 : Rn r 0 252 [some (vR z), l1, l2, l3] [vR z0] h Q ↔ Rn r 0 253 [some (vR z), l1, l2, l3] [vR z, vR z0] h Q := Rn_nx pg0 rfl rfl
theorem sL_law_253 : Rn r 0 253 [l0, l1, l2, some (vI x)] [vR z0, vR z1] h Q ↔ Rn r 0 254 [l0, l1, l2, some (vI x)] [vI x, vR z0, vR z1] h Q := Rn_nx pg0 rfl rfl
theorem sL_law_254 : Rn r 0 254 [l0, l1, l2, l3] [vI x0, vR z1, vR z2] h Q ↔ Rn r 0 255 [l0, l1, l2, l3] [vI 1, vI x0, vR z1, vR z2] h Q := Rn_nx pg0 rfl rfl
theorem sL_law_255 : Rn r 0 255 [l0, l1, l2, l3] [vI x0, vI x1, vR z2, vR z3] h Q ↔ Rn r 0 256 [l0, l1, l2, l3] [vI (x1 + x0), vR z2, vR z3] h Q := Rn_nx pg0 rfl rfl
theorem sL_law_256 (hk : 40 ≤ hK h a1) (hk2 : hK h a1 ≤ 41) (hx : ¬ (x0 < 0 ∨ hL h a1 ≤ x0.toNatClampNeg)) : Rn r 0 256 [l0, l1, l2, l3] [vI x0, vR (some a1), vR z2] h Q ↔ Rn r 0 257 [l0, l1, l2, l3] [vI (hI h a1 x0.toNatClampNeg), vR z2] h Q := Rn_nx pg0 rfl ((if_pos ⟨hk, hk2⟩).trans (if_neg hx))
theorem sL_law_257 : Rn r 0 257 [some (vR z), l1, l2, l3] [vI x0, vR z1] h Q ↔ Rn r 0 258 [some (vR z), l1, l2, l3] [vR z, vI x0, vR z1] h Q := Rn_nx pg0 rfl rfl
theorem sL_law_258 : Rn r 0 258 [l0, l1, l2, some (vI x)] [vR z0, vI x1, vR z2] h Q ↔ Rn r 0 259 [l0, l1, l2, some (vI x)] [vI x, vR z0, vI x1, vR z2] h Q := Rn_nx pg0 rfl rfl
theorem sL_law_259 : Rn r 0 259 [l0, l1, l2, l3] [vI x0, vR z1, vI x2, vR z3] h Q ↔ Rn r 0 260 [l0, l1, l2, l3] [vI 2, vI x0, vR z1, vI x2, vR z3] h Q := Rn_nx pg0 rfl rfl
theorem sL_law_260 : Rn r 0 260 [l0, l1, l2, l3] [vI x0, vI x1, vR z2, vI x3, vR z4] h Q ↔ Rn r 0 261 [l0, l1, l2, l3] [vI (x1 + x0), vR z2, vI x3, vR z4] h Q := Rn_nx pg0 rfl rfl
theorem sL_law_261 (hk : 40 ≤ hK h a1) (hk2 : hK h a1 ≤ 41) (hx : ¬ (x0 < 0 ∨ hL h a1 ≤ x0.toNatClampNeg)) : Rn r 0 261 [l0, l1, l2, l3] [vI x0, vR (some a1), vI x2, vR z3] h Q ↔ Rn r 0 262 [l0, l1, l2, l3] [vI (hI h a1 x0.toNatClampNeg), vI x2, vR z3] h Q := Rn_nx pg0 rfl ((if_pos ⟨hk, hk2⟩).trans (if_neg hx))
theorem sL_law_262 (hk : hK h a2 = 1) : Rn r 0 262 [l0, l1, l2, l3] [vI x0, vI x1, vR (some a2)] h Q ↔ Cl r 13 [vR (some a2), vI x1, vI x0] h (Kt r 0 265 [l0, l1, l2, l3] [] Q) := Rn_call pg0 rfl (by simp only [am_exec, am_inv, am_pop, am_lk, hk]; rfl) pg13 rfl rfl rfl
theorem sL_law_265 : Rn r 0 265 [l0, l1, some (vR z), l3] [vI x0] h Q ↔ Rn r 0 266 [l0, l1, some (vR z), l3] [vR z, vI x0] h Q := Rn_nx pg0 rfl rfl
theorem sL_law_266 : Rn r 0 266 [some (vR z), l1, l2, l3] [vR z0, vI x1] h Q ↔ Rn r 0 267 [some (vR z), l1, l2, l3] [vR z, vR z0, vI x1] h Q := Rn_nx pg0 rfl rfl
theorem sL_law_267 : Rn r 0 267 [l0, l1, l2, some (vI x)] [vR z0, vR z1, vI x2] h Q ↔ Rn r 0 268 [l0, l1, l2, some (vI x)] [vI x, vR z0, vR z1, vI x2] h Q := Rn_nx pg0 rfl rfl
theorem sL_law_268 : Rn r 0 268 [l0, l1, l2, l3] [vI x0, vR z1, vR z2, vI x3] h Q ↔ Rn r 0 269 [l0, l1, l2, l3] [vI 1, vI x0, vR z1, vR z2, vI x3] h Q := Rn_nx pg0 rfl rfl
theorem sL_law_269 : Rn r 0 269 [l0, l1, l2, l3] [vI x0, vI x1, vR z2, vR z3, vI x4] h Q ↔ Rn r 0 270 [l0, l1, l2, l3] [vI (x1 + x0), vR z2, vR z3, vI x4] h Q := Rn_nx pg0 rfl rfl
theorem sL_law_270 (hk : 40 ≤ hK h a1) (hk2 : hK h a1 ≤ 41) (hx : ¬ (x0 < 0 ∨ hL h a1 ≤ x0.toNatClampNeg)) : Rn r 0 270 [l0, l1, l2, l3] [vI x0, vR (some a1), vR z2, vI x3] h Q ↔ Rn r 0 271 [l0, l1, l2, l3] [vI (hI h a1 x0.toNatClampNeg), vR z2, vI x3] h Q := Rn_nx pg0 rfl ((if_pos ⟨hk, hk2⟩).trans (if_neg hx))
theorem sL_law_271 : Rn r 0 271 [some (vR z), l1, l2, l3] [vI x0, vR z1, vI x2] h Q ↔ Rn r 0 272 [some (vR z), l1, l2, l3] [vR z, vI x0, vR z1, vI x2] h Q := Rn_nx pg0 rfl rfl
theorem sL_law_272 : Rn r 0 272 [l0, l1, l2, some (vI x)] [vR z0, vI x1, vR z2, vI x3] h Q ↔ Rn r 0 273 [l0, l1, l2, some (vI x)] [vI x, vR z0, vI x1, vR z2, vI x3] h Q := Rn_nx pg0 rfl rfl
theorem sL_law_273 : Rn r 0 273 [l0, l1, l2, l3] [vI x0, vR z1, vI x2, vR z3, vI x4] h Q ↔ Rn r 0 274 [l0, l1, l2, l3] [vI 2, vI x0, vR z1, vI x2, vR z3, vI x4] h Q := Rn_nx pg0 rfl rfl
theorem sL_law_274 : Rn r 0 274 [l0, l1, l2, l3] [vI x0, vI x1, vR z2, vI x3, vR z4, vI x5] h Q ↔ Rn r 0 275 [l0, l1, l2, l3] [vI (x1 + x0), vR z2, vI x3, vR z4, vI x5] h Q := Rn_nx pg0 rfl rfl
theorem sL_law_275 (hk : 40 ≤ hK h a1) (hk2 : hK h a1 ≤ 41) (hx : ¬ (x0 < 0 ∨ hL h a1 ≤ x0.toNatClampNeg)) : Rn r 0 275 [l0, l1, l2, l3] [vI x0, vR (some a1), vI x2, vR z3, vI x4] h Q ↔ Rn r 0 276 [l0, l1, l2, l3] [vI (hI h a1 x0.toNatClampNeg), vI x2, vR z3, vI x4] h Q := Rn_nx pg0 rfl ((if_pos ⟨hk, hk2⟩).trans (if_neg hx))
theorem sL_law_276 (hk : hK h a2 = 15) : Rn r 0 276 [l0, l1, l2, l3] [vI x0, vI x1, vR (some a2), vI x3] h Q ↔ Cl r 14 [vR (some a2), vI x1, vI x0] h (Kt r 0 279 [l0, l1, l2, l3] [vI x3] Q) := Rn_call pg0 rfl (by simp only [am_exec, am_inv, am_pop, am_lk, hk]; rfl) pg14 rfl rfl rfl
theorem sL_law_279 : Rn r 0 279 [l0, l1, l2, l3] [vI x0, vI x1] h Q ↔ if x1 = x0 then Rn r 0 472 [l0, l1, l2, l3] [] h Q else Rn r 0 282 [l0, l1, l2, l3] [] h Q := Rn_if pg0 rfl rfl rfl
theorem sL_law_282 : Rn r 0 282 [l0, l1, l2, l3] [] h Q ↔ Rn r 0 283 [l0, l1, l2, l3] [vI 0] h Q := Rn_nx pg0 rfl rfl
theorem sL_law_283 (hf : am_fit 4 x0 = true) : Rn r 0 283 [l0, l1, l2, l3] [vI x0] h Q ↔ Q (Sum.inl (some (vI x0))) h := Rn_end pg0 rfl (if_pos hf)
theorem sL_law_284 : Rn r 0 284 [l0, some (vR z), l2, l3] [] h Q ↔ Rn r 0 285 [l0, some (vR z), l2, l3] [vR z] h Q := Rn_nx pg0 rfl rfl
theorem sL_law_285 : Rn r 0 285 [some (vR z), l1, l2, l3] [vR z0] h Q ↔ Rn r 0 286 [some (vR z), l1, l2, l3] [vR z, vR z0] h Q := Rn_nx pg0 rfl rfl
theorem sL_law_286 : Rn r 0 286 [l0, l1, l2, some (vI x)] [vR z0, vR z1] h Q ↔ Rn r 0 287 [l0, l1, l2, some (vI x)] [vI x, vR z0, vR z1] h Q := Rn_nx pg0 rfl rfl
theorem sL_law_287 : Rn r 0 287 [l0, l1, l2, l3] [vI x0, vR z1, vR z2] h Q ↔ Rn r 0 288 [l0, l1, l2, l3] [vI 1, vI x0, vR z1, vR z2] h Q := Rn_nx pg0 rfl rfl
theorem sL_law_288 : Rn r 0 288 [l0, l1, l2, l3] [vI x0, vI x1, vR z2, vR z3] h Q ↔ Rn r 0 289 [l0, l1, l2, l3] [vI (x1 + x0), vR z2, vR z3] h Q := Rn_nx pg0 rfl rfl
theorem sL_law_289 (hk : 40 ≤ hK h a1) (hk2 : hK h a1 ≤ 41) (hx : ¬ (x0 < 0 ∨ hL h a1 ≤ x0.toNatClampNeg)) : Rn r 0 289 [l0, l1, l2, l3] [vI x0, vR (some a1), vR z2] h Q ↔ Rn r 0 290 [l0, l1, l2, l3] [vI (hI h a1 x0.toNatClampNeg), vR z2] h Q := Rn_nx pg0 rfl ((if_pos ⟨hk, hk2⟩).trans (if_neg hx))
theorem sL_law_290 : Rn r 0 290 [some (vR z), l1, l2, l3] [vI x0, vR z1] h Q ↔ Rn r 0 291 [some (vR z), l1, l2, l3] [vR z, vI x0, vR z1] h Q := Rn_nx pg0 rfl rfl
theorem sL_law_291 : Rn r 0 291 [l0, l1, l2, some (vI x)] [vR z0, vI x1, vR z2] h Q ↔ Rn r 0 292 [l0, l1, l2, some (vI x)] [vI x, vR z0, vI x1, vR z2] h Q := Rn_nx pg0 rfl rfl
theorem sL_law_292 : Rn r 0 292 [l0, l1, l2, l3] [vI x0, vR z1, vI x2, vR z3] h Q ↔ Rn r 0 293 [l0, l1, l2, l3] [vI 2, vI x0, vR z1, vI x2, vR z3] h Q := Rn_nx pg0 rfl rfl
theorem sL_law_293 : Rn r 0 293 [l0, l1, l2, l3] [vI x0, vI x1, vR z2, vI x3, vR z4] h Q ↔ Rn r 0 294 [l0, l1, l2, l3] [vI (x1 + x0), vR z2, vI x3, vR z4] h Q := Rn_nx pg0 rfl rfl
theorem sL_law_294 (hk : 40 ≤ hK h a1) (hk2 : hK h a1 ≤ 41) (hx : ¬ (x0 < 0 ∨ hL h a1 ≤ x0.toNatClampNeg)) : Rn r 0 294 [l0, l1, l2, l3] [vI x0, vR (some a1), vI x2, vR z3] h Q ↔ Rn r 0 295 [l0, l1, l2, l3] [vI (hI h a1 x0.toNatClampNeg), vI x2, vR z3] h Q := Rn_nx pg0 rfl ((if_pos ⟨hk, hk2⟩).trans (if_neg hx))
theorem sL_law_295 (hk : hK h a2 = 1) : Rn r 0 295 [l0, l1, l2, l3] [vI x0, vI x1, vR (some a2)] h Q ↔ Cl r 15 [vR (some a2), vI x1, vI x0] h (Kt r 0 298 [l0, l1, l2, l3] [] Q) := Rn_call pg0 rfl (by simp only [am_exec, am_inv, am_pop, am_lk, hk]; rfl) pg15 rfl rfl rfl
theorem sL_law_298 : Rn r 0 298 [l0, l1, some (vR z), l3] [vI x0] h Q ↔ Rn r 0 299 [l0, l1, some (vR z), l3] [vR z, vI x0] h Q := Rn_nx pg0 rfl rfl
theorem sL_law_299 : Rn r 0 299 [some (vR z), l1, l2, l3] [vR z0, vI x1] h Q ↔ Rn r 0 300 [some (vR z), l1, l2, l3] [vR z, vR z0, vI x1] h Q := Rn_nx pg0 rfl rfl
theorem sL_law_300 : Rn r 0 300 [l0, l1, l2, some (vI x)] [vR z0, vR z1, vI x2] h Q ↔ Rn r 0 301 [l0, l1, l2, some (vI x)] [vI x, vR z0, vR z1, vI x2] h Q := Rn_nx pg0 rfl rfl
theorem sL_law_301 : Rn r 0 301 [l0, l1, l2, l3] [vI x0, vR z1, vR z2, vI x3] h Q ↔ Rn r 0 302 [l0, l1, l2, l3] [vI 1, vI x0, vR z1, vR z2, vI x3] h Q := Rn_nx pg0 rfl rfl
theorem sL_law_302 : Rn r 0 302 [l0, l1, l2, l3] [vI x0, vI x1, vR z2, vR z3, vI x4] h Q ↔ Rn r 0 303 [l0, l1, l2, l3] [vI (x1 + x0), vR z2, vR z3, vI x4] h Q := Rn_nx pg0 rfl rfl
theorem sL_law_303 (hk : 40 ≤ hK h a1) (hk2 : hK h a1 ≤ 41) (hx : ¬ (x0 < 0 ∨ hL h a1 ≤ x0.toNatClampNeg)) : Rn r 0 303 [l0, l1, l2, l3] [vI x0, vR (some a1), vR z2, vI x3] h Q ↔ Rn r 0 304 [l0, l1, l2, l3] [vI (hI h a1 x0.toNatClampNeg), vR z2, vI x3] h Q := Rn_nx pg0 rfl ((if_pos ⟨hk, hk2⟩).trans (if_neg hx))
theorem sL_law_304 : Rn r 0 304 [some (vR z), l1, l2, l3] [vI x0, vR z1, vI x2] h Q ↔ Rn r 0 305 [some (vR z), l1, l2, l3] [vR z, vI x0, vR z1, vI x2] h Q := Rn_nx pg0 rfl rfl
theorem sL_law_305 : Rn r 0 305 [l0, l1, l2, some (vI x)] [vR z0, vI x1, vR z2, vI x3] h Q ↔ Rn r 0 306 [l0, l1, l2, some (vI x)] [vI x, vR z0, vI x1, vR z2, vI x3] h Q := Rn_nx pg0 rfl rfl
theorem sL_law_306 : Rn r 0 306 [l0, l1, l2, l3] [vI x0, vR z1, vI x2, vR z3, vI x4] h Q ↔ Rn r 0 307 [l0, l1, l2, l3] [vI 2, vI x0, vR z1, vI x2, vR z3, vI x4] h Q := Rn_nx pg0 rfl rfl
theorem sL_law_307 : Rn r 0 307 [l0, l1, l2, l3] [vI x0, vI x1, vR z2, vI x3, vR z4, vI x5] h Q ↔ Rn r 0 308 [l0, l1, l2, l3] [vI (x1 + x0), vR z2, vI x3, vR z4, vI x5] h Q := Rn_nx pg0 rfl rfl
theorem sL_law_308 (hk : 40 ≤ hK h a1) (hk2 : hK h a1 ≤ 41) (hx : ¬ (x0 < 0 ∨ hL h a1 ≤ x0.toNatClampNeg)) : Rn r 0 308 [l0, l1, l2, l3] [vI x0, vR (some a1), vI x2, vR z3, vI x4] h Q ↔ Rn r 0 309 [l0, l1, l2, l3] [vI (hI h a1 x0.toNatClampNeg), vI x2, vR z3, vI x4] h Q := Rn_nx pg0 rfl ((if_pos ⟨hk, hk2⟩).trans (if_neg hx))
theorem sL_law_309 (hk : hK h a2 = 15) : Rn r 0 309 [l0, l1, l2, l3] [vI x0, vI x1, vR (some a2), vI x3] h Q ↔ Cl r 16 [vR (some a2), vI x1, vI x0] h (Kt r 0 312 [l0, l1, l2, l3] [vI x3] Q) := Rn_call pg0 rfl (by simp only [am_exec, am_inv, am_pop, am_lk, hk]; rfl) pg16 rfl rfl rfl
theorem sL_law_312 : Rn r 0 312 [l0, l1, l2, l3] [vI x0, vI x1] h Q ↔ if x1 = x0 then Rn r 0 472 [l0, l1, l2, l3] [] h Q else Rn r 0 315 [l0, l1, l2, l3] [] h Q := Rn_if pg0 rfl rfl rfl
theorem sL_law_315 : Rn r 0 315 [l0, l1, l2, l3] [] h Q ↔ Rn r 0 316 [l0, l1, l2, l3] [vI 0] h Q := Rn_nx pg0 rfl rfl
theorem sL_law_316 (hf : am_fit 4 x0 = true) : Rn r 0 316 [l0, l1, l2, l3] [vI x0] h Q ↔ Q (Sum.inl (some (vI x0))) h := Rn_end pg0 rfl (if_pos hf)
theorem sL_law_317 : Rn r 0 317 [l0, some (vR z), l2, l3] [] h Q ↔ Rn r 0 318 [l0, some (vR z), l2, l3] [vR z] h Q := Rn_nx pg0 rfl rfl
theorem sL_law_318 : Rn r 0 318 [some (vR z), l1, l2, l3] [vR z0] h Q ↔ Rn r 0 319 [some (vR z), l1, l2, l3] [vR z, vR z0] h Q := Rn_nx pg0 rfl rfl
theorem sL_law_319 : Rn r 0 319 [l0, l1, l2, some (vI x)] [vR z0, vR z1] h Q ↔ Rn r 0 320 [l0, l1, l2, some (vI x)] [vI x, vR z0, vR z1] h Q := Rn_nx pg0 rfl rfl
theorem sL_law_320 : Rn r 0 320 [l0, l1, l2, l3] [vI x0, vR z1, vR z2] h Q ↔ Rn r 0 321 [l0, l1, l2, l3] [vI 1, vI x0, vR z1, vR z2] h Q := Rn_nx pg0 rfl rfl
theorem sL_law_321 : Rn r 0 321 [l0, l1, l2, l3] [vI x0, vI x1, vR z2, vR z3] h Q ↔ Rn r 0 322 [l0, l1, l2, l3] [vI (x1 + x0), vR z2, vR z3] h Q := Rn_nx pg0 rfl rfl
theorem sL_law_322 (hk : 40 ≤ hK h a1) (hk2 : hK h a1 ≤ 41) (hx : ¬ (x0 < 0 ∨ hL h a1 ≤ x0.toNatClampNeg)) : Rn r 0 322 [l0, l1, l2, l3] [vI x0, vR (some a1), vR z2] h Q ↔ Rn r 0 323 [l0, l1, l2, l3] [vI (hI h a1 x0.toNatClampNeg), vR z2] h Q := Rn_nx pg0 rfl ((if_pos ⟨hk, hk2⟩).trans (if_neg hx))
theorem sL_law_323 : Rn r 0 323 [some (vR z), l1, l2, l3] [vI x0, vR z1] h Q ↔ Rn r 0 324 [some (vR z), l1, l2, l3] [vR z, vI x0, vR z1] h Q := Rn_nx pg0 rfl rfl
theorem sL_law_324 : Rn r 0 324 [l0, l1, l2, some (vI x)] [vR z0, vI x1, vR z2] h Q ↔ Rn r 0 325 [l0, l1, l2, some (vI x)] [vI x, vR z0, vI x1, vR z2] h Q := Rn_nx pg0 rfl rfl
theorem sL_law_325 : Rn r 0 325 [l0, l1, l2, l3] [vI x0, vR z1, vI x2, vR z3] h Q ↔ Rn r 0 326 [l0, l1, l2, l3] [vI 2, vI x0, vR z1, vI x2, vR z3] h Q := Rn_nx pg0 rfl rfl
theorem sL_law_326 : Rn r 0 326 [l0, l1, l2, l3] [vI x0, vI x1, vR z2, vI x3, vR z4] h Q ↔ Rn r 0 327 [l0, l1, l2, l3] [vI (x1 + x0), vR z2, vI x3, vR z4] h Q := Rn_nx pg0 rfl rfl
theorem sL_law_327 (hk : 40 ≤ hK h a1) (hk2 : hK h a1 ≤ 41) (hx : ¬ (x0 < 0 ∨ hL h a1 ≤ x0.toNatClampNeg)) : Rn r 0 327 [l0, l1, l2, l3] [vI x0, vR (some a1), vI x2, vR z3] h Q ↔ Rn r 0 328 [l0, l1, l2, l3] [vI (hI h a1 x0.toNatClampNeg), vI x2, vR z3] h Q := Rn_nx pg0 rfl ((if_pos ⟨hk, hk2⟩).trans (if_neg hx))
theorem sL_law_328 (hk : hK h a2 = 1) : Rn r 0 328 [l0, l1, l2, l3] [vI x0, vI x1, vR (some a2)] h Q ↔ Cl r 17 [vR (some a2), vI x1, vI x0] h (Kt r 0 331 [l0, l1, l2, l3] [] Q) := Rn_call pg0 rfl (by simp only [am_exec, am_inv, am_pop, am_lk, hk]; rfl) pg17 rfl rfl rfl
theorem sL_law_331 : Rn r 0 331 [l0, l1, some (vR z), l3] [vI x0] h Q ↔ Rn r 0 332 [l0, l1, some (vR z), l3] [vR z, vI x0] h Q := Rn_nx pg0 rfl rfl
theorem sL_law_332 : Rn r 0 332 [some (vR z), l1, l2, l3] [vR z0, vI x1] h Q ↔ Rn r 0 333 [some (vR z), l1, l2, l3] [vR z, vR z0, vI x1] h Q := Rn_nx pg0 rfl rfl
theorem sL_law_333 : Rn r 0 333 [l0, l1, l2, some (vI x)] [vR z0, vR z1, vI x2] h Q ↔ Rn r 0 334 [l0, l1, l2, some (vI x)] [vI x, vR z0, vR z1, vI x2] h Q := Rn_nx pg0 rfl rfl
theorem sL_law_334 : Rn r 0 334 [l0, l1, l2, l3] [vI x0, vR z1, vR z2, vI x3] h Q ↔ Rn r 0 335 [l0, l1, l2, l3] [vI 1, vI x0, vR z1, vR z2, vI x3] h Q := Rn_nx pg0 rfl rfl
theorem sL_law_335 : Rn r 0 335 [l0, l1, l2, l3] [vI x0, vI x1, vR z2, vR z3, vI x4] h Q ↔ Rn r 0 336 [l0, l1, l2, l3] [vI (x1 + x0), vR z2, vR z3, vI x4] h Q := Rn_nx pg0 rfl rfl
theorem sL_law_336 (hk : 40 ≤ hK h a1) (hk2 : hK h a1 ≤ 41) (hx : ¬ (x0 < 0 ∨ hL h a1 ≤ x0.toNatClampNeg)) : Rn r 0 336 [l0, l1, l2, l3] [vI x0, vR (some a1), vR z2, vI x3] h Q ↔ Rn r 0 337 [l0, l1, l2, l3] [vI (hI h a1 x0.toNatClampNeg), vR z2, vI x3] h Q := Rn_nx pg0 rfl ((if_pos ⟨hk, hk2⟩).trans (if_neg hx))
theorem sL_law_337 : Rn r 0 337 [some (vR z), l1, l2, l3] [vI x0, vR z1, vI x2] h Q ↔ Rn r 0 338 [some (vR z), l1, l2, l3] [vR z, vI x0, vR z1, vI x2] h Q := Rn_nx pg0 rfl rfl
theorem sL_law_338 : Rn r 0 338 [l0, l1, l2, some (vI x)] [vR z0, vI x1, vR z2, vI x3] h Q ↔ Rn r 0 339 [l0, l1, l2, some (vI x)] [vI x, vR z0, vI x1, vR z2, vI x3] h Q := Rn_nx pg0 rfl rfl
theorem sL_law_339 : Rn r 0 339 [l0, l1, l2, l3] [vI x0, vR z1, vI x2, vR z3, vI x4] h Q ↔ Rn r 0 340 [l0, l1, l2, l3] [vI 2, vI x0, vR z1, vI x2, vR z3, vI x4] h Q := Rn_nx pg0 rfl rfl
theorem sL_law_340 : Rn r 0 340 [l0, l1, l2, l3] [vI x0, vI x1, vR z2, vI x3, vR z4, vI x5] h Q ↔ Rn r 0 341 [l0, l1, l2, l3] [vI (x1 + x0), vR z2, vI x3, vR z4, vI x5] h Q := Rn_nx pg0 rfl rfl
theorem sL_law_341 (hk : 40 ≤ hK h a1) (hk2 : hK h a1 ≤ 41) (hx : ¬ (x0 < 0 ∨ hL h a1 ≤ x0.toNatClampNeg)) : Rn r 0 341 [l0, l1, l2, l3] [vI x0, vR (some a1), vI x2, vR z3, vI x4] h Q ↔ Rn r 0 342 [l0, l1, l2, l3] [vI (hI h a1 x0.toNatClampNeg), vI x2, vR z3, vI x4] h Q := Rn_nx pg0 rfl ((if_pos ⟨hk, hk2⟩).trans (if_neg hx))
theorem sL_law_342 (hk : hK h a2 = 15) : Rn r 0 342 [l0, l1, l2, l3] [vI x0, vI x1, vR (some a2), vI x3] h Q ↔ Cl r 18 [vR (some a2), vI x1, vI x0] h (Kt r 0 345 [l0, l1, l2, l3] [vI x3] Q) := Rn_call pg0 rfl (by simp only [am_exec, am_inv, am_pop, am_lk, hk]; rfl) pg18 rfl rfl rfl
theorem sL_law_345 : Rn r 0 345 [l0, l1, l2, l3] [vI x0, vI x1] h Q ↔ if x1 = x0 then Rn r 0 472 [l0, l1, l2, l3] [] h Q else Rn r 0 348 [l0, l1, l2, l3] [] h Q := Rn_if pg0 rfl rfl rfl
theorem sL_law_348 : Rn r 0 348 [l0, l1, l2, l3] [] h Q ↔ Rn r 0 349 [l0, l1, l2, l3] [vI 0] h Q := Rn_nx pg0 rfl rfl
theorem sL_law_349 (hf : am_fit 4 x0 = true) : Rn r 0 349 [l0, l1, l2, l3] [vI x0] h Q ↔ Q (Sum.inl (some (vI x0))) h := Rn_end pg0 rfl (if_pos hf)
theorem sL_law_350 : Rn r 0 350 [l0, some (vR z), l2, l3] [] h Q ↔ Rn r 0 351 [l0, some (vR z), l2, l3] [vR z] h Q := Rn_nx pg0 rfl rfl
theorem sL_law_351 : Rn r 0 351 [some (vR z), l1, l2, l3] [vR z0] h Q ↔ Rn r 0 352 [some (vR z), l1, l2, l3] [vR z, vR z0] h Q := Rn_nx pg0 rfl rfl
theorem sL_law_352 : Rn r 0 352 [l0, l1, l2, some (vI x)] [vR z0, vR z1] h Q ↔ Rn r 0 353 [l0, l1, l2, some (vI x)] [vI x, vR z0, vR z1] h Q := Rn_nx pg0 rfl rfl
theorem sL_law_353 : Rn r 0 353 [l0, l1, l2, l3] [vI x0, vR z1, vR z2] h Q ↔ Rn r 0 354 [l0, l1, l2, l3] [vI 1, vI x0, vR z1, vR z2] h Q := Rn_nx pg0 rfl rfl
theorem sL_law_354 : Rn r 0 354 [l0, l1, l2, l3] [vI x0, vI x1, vR z2, vR z3] h Q ↔ Rn r 0 355 [l0, l1, l2, l3] [vI (x1 + x0), vR z2, vR z3] h Q := Rn_nx pg0 rfl rfl
theorem sL_law_355 (hk : 40 ≤ hK h a1) (hk2 : hK h a1 ≤ 41) (hx : ¬ (x0 < 0 ∨ hL h a1 ≤ x0.toNatClampNeg)) : Rn r 0 355 [l0, l1, l2, l3] [vI x0, vR (some a1), vR z2] h Q ↔ Rn r 0 356 [l0, l1, l2, l3] [vI (hI h a1 x0.toNatClampNeg), vR z2] h Q := Rn_nx pg0 rfl ((if_pos ⟨hk, hk2⟩).trans (if_neg hx))
theorem sL_law_356 : Rn r 0 356 [some (vR z), l1, l2, l3] [vI x0, vR z1] h Q ↔ Rn r 0 357 [some (vR z), l1, l2, l3] [vR z, vI x0, vR z1] h Q := Rn_nx pg0 rfl rfl
theorem sL_law_357 : Rn r 0 357 [l0, l1, l2, some (vI x)] [vR z0, vI x1, vR z2] h Q ↔ Rn r 0 358 [l0, l1, l2, some (vI x)] [vI x, vR z0, vI x1, vR z2] h Q := Rn_nx pg0 rfl rfl
theorem sL_law_358 : Rn r 0 358 [l0, l1, l2, l3] [vI x0, vR z1, vI x2, vR z3] h Q ↔ Rn r 0 359 [l0, l1, l2, l3] [vI 2, vI x0, vR z1, vI x2, vR z3] h Q := Rn_nx pg0 rfl rfl
theorem sL_law_359 : Rn r 0 359 [l0, l1, l2, l3] [vI x0, vI x1, vR z2, vI x3, vR z4] h Q ↔ Rn r 0 360 [l0, l1, l2, l3] [vI (x1 + x0), vR z2, vI x3, vR z4] h Q := Rn_nx pg0 rfl rfl
theorem sL_law_360 (hk : 40 ≤ hK h a1) (hk2 : hK h a1 ≤ 41) (hx : ¬ (x0 < 0 ∨ hL h a1 ≤ x0.toNatClampNeg)) : Rn r 0 360 [l0, l1, l2, l3] [vI x0, vR (some a1), vI x2, vR z3] h Q ↔ Rn r 0 361 [l0, l1, l2, l3] [vI (hI h a1 x0.toNatClampNeg), vI x2, vR z3] h Q := Rn_nx pg0 rfl ((if_pos ⟨hk, hk2⟩).trans (if_neg hx))
theorem sL_law_361 (hk : hK h a2 = 1) : Rn r 0 361 [l0, l1, l2, l3] [vI x0, vI x1, vR (some a2)] h Q ↔ Cl r 19 [vR (some a2), vI x1, vI x0] h (Kt r 0 364 [l0, l1, l2, l3] [] Q) := Rn_call pg0 rfl (by simp only [am_exec, am_inv, am_pop, am_lk, hk]; rfl) pg19 rfl rfl rfl
theorem sL_law_364 : Rn r 0 364 [l0, l1, some (vR z), l3] [vI x0] h Q ↔ Rn r 0 365 [l0, l1, some (vR z), l3] [vR z, vI x0] h Q := Rn_nx pg0 rfl rfl
theorem sL_law_365 : Rn r 0 365 [some (vR z), l1, l2, l3] [vR z0, vI x1] h Q ↔ Rn r 0 366 [some (vR z), l1, l2, l3] [vR z, vR z0, vI x1] h Q := Rn_nx pg0 rfl rfl
theorem sL_law_366 : Rn r 0 366 [l0, l1, l2, some (vI x)] [vR z0, vR z1, vI x2] h Q ↔ Rn r 0 367 [l0, l1, l2, some (vI x)] [vI x, vR z0, vR z1, vI x2] h Q := Rn_nx pg0 rfl rfl
theorem sL_law_367 : Rn r 0 367 [l0, l1, l2, l3] [vI x0, vR z1, vR z2, vI x3] h Q ↔ Rn r 0 368 [l0, l1, l2, l3] [vI 1, vI x0, vR z1, vR z2, vI x3] h Q := Rn_nx pg0 rfl rfl
theorem sL_law_368 : Rn r 0 368 [l0, l1, l2, l3] [vI x0, vI x1, vR z2, vR z3, vI x4] h Q ↔ Rn r 0 369 [l0, l1, l2, l3] [vI (x1 + x0), vR z2, vR z3, vI x4] h Q := Rn_nx pg0 rfl rfl
theorem sL_law_369 (hk : 40 ≤ hK h a1) (hk2 : hK h a1 ≤ 41) (hx : ¬ (x0 < 0 ∨ hL h a1 ≤ x0.toNatClampNeg)) : Rn r 0 369 [l0, l1, l2, l3] [vI x0, vR (some a1), vR z2, vI x3] h Q ↔ Rn r 0 370 [l0, l1, l2, l3] [vI (hI h a1 x0.toNatClampNeg), vR z2, vI x3] h Q := Rn_nx pg0 rfl ((if_pos ⟨hk, hk2⟩).trans (if_neg hx))
theorem sL_law_370 : Rn r 0 370 [some (vR z), l1, l2, l3] [vI x0, vR z1, vI x2] h Q ↔ Rn r 0 371 [some (vR z), l1, l2, l3] [vR z, vI x0, vR z1, vI x2] h Q := Rn_nx pg0 rfl rfl
theorem sL_law_371 : Rn r 0 371 [l0, l1, l2, some (vI x)] [vR z0, vI x1, vR z2, vI x3] h Q ↔ Rn r 0 372 [l0, l1, l2, some (vI x)] [vI x, vR z0, vI x1, vR z2, vI x3] h Q := Rn_nx pg0 rfl rfl
theorem sL_law_372 : Rn r 0 372 [l0, l1, l2, l3] [vI x0, vR z1, vI x2, vR z3, vI x4] h Q ↔ Rn r 0 373 [l0, l1, l2, l3] [vI 2, vI x0, vR z1, vI x2, vR z3, vI x4] h Q := Rn_nx pg0 rfl rfl
theorem sL_law_373 : Rn r 0 373 [l0, l1, l2, l3] [vI x0, vI x1, vR z2, vI x3, vR z4, vI x5] h Q ↔ Rn r 0 374 [l0, l1, l2, l3] [vI (x1 + x0), vR z2, vI x3, vR z4, vI x5] h Q := Rn_nx pg0 rfl rfl
theorem sL_law_374 (hk : 40 ≤ hK h a1) (hk2 : hK h a1 ≤ 41) (hx : ¬ (x0 < 0 ∨ hL h a1 ≤ x0.toNatClampNeg)) : Rn r 0 374 [l0, l1, l2, l3] [vI x0, vR (some a1), vI x2, vR z3, vI x4] h Q ↔ Rn r 0 375 [l0, l1, l2, l3] [vI (hI h a1 x0.toNatClampNeg), vI x2, vR z3, vI x4] h Q := Rn_nx pg0 rfl ((if_pos ⟨hk, hk2⟩).trans (if_neg hx))
theorem sL_law_375 (hk : hK h a2 = 15) : Rn r 0 375 [l0, l1, l2, l3] [vI x0, vI x1, vR (some a2), vI x3] h Q ↔ Cl r 20 [vR (some a2), vI x1, vI x0] h (Kt r 0 378 [l0, l1, l2, l3] [vI x3] Q) := Rn_call pg0 rfl (by simp only [am_exec, am_inv, am_pop, am_lk, hk]; rfl) pg20 rfl rfl rfl
theorem sL_law_378 : Rn r 0 378 [l0, l1, l2, l3] [vI x0, vI x1] h Q ↔ if x1 = x0 then Rn r 0 472 [l0, l1, l2, l3] [] h Q else Rn r 0 381 [l0, l1, l2, l3] [] h Q := Rn_if pg0 rfl rfl rfl
theorem sL_law_381 : Rn r 0 381 [l0, l1, l2, l3] [] h Q ↔ Rn r 0 382 [l0, l1, l2, l3] [vI 0] h Q := Rn_nx pg0 rfl rfl
theorem sL_law_382 (hf : am_fit 4 x0 = true) : Rn r 0 382 [l0, l1, l2, l3] [vI x0] h Q ↔ Q (Sum.inl (some (vI x0))) h := Rn_end pg0 rfl (if_pos hf)
theorem sL_law_383 : Rn r 0 383 [l0, some (vR z), l2, l3] [] h Q ↔ Rn r 0 384 [l0, some (vR z), l2, l3] [vR z] h Q := Rn_nx pg0 rfl rfl
theorem sL_law_384 (hk : hK h a0 = 1) : Rn r 0 384 [l0, l1, l2, l3] [vR (some a0)] h Q ↔ Cl r 21 [vR (some a0)] h (Kt r 0 387 [l0, l1, l2, l3] [] Q) := Rn_call pg0 rfl (by simp only [am_exec, am_inv, am_pop, am_lk, hk]; rfl) pg21 rfl rfl rfl
theorem sL_law_387 : Rn r 0 387 [l0, l1, some (vR z), l3] [vI x0] h Q ↔ Rn r 0 388 [l0, l1, some (vR z), l3] [vR z, vI x0] h Q := Rn_nx pg0 rfl rfl
theorem sL_law_388 (hk : hK h a0 = 15) : Rn r 0 388 [l0, l1, l2, l3] [vR (some a0), vI x1] h Q ↔ Cl r 22 [vR (some a0)] h (Kt r 0 391 [l0, l1, l2, l3] [vI x1] Q) := Rn_call pg0 rfl (by simp only [am_exec, am_inv, am_pop, am_lk, hk]; rfl) pg22 rfl rfl rfl
theorem sL_law_391 : Rn r 0 391 [l0, l1, l2, l3] [vI x0, vI x1] h Q ↔ if x1 = x0 then Rn r 0 472 [l0, l1, l2, l3] [] h Q else Rn r 0 394 [l0, l1, l2, l3] [] h Q := Rn_if pg0 rfl rfl rfl
theorem sL_law_394 : Rn r 0 394 [l0, l1, l2, l3] [] h Q ↔ Rn r 0 395 [l0, l1, l2, l3] [vI 0] h Q := Rn_nx pg0 rfl rfl
theorem sL_law_395 (hf : am_fit 4 x0 = true) : Rn r 0 395 [l0, l1, l2, l3] [vI x0] h Q ↔ Q (Sum.inl (some (vI x0))) h := Rn_end pg0 rfl (if_pos hf)
theorem sL_law_396 : Rn r 0 396 [l0, some (vR z), l2, l3] [] h Q ↔ Rn r 0 397 [l0, some (vR z), l2, l3] [vR z] h Q := Rn_nx pg0 rfl rfl
theorem sL_law_397 : Rn r 0 397 [some (vR z), l1, l2, l3] [vR z0] h Q ↔ Rn r 0 398 [some (vR z), l1, l2, l3] [vR z, vR z0] h Q := Rn_nx pg0 rfl rfl
theorem sL_law_398 : Rn r 0 398 [l0, l1, l2, some (vI x)] [vR z0, vR z1] h Q ↔ Rn r 0 399 [l0, l1, l2, some (vI x)] [vI x, vR z0, vR z1] h Q := Rn_nx pg0 rfl rfl
theorem sL_law_399 : Rn r 0 399 [l0, l1, l2, l3] [vI x0, vR z1, vR z2] h Q ↔ Rn r 0 400 [l0, l1, l2, l3] [vI 1, vI x0, vR z1, vR z2] h Q := Rn_nx pg0 rfl rfl
theorem sL_law_400 : Rn r 0 400 [l0, l1, l2, l3] [vI x0, vI x1, vR z2, vR z3] h Q ↔ Rn r 0 401 [l0, l1, l2, l3] [vI (x1 + x0), vR z2, vR z3] h Q := Rn_nx pg0 rfl rfl
theorem sL_law_401 (hk : 40 ≤ hK h a1) (hk2 : hK h a1 ≤ 41) (hx : ¬ (x0 < 0 ∨ hL h a1 ≤ x0.toNatClampNeg)) : Rn r 0 401 [l0, l1, l2, l3] [vI x0, vR (some a1), vR z2] h Q ↔ Rn r 0 402 [l0, l1, l2, l3] [vI (hI h a1 x0.toNatClampNeg), vR z2] h Q := Rn_nx pg0 rfl ((if_pos ⟨hk, hk2⟩).trans (if_neg hx))
theorem sL_law_402 : Rn r 0 402 [some (vR z), l1, l2, l3] [vI x0, vR z1] h Q ↔ Rn r 0 403 [some (vR z), l1, l2, l3] [vR z, vI x0, vR z1] h Q := Rn_nx pg0 rfl rfl
theorem sL_law_403 : Rn r 0 403 [l0, l1, l2, some (vI x)] [vR z0, vI x1, vR z2] h Q ↔ Rn r 0 404 [l0, l1, l2, some (vI x)] [vI x, vR z0, vI x1, vR z2] h Q := Rn_nx pg0 rfl rfl
theorem sL_law_404 : Rn r 0 404 [l0, l1, l2, l3] [vI x0, vR z1, vI x2, vR z3] h Q ↔ Rn r 0 405 [l0, l1, l2, l3] [vI 2, vI x0, vR z1, vI x2, vR z3] h Q := Rn_nx pg0 rfl rfl
theorem sL_law_405 : Rn r 0 405 [l0, l1, l2, l3] [vI x0, vI x1, vR z2, vI x3, vR z4] h Q ↔ Rn r 0 406 [l0, l1, l2, l3] [vI (x1 + x0), vR z2, vI x3, vR z4] h Q := Rn_nx pg0 rfl rfl
theorem sL_law_406 (hk : 40 ≤ hK h a1) (hk2 : hK h a1 ≤ 41) (hx : ¬ (x0 < 0 ∨ hL h a1 ≤ x0.toNatClampNeg)) : Rn r 0 406 [l0, l1, l2, l3] [vI x0, vR (some a1), vI x2, vR z3] h Q ↔ Rn r 0 407 [l0, l1, l2, l3] [vI (hI h a1 x0.toNatClampNeg), vI x2, vR z3] h Q := Rn_nx pg0 rfl ((if_pos ⟨hk, hk2⟩).trans (if_neg hx))
theorem sL_law_407 : Rn r 0 407 [l0, l1, l2, l3] [vI x0, vI x1, vR z2] h Q ↔ Rn r 0 408 [l0, l1, l2, l3] [vL x0.toInt64, vI x1, vR z2] h Q := Rn_nx pg0 rfl rfl
theorem sL_law_408 : Rn r 0 408 [l0, l1, l2, l3] [vL y0, vI x1, vR z2] h Q ↔ Rn r 0 410 [l0, l1, l2, l3] [vI 32, vL y0, vI x1, vR z2] h Q := Rn_nx pg0 rfl rfl
theorem sL_law_410 : Rn r 0 410 [l0, l1, l2, l3] [vI x0, vL y1, vI x2, vR z3] h Q ↔ Rn r 0 411 [l0, l1, l2, l3] [vL (y1 <<< (x0.toInt64 &&& 63)), vI x2, vR z3] h Q := Rn_nx pg0 rfl rfl
theorem sL_law_411 : Rn r 0 411 [some (vR z), l1, l2, l3] [vL y0, vI x1, vR z2] h Q ↔ Rn r 0 412 [some (vR z), l1, l2, l3] [vR z, vL y0, vI x1, vR z2] h Q := Rn_nx pg0 rfl rfl
theorem sL_law_412 : Rn r 0 412 [l0, l1, l2, some (vI x)] [vR z0, vL y1, vI x2, vR z3] h Q ↔ Rn r 0 413 [l0, l1, l2, some (vI x)] [vI x, vR z0, vL y1, vI x2, vR z3] h Q := Rn_nx pg0 rfl rfl
theorem sL_law_413 : Rn r 0 413 [l0, l1, l2, l3] [vI x0, vR z1, vL y2, vI x3, vR z4] h Q ↔ Rn r 0 414 [l0, l1, l2, l3] [vI 3, vI x0, vR z1, vL y2, vI x3, vR z4] h Q := Rn_nx pg0 rfl rfl
theorem sL_law_414 : Rn r 0 414 [l0, l1, l2, l3] [vI x0, vI x1, vR z2, vL y3, vI x4, vR z5] h Q ↔ Rn r 0 415 [l0, l1, l2, l3] [vI (x1 + x0), vR z2, vL y3, vI x4, vR z5] h Q := Rn_nx pg0 rfl rfl
theorem sL_law_415 (hk : 40 ≤ hK h a1) (hk2 : hK h a1 ≤ 41) (hx : ¬ (x0 < 0 ∨ hL h a1 ≤ x0.toNatClampNeg)) : Rn r 0 415 [l0, l1, l2, l3] [vI x0, vR (some a1), vL y2, vI x3, vR z4] h Q ↔ Rn r 0 416 [l0, l1, l2, l3] [vI (hI h a1 x0.toNatClampNeg), vL y2, vI x3, vR z4] h Q := Rn_nx pg0 rfl ((if_pos ⟨hk, hk2⟩).trans (if_neg hx))
theorem sL_law_416 : Rn r 0 416 [l0, l1, l2, l3] [vI x0, vL y1, vI x2, vR z3] h Q ↔ Rn r 0 417 [l0, l1, l2, l3] [vL x0.toInt64, vL y1, vI x2, vR z3] h Q := Rn_nx pg0 rfl rfl
theorem sL_law_417 : Rn r 0 417 [l0, l1, l2, l3] [vL y0, vL y1, vI x2, vR z3] h Q ↔ Rn r 0 420 [l0, l1, l2, l3] [vL 4294967295, vL y0, vL y1, vI x2, vR z3] h Q := Rn_nx pg0 rfl rfl
theorem sL_law_420 : Rn r 0 420 [l0, l1, l2, l3] [vL y0, vL y1, vL y2, vI x3, vR z4] h Q ↔ Rn r 0 421 [l0, l1, l2, l3] [vL (y1 &&& y0), vL y2, vI x3, vR z4] h Q := Rn_nx pg0 rfl rfl
theorem sL_law_421 : Rn r 0 421 [l0, l1, l2, l3] [vL y0, vL y1, vI x2, vR z3] h Q ↔ Rn r 0 422 [l0, l1, l2, l3] [vL (y1 ||| y0), vI x2, vR z3] h Q := Rn_nx pg0 rfl rfl
theorem sL_law_422 (hk : hK h a2 = 1) : Rn r 0 422 [l0, l1, l2, l3] [vL y0, vI x1, vR (some a2)] h Q ↔ Cl r 23 [vR (some a2), vI x1, vL y0] h (Kt r 0 425 [l0, l1, l2, l3] [] Q) := Rn_call pg0 rfl (by simp only [am_exec, am_inv, am_pop, am_lk, hk]; rfl) pg23 rfl rfl rfl
theorem sL_law_425 : Rn r 0 425 [l0, l1, some (vR z), l3] [vI x0] h Q ↔ Rn r 0 426 [l0, l1, some (vR z), l3] [vR z, vI x0] h Q := Rn_nx pg0 rfl rfl
theorem sL_law_426 : Rn r 0 426 [some (vR z), l1, l2, l3] [vR z0, vI x1] h Q ↔ Rn r 0 427 [some (vR z), l1, l2, l3] [vR z, vR z0, vI x1] h Q := Rn_nx pg0 rfl rfl
theorem sL_law_427 : Rn r 0 427 [l0, l1, l2, some (vI x)] [vR z0, vR z1, vI x2] h Q ↔ Rn r 0 428 [l0, l1, l2, some (vI x)] [vI x, vR z0, vR z1, vI x2] h Q := Rn_nx pg0 rfl rfl
theorem sL_law_428 : Rn r 0 428 [l0, l1, l2, l3] [vI x0, vR z1, vR z2, vI x3] h Q ↔ Rn r 0 429 [l0, l1, l2, l3] [vI 1, vI x0, vR z1, vR z2, vI x3] h Q := Rn_nx pg0 rfl rfl
theorem sL_law_429 : Rn r 0 429 [l0, l1, l2, l3] [vI x0, vI x1, vR z2, vR z3, vI x4] h Q ↔ Rn r 0 430 [l0, l1, l2, l3] [vI (x1 + x0), vR z2, vR z3, vI x4] h Q := Rn_nx pg0 rfl rfl
theorem sL_law_430 (hk : 40 ≤ hK h a1) (hk2 : hK h a1 ≤ 41) (hx : ¬ (x0 < 0 ∨ hL h a1 ≤ x0.toNatClampNeg)) : Rn r 0 430 [l0, l1, l2, l3] [vI x0, vR (some a1), vR z2, vI x3] h Q ↔ Rn r 0 431 [l0, l1, l2, l3] [vI (hI h a1 x0.toNatClampNeg), vR z2, vI x3] h Q := Rn_nx pg0 rfl ((if_pos ⟨hk, hk2⟩).trans (if_neg hx))
theorem sL_law_431 : Rn r 0 431 [some (vR z), l1, l2, l3] [vI x0, vR z1, vI x2] h Q ↔ Rn r 0 432 [some (vR z), l1, l2, l3] [vR z, vI x0, vR z1, vI x2] h Q := Rn_nx pg0 rfl rfl
theorem sL_law_432 : Rn r 0 432 [l0, l1, l2, some (vI x)] [vR z0, vI x1, vR z2, vI x3] h Q ↔ Rn r 0 433 [l0, l1, l2, some (vI x)] [vI x, vR z0, vI x1, vR z2, vI x3] h Q := Rn_nx pg0 rfl rfl
theorem sL_law_433 : Rn r 0 433 [l0, l1, l2, l3] [vI x0, vR z1, vI x2, vR z3, vI x4] h Q ↔ Rn r 0 434 [l0, l1, l2, l3] [vI 2, vI x0, vR z1, vI x2, vR z3, vI x4] h Q := Rn_nx pg0 rfl rfl
theorem sL_law_434 : Rn r 0 434 [l0, l1, l2, l3] [vI x0, vI x1, vR z2, vI x3, vR z4, vI x5] h Q ↔ Rn r 0 435 [l0, l1, l2, l3] [vI (x1 + x0), vR z2, vI x3, vR z4, vI x5] h Q := Rn_nx pg0 rfl rfl
theorem sL_law_435 (hk : 40 ≤ hK h a1) (hk2 : hK h a1 ≤ 41) (hx : ¬ (x0 < 0 ∨ hL h a1 ≤ x0.toNatClampNeg)) : Rn r 0 435 [l0, l1, l2, l3] [vI x0, vR (some a1), vI x2, vR z3, vI x4] h Q ↔ Rn r 0 436 [l0, l1, l2, l3] [vI (hI h a1 x0.toNatClampNeg), vI x2, vR z3, vI x4] h Q := Rn_nx pg0 rfl ((if_pos ⟨hk, hk2⟩).trans (if_neg hx))
theorem sL_law_436 : Rn r 0 436 [l0, l1, l2, l3] [vI x0, vI x1, vR z2, vI x3] h Q ↔ Rn r 0 437 [l0, l1, l2, l3] [vL x0.toInt64, vI x1, vR z2, vI x3] h Q := Rn_nx pg0 rfl rfl
theorem sL_law_437 : Rn r 0 437 [l0, l1, l2, l3] [vL y0, vI x1, vR z2, vI x3] h Q ↔ Rn r 0 439 [l0, l1, l2, l3] [vI 32, vL y0, vI x1, vR z2, vI x3] h Q := Rn_nx pg0 rfl rfl
theorem sL_law_439 : Rn r 0 439 [l0, l1, l2, l3] [vI x0, vL y1, vI x2, vR z3, vI x4] h Q ↔ Rn r 0 440 [l0, l1, l2, l3] [vL (y1 <<< (x0.toInt64 &&& 63)), vI x2, vR z3, vI x4] h Q := Rn_nx pg0 rfl rfl
theorem sL_law_440 : Rn r 0 440 [some (vR z), l1, l2, l3] [vL y0, vI x1, vR z2, vI x3] h Q ↔ Rn r 0 441 [some (vR z), l1, l2, l3] [vR z, vL y0, vI x1, vR z2, vI x3] h Q := Rn_nx pg0 rfl rfl
theorem sL_law_441 : Rn r 0 441 [l0, l1, l2, some (vI x)] [vR z0, vL y1, vI x2, vR z3, vI x4] h Q ↔ Rn r 0 442 [l0, l1, l2, some (vI x)] [vI x, vR z0, vL y1, vI x2, vR z3, vI x4] h Q := Rn_nx pg0 rfl rfl
theorem sL_law_442 : Rn r 0 442 [l0, l1, l2, l3] [vI x0, vR z1, vL y2, vI x3, vR z4, vI x5] h Q ↔ Rn r 0 443 [l0, l1, l2, l3] [vI 3, vI x0, vR z1, vL y2, vI x3, vR z4, vI x5] h Q := Rn_nx pg0 rfl rfl
theorem sL_law_443 : Rn r 0 443 [l0, l1, l2, l3] [vI x0, vI x1, vR z2, vL y3, vI x4, vR z5, vI x6] h Q ↔ Rn r 0 444 [l0, l1, l2, l3] [vI (x1 + x0), vR z2, vL y3, vI x4, vR z5, vI x6] h Q := Rn_nx pg0 rfl rfl
theorem sL_law_444 (hk : 40 ≤ hK h a1) (hk2 : hK h a1 ≤ 41) (hx : ¬ (x0 < 0 ∨ hL h a1 ≤ x0.toNatClampNeg)) : Rn r 0 444 [l0, l1, l2, l3] [vI x0, vR (some a1), vL y2, vI x3, vR z4, vI x5] h Q ↔ Rn r 0 445 [l0, l1, l2, l3] [vI (hI h a1 x0.toNatClampNeg), vL y2, vI x3, vR z4, vI x5] h Q := Rn_nx pg0 rfl ((if_pos ⟨hk, hk2⟩).trans (if_neg hx))
theorem sL_law_445 : Rn r 0 445 [l0, l1, l2, l3] [vI x0, vL y1, vI x2, vR z3, vI x4] h Q ↔ Rn r 0 446 [l0, l1, l2, l3] [vL x0.toInt64, vL y1, vI x2, vR z3, vI x4] h Q := Rn_nx pg0 rfl rfl
theorem sL_law_446 : Rn r 0 446 [l0, l1, l2, l3] [vL y0, vL y1, vI x2, vR z3, vI x4] h Q ↔ Rn r 0 449 [l0, l1, l2, l3] [vL 4294967295, vL y0, vL y1, vI x2, vR z3, vI x4] h Q := Rn_nx pg0 rfl rfl
theorem sL_law_449 : Rn r 0 449 [l0, l1, l2, l3] [vL y0, vL y1, vL y2, vI x3, vR z4, vI x5] h Q ↔ Rn r 0 450 [l0, l1, l2, l3] [vL (y1 &&& y0), vL y2, vI x3, vR z4, vI x5] h Q := Rn_nx pg0 rfl rfl
theorem sL_law_450 : Rn r 0 450 [l0, l1, l2, l3] [vL y0, vL y1, vI x2, vR z3, vI x4] h Q ↔ Rn r 0 451 [l0, l1, l2, l3] [vL (y1 ||| y0), vI x2, vR z3, vI x4] h Q := Rn_nx pg0 rfl rfl
theorem sL_law_451 (hk : hK h a2 = 15) : Rn r 0 451 [l0, l1, l2, l3] [vL y0, vI x1, vR (some a2), vI x3] h Q ↔ Cl r 24 [vR (some a2), vI x1, vL y0] h (Kt r 0 454 [l0, l1, l2, l3] [vI x3] Q) := Rn_call pg0 rfl (by simp only [am_exec, am_inv, am_pop, am_lk, hk]; rfl) pg24 rfl rfl rfl
theorem sL_law_454 : Rn r 0 454 [l0, l1, l2, l3] [vI x0, vI x1] h Q ↔ if x1 = x0 then Rn r 0 472 [l0, l1, l2, l3] [] h Q else Rn r 0 457 [l0, l1, l2, l3] [] h Q := Rn_if pg0 rfl rfl rfl
theorem sL_law_457 : Rn r 0 457 [l0, l1, l2, l3] [] h Q ↔ Rn r 0 458 [l0, l1, l2, l3] [vI 0] h Q := Rn_nx pg0 rfl rfl
theorem sL_law_458 (hf : am_fit 4 x0 = true) : Rn r 0 458 [l0, l1, l2, l3] [vI x0] h Q ↔ Q (Sum.inl (some (vI x0))) h := Rn_end pg0 rfl (if_pos hf)
theorem sL_law_459 : Rn r 0 459 [l0, some (vR z), l2, l3] [] h Q ↔ Rn r 0 460 [l0, some (vR z), l2, l3] [vR z] h Q := Rn_nx pg0 rfl rfl
theorem sL_law_460 (hk : hK h a0 = 1) : Rn r 0 460 [l0, l1, l2, l3] [vR (some a0)] h Q ↔ Cl r 25 [vR (some a0)] h (Kt r 0 463 [l0, l1, l2, l3] [] Q) := Rn_call pg0 rfl (by simp only [am_exec, am_inv, am_pop, am_lk, hk]; rfl) pg25 rfl rfl rfl
theorem sL_law_463 : Rn r 0 463 [l0, l1, some (vR z), l3] [vI x0] h Q ↔ Rn r 0 464 [l0, l1, some (vR z), l3] [vR z, vI x0] h Q := Rn_nx pg0 rfl rfl
theorem sL_law_464 (hk : hK h a0 = 15) : Rn r 0 464 [l0, l1, l2, l3] [vR (some a0), vI x1] h Q ↔ Cl r 26 [vR (some a0)] h (Kt r 0 467 [l0, l1, l2, l3] [vI x1] Q) := Rn_call pg0 rfl (by simp only [am_exec, am_inv, am_pop, am_lk, hk]; rfl) pg26 rfl rfl rfl
theorem sL_law_467 : Rn r 0 467 [l0, l1, l2, l3] [vI x0, vI x1] h Q ↔ if x1 = x0 then Rn r 0 472 [l0, l1, l2, l3] [] h Q else Rn r 0 470 [l0, l1, l2, l3] [] h Q := Rn_if pg0 rfl rfl rfl
theorem sL_law_470 : Rn r 0 470 [l0, l1, l2, l3] [] h Q ↔ Rn r 0 471 [l0, l1, l2, l3] [vI 0] h Q := Rn_nx pg0 rfl rfl
theorem sL_law_471 (hf : am_fit 4 x0 = true) : Rn r 0 471 [l0, l1, l2, l3] [vI x0] h Q ↔ Q (Sum.inl (some (vI x0))) h := Rn_end pg0 rfl (if_pos hf)
theorem sL_law_472 : Rn r 0 472 [l0, l1, l2, some (vI x)] [] h Q ↔ Rn r 0 475 [l0, l1, l2, some (vI (x + 6))] [] h Q := Rn_nx pg0 rfl rfl
theorem sL_law_475 : Rn r 0 475 [l0, l1, l2, l3] [] h Q ↔ Rn r 0 18 [l0, l1, l2, l3] [] h Q := Rn_nx pg0 rfl rfl
theorem sL_law_478 : Rn r 0 478 [l0, l1, l2, l3] [] h Q ↔ Rn r 0 479 [l0, l1, l2, l3] [vI 1] h Q := Rn_nx pg0 rfl rfl
theorem sL_law_479 (hf : am_fit 4 x0 = true) : Rn r 0 479 [l0, l1, l2, l3] [vI x0] h Q ↔ Q (Sum.inl (some (vI x0))) h := Rn_end pg0 rfl (if_pos hf)
/-! 1 ThrowRules.<init>()V -/
theorem eX0_init : Cl r 1 [vR z0] h Q ↔ Rn r 1 0 [some (vR z0)] [] h Q := Cl_in pg1 rfl
theorem sX0_init_0 : Rn r 1 0 [some (vR z)] [] h Q ↔ Rn r 1 1 [some (vR z)] [vR z] h Q := Rn_nx pg1 rfl rfl
theorem sX0_init_1 : Rn r 1 1 [l0] [vR (some a0)] h Q ↔ Rn r 1 4 [l0] [] h Q := Rn_nx pg1 rfl rfl
theorem sX0_init_4 : Rn r 1 4 [some (vR z)] [] h Q ↔ Rn r 1 5 [some (vR z)] [vR z] h Q := Rn_nx pg1 rfl rfl
theorem sX0_init_5 : Rn r 1 5 [l0] [vR z0] h Q ↔ Rn r 1 8 [l0] [vI 2000, vR z0] h Q := Rn_nx pg1 rfl rfl
theorem sX0_init_8 (hn : ¬ (x0 < 0 ∨ 65536 < x0.toNatClampNeg)) : Rn r 1 8 [l0] [vI x0, vR z1] h Q ↔ Rn r 1 10 [l0] [vR (some (hN h)), vR z1] (newC h 44 x0.toNatClampNeg) Q := Rn_nx pg1 rfl (if_neg hn)
theorem sX0_init_10 (hk : hK h a1 = 1) : Rn r 1 10 [l0] [vR z0, vR (some a1)] h Q ↔ Rn r 1 13 [l0] [] (putR h a1 0 z0) Q := Rn_nx pg1 rfl ((if_pos ⟨(hk ▸ Nat.le_refl _), (hk ▸ Nat.le_refl _)⟩).trans rfl)
theorem sX0_init_13 : Rn r 1 13 [some (vR z)] [] h Q ↔ Rn r 1 14 [some (vR z)] [vR z] h Q := Rn_nx pg1 rfl rfl
theorem sX0_init_14 : Rn r 1 14 [l0] [vR z0] h Q ↔ Rn r 1 17 [l0] [vR (some (hN h)), vR z0] (newC h 2 18) Q := Rn_nx pg1 rfl rfl
theorem sX0_init_17 : Rn r 1 17 [l0] [vR z0, vR z1] h Q ↔ Rn r 1 18 [l0] [vR z0, vR z0, vR z1] h Q := Rn_nx pg1 rfl rfl
theorem sX0_init_18 (hk : 0 < hK h a0) (hk2 : hK h a0 < 40) : Rn r 1 18 [l0] [vR (some a0), vR z1, vR z2] h Q ↔ Cl r 27 [vR (some a0)] h (Kt r 1 21 [l0] [vR z1, vR z2] Q) := Rn_call pg1 rfl (if_pos ⟨hk, hk2⟩) pg27 rfl rfl rfl
theorem sX0_init_21 (hk : hK h a1 = 1) : Rn r 1 21 [l0] [vR z0, vR (some a1)] h Q ↔ Rn r 1 24 [l0] [] (putR h a1 2 z0) Q := Rn_nx pg1 rfl ((if_pos ⟨(hk ▸ Nat.le_refl _), (hk ▸ Nat.le_refl _)⟩).trans rfl)
theorem sX0_init_24 : Rn r 1 24 [some (vR z)] [] h Q ↔ Rn r 1 25 [some (vR z)] [vR z] h Q := Rn_nx pg1 rfl rfl
theorem sX0_init_25 : Rn r 1 25 [l0] [vR z0] h Q ↔ Rn r 1 28 [l0] [vR (some (hN h)), vR z0] (newC h 5 6) Q := Rn_nx pg1 rfl rfl
theorem sX0_init_28 : Rn r 1 28 [l0] [vR z0, vR z1] h Q ↔ Rn r 1 29 [l0] [vR z0, vR z0, vR z1] h Q := Rn_nx pg1 rfl rfl
theorem sX0_init_29 (hk : 0 < hK h a0) (hk2 : hK h a0 < 40) : Rn r 1 29 [l0] [vR (some a0), vR z1, vR z2] h Q ↔ Cl r 28 [vR (some a0)] h (Kt r 1 32 [l0] [vR z1, vR z2] Q) := Rn_call pg1 rfl (if_pos ⟨hk, hk2⟩) pg28 rfl rfl rfl
theorem sX0_init_32 (hk : hK h a1 = 1) : Rn r 1 32 [l0] [vR z0, vR (some a1)] h Q ↔ Rn r 1 35 [l0] [] (putR h a1 3 z0) Q := Rn_nx pg1 rfl ((if_pos ⟨(hk ▸ Nat.le_refl _), (hk ▸ Nat.le_refl _)⟩).trans rfl)
theorem sX0_init_35 : Rn r 1 35 [some (vR z)] [] h Q ↔ Rn r 1 36 [some (vR z)] [vR z] h Q := Rn_nx pg1 rfl rfl
theorem sX0_init_36 : Rn r 1 36 [l0] [vR z0] h Q ↔ Rn r 1 39 [l0] [vR (some (hN h)), vR z0] (newC h 14 5) Q := Rn_nx pg1 rfl rfl
theorem sX0_init_39 : Rn r 1 39 [l0] [vR z0, vR z1] h Q ↔ Rn r 1 40 [l0] [vR z0, vR z0, vR z1] h Q := Rn_nx pg1 rfl rfl
theorem sX0_init_40 (hk : 0 < hK h a0) (hk2 : hK h a0 < 40) : Rn r 1 40 [l0] [vR (some a0), vR z1, vR z2] h Q ↔ Cl r 29 [vR (some a0)] h (Kt r 1 43 [l0] [vR z1, vR z2] Q) := Rn_call pg1 rfl (if_pos ⟨hk, hk2⟩) pg29 rfl rfl rfl
theorem sX0_init_43 (hk : hK h a1 = 1) : Rn r 1 43 [l0] [vR z0, vR (some a1)] h Q ↔ Rn r 1 46 [l0] [] (putR h a1 4 z0) Q := Rn_nx pg1 rfl ((if_pos ⟨(hk ▸ Nat.le_refl _), (hk ▸ Nat.le_refl _)⟩).trans rfl)
theorem sX0_init_46 : Rn r 1 46 [l0] [] h Q ↔ Q (Sum.inl none) h := Rn_end pg1 rfl rfl
/-! 2 ThrowRulesModel.<init>()V -/
theorem eX6_init : Cl r 2 [vR z0] h Q ↔ Rn r 2 0 [some (vR z0)] [] h Q := Cl_in pg2 rfl
theorem sX6_init_0 : Rn r 2 0 [some (vR z)] [] h Q ↔ Rn r 2 1 [some (vR z)] [vR z] h Q := Rn_nx pg2 rfl rfl
theorem sX6_init_1 : Rn r 2 1 [l0] [vR (some a0)] h Q ↔ Rn r 2 4 [l0] [] h Q := Rn_nx pg2 rfl rfl
theorem sX6_init_4 : Rn r 2 4 [some (vR z)] [] h Q ↔ Rn r 2 5 [some (vR z)] [vR z] h Q := Rn_nx pg2 rfl rfl
theorem sX6_init_5 : Rn r 2 5 [l0] [vR z0] h Q ↔ Rn r 2 8 [l0] [vI 2000, vR z0] h Q := Rn_nx pg2 rfl rfl
theorem sX6_init_8 (hn : ¬ (x0 < 0 ∨ 65536 < x0.toNatClampNeg)) : Rn r 2 8 [l0] [vI x0, vR z1] h Q ↔ Rn r 2 10 [l0] [vR (some (hN h)), vR z1] (newC h 40 x0.toNatClampNeg) Q := Rn_nx pg2 rfl (if_neg hn)
theorem sX6_init_10 (hk : hK h a1 = 15) : Rn r 2 10 [l0] [vR z0, vR (some a1)] h Q ↔ Rn r 2 13 [l0] [] (putR h a1 0 z0) Q := Rn_nx pg2 rfl ((if_pos ⟨(hk ▸ Nat.le_refl _), (hk ▸ Nat.le_refl _)⟩).trans rfl)
theorem sX6_init_13 : Rn r 2 13 [some (vR z)] [] h Q ↔ Rn r 2 14 [some (vR z)] [vR z] h Q := Rn_nx pg2 rfl rfl
theorem sX6_init_14 : Rn r 2 14 [l0] [vR z0] h Q ↔ Rn r 2 15 [l0] [vI 2, vR z0] h Q := Rn_nx pg2 rfl rfl
theorem sX6_init_15 (hn : ¬ (x0 < 0 ∨ 65536 < x0.toNatClampNeg)) : Rn r 2 15 [l0] [vI x0, vR z1] h Q ↔ Rn r 2 17 [l0] [vR (some (hN h)), vR z1] (newC h 40 x0.toNatClampNeg) Q := Rn_nx pg2 rfl (if_neg hn)
theorem sX6_init_17 (hk : hK h a1 = 15) : Rn r 2 17 [l0] [vR z0, vR (some a1)] h Q ↔ Rn r 2 20 [l0] [] (putR h a1 3 z0) Q := Rn_nx pg2 rfl ((if_pos ⟨(hk ▸ Nat.le_refl _), (hk ▸ Nat.le_refl _)⟩).trans rfl)
theorem sX6_init_20 : Rn r 2 20 [some (vR z)] [] h Q ↔ Rn r 2 21 [some (vR z)] [vR z] h Q := Rn_nx pg2 rfl rfl
theorem sX6_init_21 : Rn r 2 21 [l0] [vR z0] h Q ↔ Rn r 2 23 [l0] [vI 32, vR z0] h Q := Rn_nx pg2 rfl rfl
theorem sX6_init_23 (hn : ¬ (x0 < 0 ∨ 65536 < x0.toNatClampNeg)) : Rn r 2 23 [l0] [vI x0, vR z1] h Q ↔ Rn r 2 25 [l0] [vR (some (hN h)), vR z1] (newC h 42 x0.toNatClampNeg) Q := Rn_nx pg2 rfl (if_neg hn)
theorem sX6_init_25 (hk : hK h a1 = 15) : Rn r 2 25 [l0] [vR z0, vR (some a1)] h Q ↔ Rn r 2 28 [l0] [] (putR h a1 4 z0) Q := Rn_nx pg2 rfl ((if_pos ⟨(hk ▸ Nat.le_refl _), (hk ▸ Nat.le_refl _)⟩).trans rfl)
theorem sX6_init_28 : Rn r 2 28 [some (vR z)] [] h Q ↔ Rn r 2 29 [some (vR z)] [vR z] h Q := Rn_nx pg2 rfl rfl
theorem sX6_init_29 : Rn r 2 29 [l0] [vR z0] h Q ↔ Rn r 2 31 [l0] [vI 32, vR z0] h Q := Rn_nx pg2 rfl rfl
theorem sX6_init_31 (hn : ¬ (x0 < 0 ∨ 65536 < x0.toNatClampNeg)) : Rn r 2 31 [l0] [vI x0, vR z1] h Q ↔ Rn r 2 33 [l0] [vR (some (hN h)), vR z1] (newC h 40 x0.toNatClampNeg) Q := Rn_nx pg2 rfl (if_neg hn)
theorem sX6_init_33 (hk : hK h a1 = 15) : Rn r 2 33 [l0] [vR z0, vR (some a1)] h Q ↔ Rn r 2 36 [l0] [] (putR h a1 5 z0) Q := Rn_nx pg2 rfl ((if_pos ⟨(hk ▸ Nat.le_refl _), (hk ▸ Nat.le_refl _)⟩).trans rfl)
theorem sX6_init_36 : Rn r 2 36 [some (vR z)] [] h Q ↔ Rn r 2 37 [some (vR z)] [vR z] h Q := Rn_nx pg2 rfl rfl
theorem sX6_init_37 : Rn r 2 37 [l0] [vR z0] h Q ↔ Rn r 2 39 [l0] [vI 32, vR z0] h Q := Rn_nx pg2 rfl rfl
theorem sX6_init_39 (hn : ¬ (x0 < 0 ∨ 65536 < x0.toNatClampNeg)) : Rn r 2 39 [l0] [vI x0, vR z1] h Q ↔ Rn r 2 41 [l0] [vR (some (hN h)), vR z1] (newC h 40 x0.toNatClampNeg) Q := Rn_nx pg2 rfl (if_neg hn)
theorem sX6_init_41 (hk : hK h a1 = 15) : Rn r 2 41 [l0] [vR z0, vR (some a1)] h Q ↔ Rn r 2 44 [l0] [] (putR h a1 6 z0) Q := Rn_nx pg2 rfl ((if_pos ⟨(hk ▸ Nat.le_refl _), (hk ▸ Nat.le_refl _)⟩).trans rfl)
theorem sX6_init_44 : Rn r 2 44 [some (vR z)] [] h Q ↔ Rn r 2 45 [some (vR z)] [vR z] h Q := Rn_nx pg2 rfl rfl
theorem sX6_init_45 : Rn r 2 45 [l0] [vR z0] h Q ↔ Rn r 2 47 [l0] [vI 32, vR z0] h Q := Rn_nx pg2 rfl rfl
theorem sX6_init_47 (hn : ¬ (x0 < 0 ∨ 65536 < x0.toNatClampNeg)) : Rn r 2 47 [l0] [vI x0, vR z1] h Q ↔ Rn r 2 49 [l0] [vR (some (hN h)), vR z1] (newC h 42 x0.toNatClampNeg) Q := Rn_nx pg2 rfl (if_neg hn)
theorem sX6_init_49 (hk : hK h a1 = 15) : Rn r 2 49 [l0] [vR z0, vR (some a1)] h Q ↔ Rn r 2 52 [l0] [] (putR h a1 7 z0) Q := Rn_nx pg2 rfl ((if_pos ⟨(hk ▸ Nat.le_refl _), (hk ▸ Nat.le_refl _)⟩).trans rfl)
theorem sX6_init_52 : Rn r 2 52 [some (vR z)] [] h Q ↔ Rn r 2 53 [some (vR z)] [vR z] h Q := Rn_nx pg2 rfl rfl
theorem sX6_init_53 : Rn r 2 53 [l0] [vR z0] h Q ↔ Rn r 2 55 [l0] [vI 32, vR z0] h Q := Rn_nx pg2 rfl rfl
theorem sX6_init_55 (hn : ¬ (x0 < 0 ∨ 65536 < x0.toNatClampNeg)) : Rn r 2 55 [l0] [vI x0, vR z1] h Q ↔ Rn r 2 57 [l0] [vR (some (hN h)), vR z1] (newC h 40 x0.toNatClampNeg) Q := Rn_nx pg2 rfl (if_neg hn)
theorem sX6_init_57 (hk : hK h a1 = 15) : Rn r 2 57 [l0] [vR z0, vR (some a1)] h Q ↔ Rn r 2 60 [l0] [] (putR h a1 8 z0) Q := Rn_nx pg2 rfl ((if_pos ⟨(hk ▸ Nat.le_refl _), (hk ▸ Nat.le_refl _)⟩).trans rfl)
theorem sX6_init_60 : Rn r 2 60 [some (vR z)] [] h Q ↔ Rn r 2 61 [some (vR z)] [vR z] h Q := Rn_nx pg2 rfl rfl
theorem sX6_init_61 : Rn r 2 61 [l0] [vR z0] h Q ↔ Rn r 2 62 [l0] [vI 2, vR z0] h Q := Rn_nx pg2 rfl rfl
theorem sX6_init_62 (hn : ¬ (x0 < 0 ∨ 65536 < x0.toNatClampNeg)) : Rn r 2 62 [l0] [vI x0, vR z1] h Q ↔ Rn r 2 64 [l0] [vR (some (hN h)), vR z1] (newC h 40 x0.toNatClampNeg) Q := Rn_nx pg2 rfl (if_neg hn)
theorem sX6_init_64 (hk : hK h a1 = 15) : Rn r 2 64 [l0] [vR z0, vR (some a1)] h Q ↔ Rn r 2 67 [l0] [] (putR h a1 9 z0) Q := Rn_nx pg2 rfl ((if_pos ⟨(hk ▸ Nat.le_refl _), (hk ▸ Nat.le_refl _)⟩).trans rfl)
theorem sX6_init_67 : Rn r 2 67 [some (vR z)] [] h Q ↔ Rn r 2 68 [some (vR z)] [vR z] h Q := Rn_nx pg2 rfl rfl
theorem sX6_init_68 : Rn r 2 68 [l0] [vR z0] h Q ↔ Rn r 2 70 [l0] [vI 24, vR z0] h Q := Rn_nx pg2 rfl rfl
theorem sX6_init_70 (hn : ¬ (x0 < 0 ∨ 65536 < x0.toNatClampNeg)) : Rn r 2 70 [l0] [vI x0, vR z1] h Q ↔ Rn r 2 72 [l0] [vR (some (hN h)), vR z1] (newC h 42 x0.toNatClampNeg) Q := Rn_nx pg2 rfl (if_neg hn)
theorem sX6_init_72 (hk : hK h a1 = 15) : Rn r 2 72 [l0] [vR z0, vR (some a1)] h Q ↔ Rn r 2 75 [l0] [] (putR h a1 10 z0) Q := Rn_nx pg2 rfl ((if_pos ⟨(hk ▸ Nat.le_refl _), (hk ▸ Nat.le_refl _)⟩).trans rfl)
theorem sX6_init_75 : Rn r 2 75 [some (vR z)] [] h Q ↔ Rn r 2 76 [some (vR z)] [vR z] h Q := Rn_nx pg2 rfl rfl
theorem sX6_init_76 : Rn r 2 76 [l0] [vR z0] h Q ↔ Rn r 2 78 [l0] [vI 24, vR z0] h Q := Rn_nx pg2 rfl rfl
theorem sX6_init_78 (hn : ¬ (x0 < 0 ∨ 65536 < x0.toNatClampNeg)) : Rn r 2 78 [l0] [vI x0, vR z1] h Q ↔ Rn r 2 80 [l0] [vR (some (hN h)), vR z1] (newC h 40 x0.toNatClampNeg) Q := Rn_nx pg2 rfl (if_neg hn)
theorem sX6_init_80 (hk : hK h a1 = 15) : Rn r 2 80 [l0] [vR z0, vR (some a1)] h Q ↔ Rn r 2 83 [l0] [] (putR h a1 11 z0) Q := Rn_nx pg2 rfl ((if_pos ⟨(hk ▸ Nat.le_refl _), (hk ▸ Nat.le_refl _)⟩).trans rfl)
theorem sX6_init_83 : Rn r 2 83 [some (vR z)] [] h Q ↔ Rn r 2 84 [some (vR z)] [vR z] h Q := Rn_nx pg2 rfl rfl
theorem sX6_init_84 : Rn r 2 84 [l0] [vR z0] h Q ↔ Rn r 2 86 [l0] [vI 24, vR z0] h Q := Rn_nx pg2 rfl rfl
theorem sX6_init_86 (hn : ¬ (x0 < 0 ∨ 65536 < x0.toNatClampNeg)) : Rn r 2 86 [l0] [vI x0, vR z1] h Q ↔ Rn r 2 88 [l0] [vR (some (hN h)), vR z1] (newC h 42 x0.toNatClampNeg) Q := Rn_nx pg2 rfl (if_neg hn)
theorem sX6_init_88 (hk : hK h a1 = 15) : Rn r 2 88 [l0] [vR z0, vR (some a1)] h Q ↔ Rn r 2 91 [l0] [] (putR h a1 12 z0) Q := Rn_nx pg2 rfl ((if_pos ⟨(hk ▸ Nat.le_refl _), (hk ▸ Nat.le_refl _)⟩).trans rfl)
theorem sX6_init_91 : Rn r 2 91 [some (vR z)] [] h Q ↔ Rn r 2 92 [some (vR z)] [vR z] h Q := Rn_nx pg2 rfl rfl
theorem sX6_init_92 : Rn r 2 92 [l0] [vR z0] h Q ↔ Rn r 2 94 [l0] [vI 24, vR z0] h Q := Rn_nx pg2 rfl rfl
theorem sX6_init_94 (hn : ¬ (x0 < 0 ∨ 65536 < x0.toNatClampNeg)) : Rn r 2 94 [l0] [vI x0, vR z1] h Q ↔ Rn r 2 96 [l0] [vR (some (hN h)), vR z1] (newC h 40 x0.toNatClampNeg) Q := Rn_nx pg2 rfl (if_neg hn)
theorem sX6_init_96 (hk : hK h a1 = 15) : Rn r 2 96 [l0] [vR z0, vR (some a1)] h Q ↔ Rn r 2 99 [l0] [] (putR h a1 13 z0) Q := Rn_nx pg2 rfl ((if_pos ⟨(hk ▸ Nat.le_refl _), (hk ▸ Nat.le_refl _)⟩).trans rfl)
theorem sX6_init_99 : Rn r 2 99 [some (vR z)] [] h Q ↔ Rn r 2 100 [some (vR z)] [vR z] h Q := Rn_nx pg2 rfl rfl
theorem sX6_init_100 : Rn r 2 100 [l0] [vR z0] h Q ↔ Rn r 2 102 [l0] [vI 24, vR z0] h Q := Rn_nx pg2 rfl rfl
theorem sX6_init_102 (hn : ¬ (x0 < 0 ∨ 65536 < x0.toNatClampNeg)) : Rn r 2 102 [l0] [vI x0, vR z1] h Q ↔ Rn r 2 104 [l0] [vR (some (hN h)), vR z1] (newC h 43 x0.toNatClampNeg) Q := Rn_nx pg2 rfl (if_neg hn)
theorem sX6_init_104 (hk : hK h a1 = 15) : Rn r 2 104 [l0] [vR z0, vR (some a1)] h Q ↔ Rn r 2 107 [l0] [] (putR h a1 14 z0) Q := Rn_nx pg2 rfl ((if_pos ⟨(hk ▸ Nat.le_refl _), (hk ▸ Nat.le_refl _)⟩).trans rfl)
theorem sX6_init_107 : Rn r 2 107 [some (vR z)] [] h Q ↔ Rn r 2 108 [some (vR z)] [vR z] h Q := Rn_nx pg2 rfl rfl
theorem sX6_init_108 : Rn r 2 108 [l0] [vR z0] h Q ↔ Rn r 2 110 [l0] [vI 24, vR z0] h Q := Rn_nx pg2 rfl rfl
theorem sX6_init_110 (hn : ¬ (x0 < 0 ∨ 65536 < x0.toNatClampNeg)) : Rn r 2 110 [l0] [vI x0, vR z1] h Q ↔ Rn r 2 112 [l0] [vR (some (hN h)), vR z1] (newC h 40 x0.toNatClampNeg) Q := Rn_nx pg2 rfl (if_neg hn)
theorem sX6_init_112 (hk : hK h a1 = 15) : Rn r 2 112 [l0] [vR z0, vR (some a1)] h Q ↔ Rn r 2 115 [l0] [] (putR h a1 15 z0) Q := Rn_nx pg2 rfl ((if_pos ⟨(hk ▸ Nat.le_refl _), (hk ▸ Nat.le_refl _)⟩).trans rfl)
theorem sX6_init_115 : Rn r 2 115 [some (vR z)] [] h Q ↔ Rn r 2 116 [some (vR z)] [vR z] h Q := Rn_nx pg2 rfl rfl
theorem sX6_init_116 : Rn r 2 116 [l0] [vR z0] h Q ↔ Rn r 2 118 [l0] [vI 96, vR z0] h Q := Rn_nx pg2 rfl rfl
theorem sX6_init_118 (hn : ¬ (x0 < 0 ∨ 65536 < x0.toNatClampNeg)) : Rn r 2 118 [l0] [vI x0, vR z1] h Q ↔ Rn r 2 120 [l0] [vR (some (hN h)), vR z1] (newC h 42 x0.toNatClampNeg) Q := Rn_nx pg2 rfl (if_neg hn)
theorem sX6_init_120 (hk : hK h a1 = 15) : Rn r 2 120 [l0] [vR z0, vR (some a1)] h Q ↔ Rn r 2 123 [l0] [] (putR h a1 16 z0) Q := Rn_nx pg2 rfl ((if_pos ⟨(hk ▸ Nat.le_refl _), (hk ▸ Nat.le_refl _)⟩).trans rfl)
theorem sX6_init_123 : Rn r 2 123 [some (vR z)] [] h Q ↔ Rn r 2 124 [some (vR z)] [vR z] h Q := Rn_nx pg2 rfl rfl
theorem sX6_init_124 : Rn r 2 124 [l0] [vR z0] h Q ↔ Rn r 2 126 [l0] [vI 96, vR z0] h Q := Rn_nx pg2 rfl rfl
theorem sX6_init_126 (hn : ¬ (x0 < 0 ∨ 65536 < x0.toNatClampNeg)) : Rn r 2 126 [l0] [vI x0, vR z1] h Q ↔ Rn r 2 128 [l0] [vR (some (hN h)), vR z1] (newC h 40 x0.toNatClampNeg) Q := Rn_nx pg2 rfl (if_neg hn)
theorem sX6_init_128 (hk : hK h a1 = 15) : Rn r 2 128 [l0] [vR z0, vR (some a1)] h Q ↔ Rn r 2 131 [l0] [] (putR h a1 17 z0) Q := Rn_nx pg2 rfl ((if_pos ⟨(hk ▸ Nat.le_refl _), (hk ▸ Nat.le_refl _)⟩).trans rfl)
theorem sX6_init_131 : Rn r 2 131 [some (vR z)] [] h Q ↔ Rn r 2 132 [some (vR z)] [vR z] h Q := Rn_nx pg2 rfl rfl
theorem sX6_init_132 : Rn r 2 132 [l0] [vR z0] h Q ↔ Rn r 2 134 [l0] [vI 24, vR z0] h Q := Rn_nx pg2 rfl rfl
theorem sX6_init_134 (hn : ¬ (x0 < 0 ∨ 65536 < x0.toNatClampNeg)) : Rn r 2 134 [l0] [vI x0, vR z1] h Q ↔ Rn r 2 136 [l0] [vR (some (hN h)), vR z1] (newC h 40 x0.toNatClampNeg) Q := Rn_nx pg2 rfl (if_neg hn)
theorem sX6_init_136 (hk : hK h a1 = 15) : Rn r 2 136 [l0] [vR z0, vR (some a1)] h Q ↔ Rn r 2 139 [l0] [] (putR h a1 18 z0) Q := Rn_nx pg2 rfl ((if_pos ⟨(hk ▸ Nat.le_refl _), (hk ▸ Nat.le_refl _)⟩).trans rfl)
theorem sX6_init_139 : Rn r 2 139 [some (vR z)] [] h Q ↔ Rn r 2 140 [some (vR z)] [vR z] h Q := Rn_nx pg2 rfl rfl
theorem sX6_init_140 : Rn r 2 140 [l0] [vR z0] h Q ↔ Rn r 2 141 [l0] [vI 2, vR z0] h Q := Rn_nx pg2 rfl rfl
theorem sX6_init_141 (hn : ¬ (x0 < 0 ∨ 65536 < x0.toNatClampNeg)) : Rn r 2 141 [l0] [vI x0, vR z1] h Q ↔ Rn r 2 143 [l0] [vR (some (hN h)), vR z1] (newC h 40 x0.toNatClampNeg) Q := Rn_nx pg2 rfl (if_neg hn)
theorem sX6_init_143 (hk : hK h a1 = 15) : Rn r 2 143 [l0] [vR z0, vR (some a1)] h Q ↔ Rn r 2 146 [l0] [] (putR h a1 19 z0) Q := Rn_nx pg2 rfl ((if_pos ⟨(hk ▸ Nat.le_refl _), (hk ▸ Nat.le_refl _)⟩).trans rfl)
theorem sX6_init_146 : Rn r 2 146 [some (vR z)] [] h Q ↔ Rn r 2 147 [some (vR z)] [vR z] h Q := Rn_nx pg2 rfl rfl
theorem sX6_init_147 : Rn r 2 147 [l0] [vR z0] h Q ↔ Rn r 2 150 [l0] [vI 240, vR z0] h Q := Rn_nx pg2 rfl rfl
theorem sX6_init_150 (hn : ¬ (x0 < 0 ∨ 65536 < x0.toNatClampNeg)) : Rn r 2 150 [l0] [vI x0, vR z1] h Q ↔ Rn r 2 152 [l0] [vR (some (hN h)), vR z1] (newC h 40 x0.toNatClampNeg) Q := Rn_nx pg2 rfl (if_neg hn)
theorem sX6_init_152 (hk : hK h a1 = 15) : Rn r 2 152 [l0] [vR z0, vR (some a1)] h Q ↔ Rn r 2 155 [l0] [] (putR h a1 20 z0) Q := Rn_nx pg2 rfl ((if_pos ⟨(hk ▸ Nat.le_refl _), (hk ▸ Nat.le_refl _)⟩).trans rfl)
theorem sX6_init_155 : Rn r 2 155 [some (vR z)] [] h Q ↔ Rn r 2 156 [some (vR z)] [vR z] h Q := Rn_nx pg2 rfl rfl
theorem sX6_init_156 : Rn r 2 156 [l0] [vR z0] h Q ↔ Rn r 2 159 [l0] [vI 240, vR z0] h Q := Rn_nx pg2 rfl rfl
theorem sX6_init_159 (hn : ¬ (x0 < 0 ∨ 65536 < x0.toNatClampNeg)) : Rn r 2 159 [l0] [vI x0, vR z1] h Q ↔ Rn r 2 161 [l0] [vR (some (hN h)), vR z1] (newC h 40 x0.toNatClampNeg) Q := Rn_nx pg2 rfl (if_neg hn)
theorem sX6_init_161 (hk : hK h a1 = 15) : Rn r 2 161 [l0] [vR z0, vR (some a1)] h Q ↔ Rn r 2 164 [l0] [] (putR h a1 21 z0) Q := Rn_nx pg2 rfl ((if_pos ⟨(hk ▸ Nat.le_refl _), (hk ▸ Nat.le_refl _)⟩).trans rfl)
theorem sX6_init_164 : Rn r 2 164 [some (vR z)] [] h Q ↔ Rn r 2 165 [some (vR z)] [vR z] h Q := Rn_nx pg2 rfl rfl
theorem sX6_init_165 : Rn r 2 165 [l0] [vR z0] h Q ↔ Rn r 2 168 [l0] [vI 240, vR z0] h Q := Rn_nx pg2 rfl rfl
theorem sX6_init_168 (hn : ¬ (x0 < 0 ∨ 65536 < x0.toNatClampNeg)) : Rn r 2 168 [l0] [vI x0, vR z1] h Q ↔ Rn r 2 170 [l0] [vR (some (hN h)), vR z1] (newC h 40 x0.toNatClampNeg) Q := Rn_nx pg2 rfl (if_neg hn)
theorem sX6_init_170 (hk : hK h a1 = 15) : Rn r 2 170 [l0] [vR z0, vR (some a1)] h Q ↔ Rn r 2 173 [l0] [] (putR h a1 22 z0) Q := Rn_nx pg2 rfl ((if_pos ⟨(hk ▸ Nat.le_refl _), (hk ▸ Nat.le_refl _)⟩).trans rfl)
theorem sX6_init_173 : Rn r 2 173 [some (vR z)] [] h Q ↔ Rn r 2 174 [some (vR z)] [vR z] h Q := Rn_nx pg2 rfl rfl
theorem sX6_init_174 : Rn r 2 174 [l0] [vR z0] h Q ↔ Rn r 2 177 [l0] [vI 240, vR z0] h Q := Rn_nx pg2 rfl rfl
theorem sX6_init_177 (hn : ¬ (x0 < 0 ∨ 65536 < x0.toNatClampNeg)) : Rn r 2 177 [l0] [vI x0, vR z1] h Q ↔ Rn r 2 179 [l0] [vR (some (hN h)), vR z1] (newC h 40 x0.toNatClampNeg) Q := Rn_nx pg2 rfl (if_neg hn)
theorem sX6_init_179 (hk : hK h a1 = 15) : Rn r 2 179 [l0] [vR z0, vR (some a1)] h Q ↔ Rn r 2 182 [l0] [] (putR h a1 23 z0) Q := Rn_nx pg2 rfl ((if_pos ⟨(hk ▸ Nat.le_refl _), (hk ▸ Nat.le_refl _)⟩).trans rfl)
theorem sX6_init_182 : Rn r 2 182 [some (vR z)] [] h Q ↔ Rn r 2 183 [some (vR z)] [vR z] h Q := Rn_nx pg2 rfl rfl
theorem sX6_init_183 : Rn r 2 183 [l0] [vR z0] h Q ↔ Rn r 2 186 [l0] [vI 240, vR z0] h Q := Rn_nx pg2 rfl rfl
theorem sX6_init_186 (hn : ¬ (x0 < 0 ∨ 65536 < x0.toNatClampNeg)) : Rn r 2 186 [l0] [vI x0, vR z1] h Q ↔ Rn r 2 188 [l0] [vR (some (hN h)), vR z1] (newC h 40 x0.toNatClampNeg) Q := Rn_nx pg2 rfl (if_neg hn)
theorem sX6_init_188 (hk : hK h a1 = 15) : Rn r 2 188 [l0] [vR z0, vR (some a1)] h Q ↔ Rn r 2 191 [l0] [] (putR h a1 24 z0) Q := Rn_nx pg2 rfl ((if_pos ⟨(hk ▸ Nat.le_refl _), (hk ▸ Nat.le_refl _)⟩).trans rfl)
theorem sX6_init_191 : Rn r 2 191 [some (vR z)] [] h Q ↔ Rn r 2 192 [some (vR z)] [vR z] h Q := Rn_nx pg2 rfl rfl
theorem sX6_init_192 : Rn r 2 192 [l0] [vR z0] h Q ↔ Rn r 2 195 [l0] [vI 240, vR z0] h Q := Rn_nx pg2 rfl rfl
theorem sX6_init_195 (hn : ¬ (x0 < 0 ∨ 65536 < x0.toNatClampNeg)) : Rn r 2 195 [l0] [vI x0, vR z1] h Q ↔ Rn r 2 197 [l0] [vR (some (hN h)), vR z1] (newC h 42 x0.toNatClampNeg) Q := Rn_nx pg2 rfl (if_neg hn)
theorem sX6_init_197 (hk : hK h a1 = 15) : Rn r 2 197 [l0] [vR z0, vR (some a1)] h Q ↔ Rn r 2 200 [l0] [] (putR h a1 25 z0) Q := Rn_nx pg2 rfl ((if_pos ⟨(hk ▸ Nat.le_refl _), (hk ▸ Nat.le_refl _)⟩).trans rfl)
theorem sX6_init_200 : Rn r 2 200 [some (vR z)] [] h Q ↔ Rn r 2 201 [some (vR z)] [vR z] h Q := Rn_nx pg2 rfl rfl
theorem sX6_init_201 : Rn r 2 201 [l0] [vR z0] h Q ↔ Rn r 2 204 [l0] [vI 240, vR z0] h Q := Rn_nx pg2 rfl rfl
theorem sX6_init_204 (hn : ¬ (x0 < 0 ∨ 65536 < x0.toNatClampNeg)) : Rn r 2 204 [l0] [vI x0, vR z1] h Q ↔ Rn r 2 206 [l0] [vR (some (hN h)), vR z1] (newC h 40 x0.toNatClampNeg) Q := Rn_nx pg2 rfl (if_neg hn)
theorem sX6_init_206 (hk : hK h a1 = 15) : Rn r 2 206 [l0] [vR z0, vR (some a1)] h Q ↔ Rn r 2 209 [l0] [] (putR h a1 26 z0) Q := Rn_nx pg2 rfl ((if_pos ⟨(hk ▸ Nat.le_refl _), (hk ▸ Nat.le_refl _)⟩).trans rfl)
theorem sX6_init_209 : Rn r 2 209 [some (vR z)] [] h Q ↔ Rn r 2 210 [some (vR z)] [vR z] h Q := Rn_nx pg2 rfl rfl
theorem sX6_init_210 : Rn r 2 210 [l0] [vR z0] h Q ↔ Rn r 2 213 [l0] [vI 240, vR z0] h Q := Rn_nx pg2 rfl rfl
theorem sX6_init_213 (hn : ¬ (x0 < 0 ∨ 65536 < x0.toNatClampNeg)) : Rn r 2 213 [l0] [vI x0, vR z1] h Q ↔ Rn r 2 215 [l0] [vR (some (hN h)), vR z1] (newC h 40 x0.toNatClampNeg) Q := Rn_nx pg2 rfl (if_neg hn)
theorem sX6_init_215 (hk : hK h a1 = 15) : Rn r 2 215 [l0] [vR z0, vR (some a1)] h Q ↔ Rn r 2 218 [l0] [] (putR h a1 27 z0) Q := Rn_nx pg2 rfl ((if_pos ⟨(hk ▸ Nat.le_refl _), (hk ▸ Nat.le_refl _)⟩).trans rfl)
theorem sX6_init_218 : Rn r 2 218 [some (vR z)] [] h Q ↔ Rn r 2 219 [some (vR z)] [vR z] h Q := Rn_nx pg2 rfl rfl
theorem sX6_init_219 : Rn r 2 219 [l0] [vR z0] h Q ↔ Rn r 2 222 [l0] [vI 240, vR z0] h Q := Rn_nx pg2 rfl rfl
theorem sX6_init_222 (hn : ¬ (x0 < 0 ∨ 65536 < x0.toNatClampNeg)) : Rn r 2 222 [l0] [vI x0, vR z1] h Q ↔ Rn r 2 224 [l0] [vR (some (hN h)), vR z1] (newC h 40 x0.toNatClampNeg) Q := Rn_nx pg2 rfl (if_neg hn)
theorem sX6_init_224 (hk : hK h a1 = 15) : Rn r 2 224 [l0] [vR z0, vR (some a1)] h Q ↔ Rn r 2 227 [l0] [] (putR h a1 28 z0) Q := Rn_nx pg2 rfl ((if_pos ⟨(hk ▸ Nat.le_refl _), (hk ▸ Nat.le_refl _)⟩).trans rfl)
theorem sX6_init_227 : Rn r 2 227 [some (vR z)] [] h Q ↔ Rn r 2 228 [some (vR z)] [vR z] h Q := Rn_nx pg2 rfl rfl
theorem sX6_init_228 : Rn r 2 228 [l0] [vR z0] h Q ↔ Rn r 2 231 [l0] [vI 240, vR z0] h Q := Rn_nx pg2 rfl rfl
theorem sX6_init_231 (hn : ¬ (x0 < 0 ∨ 65536 < x0.toNatClampNeg)) : Rn r 2 231 [l0] [vI x0, vR z1] h Q ↔ Rn r 2 233 [l0] [vR (some (hN h)), vR z1] (newC h 40 x0.toNatClampNeg) Q := Rn_nx pg2 rfl (if_neg hn)
theorem sX6_init_233 (hk : hK h a1 = 15) : Rn r 2 233 [l0] [vR z0, vR (some a1)] h Q ↔ Rn r 2 236 [l0] [] (putR h a1 29 z0) Q := Rn_nx pg2 rfl ((if_pos ⟨(hk ▸ Nat.le_refl _), (hk ▸ Nat.le_refl _)⟩).trans rfl)
theorem sX6_init_236 : Rn r 2 236 [some (vR z)] [] h Q ↔ Rn r 2 237 [some (vR z)] [vR z] h Q := Rn_nx pg2 rfl rfl
theorem sX6_init_237 : Rn r 2 237 [l0] [vR z0] h Q ↔ Rn r 2 240 [l0] [vI 240, vR z0] h Q := Rn_nx pg2 rfl rfl
theorem sX6_init_240 (hn : ¬ (x0 < 0 ∨ 65536 < x0.toNatClampNeg)) : Rn r 2 240 [l0] [vI x0, vR z1] h Q ↔ Rn r 2 242 [l0] [vR (some (hN h)), vR z1] (newC h 40 x0.toNatClampNeg) Q := Rn_nx pg2 rfl (if_neg hn)
theorem sX6_init_242 (hk : hK h a1 = 15) : Rn r 2 242 [l0] [vR z0, vR (some a1)] h Q ↔ Rn r 2 245 [l0] [] (putR h a1 30 z0) Q := Rn_nx pg2 rfl ((if_pos ⟨(hk ▸ Nat.le_refl _), (hk ▸ Nat.le_refl _)⟩).trans rfl)
theorem sX6_init_245 : Rn r 2 245 [some (vR z)] [] h Q ↔ Rn r 2 246 [some (vR z)] [vR z] h Q := Rn_nx pg2 rfl rfl
theorem sX6_init_246 : Rn r 2 246 [l0] [vR z0] h Q ↔ Rn r 2 249 [l0] [vI 960, vR z0] h Q := Rn_nx pg2 rfl rfl
theorem sX6_init_249 (hn : ¬ (x0 < 0 ∨ 65536 < x0.toNatClampNeg)) : Rn r 2 249 [l0] [vI x0, vR z1] h Q ↔ Rn r 2 251 [l0] [vR (some (hN h)), vR z1] (newC h 42 x0.toNatClampNeg) Q := Rn_nx pg2 rfl (if_neg hn)
theorem sX6_init_251 (hk : hK h a1 = 15) : Rn r 2 251 [l0] [vR z0, vR (some a1)] h Q ↔ Rn r 2 254 [l0] [] (putR h a1 31 z0) Q := Rn_nx pg2 rfl ((if_pos ⟨(hk ▸ Nat.le_refl _), (hk ▸ Nat.le_refl _)⟩).trans rfl)
theorem sX6_init_254 : Rn r 2 254 [some (vR z)] [] h Q ↔ Rn r 2 255 [some (vR z)] [vR z] h Q := Rn_nx pg2 rfl rfl
theorem sX6_init_255 : Rn r 2 255 [l0] [vR z0] h Q ↔ Rn r 2 258 [l0] [vI 960, vR z0] h Q := Rn_nx pg2 rfl rfl
theorem sX6_init_258 (hn : ¬ (x0 < 0 ∨ 65536 < x0.toNatClampNeg)) : Rn r 2 258 [l0] [vI x0, vR z1] h Q ↔ Rn r 2 260 [l0] [vR (some (hN h)), vR z1] (newC h 40 x0.toNatClampNeg) Q := Rn_nx pg2 rfl (if_neg hn)
theorem sX6_init_260 (hk : hK h a1 = 15) : Rn r 2 260 [l0] [vR z0, vR (some a1)] h Q ↔ Rn r 2 263 [l0] [] (putR h a1 32 z0) Q := Rn_nx pg2 rfl ((if_pos ⟨(hk ▸ Nat.le_refl _), (hk ▸ Nat.le_refl _)⟩).trans rfl)
theorem sX6_init_263 : Rn r 2 263 [some (vR z)] [] h Q ↔ Rn r 2 264 [some (vR z)] [vR z] h Q := Rn_nx pg2 rfl rfl
theorem sX6_init_264 : Rn r 2 264 [l0] [vR z0] h Q ↔ Rn r 2 267 [l0] [vI 240, vR z0] h Q := Rn_nx pg2 rfl rfl
theorem sX6_init_267 (hn : ¬ (x0 < 0 ∨ 65536 < x0.toNatClampNeg)) : Rn r 2 267 [l0] [vI x0, vR z1] h Q ↔ Rn r 2 269 [l0] [vR (some (hN h)), vR z1] (newC h 40 x0.toNatClampNeg) Q := Rn_nx pg2 rfl (if_neg hn)
theorem sX6_init_269 (hk : hK h a1 = 15) : Rn r 2 269 [l0] [vR z0, vR (some a1)] h Q ↔ Rn r 2 272 [l0] [] (putR h a1 33 z0) Q := Rn_nx pg2 rfl ((if_pos ⟨(hk ▸ Nat.le_refl _), (hk ▸ Nat.le_refl _)⟩).trans rfl)
theorem sX6_init_272 : Rn r 2 272 [some (vR z)] [] h Q ↔ Rn r 2 273 [some (vR z)] [vR z] h Q := Rn_nx pg2 rfl rfl
theorem sX6_init_273 : Rn r 2 273 [l0] [vR z0] h Q ↔ Rn r 2 276 [l0] [vI 960, vR z0] h Q := Rn_nx pg2 rfl rfl
theorem sX6_init_276 (hn : ¬ (x0 < 0 ∨ 65536 < x0.toNatClampNeg)) : Rn r 2 276 [l0] [vI x0, vR z1] h Q ↔ Rn r 2 278 [l0] [vR (some (hN h)), vR z1] (newC h 40 x0.toNatClampNeg) Q := Rn_nx pg2 rfl (if_neg hn)
theorem sX6_init_278 (hk : hK h a1 = 15) : Rn r 2 278 [l0] [vR z0, vR (some a1)] h Q ↔ Rn r 2 281 [l0] [] (putR h a1 34 z0) Q := Rn_nx pg2 rfl ((if_pos ⟨(hk ▸ Nat.le_refl _), (hk ▸ Nat.le_refl _)⟩).trans rfl)
theorem sX6_init_281 : Rn r 2 281 [some (vR z)] [] h Q ↔ Rn r 2 282 [some (vR z)] [vR z] h Q := Rn_nx pg2 rfl rfl
theorem sX6_init_282 : Rn r 2 282 [l0] [vR z0] h Q ↔ Rn r 2 285 [l0] [vI 960, vR z0] h Q := Rn_nx pg2 rfl rfl
theorem sX6_init_285 (hn : ¬ (x0 < 0 ∨ 65536 < x0.toNatClampNeg)) : Rn r 2 285 [l0] [vI x0, vR z1] h Q ↔ Rn r 2 287 [l0] [vR (some (hN h)), vR z1] (newC h 42 x0.toNatClampNeg) Q := Rn_nx pg2 rfl (if_neg hn)
theorem sX6_init_287 (hk : hK h a1 = 15) : Rn r 2 287 [l0] [vR z0, vR (some a1)] h Q ↔ Rn r 2 290 [l0] [] (putR h a1 35 z0) Q := Rn_nx pg2 rfl ((if_pos ⟨(hk ▸ Nat.le_refl _), (hk ▸ Nat.le_refl _)⟩).trans rfl)
theorem sX6_init_290 : Rn r 2 290 [some (vR z)] [] h Q ↔ Rn r 2 291 [some (vR z)] [vR z] h Q := Rn_nx pg2 rfl rfl
theorem sX6_init_291 : Rn r 2 291 [l0] [vR z0] h Q ↔ Rn r 2 294 [l0] [vI 960, vR z0] h Q := Rn_nx pg2 rfl rfl
theorem sX6_init_294 (hn : ¬ (x0 < 0 ∨ 65536 < x0.toNatClampNeg)) : Rn r 2 294 [l0] [vI x0, vR z1] h Q ↔ Rn r 2 296 [l0] [vR (some (hN h)), vR z1] (newC h 40 x0.toNatClampNeg) Q := Rn_nx pg2 rfl (if_neg hn)
theorem sX6_init_296 (hk : hK h a1 = 15) : Rn r 2 296 [l0] [vR z0, vR (some a1)] h Q ↔ Rn r 2 299 [l0] [] (putR h a1 36 z0) Q := Rn_nx pg2 rfl ((if_pos ⟨(hk ▸ Nat.le_refl _), (hk ▸ Nat.le_refl _)⟩).trans rfl)
theorem sX6_init_299 : Rn r 2 299 [some (vR z)] [] h Q ↔ Rn r 2 300 [some (vR z)] [vR z] h Q := Rn_nx pg2 rfl rfl
theorem sX6_init_300 : Rn r 2 300 [l0] [vR z0] h Q ↔ Rn r 2 303 [l0] [vI 960, vR z0] h Q := Rn_nx pg2 rfl rfl
theorem sX6_init_303 (hn : ¬ (x0 < 0 ∨ 65536 < x0.toNatClampNeg)) : Rn r 2 303 [l0] [vI x0, vR z1] h Q ↔ Rn r 2 305 [l0] [vR (some (hN h)), vR z1] (newC h 40 x0.toNatClampNeg) Q := Rn_nx pg2 rfl (if_neg hn)
theorem sX6_init_305 (hk : hK h a1 = 15) : Rn r 2 305 [l0] [vR z0, vR (some a1)] h Q ↔ Rn r 2 308 [l0] [] (putR h a1 37 z0) Q := Rn_nx pg2 rfl ((if_pos ⟨(hk ▸ Nat.le_refl _), (hk ▸ Nat.le_refl _)⟩).trans rfl)
theorem sX6_init_308 : Rn r 2 308 [some (vR z)] [] h Q ↔ Rn r 2 309 [some (vR z)] [vR z] h Q := Rn_nx pg2 rfl rfl
theorem sX6_init_309 : Rn r 2 309 [l0] [vR z0] h Q ↔ Rn r 2 312 [l0] [vI 3840, vR z0] h Q := Rn_nx pg2 rfl rfl
theorem sX6_init_312 (hn : ¬ (x0 < 0 ∨ 65536 < x0.toNatClampNeg)) : Rn r 2 312 [l0] [vI x0, vR z1] h Q ↔ Rn r 2 314 [l0] [vR (some (hN h)), vR z1] (newC h 42 x0.toNatClampNeg) Q := Rn_nx pg2 rfl (if_neg hn)
theorem sX6_init_314 (hk : hK h a1 = 15) : Rn r 2 314 [l0] [vR z0, vR (some a1)] h Q ↔ Rn r 2 317 [l0] [] (putR h a1 38 z0) Q := Rn_nx pg2 rfl ((if_pos ⟨(hk ▸ Nat.le_refl _), (hk ▸ Nat.le_refl _)⟩).trans rfl)
theorem sX6_init_317 : Rn r 2 317 [some (vR z)] [] h Q ↔ Rn r 2 318 [some (vR z)] [vR z] h Q := Rn_nx pg2 rfl rfl
theorem sX6_init_318 : Rn r 2 318 [l0] [vR z0] h Q ↔ Rn r 2 321 [l0] [vI 3840, vR z0] h Q := Rn_nx pg2 rfl rfl
theorem sX6_init_321 (hn : ¬ (x0 < 0 ∨ 65536 < x0.toNatClampNeg)) : Rn r 2 321 [l0] [vI x0, vR z1] h Q ↔ Rn r 2 323 [l0] [vR (some (hN h)), vR z1] (newC h 40 x0.toNatClampNeg) Q := Rn_nx pg2 rfl (if_neg hn)
theorem sX6_init_323 (hk : hK h a1 = 15) : Rn r 2 323 [l0] [vR z0, vR (some a1)] h Q ↔ Rn r 2 326 [l0] [] (putR h a1 39 z0) Q := Rn_nx pg2 rfl ((if_pos ⟨(hk ▸ Nat.le_refl _), (hk ▸ Nat.le_refl _)⟩).trans rfl)
theorem sX6_init_326 : Rn r 2 326 [some (vR z)] [] h Q ↔ Rn r 2 327 [some (vR z)] [vR z] h Q := Rn_nx pg2 rfl rfl
theorem sX6_init_327 : Rn r 2 327 [l0] [vR z0] h Q ↔ Rn r 2 328 [l0] [vI 2, vR z0] h Q := Rn_nx pg2 rfl rfl
theorem sX6_init_328 (hn : ¬ (x0 < 0 ∨ 65536 < x0.toNatClampNeg)) : Rn r 2 328 [l0] [vI x0, vR z1] h Q ↔ Rn r 2 330 [l0] [vR (some (hN h)), vR z1] (newC h 40 x0.toNatClampNeg) Q := Rn_nx pg2 rfl (if_neg hn)
theorem sX6_init_330 (hk : hK h a1 = 15) : Rn r 2 330 [l0] [vR z0, vR (some a1)] h Q ↔ Rn r 2 333 [l0] [] (putR h a1 40 z0) Q := Rn_nx pg2 rfl ((if_pos ⟨(hk ▸ Nat.le_refl _), (hk ▸ Nat.le_refl _)⟩).trans rfl)
theorem sX6_init_333 : Rn r 2 333 [some (vR z)] [] h Q ↔ Rn r 2 334 [some (vR z)] [vR z] h Q := Rn_nx pg2 rfl rfl
theorem sX6_init_334 : Rn r 2 334 [l0] [vR z0] h Q ↔ Rn r 2 337 [l0] [vI 2048, vR z0] h Q := Rn_nx pg2 rfl rfl
theorem sX6_init_337 (hn : ¬ (x0 < 0 ∨ 65536 < x0.toNatClampNeg)) : Rn r 2 337 [l0] [vI x0, vR z1] h Q ↔ Rn r 2 339 [l0] [vR (some (hN h)), vR z1] (newC h 40 x0.toNatClampNeg) Q := Rn_nx pg2 rfl (if_neg hn)
theorem sX6_init_339 (hk : hK h a1 = 15) : Rn r 2 339 [l0] [vR z0, vR (some a1)] h Q ↔ Rn r 2 342 [l0] [] (putR h a1 41 z0) Q := Rn_nx pg2 rfl ((if_pos ⟨(hk ▸ Nat.le_refl _), (hk ▸ Nat.le_refl _)⟩).trans rfl)
theorem sX6_init_342 : Rn r 2 342 [some (vR z)] [] h Q ↔ Rn r 2 343 [some (vR z)] [vR z] h Q := Rn_nx pg2 rfl rfl
theorem sX6_init_343 : Rn r 2 343 [l0] [vR z0] h Q ↔ Rn r 2 346 [l0] [vI 2048, vR z0] h Q := Rn_nx pg2 rfl rfl
theorem sX6_init_346 (hn : ¬ (x0 < 0 ∨ 65536 < x0.toNatClampNeg)) : Rn r 2 346 [l0] [vI x0, vR z1] h Q ↔ Rn r 2 348 [l0] [vR (some (hN h)), vR z1] (newC h 40 x0.toNatClampNeg) Q := Rn_nx pg2 rfl (if_neg hn)
theorem sX6_init_348 (hk : hK h a1 = 15) : Rn r 2 348 [l0] [vR z0, vR (some a1)] h Q ↔ Rn r 2 351 [l0] [] (putR h a1 42 z0) Q := Rn_nx pg2 rfl ((if_pos ⟨(hk ▸ Nat.le_refl _), (hk ▸ Nat.le_refl _)⟩).trans rfl)
theorem sX6_init_351 : Rn r 2 351 [some (vR z)] [] h Q ↔ Rn r 2 352 [some (vR z)] [vR z] h Q := Rn_nx pg2 rfl rfl
theorem sX6_init_352 : Rn r 2 352 [l0] [vR z0] h Q ↔ Rn r 2 355 [l0] [vI 2048, vR z0] h Q := Rn_nx pg2 rfl rfl
theorem sX6_init_355 (hn : ¬ (x0 < 0 ∨ 65536 < x0.toNatClampNeg)) : Rn r 2 355 [l0] [vI x0, vR z1] h Q ↔ Rn r 2 357 [l0] [vR (some (hN h)), vR z1] (newC h 40 x0.toNatClampNeg) Q := Rn_nx pg2 rfl (if_neg hn)
theorem sX6_init_357 (hk : hK h a1 = 15) : Rn r 2 357 [l0] [vR z0, vR (some a1)] h Q ↔ Rn r 2 360 [l0] [] (putR h a1 43 z0) Q := Rn_nx pg2 rfl ((if_pos ⟨(hk ▸ Nat.le_refl _), (hk ▸ Nat.le_refl _)⟩).trans rfl)
theorem sX6_init_360 : Rn r 2 360 [some (vR z)] [] h Q ↔ Rn r 2 361 [some (vR z)] [vR z] h Q := Rn_nx pg2 rfl rfl
theorem sX6_init_361 : Rn r 2 361 [l0] [vR z0] h Q ↔ Rn r 2 364 [l0] [vI 2048, vR z0] h Q := Rn_nx pg2 rfl rfl
theorem sX6_init_364 (hn : ¬ (x0 < 0 ∨ 65536 < x0.toNatClampNeg)) : Rn r 2 364 [l0] [vI x0, vR z1] h Q ↔ Rn r 2 366 [l0] [vR (some (hN h)), vR z1] (newC h 40 x0.toNatClampNeg) Q := Rn_nx pg2 rfl (if_neg hn)
theorem sX6_init_366 (hk : hK h a1 = 15) : Rn r 2 366 [l0] [vR z0, vR (some a1)] h Q ↔ Rn r 2 369 [l0] [] (putR h a1 44 z0) Q := Rn_nx pg2 rfl ((if_pos ⟨(hk ▸ Nat.le_refl _), (hk ▸ Nat.le_refl _)⟩).trans rfl)
theorem sX6_init_369 : Rn r 2 369 [some (vR z)] [] h Q ↔ Rn r 2 370 [some (vR z)] [vR z] h Q := Rn_nx pg2 rfl rfl
theorem sX6_init_370 : Rn r 2 370 [l0] [vR z0] h Q ↔ Rn r 2 373 [l0] [vI 2048, vR z0] h Q := Rn_nx pg2 rfl rfl
theorem sX6_init_373 (hn : ¬ (x0 < 0 ∨ 65536 < x0.toNatClampNeg)) : Rn r 2 373 [l0] [vI x0, vR z1] h Q ↔ Rn r 2 375 [l0] [vR (some (hN h)), vR z1] (newC h 40 x0.toNatClampNeg) Q := Rn_nx pg2 rfl (if_neg hn)
theorem sX6_init_375 (hk : hK h a1 = 15) : Rn r 2 375 [l0] [vR z0, vR (some a1)] h Q ↔ Rn r 2 378 [l0] [] (putR h a1 45 z0) Q := Rn_nx pg2 rfl ((if_pos ⟨(hk ▸ Nat.le_refl _), (hk ▸ Nat.le_refl _)⟩).trans rfl)
theorem sX6_init_378 : Rn r 2 378 [some (vR z)] [] h Q ↔ Rn r 2 379 [some (vR z)] [vR z] h Q := Rn_nx pg2 rfl rfl
theorem sX6_init_379 : Rn r 2 379 [l0] [vR z0] h Q ↔ Rn r 2 382 [l0] [vI 2048, vR z0] h Q := Rn_nx pg2 rfl rfl
theorem sX6_init_382 (hn : ¬ (x0 < 0 ∨ 65536 < x0.toNatClampNeg)) : Rn r 2 382 [l0] [vI x0, vR z1] h Q ↔ Rn r 2 384 [l0] [vR (some (hN h)), vR z1] (newC h 40 x0.toNatClampNeg) Q := Rn_nx pg2 rfl (if_neg hn)
theorem sX6_init_384 (hk : hK h a1 = 15) : Rn r 2 384 [l0] [vR z0, vR (some a1)] h Q ↔ Rn r 2 387 [l0] [] (putR h a1 46 z0) Q := Rn_nx pg2 rfl ((if_pos ⟨(hk ▸ Nat.le_refl _), (hk ▸ Nat.le_refl _)⟩).trans rfl)
theorem sX6_init_387 : Rn r 2 387 [some (vR z)] [] h Q ↔ Rn r 2 388 [some (vR z)] [vR z] h Q := Rn_nx pg2 rfl rfl
theorem sX6_init_388 : Rn r 2 388 [l0] [vR z0] h Q ↔ Rn r 2 390 [l0] [vI 9, vR z0] h Q := Rn_nx pg2 rfl rfl
theorem sX6_init_390 (hn : ¬ (x0 < 0 ∨ 65536 < x0.toNatClampNeg)) : Rn r 2 390 [l0] [vI x0, vR z1] h Q ↔ Rn r 2 392 [l0] [vR (some (hN h)), vR z1] (newC h 40 x0.toNatClampNeg) Q := Rn_nx pg2 rfl (if_neg hn)
theorem sX6_init_392 (hk : hK h a1 = 15) : Rn r 2 392 [l0] [vR z0, vR (some a1)] h Q ↔ Rn r 2 395 [l0] [] (putR h a1 56 z0) Q := Rn_nx pg2 rfl ((if_pos ⟨(hk ▸ Nat.le_refl _), (hk ▸ Nat.le_refl _)⟩).trans rfl)
theorem sX6_init_395 : Rn r 2 395 [some (vR z)] [] h Q ↔ Rn r 2 396 [some (vR z)] [vR z] h Q := Rn_nx pg2 rfl rfl
theorem sX6_init_396 : Rn r 2 396 [l0] [vR z0] h Q ↔ Rn r 2 399 [l0] [vI 240, vR z0] h Q := Rn_nx pg2 rfl rfl
theorem sX6_init_399 (hn : ¬ (x0 < 0 ∨ 65536 < x0.toNatClampNeg)) : Rn r 2 399 [l0] [vI x0, vR z1] h Q ↔ Rn r 2 401 [l0] [vR (some (hN h)), vR z1] (newC h 40 x0.toNatClampNeg) Q := Rn_nx pg2 rfl (if_neg hn)
theorem sX6_init_401 (hk : hK h a1 = 15) : Rn r 2 401 [l0] [vR z0, vR (some a1)] h Q ↔ Rn r 2 404 [l0] [] (putR h a1 58 z0) Q := Rn_nx pg2 rfl ((if_pos ⟨(hk ▸ Nat.le_refl _), (hk ▸ Nat.le_refl _)⟩).trans rfl)
theorem sX6_init_404 : Rn r 2 404 [some (vR z)] [] h Q ↔ Rn r 2 405 [some (vR z)] [vR z] h Q := Rn_nx pg2 rfl rfl
theorem sX6_init_405 : Rn r 2 405 [l0] [vR z0] h Q ↔ Rn r 2 408 [l0] [vI 240, vR z0] h Q := Rn_nx pg2 rfl rfl
theorem sX6_init_408 (hn : ¬ (x0 < 0 ∨ 65536 < x0.toNatClampNeg)) : Rn r 2 408 [l0] [vI x0, vR z1] h Q ↔ Rn r 2 410 [l0] [vR (some (hN h)), vR z1] (newC h 43 x0.toNatClampNeg) Q := Rn_nx pg2 rfl (if_neg hn)
theorem sX6_init_410 (hk : hK h a1 = 15) : Rn r 2 410 [l0] [vR z0, vR (some a1)] h Q ↔ Rn r 2 413 [l0] [] (putR h a1 59 z0) Q := Rn_nx pg2 rfl ((if_pos ⟨(hk ▸ Nat.le_refl _), (hk ▸ Nat.le_refl _)⟩).trans rfl)
theorem sX6_init_413 : Rn r 2 413 [some (vR z)] [] h Q ↔ Rn r 2 414 [some (vR z)] [vR z] h Q := Rn_nx pg2 rfl rfl
theorem sX6_init_414 : Rn r 2 414 [l0] [vR z0] h Q ↔ Rn r 2 417 [l0] [vI 4000, vR z0] h Q := Rn_nx pg2 rfl rfl
theorem sX6_init_417 (hn : ¬ (x0 < 0 ∨ 65536 < x0.toNatClampNeg)) : Rn r 2 417 [l0] [vI x0, vR z1] h Q ↔ Rn r 2 419 [l0] [vR (some (hN h)), vR z1] (newC h 40 x0.toNatClampNeg) Q := Rn_nx pg2 rfl (if_neg hn)
theorem sX6_init_419 (hk : hK h a1 = 15) : Rn r 2 419 [l0] [vR z0, vR (some a1)] h Q ↔ Rn r 2 422 [l0] [] (putR h a1 61 z0) Q := Rn_nx pg2 rfl ((if_pos ⟨(hk ▸ Nat.le_refl _), (hk ▸ Nat.le_refl _)⟩).trans rfl)
theorem sX6_init_422 : Rn r 2 422 [some (vR z)] [] h Q ↔ Rn r 2 423 [some (vR z)] [vR z] h Q := Rn_nx pg2 rfl rfl
theorem sX6_init_423 : Rn r 2 423 [l0] [vR z0] h Q ↔ Rn r 2 426 [l0] [vI 4000, vR z0] h Q := Rn_nx pg2 rfl rfl
theorem sX6_init_426 (hn : ¬ (x0 < 0 ∨ 65536 < x0.toNatClampNeg)) : Rn r 2 426 [l0] [vI x0, vR z1] h Q ↔ Rn r 2 428 [l0] [vR (some (hN h)), vR z1] (newC h 40 x0.toNatClampNeg) Q := Rn_nx pg2 rfl (if_neg hn)
theorem sX6_init_428 (hk : hK h a1 = 15) : Rn r 2 428 [l0] [vR z0, vR (some a1)] h Q ↔ Rn r 2 431 [l0] [] (putR h a1 62 z0) Q := Rn_nx pg2 rfl ((if_pos ⟨(hk ▸ Nat.le_refl _), (hk ▸ Nat.le_refl _)⟩).trans rfl)
theorem sX6_init_431 : Rn r 2 431 [some (vR z)] [] h Q ↔ Rn r 2 432 [some (vR z)] [vR z] h Q := Rn_nx pg2 rfl rfl
theorem sX6_init_432 : Rn r 2 432 [l0] [vR z0] h Q ↔ Rn r 2 435 [l0] [vI 4000, vR z0] h Q := Rn_nx pg2 rfl rfl
theorem sX6_init_435 (hn : ¬ (x0 < 0 ∨ 65536 < x0.toNatClampNeg)) : Rn r 2 435 [l0] [vI x0, vR z1] h Q ↔ Rn r 2 437 [l0] [vR (some (hN h)), vR z1] (newC h 40 x0.toNatClampNeg) Q := Rn_nx pg2 rfl (if_neg hn)
theorem sX6_init_437 (hk : hK h a1 = 15) : Rn r 2 437 [l0] [vR z0, vR (some a1)] h Q ↔ Rn r 2 440 [l0] [] (putR h a1 63 z0) Q := Rn_nx pg2 rfl ((if_pos ⟨(hk ▸ Nat.le_refl _), (hk ▸ Nat.le_refl _)⟩).trans rfl)
theorem sX6_init_440 : Rn r 2 440 [some (vR z)] [] h Q ↔ Rn r 2 441 [some (vR z)] [vR z] h Q := Rn_nx pg2 rfl rfl
theorem sX6_init_441 : Rn r 2 441 [l0] [vR z0] h Q ↔ Rn r 2 443 [l0] [vI 16, vR z0] h Q := Rn_nx pg2 rfl rfl
theorem sX6_init_443 (hn : ¬ (x0 < 0 ∨ 65536 < x0.toNatClampNeg)) : Rn r 2 443 [l0] [vI x0, vR z1] h Q ↔ Rn r 2 445 [l0] [vR (some (hN h)), vR z1] (newC h 40 x0.toNatClampNeg) Q := Rn_nx pg2 rfl (if_neg hn)
theorem sX6_init_445 (hk : hK h a1 = 15) : Rn r 2 445 [l0] [vR z0, vR (some a1)] h Q ↔ Rn r 2 448 [l0] [] (putR h a1 70 z0) Q := Rn_nx pg2 rfl ((if_pos ⟨(hk ▸ Nat.le_refl _), (hk ▸ Nat.le_refl _)⟩).trans rfl)
theorem sX6_init_448 : Rn r 2 448 [some (vR z)] [] h Q ↔ Rn r 2 449 [some (vR z)] [vR z] h Q := Rn_nx pg2 rfl rfl
theorem sX6_init_449 : Rn r 2 449 [l0] [vR z0] h Q ↔ Rn r 2 451 [l0] [vI 16, vR z0] h Q := Rn_nx pg2 rfl rfl
theorem sX6_init_451 (hn : ¬ (x0 < 0 ∨ 65536 < x0.toNatClampNeg)) : Rn r 2 451 [l0] [vI x0, vR z1] h Q ↔ Rn r 2 453 [l0] [vR (some (hN h)), vR z1] (newC h 40 x0.toNatClampNeg) Q := Rn_nx pg2 rfl (if_neg hn)
theorem sX6_init_453 (hk : hK h a1 = 15) : Rn r 2 453 [l0] [vR z0, vR (some a1)] h Q ↔ Rn r 2 456 [l0] [] (putR h a1 71 z0) Q := Rn_nx pg2 rfl ((if_pos ⟨(hk ▸ Nat.le_refl _), (hk ▸ Nat.le_refl _)⟩).trans rfl)
theorem sX6_init_456 : Rn r 2 456 [some (vR z)] [] h Q ↔ Rn r 2 457 [some (vR z)] [vR z] h Q := Rn_nx pg2 rfl rfl
theorem sX6_init_457 : Rn r 2 457 [l0] [vR z0] h Q ↔ Rn r 2 459 [l0] [vI 16, vR z0] h Q := Rn_nx pg2 rfl rfl
theorem sX6_init_459 (hn : ¬ (x0 < 0 ∨ 65536 < x0.toNatClampNeg)) : Rn r 2 459 [l0] [vI x0, vR z1] h Q ↔ Rn r 2 461 [l0] [vR (some (hN h)), vR z1] (newC h 40 x0.toNatClampNeg) Q := Rn_nx pg2 rfl (if_neg hn)
theorem sX6_init_461 (hk : hK h a1 = 15) : Rn r 2 461 [l0] [vR z0, vR (some a1)] h Q ↔ Rn r 2 464 [l0] [] (putR h a1 72 z0) Q := Rn_nx pg2 rfl ((if_pos ⟨(hk ▸ Nat.le_refl _), (hk ▸ Nat.le_refl _)⟩).trans rfl)
theorem sX6_init_464 : Rn r 2 464 [some (vR z)] [] h Q ↔ Rn r 2 465 [some (vR z)] [vR z] h Q := Rn_nx pg2 rfl rfl
theorem sX6_init_465 : Rn r 2 465 [l0] [vR z0] h Q ↔ Rn r 2 467 [l0] [vI 16, vR z0] h Q := Rn_nx pg2 rfl rfl
theorem sX6_init_467 (hn : ¬ (x0 < 0 ∨ 65536 < x0.toNatClampNeg)) : Rn r 2 467 [l0] [vI x0, vR z1] h Q ↔ Rn r 2 469 [l0] [vR (some (hN h)), vR z1] (newC h 40 x0.toNatClampNeg) Q := Rn_nx pg2 rfl (if_neg hn)
theorem sX6_init_469 (hk : hK h a1 = 15) : Rn r 2 469 [l0] [vR z0, vR (some a1)] h Q ↔ Rn r 2 472 [l0] [] (putR h a1 73 z0) Q := Rn_nx pg2 rfl ((if_pos ⟨(hk ▸ Nat.le_refl _), (hk ▸ Nat.le_refl _)⟩).trans rfl)
theorem sX6_init_472 : Rn r 2 472 [some (vR z)] [] h Q ↔ Rn r 2 473 [some (vR z)] [vR z] h Q := Rn_nx pg2 rfl rfl
theorem sX6_init_473 : Rn r 2 473 [l0] [vR z0] h Q ↔ Rn r 2 476 [l0] [vI 960, vR z0] h Q := Rn_nx pg2 rfl rfl
theorem sX6_init_476 (hn : ¬ (x0 < 0 ∨ 65536 < x0.toNatClampNeg)) : Rn r 2 476 [l0] [vI x0, vR z1] h Q ↔ Rn r 2 478 [l0] [vR (some (hN h)), vR z1] (newC h 40 x0.toNatClampNeg) Q := Rn_nx pg2 rfl (if_neg hn)
theorem sX6_init_478 (hk : hK h a1 = 15) : Rn r 2 478 [l0] [vR z0, vR (some a1)] h Q ↔ Rn r 2 481 [l0] [] (putR h a1 74 z0) Q := Rn_nx pg2 rfl ((if_pos ⟨(hk ▸ Nat.le_refl _), (hk ▸ Nat.le_refl _)⟩).trans rfl)
theorem sX6_init_481 : Rn r 2 481 [some (vR z)] [] h Q ↔ Rn r 2 482 [some (vR z)] [vR z] h Q := Rn_nx pg2 rfl rfl
theorem sX6_init_482 : Rn r 2 482 [l0] [vR z0] h Q ↔ Rn r 2 483 [l0] [vI 0, vR z0] h Q := Rn_nx pg2 rfl rfl
theorem sX6_init_483 (hk : hK h a1 = 15) : Rn r 2 483 [l0] [vI x0, vR (some a1)] h Q ↔ Cl r 30 [vR (some a1), vI x0] h (Kt r 2 486 [l0] [] Q) := Rn_call pg2 rfl (by simp only [am_exec, am_inv, am_pop, am_lk, hk]; rfl) pg30 rfl rfl rfl
theorem sX6_init_486 : Rn r 2 486 [l0] [] h Q ↔ Q (Sum.inl none) h := Rn_end pg2 rfl rfl
/-! 3 ThrowRules.feed(IIIII)I -/
theorem eX0_feed : Cl r 3 [vR z0, vI x1, vI x2, vI x3, vI x4, vI x5] h Q ↔ Rn r 3 0 [some (vR z0), some (vI x1), some (vI x2), some (vI x3), some (vI x4), some (vI x5)] [] h Q := Cl_in pg3 rfl
theorem sX0_feed_0 : Rn r 3 0 [some (vR z), l1, l2, l3, l4, l5] [] h Q ↔ Rn r 3 1 [some (vR z), l1, l2, l3, l4, l5] [vR z] h Q := Rn_nx pg3 rfl rfl
theorem sX0_feed_1 (hk : hK h a0 = 1) : Rn r 3 1 [l0, l1, l2, l3, l4, l5] [vR (some a0)] h Q ↔ Rn r 3 4 [l0, l1, l2, l3, l4, l5] [vI (hI h a0 1)] h Q := Rn_nx pg3 rfl (if_pos ⟨(hk ▸ Nat.le_refl _), (hk ▸ Nat.le_refl _)⟩)
theorem sX0_feed_4 : Rn r 3 4 [l0, l1, l2, l3, l4, l5] [vI x0] h Q ↔ Rn r 3 6 [l0, l1, l2, l3, l4, l5] [vI 20, vI x0] h Q := Rn_nx pg3 rfl rfl
theorem sX0_feed_6 : Rn r 3 6 [l0, l1, l2, l3, l4, l5] [vI x0, vI x1] h Q ↔ Rn r 3 7 [l0, l1, l2, l3, l4, l5] [vI (x1 + x0)] h Q := Rn_nx pg3 rfl rfl
theorem sX0_feed_7 : Rn r 3 7 [l0, l1, l2, l3, l4, l5] [vI x0] h Q ↔ Rn r 3 10 [l0, l1, l2, l3, l4, l5] [vI 2000, vI x0] h Q := Rn_nx pg3 rfl rfl
theorem sX0_feed_10 : Rn r 3 10 [l0, l1, l2, l3, l4, l5] [vI x0, vI x1] h Q ↔ if x1 ≤ x0 then Rn r 3 16 [l0, l1, l2, l3, l4, l5] [] h Q else Rn r 3 13 [l0, l1, l2, l3, l4, l5] [] h Q := Rn_if pg3 rfl rfl rfl
theorem sX0_feed_13 : Rn r 3 13 [l0, l1, l2, l3, l4, l5] [] h Q ↔ Rn r 3 15 [l0, l1, l2, l3, l4, l5] [vI (-3)] h Q := Rn_nx pg3 rfl rfl
theorem sX0_feed_15 : Rn r 3 15 [l0, l1, l2, l3, l4, l5] [vI x0] h Q ↔ Q (Sum.inl (some (vI x0))) h := Rn_end pg3 rfl rfl
theorem sX0_feed_16 : Rn r 3 16 [some (vR z), l1, l2, l3, l4, l5] [] h Q ↔ Rn r 3 17 [some (vR z), l1, l2, l3, l4, l5] [vR z] h Q := Rn_nx pg3 rfl rfl
theorem sX0_feed_17 : Rn r 3 17 [l0, some (vI x), l2, l3, l4, l5] [vR z0] h Q ↔ Rn r 3 18 [l0, some (vI x), l2, l3, l4, l5] [vI x, vR z0] h Q := Rn_nx pg3 rfl rfl
theorem sX0_feed_18 (hk : hK h a1 = 1) : Rn r 3 18 [l0, l1, l2, l3, l4, l5] [vI x0, vR (some a1)] h Q ↔ Cl r 31 [vR (some a1), vI x0] h (Kt r 3 21 [l0, l1, l2, l3, l4, l5] [] Q) := Rn_call pg3 rfl (by simp only [am_exec, am_inv, am_pop, am_lk, hk]; rfl) pg31 rfl rfl rfl
theorem sX0_feed_21 : Rn r 3 21 [some (vR z), l1, l2, l3, l4, l5] [] h Q ↔ Rn r 3 22 [some (vR z), l1, l2, l3, l4, l5] [vR z] h Q := Rn_nx pg3 rfl rfl
theorem sX0_feed_22 : Rn r 3 22 [l0, l1, some (vI x), l3, l4, l5] [vR z0] h Q ↔ Rn r 3 23 [l0, l1, some (vI x), l3, l4, l5] [vI x, vR z0] h Q := Rn_nx pg3 rfl rfl
theorem sX0_feed_23 (hk : hK h a1 = 1) : Rn r 3 23 [l0, l1, l2, l3, l4, l5] [vI x0, vR (some a1)] h Q ↔ Cl r 31 [vR (some a1), vI x0] h (Kt r 3 26 [l0, l1, l2, l3, l4, l5] [] Q) := Rn_call pg3 rfl (by simp only [am_exec, am_inv, am_pop, am_lk, hk]; rfl) pg31 rfl rfl rfl
theorem sX0_feed_26 : Rn r 3 26 [some (vR z), l1, l2, l3, l4, l5] [] h Q ↔ Rn r 3 27 [some (vR z), l1, l2, l3, l4, l5] [vR z] h Q := Rn_nx pg3 rfl rfl
theorem sX0_feed_27 : Rn r 3 27 [l0, l1, l2, some (vI x), l4, l5] [vR z0] h Q ↔ Rn r 3 28 [l0, l1, l2, some (vI x), l4, l5] [vI x, vR z0] h Q := Rn_nx pg3 rfl rfl
theorem sX0_feed_28 (hk : hK h a1 = 1) : Rn r 3 28 [l0, l1, l2, l3, l4, l5] [vI x0, vR (some a1)] h Q ↔ Cl r 31 [vR (some a1), vI x0] h (Kt r 3 31 [l0, l1, l2, l3, l4, l5] [] Q) := Rn_call pg3 rfl (by simp only [am_exec, am_inv, am_pop, am_lk, hk]; rfl) pg31 rfl rfl rfl
theorem sX0_feed_31 : Rn r 3 31 [some (vR z), l1, l2, l3, l4, l5] [] h Q ↔ Rn r 3 32 [some (vR z), l1, l2, l3, l4, l5] [vR z] h Q := Rn_nx pg3 rfl rfl
theorem sX0_feed_32 : Rn r 3 32 [l0, l1, l2, l3, some (vI x), l5] [vR z0] h Q ↔ Rn r 3 34 [l0, l1, l2, l3, some (vI x), l5] [vI x, vR z0] h Q := Rn_nx pg3 rfl rfl
theorem sX0_feed_34 (hk : hK h a1 = 1) : Rn r 3 34 [l0, l1, l2, l3, l4, l5] [vI x0, vR (some a1)] h Q ↔ Cl r 31 [vR (some a1), vI x0] h (Kt r 3 37 [l0, l1, l2, l3, l4, l5] [] Q) := Rn_call pg3 rfl (by simp only [am_exec, am_inv, am_pop, am_lk, hk]; rfl) pg31 rfl rfl rfl
theorem sX0_feed_37 : Rn r 3 37 [some (vR z), l1, l2, l3, l4, l5] [] h Q ↔ Rn r 3 38 [some (vR z), l1, l2, l3, l4, l5] [vR z] h Q := Rn_nx pg3 rfl rfl
theorem sX0_feed_38 : Rn r 3 38 [l0, l1, l2, l3, l4, some (vI x)] [vR z0] h Q ↔ Rn r 3 40 [l0, l1, l2, l3, l4, some (vI x)] [vI x, vR z0] h Q := Rn_nx pg3 rfl rfl
theorem sX0_feed_40 (hk : hK h a1 = 1) : Rn r 3 40 [l0, l1, l2, l3, l4, l5] [vI x0, vR (some a1)] h Q ↔ Cl r 31 [vR (some a1), vI x0] h (Kt r 3 43 [l0, l1, l2, l3, l4, l5] [] Q) := Rn_call pg3 rfl (by simp only [am_exec, am_inv, am_pop, am_lk, hk]; rfl) pg31 rfl rfl rfl
theorem sX0_feed_43 : Rn r 3 43 [some (vR z), l1, l2, l3, l4, l5] [] h Q ↔ Rn r 3 44 [some (vR z), l1, l2, l3, l4, l5] [vR z] h Q := Rn_nx pg3 rfl rfl
theorem sX0_feed_44 (hk : hK h a0 = 1) : Rn r 3 44 [l0, l1, l2, l3, l4, l5] [vR (some a0)] h Q ↔ Rn r 3 47 [l0, l1, l2, l3, l4, l5] [vI (hI h a0 1)] h Q := Rn_nx pg3 rfl (if_pos ⟨(hk ▸ Nat.le_refl _), (hk ▸ Nat.le_refl _)⟩)
theorem sX0_feed_47 : Rn r 3 47 [l0, l1, l2, l3, l4, l5] [vI x0] h Q ↔ Q (Sum.inl (some (vI x0))) h := Rn_end pg3 rfl rfl
/-! 4 ThrowRulesModel.feed(IIIII)I -/
theorem eX6_feed : Cl r 4 [vR z0, vI x1, vI x2, vI x3, vI x4, vI x5] h Q ↔ Rn r 4 0 [some (vR z0), some (vI x1), some (vI x2), some (vI x3), some (vI x4), some (vI x5), none, none] [] h Q := Cl_in pg4 rfl
theorem sX6_feed_0 : Rn r 4 0 [some (vR z), l1, l2, l3, l4, l5, l6, l7] [] h Q ↔ Rn r 4 1 [some (vR z), l1, l2, l3, l4, l5, l6, l7] [vR z] h Q := Rn_nx pg4 rfl rfl
theorem sX6_feed_1 (hk : hK h a0 = 15) : Rn r 4 1 [l0, l1, l2, l3, l4, l5, l6, l7] [vR (some a0)] h Q ↔ Rn r 4 4 [l0, l1, l2, l3, l4, l5, l6, l7] [vI (hI h a0 1)] h Q := Rn_nx pg4 rfl (if_pos ⟨(hk ▸ Nat.le_refl _), (hk ▸ Nat.le_refl _)⟩)
theorem sX6_feed_4 : Rn r 4 4 [l0, l1, l2, l3, l4, l5, l6, l7] [vI x0] h Q ↔ Rn r 4 6 [l0, l1, l2, l3, l4, l5, l6, l7] [vI 20, vI x0] h Q := Rn_nx pg4 rfl rfl
theorem sX6_feed_6 : Rn r 4 6 [l0, l1, l2, l3, l4, l5, l6, l7] [vI x0, vI x1] h Q ↔ Rn r 4 7 [l0, l1, l2, l3, l4, l5, l6, l7] [vI (x1 + x0)] h Q := Rn_nx pg4 rfl rfl
theorem sX6_feed_7 : Rn r 4 7 [l0, l1, l2, l3, l4, l5, l6, l7] [vI x0] h Q ↔ Rn r 4 10 [l0, l1, l2, l3, l4, l5, l6, l7] [vI 2000, vI x0] h Q := Rn_nx pg4 rfl rfl
theorem sX6_feed_10 : Rn r 4 10 [l0, l1, l2, l3, l4, l5, l6, l7] [vI x0, vI x1] h Q ↔ if x1 ≤ x0 then Rn r 4 16 [l0, l1, l2, l3, l4, l5, l6, l7] [] h Q else Rn r 4 13 [l0, l1, l2, l3, l4, l5, l6, l7] [] h Q := Rn_if pg4 rfl rfl rfl
theorem sX6_feed_13 : Rn r 4 13 [l0, l1, l2, l3, l4, l5, l6, l7] [] h Q ↔ Rn r 4 15 [l0, l1, l2, l3, l4, l5, l6, l7] [vI (-3)] h Q := Rn_nx pg4 rfl rfl
theorem sX6_feed_15 : Rn r 4 15 [l0, l1, l2, l3, l4, l5, l6, l7] [vI x0] h Q ↔ Q (Sum.inl (some (vI x0))) h := Rn_end pg4 rfl rfl
theorem sX6_feed_16 : Rn r 4 16 [l0, l1, l2, l3, l4, l5, l6, l7] [] h Q ↔ Rn r 4 17 [l0, l1, l2, l3, l4, l5, l6, l7] [vI 0] h Q := Rn_nx pg4 rfl rfl
theorem sX6_feed_17 : Rn r 4 17 [l0, l1, l2, l3, l4, l5, l6, l7] [vI x0] h Q ↔ Rn r 4 19 [l0, l1, l2, l3, l4, l5, some (vI x0), l7] [] h Q := Rn_nx pg4 rfl rfl
theorem sX6_feed_19 : Rn r 4 19 [l0, l1, l2, l3, l4, l5, some (vI x), l7] [] h Q ↔ Rn r 4 21 [l0, l1, l2, l3, l4, l5, some (vI x), l7] [vI x] h Q := Rn_nx pg4 rfl rfl
theorem sX6_feed_21 : Rn r 4 21 [l0, l1, l2, l3, l4, l5, l6, l7] [vI x0] h Q ↔ Rn r 4 23 [l0, l1, l2, l3, l4, l5, l6, l7] [vI 20, vI x0] h Q := Rn_nx pg4 rfl rfl
theorem sX6_feed_23 : Rn r 4 23 [l0, l1, l2, l3, l4, l5, l6, l7] [vI x0, vI x1] h Q ↔ if x0 ≤ x1 then Rn r 4 109 [l0, l1, l2, l3, l4, l5, l6, l7] [] h Q else Rn r 4 26 [l0, l1, l2, l3, l4, l5, l6, l7] [] h Q := Rn_if pg4 rfl rfl rfl
theorem sX6_feed_26 : Rn r 4 26 [l0, l1, l2, l3, l4, l5, some (vI x), l7] [] h Q ↔ Rn r 4 28 [l0, l1, l2, l3, l4, l5, some (vI x), l7] [vI x] h Q := Rn_nx pg4 rfl rfl
theorem sX6_feed_28 : Rn r 4 28 [l0, l1, l2, l3, l4, l5, l6, l7] [vI x0] h Q ↔ Rn r 4 29 [l0, l1, l2, l3, l4, l5, l6, l7] [vI 4, vI x0] h Q := Rn_nx pg4 rfl rfl
theorem sX6_feed_29 : Rn r 4 29 [l0, l1, l2, l3, l4, l5, l6, l7] [vI x0, vI x1] h Q ↔ if x0 ≤ x1 then Rn r 4 36 [l0, l1, l2, l3, l4, l5, l6, l7] [] h Q else Rn r 4 32 [l0, l1, l2, l3, l4, l5, l6, l7] [] h Q := Rn_if pg4 rfl rfl rfl
theorem sX6_feed_32 : Rn r 4 32 [l0, some (vI x), l2, l3, l4, l5, l6, l7] [] h Q ↔ Rn r 4 33 [l0, some (vI x), l2, l3, l4, l5, l6, l7] [vI x] h Q := Rn_nx pg4 rfl rfl
theorem sX6_feed_33 : Rn r 4 33 [l0, l1, l2, l3, l4, l5, l6, l7] [vI x0] h Q ↔ Rn r 4 72 [l0, l1, l2, l3, l4, l5, l6, l7] [vI x0] h Q := Rn_nx pg4 rfl rfl
theorem sX6_feed_36 : Rn r 4 36 [l0, l1, l2, l3, l4, l5, some (vI x), l7] [] h Q ↔ Rn r 4 38 [l0, l1, l2, l3, l4, l5, some (vI x), l7] [vI x] h Q := Rn_nx pg4 rfl rfl
theorem sX6_feed_38 : Rn r 4 38 [l0, l1, l2, l3, l4, l5, l6, l7] [vI x0] h Q ↔ Rn r 4 40 [l0, l1, l2, l3, l4, l5, l6, l7] [vI 8, vI x0] h Q := Rn_nx pg4 rfl rfl
theorem sX6_feed_40 : Rn r 4 40 [l0, l1, l2, l3, l4, l5, l6, l7] [vI x0, vI x1] h Q ↔ if x0 ≤ x1 then Rn r 4 47 [l0, l1, l2, l3, l4, l5, l6, l7] [] h Q else Rn r 4 43 [l0, l1, l2, l3, l4, l5, l6, l7] [] h Q := Rn_if pg4 rfl rfl rfl
theorem sX6_feed_43 : Rn r 4 43 [l0, l1, some (vI x), l3, l4, l5, l6, l7] [] h Q ↔ Rn r 4 44 [l0, l1, some (vI x), l3, l4, l5, l6, l7] [vI x] h Q := Rn_nx pg4 rfl rfl
theorem sX6_feed_44 : Rn r 4 44 [l0, l1, l2, l3, l4, l5, l6, l7] [vI x0] h Q ↔ Rn r 4 72 [l0, l1, l2, l3, l4, l5, l6, l7] [vI x0] h Q := Rn_nx pg4 rfl rfl
theorem sX6_feed_47 : Rn r 4 47 [l0, l1, l2, l3, l4, l5, some (vI x), l7] [] h Q ↔ Rn r 4 49 [l0, l1, l2, l3, l4, l5, some (vI x), l7] [vI x] h Q := Rn_nx pg4 rfl rfl
theorem sX6_feed_49 : Rn r 4 49 [l0, l1, l2, l3, l4, l5, l6, l7] [vI x0] h Q ↔ Rn r 4 51 [l0, l1, l2, l3, l4, l5, l6, l7] [vI 12, vI x0] h Q := Rn_nx pg4 rfl rfl
theorem sX6_feed_51 : Rn r 4 51 [l0, l1, l2, l3, l4, l5, l6, l7] [vI x0, vI x1] h Q ↔ if x0 ≤ x1 then Rn r 4 58 [l0, l1, l2, l3, l4, l5, l6, l7] [] h Q else Rn r 4 54 [l0, l1, l2, l3, l4, l5, l6, l7] [] h Q := Rn_if pg4 rfl rfl rfl
theorem sX6_feed_54 : Rn r 4 54 [l0, l1, l2, some (vI x), l4, l5, l6, l7] [] h Q ↔ Rn r 4 55 [l0, l1, l2, some (vI x), l4, l5, l6, l7] [vI x] h Q := Rn_nx pg4 rfl rfl
theorem sX6_feed_55 : Rn r 4 55 [l0, l1, l2, l3, l4, l5, l6, l7] [vI x0] h Q ↔ Rn r 4 72 [l0, l1, l2, l3, l4, l5, l6, l7] [vI x0] h Q := Rn_nx pg4 rfl rfl
theorem sX6_feed_58 : Rn r 4 58 [l0, l1, l2, l3, l4, l5, some (vI x), l7] [] h Q ↔ Rn r 4 60 [l0, l1, l2, l3, l4, l5, some (vI x), l7] [vI x] h Q := Rn_nx pg4 rfl rfl
theorem sX6_feed_60 : Rn r 4 60 [l0, l1, l2, l3, l4, l5, l6, l7] [vI x0] h Q ↔ Rn r 4 62 [l0, l1, l2, l3, l4, l5, l6, l7] [vI 16, vI x0] h Q := Rn_nx pg4 rfl rfl
theorem sX6_feed_62 : Rn r 4 62 [l0, l1, l2, l3, l4, l5, l6, l7] [vI x0, vI x1] h Q ↔ if x0 ≤ x1 then Rn r 4 70 [l0, l1, l2, l3, l4, l5, l6, l7] [] h Q else Rn r 4 65 [l0, l1, l2, l3, l4, l5, l6, l7] [] h Q := Rn_if pg4 rfl rfl rfl
theorem sX6_feed_65 : Rn r 4 65 [l0, l1, l2, l3, some (vI x), l5, l6, l7] [] h Q ↔ Rn r 4 67 [l0, l1, l2, l3, some (vI x), l5, l6, l7] [vI x] h Q := Rn_nx pg4 rfl rfl
theorem sX6_feed_67 : Rn r 4 67 [l0, l1, l2, l3, l4, l5, l6, l7] [vI x0] h Q ↔ Rn r 4 72 [l0, l1, l2, l3, l4, l5, l6, l7] [vI x0] h Q := Rn_nx pg4 rfl rfl
theorem sX6_feed_70 : Rn r 4 70 [l0, l1, l2, l3, l4, some (vI x), l6, l7] [] h Q ↔ Rn r 4 72 [l0, l1, l2, l3, l4, some (vI x), l6, l7] [vI x] h Q := Rn_nx pg4 rfl rfl
theorem sX6_feed_72 : Rn r 4 72 [l0, l1, l2, l3, l4, l5, l6, l7] [vI x0] h Q ↔ Rn r 4 74 [l0, l1, l2, l3, l4, l5, l6, some (vI x0)] [] h Q := Rn_nx pg4 rfl rfl
theorem sX6_feed_74 : Rn r 4 74 [some (vR z), l1, l2, l3, l4, l5, l6, l7] [] h Q ↔ Rn r 4 75 [some (vR z), l1, l2, l3, l4, l5, l6, l7] [vR z] h Q := Rn_nx pg4 rfl rfl
theorem sX6_feed_75 (hk : hK h a0 = 15) : Rn r 4 75 [l0, l1, l2, l3, l4, l5, l6, l7] [vR (some a0)] h Q ↔ Rn r 4 78 [l0, l1, l2, l3, l4, l5, l6, l7] [vR (hR h a0 0)] h Q := Rn_nx pg4 rfl (if_pos ⟨(hk ▸ Nat.le_refl _), (hk ▸ Nat.le_refl _)⟩)
theorem sX6_feed_78 : Rn r 4 78 [some (vR z), l1, l2, l3, l4, l5, l6, l7] [vR z0] h Q ↔ Rn r 4 79 [some (vR z), l1, l2, l3, l4, l5, l6, l7] [vR z, vR z0] h Q := Rn_nx pg4 rfl rfl
theorem sX6_feed_79 (hk : hK h a0 = 15) : Rn r 4 79 [l0, l1, l2, l3, l4, l5, l6, l7] [vR (some a0), vR z1] h Q ↔ Rn r 4 82 [l0, l1, l2, l3, l4, l5, l6, l7] [vI (hI h a0 1), vR z1] h Q := Rn_nx pg4 rfl (if_pos ⟨(hk ▸ Nat.le_refl _), (hk ▸ Nat.le_refl _)⟩)
theorem sX6_feed_82 : Rn r 4 82 [l0, l1, l2, l3, l4, l5, some (vI x), l7] [vI x0, vR z1] h Q ↔ Rn r 4 84 [l0, l1, l2, l3, l4, l5, some (vI x), l7] [vI x, vI x0, vR z1] h Q := Rn_nx pg4 rfl rfl
theorem sX6_feed_84 : Rn r 4 84 [l0, l1, l2, l3, l4, l5, l6, l7] [vI x0, vI x1, vR z2] h Q ↔ Rn r 4 85 [l0, l1, l2, l3, l4, l5, l6, l7] [vI (x1 + x0), vR z2] h Q := Rn_nx pg4 rfl rfl
theorem sX6_feed_85 : Rn r 4 85 [l0, l1, l2, l3, l4, l5, l6, some (vI x)] [vI x0, vR z1] h Q ↔ Rn r 4 87 [l0, l1, l2, l3, l4, l5, l6, some (vI x)] [vI x, vI x0, vR z1] h Q := Rn_nx pg4 rfl rfl
theorem sX6_feed_87 : Rn r 4 87 [l0, l1, l2, l3, l4, l5, l6, l7] [vI x0, vI x1, vR z2] h Q ↔ Rn r 4 89 [l0, l1, l2, l3, l4, l5, l6, l7] [vI 24, vI x0, vI x1, vR z2] h Q := Rn_nx pg4 rfl rfl
theorem sX6_feed_89 : Rn r 4 89 [l0, l1, l2, l3, l4, l5, l6, l7] [vI x0, vI x1, vI x2, vR z3] h Q ↔ Rn r 4 91 [l0, l1, l2, l3, l4, l5, l6, l7] [vI 8, vI x0, vI x1, vI x2, vR z3] h Q := Rn_nx pg4 rfl rfl
theorem sX6_feed_91 : Rn r 4 91 [l0, l1, l2, l3, l4, l5, some (vI x), l7] [vI x0, vI x1, vI x2, vI x3, vR z4] h Q ↔ Rn r 4 93 [l0, l1, l2, l3, l4, l5, some (vI x), l7] [vI x, vI x0, vI x1, vI x2, vI x3, vR z4] h Q := Rn_nx pg4 rfl rfl
theorem sX6_feed_93 : Rn r 4 93 [l0, l1, l2, l3, l4, l5, l6, l7] [vI x0, vI x1, vI x2, vI x3, vI x4, vR z5] h Q ↔ Rn r 4 94 [l0, l1, l2, l3, l4, l5, l6, l7] [vI 4, vI x0, vI x1, vI x2, vI x3, vI x4, vR z5] h Q := Rn_nx pg4 rfl rfl
theorem sX6_feed_94 (hz : ¬ x0 = 0) : Rn r 4 94 [l0, l1, l2, l3, l4, l5, l6, l7] [vI x0, vI x1, vI x2, vI x3, vI x4, vI x5, vR z6] h Q ↔ Rn r 4 95 [l0, l1, l2, l3, l4, l5, l6, l7] [vI (x1 - x1 / x0 * x0), vI x2, vI x3, vI x4, vI x5, vR z6] h Q := Rn_nx pg4 rfl (if_neg hz)
theorem sX6_feed_95 : Rn r 4 95 [l0, l1, l2, l3, l4, l5, l6, l7] [vI x0, vI x1, vI x2, vI x3, vI x4, vR z5] h Q ↔ Rn r 4 96 [l0, l1, l2, l3, l4, l5, l6, l7] [vI (x1 * x0), vI x2, vI x3, vI x4, vR z5] h Q := Rn_nx pg4 rfl rfl
theorem sX6_feed_96 : Rn r 4 96 [l0, l1, l2, l3, l4, l5, l6, l7] [vI x0, vI x1, vI x2, vI x3, vR z4] h Q ↔ Rn r 4 97 [l0, l1, l2, l3, l4, l5, l6, l7] [vI (x1 - x0), vI x2, vI x3, vR z4] h Q := Rn_nx pg4 rfl rfl
theorem sX6_feed_97 : Rn r 4 97 [l0, l1, l2, l3, l4, l5, l6, l7] [vI x0, vI x1, vI x2, vR z3] h Q ↔ Rn r 4 98 [l0, l1, l2, l3, l4, l5, l6, l7] [vI (x1 >>> (x0 &&& 31)), vI x2, vR z3] h Q := Rn_nx pg4 rfl rfl
theorem sX6_feed_98 : Rn r 4 98 [l0, l1, l2, l3, l4, l5, l6, l7] [vI x0, vI x1, vR z2] h Q ↔ Rn r 4 101 [l0, l1, l2, l3, l4, l5, l6, l7] [vI 255, vI x0, vI x1, vR z2] h Q := Rn_nx pg4 rfl rfl
theorem sX6_feed_101 : Rn r 4 101 [l0, l1, l2, l3, l4, l5, l6, l7] [vI x0, vI x1, vI x2, vR z3] h Q ↔ Rn r 4 102 [l0, l1, l2, l3, l4, l5, l6, l7] [vI (x1 &&& x0), vI x2, vR z3] h Q := Rn_nx pg4 rfl rfl
theorem sX6_feed_102 (hk : hK h a2 = 40) (hx : ¬ (x1 < 0 ∨ hL h a2 ≤ x1.toNatClampNeg)) : Rn r 4 102 [l0, l1, l2, l3, l4, l5, l6, l7] [vI x0, vI x1, vR (some a2)] h Q ↔ Rn r 4 103 [l0, l1, l2, l3, l4, l5, l6, l7] [] (putI h a2 x1.toNatClampNeg x0) Q := Rn_nx pg4 rfl ((if_pos hk).trans (if_neg hx))
theorem sX6_feed_103 : Rn r 4 103 [l0, l1, l2, l3, l4, l5, some (vI x), l7] [] h Q ↔ Rn r 4 106 [l0, l1, l2, l3, l4, l5, some (vI (x + 1)), l7] [] h Q := Rn_nx pg4 rfl rfl
theorem sX6_feed_106 : Rn r 4 106 [l0, l1, l2, l3, l4, l5, l6, l7] [] h Q ↔ Rn r 4 19 [l0, l1, l2, l3, l4, l5, l6, l7] [] h Q := Rn_nx pg4 rfl rfl
theorem sX6_feed_109 : Rn r 4 109 [some (vR z), l1, l2, l3, l4, l5, l6, l7] [] h Q ↔ Rn r 4 110 [some (vR z), l1, l2, l3, l4, l5, l6, l7] [vR z] h Q := Rn_nx pg4 rfl rfl
theorem sX6_feed_110 : Rn r 4 110 [l0, l1, l2, l3, l4, l5, l6, l7] [vR z0] h Q ↔ Rn r 4 111 [l0, l1, l2, l3, l4, l5, l6, l7] [vR z0, vR z0] h Q := Rn_nx pg4 rfl rfl
theorem sX6_feed_111 (hk : hK h a0 = 15) : Rn r 4 111 [l0, l1, l2, l3, l4, l5, l6, l7] [vR (some a0), vR z1] h Q ↔ Rn r 4 114 [l0, l1, l2, l3, l4, l5, l6, l7] [vI (hI h a0 1), vR z1] h Q := Rn_nx pg4 rfl (if_pos ⟨(hk ▸ Nat.le_refl _), (hk ▸ Nat.le_refl _)⟩)
theorem sX6_feed_114 : Rn r 4 114 [l0, l1, l2, l3, l4, l5, l6, l7] [vI x0, vR z1] h Q ↔ Rn r 4 116 [l0, l1, l2, l3, l4, l5, l6, l7] [vI 20, vI x0, vR z1] h Q := Rn_nx pg4 rfl rfl
theorem sX6_feed_116 : Rn r 4 116 [l0, l1, l2, l3, l4, l5, l6, l7] [vI x0, vI x1, vR z2] h Q ↔ Rn r 4 117 [l0, l1, l2, l3, l4, l5, l6, l7] [vI (x1 + x0), vR z2] h Q := Rn_nx pg4 rfl rfl
theorem sX6_feed_117 (hk : hK h a1 = 15) : Rn r 4 117 [l0, l1, l2, l3, l4, l5, l6, l7] [vI x0, vR (some a1)] h Q ↔ Rn r 4 120 [l0, l1, l2, l3, l4, l5, l6, l7] [] (putI h a1 1 x0) Q := Rn_nx pg4 rfl ((if_pos ⟨(hk ▸ Nat.le_refl _), (hk ▸ Nat.le_refl _)⟩).trans rfl)
theorem sX6_feed_120 : Rn r 4 120 [some (vR z), l1, l2, l3, l4, l5, l6, l7] [] h Q ↔ Rn r 4 121 [some (vR z), l1, l2, l3, l4, l5, l6, l7] [vR z] h Q := Rn_nx pg4 rfl rfl
theorem sX6_feed_121 (hk : hK h a0 = 15) : Rn r 4 121 [l0, l1, l2, l3, l4, l5, l6, l7] [vR (some a0)] h Q ↔ Rn r 4 124 [l0, l1, l2, l3, l4, l5, l6, l7] [vI (hI h a0 1)] h Q := Rn_nx pg4 rfl (if_pos ⟨(hk ▸ Nat.le_refl _), (hk ▸ Nat.le_refl _)⟩)
theorem sX6_feed_124 : Rn r 4 124 [l0, l1, l2, l3, l4, l5, l6, l7] [vI x0] h Q ↔ Q (Sum.inl (some (vI x0))) h := Rn_end pg4 rfl rfl
/-! 5 ThrowRules.cut(I)I -/
theorem eX0_cut : Cl r 5 [vR z0, vI x1] h Q ↔ Rn r 5 0 [some (vR z0), some (vI x1), none] [] h Q := Cl_in pg5 rfl
theorem sX0_cut_0 : Rn r 5 0 [l0, some (vI x), l2] [] h Q ↔ Rn r 5 1 [l0, some (vI x), l2] [vI x] h Q := Rn_nx pg5 rfl rfl
theorem sX0_cut_1 : Rn r 5 1 [l0, l1, l2] [vI x0] h Q ↔ Rn r 5 2 [l0, l1, l2] [vI 0, vI x0] h Q := Rn_nx pg5 rfl rfl
theorem sX0_cut_2 : Rn r 5 2 [some (vR z), l1, l2] [vI x0, vI x1] h Q ↔ Rn r 5 3 [some (vR z), l1, l2] [vR z, vI x0, vI x1] h Q := Rn_nx pg5 rfl rfl
theorem sX0_cut_3 (hk : hK h a0 = 1) : Rn r 5 3 [l0, l1, l2] [vR (some a0), vI x1, vI x2] h Q ↔ Rn r 5 6 [l0, l1, l2] [vI (hI h a0 1), vI x1, vI x2] h Q := Rn_nx pg5 rfl (if_pos ⟨(hk ▸ Nat.le_refl _), (hk ▸ Nat.le_refl _)⟩)
theorem sX0_cut_6 : Rn r 5 6 [l0, l1, l2] [vI x0, vI x1, vI x2] h Q ↔ Cl r 32 [vI x2, vI x1, vI x0] h (Kt r 5 9 [l0, l1, l2] [] Q) := Rn_call pg5 rfl rfl pg32 rfl rfl rfl
theorem sX0_cut_9 : Rn r 5 9 [l0, l1, l2] [vI x0] h Q ↔ if x0 ≠ 0 then Rn r 5 15 [l0, l1, l2] [] h Q else Rn r 5 12 [l0, l1, l2] [] h Q := Rn_if pg5 rfl rfl rfl
theorem sX0_cut_12 : Rn r 5 12 [l0, l1, l2] [] h Q ↔ Rn r 5 14 [l0, l1, l2] [vI (-3)] h Q := Rn_nx pg5 rfl rfl
theorem sX0_cut_14 : Rn r 5 14 [l0, l1, l2] [vI x0] h Q ↔ Q (Sum.inl (some (vI x0))) h := Rn_end pg5 rfl rfl
theorem sX0_cut_15 : Rn r 5 15 [some (vR z), l1, l2] [] h Q ↔ Rn r 5 16 [some (vR z), l1, l2] [vR z] h Q := Rn_nx pg5 rfl rfl
theorem sX0_cut_16 (hk : hK h a0 = 1) : Rn r 5 16 [l0, l1, l2] [vR (some a0)] h Q ↔ Rn r 5 19 [l0, l1, l2] [vI (hI h a0 1)] h Q := Rn_nx pg5 rfl (if_pos ⟨(hk ▸ Nat.le_refl _), (hk ▸ Nat.le_refl _)⟩)
theorem sX0_cut_19 : Rn r 5 19 [l0, some (vI x), l2] [vI x0] h Q ↔ Rn r 5 20 [l0, some (vI x), l2] [vI x, vI x0] h Q := Rn_nx pg5 rfl rfl
theorem sX0_cut_20 : Rn r 5 20 [l0, l1, l2] [vI x0, vI x1] h Q ↔ Rn r 5 21 [l0, l1, l2] [vI (x1 - x0)] h Q := Rn_nx pg5 rfl rfl
theorem sX0_cut_21 : Rn r 5 21 [l0, l1, l2] [vI x0] h Q ↔ Rn r 5 22 [l0, l1, some (vI x0)] [] h Q := Rn_nx pg5 rfl rfl
theorem sX0_cut_22 : Rn r 5 22 [some (vR z), l1, l2] [] h Q ↔ Rn r 5 23 [some (vR z), l1, l2] [vR z] h Q := Rn_nx pg5 rfl rfl
theorem sX0_cut_23 : Rn r 5 23 [l0, some (vI x), l2] [vR z0] h Q ↔ Rn r 5 24 [l0, some (vI x), l2] [vI x, vR z0] h Q := Rn_nx pg5 rfl rfl
theorem sX0_cut_24 (hk : hK h a1 = 1) : Rn r 5 24 [l0, l1, l2] [vI x0, vR (some a1)] h Q ↔ Rn r 5 27 [l0, l1, l2] [] (putI h a1 1 x0) Q := Rn_nx pg5 rfl ((if_pos ⟨(hk ▸ Nat.le_refl _), (hk ▸ Nat.le_refl _)⟩).trans rfl)
theorem sX0_cut_27 : Rn r 5 27 [l0, l1, some (vI x)] [] h Q ↔ Rn r 5 28 [l0, l1, some (vI x)] [vI x] h Q := Rn_nx pg5 rfl rfl
theorem sX0_cut_28 : Rn r 5 28 [l0, l1, l2] [vI x0] h Q ↔ Q (Sum.inl (some (vI x0))) h := Rn_end pg5 rfl rfl
/-! 6 ThrowRulesModel.cut(I)I -/
theorem eX6_cut : Cl r 6 [vR z0, vI x1] h Q ↔ Rn r 6 0 [some (vR z0), some (vI x1), none] [] h Q := Cl_in pg6 rfl
theorem sX6_cut_0 : Rn r 6 0 [l0, some (vI x), l2] [] h Q ↔ Rn r 6 1 [l0, some (vI x), l2] [vI x] h Q := Rn_nx pg6 rfl rfl
theorem sX6_cut_1 : Rn r 6 1 [l0, l1, l2] [vI x0] h Q ↔ if x0 < 0 then Rn r 6 12 [l0, l1, l2] [] h Q else Rn r 6 4 [l0, l1, l2] [] h Q := Rn_if pg6 rfl rfl rfl
theorem sX6_cut_4 : Rn r 6 4 [l0, some (vI x), l2] [] h Q ↔ Rn r 6 5 [l0, some (vI x), l2] [vI x] h Q := Rn_nx pg6 rfl rfl
theorem sX6_cut_5 : Rn r 6 5 [some (vR z), l1, l2] [vI x0] h Q ↔ Rn r 6 6 [some (vR z), l1, l2] [vR z, vI x0] h Q := Rn_nx pg6 rfl rfl
theorem sX6_cut_6 (hk : hK h a0 = 15) : Rn r 6 6 [l0, l1, l2] [vR (some a0), vI x1] h Q ↔ Rn r 6 9 [l0, l1, l2] [vI (hI h a0 1), vI x1] h Q := Rn_nx pg6 rfl (if_pos ⟨(hk ▸ Nat.le_refl _), (hk ▸ Nat.le_refl _)⟩)
theorem sX6_cut_9 : Rn r 6 9 [l0, l1, l2] [vI x0, vI x1] h Q ↔ if x1 ≤ x0 then Rn r 6 15 [l0, l1, l2] [] h Q else Rn r 6 12 [l0, l1, l2] [] h Q := Rn_if pg6 rfl rfl rfl
theorem sX6_cut_12 : Rn r 6 12 [l0, l1, l2] [] h Q ↔ Rn r 6 14 [l0, l1, l2] [vI (-3)] h Q := Rn_nx pg6 rfl rfl
theorem sX6_cut_14 : Rn r 6 14 [l0, l1, l2] [vI x0] h Q ↔ Q (Sum.inl (some (vI x0))) h := Rn_end pg6 rfl rfl
theorem sX6_cut_15 : Rn r 6 15 [some (vR z), l1, l2] [] h Q ↔ Rn r 6 16 [some (vR z), l1, l2] [vR z] h Q := Rn_nx pg6 rfl rfl
theorem sX6_cut_16 (hk : hK h a0 = 15) : Rn r 6 16 [l0, l1, l2] [vR (some a0)] h Q ↔ Rn r 6 19 [l0, l1, l2] [vI (hI h a0 1)] h Q := Rn_nx pg6 rfl (if_pos ⟨(hk ▸ Nat.le_refl _), (hk ▸ Nat.le_refl _)⟩)
theorem sX6_cut_19 : Rn r 6 19 [l0, some (vI x), l2] [vI x0] h Q ↔ Rn r 6 20 [l0, some (vI x), l2] [vI x, vI x0] h Q := Rn_nx pg6 rfl rfl
theorem sX6_cut_20 : Rn r 6 20 [l0, l1, l2] [vI x0, vI x1] h Q ↔ Rn r 6 21 [l0, l1, l2] [vI (x1 - x0)] h Q := Rn_nx pg6 rfl rfl
theorem sX6_cut_21 : Rn r 6 21 [l0, l1, l2] [vI x0] h Q ↔ Rn r 6 22 [l0, l1, some (vI x0)] [] h Q := Rn_nx pg6 rfl rfl
theorem sX6_cut_22 : Rn r 6 22 [some (vR z), l1, l2] [] h Q ↔ Rn r 6 23 [some (vR z), l1, l2] [vR z] h Q := Rn_nx pg6 rfl rfl
theorem sX6_cut_23 : Rn r 6 23 [l0, some (vI x), l2] [vR z0] h Q ↔ Rn r 6 24 [l0, some (vI x), l2] [vI x, vR z0] h Q := Rn_nx pg6 rfl rfl
theorem sX6_cut_24 (hk : hK h a1 = 15) : Rn r 6 24 [l0, l1, l2] [vI x0, vR (some a1)] h Q ↔ Rn r 6 27 [l0, l1, l2] [] (putI h a1 1 x0) Q := Rn_nx pg6 rfl ((if_pos ⟨(hk ▸ Nat.le_refl _), (hk ▸ Nat.le_refl _)⟩).trans rfl)
theorem sX6_cut_27 : Rn r 6 27 [l0, l1, some (vI x)] [] h Q ↔ Rn r 6 28 [l0, l1, some (vI x)] [vI x] h Q := Rn_nx pg6 rfl rfl
theorem sX6_cut_28 : Rn r 6 28 [l0, l1, l2] [vI x0] h Q ↔ Q (Sum.inl (some (vI x0))) h := Rn_end pg6 rfl rfl
/-! 7 ThrowRules.read()I -/
theorem eX0_read : Cl r 7 [vR z0] h Q ↔ Rn r 7 0 [some (vR z0), none, none] [] h Q := Cl_in pg7 rfl
theorem sX0_read_0 : Rn r 7 0 [some (vR z), l1, l2] [] h Q ↔ Rn r 7 1 [some (vR z), l1, l2] [vR z] h Q := Rn_nx pg7 rfl rfl
theorem sX0_read_1 (hk : hK h a0 = 1) : Rn r 7 1 [l0, l1, l2] [vR (some a0)] h Q ↔ Rn r 7 4 [l0, l1, l2] [vI (hI h a0 1)] h Q := Rn_nx pg7 rfl (if_pos ⟨(hk ▸ Nat.le_refl _), (hk ▸ Nat.le_refl _)⟩)
theorem sX0_read_4 : Rn r 7 4 [l0, l1, l2] [vI x0] h Q ↔ Rn r 7 5 [l0, some (vI x0), l2] [] h Q := Rn_nx pg7 rfl rfl
theorem sX0_read_5 : Rn r 7 5 [some (vR z), l1, l2] [] h Q ↔ Rn r 7 6 [some (vR z), l1, l2] [vR z] h Q := Rn_nx pg7 rfl rfl
theorem sX0_read_6 : Rn r 7 6 [l0, l1, l2] [vR z0] h Q ↔ Rn r 7 7 [l0, l1, l2] [vI 0, vR z0] h Q := Rn_nx pg7 rfl rfl
theorem sX0_read_7 (hk : hK h a1 = 1) : Rn r 7 7 [l0, l1, l2] [vI x0, vR (some a1)] h Q ↔ Rn r 7 10 [l0, l1, l2] [] (putI h a1 1 x0) Q := Rn_nx pg7 rfl ((if_pos ⟨(hk ▸ Nat.le_refl _), (hk ▸ Nat.le_refl _)⟩).trans rfl)
theorem sX0_read_10 : Rn r 7 10 [some (vR z), l1, l2] [] h Q ↔ Rn r 7 11 [some (vR z), l1, l2] [vR z] h Q := Rn_nx pg7 rfl rfl
theorem sX0_read_11 : Rn r 7 11 [some (vR z), l1, l2] [vR z0] h Q ↔ Rn r 7 12 [some (vR z), l1, l2] [vR z, vR z0] h Q := Rn_nx pg7 rfl rfl
theorem sX0_read_12 (hk : hK h a0 = 1) : Rn r 7 12 [l0, l1, l2] [vR (some a0), vR z1] h Q ↔ Rn r 7 15 [l0, l1, l2] [vR (hR h a0 2), vR z1] h Q := Rn_nx pg7 rfl (if_pos ⟨(hk ▸ Nat.le_refl _), (hk ▸ Nat.le_refl _)⟩)
theorem sX0_read_15 : Rn r 7 15 [some (vR z), l1, l2] [vR z0, vR z1] h Q ↔ Rn r 7 16 [some (vR z), l1, l2] [vR z, vR z0, vR z1] h Q := Rn_nx pg7 rfl rfl
theorem sX0_read_16 (hk : hK h a0 = 1) : Rn r 7 16 [l0, l1, l2] [vR (some a0), vR z1, vR z2] h Q ↔ Rn r 7 19 [l0, l1, l2] [vR (hR h a0 0), vR z1, vR z2] h Q := Rn_nx pg7 rfl (if_pos ⟨(hk ▸ Nat.le_refl _), (hk ▸ Nat.le_refl _)⟩)
theorem sX0_read_19 : Rn r 7 19 [l0, some (vI x), l2] [vR z0, vR z1, vR z2] h Q ↔ Rn r 7 20 [l0, some (vI x), l2] [vI x, vR z0, vR z1, vR z2] h Q := Rn_nx pg7 rfl rfl
theorem sX0_read_20 (hk : hK h a2 = 2) : Rn r 7 20 [l0, l1, l2] [vI x0, vR z1, vR (some a2), vR z3] h Q ↔ Cl r 33 [vR (some a2), vR z1, vI x0] h (KtH r 7 23 29 [l0, l1, l2] [vR z3] Q) := Rn_callH pg7 rfl (by simp only [am_exec, am_inv, am_pop, am_lk, hk]; rfl) pg33 rfl rfl rfl
theorem sX0_read_23 (hk : hK h a1 = 1) : Rn r 7 23 [l0, l1, l2] [vR z0, vR (some a1)] h Q ↔ Rn r 7 26 [l0, l1, l2] [] (putR h a1 3 z0) Q := Rn_nx pg7 rfl ((if_pos ⟨(hk ▸ Nat.le_refl _), (hk ▸ Nat.le_refl _)⟩).trans rfl)
theorem sX0_read_26 : Rn r 7 26 [l0, l1, l2] [] h Q ↔ Rn r 7 38 [l0, l1, l2] [] h Q := Rn_nx pg7 rfl rfl
theorem sX0_read_29 : Rn r 7 29 [l0, l1, l2] [vR z0] h Q ↔ Rn r 7 30 [l0, l1, some (vR z0)] [] h Q := Rn_nx pg7 rfl rfl
theorem sX0_read_30 : Rn r 7 30 [l0, l1, l2] [] h Q ↔ Rn r 7 32 [l0, l1, l2] [vI (-10)] h Q := Rn_nx pg7 rfl rfl
theorem sX0_read_32 : Rn r 7 32 [l0, l1, some (vR z)] [vI x0] h Q ↔ Rn r 7 33 [l0, l1, some (vR z)] [vR z, vI x0] h Q := Rn_nx pg7 rfl rfl
theorem sX0_read_33 (hk : hK h a0 = 3) : Rn r 7 33 [l0, l1, l2] [vR (some a0), vI x1] h Q ↔ Rn r 7 36 [l0, l1, l2] [vI (hI h a0 6), vI x1] h Q := Rn_nx pg7 rfl (if_pos ⟨(hk ▸ Nat.le_refl _), (hk ▸ Nat.le_refl _)⟩)
theorem sX0_read_36 : Rn r 7 36 [l0, l1, l2] [vI x0, vI x1] h Q ↔ Rn r 7 37 [l0, l1, l2] [vI (x1 - x0)] h Q := Rn_nx pg7 rfl rfl
theorem sX0_read_37 : Rn r 7 37 [l0, l1, l2] [vI x0] h Q ↔ Q (Sum.inl (some (vI x0))) h := Rn_end pg7 rfl rfl
theorem sX0_read_38 : Rn r 7 38 [some (vR z), l1, l2] [] h Q ↔ Rn r 7 39 [some (vR z), l1, l2] [vR z] h Q := Rn_nx pg7 rfl rfl
theorem sX0_read_39 (hk : hK h a0 = 1) : Rn r 7 39 [l0, l1, l2] [vR (some a0)] h Q ↔ Rn r 7 42 [l0, l1, l2] [vR (hR h a0 3)] h Q := Rn_nx pg7 rfl (if_pos ⟨(hk ▸ Nat.le_refl _), (hk ▸ Nat.le_refl _)⟩)
theorem sX0_read_42 (hk : hK h a0 = 5) : Rn r 7 42 [l0, l1, l2] [vR (some a0)] h Q ↔ Rn r 7 45 [l0, l1, l2] [vR (hR h a0 2)] h Q := Rn_nx pg7 rfl (if_pos ⟨(hk ▸ Nat.le_refl _), (hk ▸ Nat.le_refl _)⟩)
theorem sX0_read_45 (hk : hK h a0 = 4) : Rn r 7 45 [l0, l1, l2] [vR (some a0)] h Q ↔ Cl r 34 [vR (some a0)] h (Kt r 7 48 [l0, l1, l2] [] Q) := Rn_call pg7 rfl (by simp only [am_exec, am_inv, am_pop, am_lk, hk]; rfl) pg34 rfl rfl rfl
theorem sX0_read_48 : Rn r 7 48 [l0, l1, l2] [vI x0] h Q ↔ Q (Sum.inl (some (vI x0))) h := Rn_end pg7 rfl rfl
/-! 8 ThrowRulesModel.read()I -/
theorem eX6_read : Cl r 8 [vR z0] h Q ↔ Rn r 8 0 [some (vR z0)] [] h Q := Cl_in pg8 rfl
theorem sX6_read_0 : Rn r 8 0 [some (vR z)] [] h Q ↔ Rn r 8 1 [some (vR z)] [vR z] h Q := Rn_nx pg8 rfl rfl
theorem sX6_read_1 : Rn r 8 1 [some (vR z)] [vR z0] h Q ↔ Rn r 8 2 [some (vR z)] [vR z, vR z0] h Q := Rn_nx pg8 rfl rfl
theorem sX6_read_2 (hk : hK h a0 = 15) : Rn r 8 2 [l0] [vR (some a0), vR z1] h Q ↔ Rn r 8 5 [l0] [vI (hI h a0 1), vR z1] h Q := Rn_nx pg8 rfl (if_pos ⟨(hk ▸ Nat.le_refl _), (hk ▸ Nat.le_refl _)⟩)
theorem sX6_read_5 (hk : hK h a1 = 15) : Rn r 8 5 [l0] [vI x0, vR (some a1)] h Q ↔ Rn r 8 8 [l0] [] (putI h a1 48 x0) Q := Rn_nx pg8 rfl ((if_pos ⟨(hk ▸ Nat.le_refl _), (hk ▸ Nat.le_refl _)⟩).trans rfl)
theorem sX6_read_8 : Rn r 8 8 [some (vR z)] [] h Q ↔ Rn r 8 9 [some (vR z)] [vR z] h Q := Rn_nx pg8 rfl rfl
theorem sX6_read_9 : Rn r 8 9 [l0] [vR z0] h Q ↔ Rn r 8 10 [l0] [vI 0, vR z0] h Q := Rn_nx pg8 rfl rfl
theorem sX6_read_10 (hk : hK h a1 = 15) : Rn r 8 10 [l0] [vI x0, vR (some a1)] h Q ↔ Rn r 8 13 [l0] [] (putI h a1 1 x0) Q := Rn_nx pg8 rfl ((if_pos ⟨(hk ▸ Nat.le_refl _), (hk ▸ Nat.le_refl _)⟩).trans rfl)
theorem sX6_read_13 : Rn r 8 13 [some (vR z)] [] h Q ↔ Rn r 8 14 [some (vR z)] [vR z] h Q := Rn_nx pg8 rfl rfl
theorem sX6_read_14 : Rn r 8 14 [l0] [vR z0] h Q ↔ Rn r 8 15 [l0] [vI 1, vR z0] h Q := Rn_nx pg8 rfl rfl
theorem sX6_read_15 (hk : hK h a1 = 15) : Rn r 8 15 [l0] [vI x0, vR (some a1)] h Q ↔ Cl r 30 [vR (some a1), vI x0] h (Kt r 8 18 [l0] [] Q) := Rn_call pg8 rfl (by simp only [am_exec, am_inv, am_pop, am_lk, hk]; rfl) pg30 rfl rfl rfl
theorem sX6_read_18 : Rn r 8 18 [some (vR z)] [] h Q ↔ Rn r 8 19 [some (vR z)] [vR z] h Q := Rn_nx pg8 rfl rfl
theorem sX6_read_19 : Rn r 8 19 [l0] [vR z0] h Q ↔ Rn r 8 20 [l0] [vI 0, vR z0] h Q := Rn_nx pg8 rfl rfl
theorem sX6_read_20 (hk : hK h a1 = 15) : Rn r 8 20 [l0] [vI x0, vR (some a1)] h Q ↔ Rn r 8 23 [l0] [] (putI h a1 47 x0) Q := Rn_nx pg8 rfl ((if_pos ⟨(hk ▸ Nat.le_refl _), (hk ▸ Nat.le_refl _)⟩).trans rfl)
theorem sX6_read_23 : Rn r 8 23 [some (vR z)] [] h Q ↔ Rn r 8 24 [some (vR z)] [vR z] h Q := Rn_nx pg8 rfl rfl
theorem sX6_read_24 : Rn r 8 24 [l0] [vR z0] h Q ↔ Rn r 8 25 [l0] [vI 0, vR z0] h Q := Rn_nx pg8 rfl rfl
theorem sX6_read_25 (hk : hK h a1 = 15) : Rn r 8 25 [l0] [vI x0, vR (some a1)] h Q ↔ Rn r 8 28 [l0] [] (putI h a1 55 x0) Q := Rn_nx pg8 rfl ((if_pos ⟨(hk ▸ Nat.le_refl _), (hk ▸ Nat.le_refl _)⟩).trans rfl)
theorem sX6_read_28 : Rn r 8 28 [some (vR z)] [] h Q ↔ Rn r 8 29 [some (vR z)] [vR z] h Q := Rn_nx pg8 rfl rfl
theorem sX6_read_29 : Rn r 8 29 [l0] [vR z0] h Q ↔ Rn r 8 30 [l0] [vI (-1), vR z0] h Q := Rn_nx pg8 rfl rfl
theorem sX6_read_30 (hk : hK h a1 = 15) : Rn r 8 30 [l0] [vI x0, vR (some a1)] h Q ↔ Rn r 8 33 [l0] [] (putI h a1 52 x0) Q := Rn_nx pg8 rfl ((if_pos ⟨(hk ▸ Nat.le_refl _), (hk ▸ Nat.le_refl _)⟩).trans rfl)
theorem sX6_read_33 : Rn r 8 33 [some (vR z)] [] h Q ↔ Rn r 8 34 [some (vR z)] [vR z] h Q := Rn_nx pg8 rfl rfl
theorem sX6_read_34 (hk : hK h a0 = 15) : Rn r 8 34 [l0] [vR (some a0)] h Q ↔ Cl r 35 [vR (some a0)] h (Kt r 8 37 [l0] [] Q) := Rn_call pg8 rfl (by simp only [am_exec, am_inv, am_pop, am_lk, hk]; rfl) pg35 rfl rfl rfl
theorem sX6_read_37 : Rn r 8 37 [some (vR z)] [] h Q ↔ Rn r 8 38 [some (vR z)] [vR z] h Q := Rn_nx pg8 rfl rfl
theorem sX6_read_38 (hk : hK h a0 = 15) : Rn r 8 38 [l0] [vR (some a0)] h Q ↔ Rn r 8 41 [l0] [vI (hI h a0 52)] h Q := Rn_nx pg8 rfl (if_pos ⟨(hk ▸ Nat.le_refl _), (hk ▸ Nat.le_refl _)⟩)
theorem sX6_read_41 : Rn r 8 41 [l0] [vI x0] h Q ↔ Rn r 8 42 [l0] [vI (-1), vI x0] h Q := Rn_nx pg8 rfl rfl
theorem sX6_read_42 : Rn r 8 42 [l0] [vI x0, vI x1] h Q ↔ if x1 ≠ x0 then Rn r 8 132 [l0] [] h Q else Rn r 8 45 [l0] [] h Q := Rn_if pg8 rfl rfl rfl
theorem sX6_read_45 : Rn r 8 45 [some (vR z)] [] h Q ↔ Rn r 8 46 [some (vR z)] [vR z] h Q := Rn_nx pg8 rfl rfl
theorem sX6_read_46 (hk : hK h a0 = 15) : Rn r 8 46 [l0] [vR (some a0)] h Q ↔ Rn r 8 49 [l0] [vI (hI h a0 55)] h Q := Rn_nx pg8 rfl (if_pos ⟨(hk ▸ Nat.le_refl _), (hk ▸ Nat.le_refl _)⟩)
theorem sX6_read_49 : Rn r 8 49 [l0] [vI x0] h Q ↔ if 0 < x0 then Rn r 8 60 [l0] [] h Q else Rn r 8 52 [l0] [] h Q := Rn_if pg8 rfl rfl rfl
theorem sX6_read_52 : Rn r 8 52 [some (vR z)] [] h Q ↔ Rn r 8 53 [some (vR z)] [vR z] h Q := Rn_nx pg8 rfl rfl
theorem sX6_read_53 (hk : hK h a0 = 15) : Rn r 8 53 [l0] [vR (some a0)] h Q ↔ Rn r 8 56 [l0] [vI (hI h a0 51)] h Q := Rn_nx pg8 rfl (if_pos ⟨(hk ▸ Nat.le_refl _), (hk ▸ Nat.le_refl _)⟩)
theorem sX6_read_56 : Rn r 8 56 [l0] [vI x0] h Q ↔ Rn r 8 57 [l0] [vI (-1), vI x0] h Q := Rn_nx pg8 rfl rfl
theorem sX6_read_57 : Rn r 8 57 [l0] [vI x0, vI x1] h Q ↔ if x1 = x0 then Rn r 8 132 [l0] [] h Q else Rn r 8 60 [l0] [] h Q := Rn_if pg8 rfl rfl rfl
theorem sX6_read_60 : Rn r 8 60 [some (vR z)] [] h Q ↔ Rn r 8 61 [some (vR z)] [vR z] h Q := Rn_nx pg8 rfl rfl
theorem sX6_read_61 (hk : hK h a0 = 15) : Rn r 8 61 [l0] [vR (some a0)] h Q ↔ Rn r 8 64 [l0] [vI (hI h a0 55)] h Q := Rn_nx pg8 rfl (if_pos ⟨(hk ▸ Nat.le_refl _), (hk ▸ Nat.le_refl _)⟩)
theorem sX6_read_64 : Rn r 8 64 [l0] [vI x0] h Q ↔ if x0 ≠ 0 then Rn r 8 109 [l0] [] h Q else Rn r 8 67 [l0] [] h Q := Rn_if pg8 rfl rfl rfl
theorem sX6_read_67 : Rn r 8 67 [some (vR z)] [] h Q ↔ Rn r 8 68 [some (vR z)] [vR z] h Q := Rn_nx pg8 rfl rfl
theorem sX6_read_68 : Rn r 8 68 [l0] [vR z0] h Q ↔ Rn r 8 71 [l0] [vL 1802071652, vR z0] h Q := Rn_nx pg8 rfl rfl
theorem sX6_read_71 (hk : hK h a1 = 15) : Rn r 8 71 [l0] [vL y0, vR (some a1)] h Q ↔ Cl r 36 [vR (some a1), vL y0] h (Kt r 8 74 [l0] [] Q) := Rn_call pg8 rfl (by simp only [am_exec, am_inv, am_pop, am_lk, hk]; rfl) pg36 rfl rfl rfl
theorem sX6_read_74 : Rn r 8 74 [l0] [vI x0] h Q ↔ if x0 = 0 then Rn r 8 84 [l0] [] h Q else Rn r 8 77 [l0] [] h Q := Rn_if pg8 rfl rfl rfl
theorem sX6_read_77 : Rn r 8 77 [some (vR z)] [] h Q ↔ Rn r 8 78 [some (vR z)] [vR z] h Q := Rn_nx pg8 rfl rfl
theorem sX6_read_78 (hk : hK h a0 = 15) : Rn r 8 78 [l0] [vR (some a0)] h Q ↔ Cl r 37 [vR (some a0)] h (Kt r 8 81 [l0] [] Q) := Rn_call pg8 rfl (by simp only [am_exec, am_inv, am_pop, am_lk, hk]; rfl) pg37 rfl rfl rfl
theorem sX6_read_81 : Rn r 8 81 [l0] [] h Q ↔ Rn r 8 37 [l0] [] h Q := Rn_nx pg8 rfl rfl
theorem sX6_read_84 : Rn r 8 84 [some (vR z)] [] h Q ↔ Rn r 8 85 [some (vR z)] [vR z] h Q := Rn_nx pg8 rfl rfl
theorem sX6_read_85 : Rn r 8 85 [l0] [vR z0] h Q ↔ Rn r 8 88 [l0] [vL 7823737, vR z0] h Q := Rn_nx pg8 rfl rfl
theorem sX6_read_88 (hk : hK h a1 = 15) : Rn r 8 88 [l0] [vL y0, vR (some a1)] h Q ↔ Cl r 36 [vR (some a1), vL y0] h (Kt r 8 91 [l0] [] Q) := Rn_call pg8 rfl (by simp only [am_exec, am_inv, am_pop, am_lk, hk]; rfl) pg36 rfl rfl rfl
theorem sX6_read_91 : Rn r 8 91 [l0] [vI x0] h Q ↔ if x0 = 0 then Rn r 8 101 [l0] [] h Q else Rn r 8 94 [l0] [] h Q := Rn_if pg8 rfl rfl rfl
theorem sX6_read_94 : Rn r 8 94 [some (vR z)] [] h Q ↔ Rn r 8 95 [some (vR z)] [vR z] h Q := Rn_nx pg8 rfl rfl
theorem sX6_read_95 (hk : hK h a0 = 15) : Rn r 8 95 [l0] [vR (some a0)] h Q ↔ Cl r 38 [vR (some a0)] h (Kt r 8 98 [l0] [] Q) := Rn_call pg8 rfl (by simp only [am_exec, am_inv, am_pop, am_lk, hk]; rfl) pg38 rfl rfl rfl
theorem sX6_read_98 : Rn r 8 98 [l0] [] h Q ↔ Rn r 8 37 [l0] [] h Q := Rn_nx pg8 rfl rfl
theorem sX6_read_101 : Rn r 8 101 [some (vR z)] [] h Q ↔ Rn r 8 102 [some (vR z)] [vR z] h Q := Rn_nx pg8 rfl rfl
theorem sX6_read_102 (hk : hK h a0 = 15) : Rn r 8 102 [l0] [vR (some a0)] h Q ↔ Cl r 39 [vR (some a0)] h (Kt r 8 105 [l0] [] Q) := Rn_call pg8 rfl (by simp only [am_exec, am_inv, am_pop, am_lk, hk]; rfl) pg39 rfl rfl rfl
theorem sX6_read_105 : Rn r 8 105 [l0] [vI x0] h Q ↔ Rn r 8 106 [l0] [] h Q := Rn_nx pg8 rfl rfl
theorem sX6_read_106 : Rn r 8 106 [l0] [] h Q ↔ Rn r 8 37 [l0] [] h Q := Rn_nx pg8 rfl rfl
theorem sX6_read_109 : Rn r 8 109 [some (vR z)] [] h Q ↔ Rn r 8 110 [some (vR z)] [vR z] h Q := Rn_nx pg8 rfl rfl
theorem sX6_read_110 (hk : hK h a0 = 15) : Rn r 8 110 [l0] [vR (some a0)] h Q ↔ Rn r 8 113 [l0] [vI (hI h a0 51)] h Q := Rn_nx pg8 rfl (if_pos ⟨(hk ▸ Nat.le_refl _), (hk ▸ Nat.le_refl _)⟩)
theorem sX6_read_113 : Rn r 8 113 [l0] [vI x0] h Q ↔ Rn r 8 115 [l0] [vI 125, vI x0] h Q := Rn_nx pg8 rfl rfl
theorem sX6_read_115 : Rn r 8 115 [l0] [vI x0, vI x1] h Q ↔ if x1 ≠ x0 then Rn r 8 125 [l0] [] h Q else Rn r 8 118 [l0] [] h Q := Rn_if pg8 rfl rfl rfl
theorem sX6_read_118 : Rn r 8 118 [some (vR z)] [] h Q ↔ Rn r 8 119 [some (vR z)] [vR z] h Q := Rn_nx pg8 rfl rfl
theorem sX6_read_119 (hk : hK h a0 = 15) : Rn r 8 119 [l0] [vR (some a0)] h Q ↔ Cl r 40 [vR (some a0)] h (Kt r 8 122 [l0] [] Q) := Rn_call pg8 rfl (by simp only [am_exec, am_inv, am_pop, am_lk, hk]; rfl) pg40 rfl rfl rfl
theorem sX6_read_122 : Rn r 8 122 [l0] [] h Q ↔ Rn r 8 37 [l0] [] h Q := Rn_nx pg8 rfl rfl
theorem sX6_read_125 : Rn r 8 125 [some (vR z)] [] h Q ↔ Rn r 8 126 [some (vR z)] [vR z] h Q := Rn_nx pg8 rfl rfl
theorem sX6_read_126 (hk : hK h a0 = 15) : Rn r 8 126 [l0] [vR (some a0)] h Q ↔ Cl r 41 [vR (some a0)] h (Kt r 8 129 [l0] [] Q) := Rn_call pg8 rfl (by simp only [am_exec, am_inv, am_pop, am_lk, hk]; rfl) pg41 rfl rfl rfl
theorem sX6_read_129 : Rn r 8 129 [l0] [] h Q ↔ Rn r 8 37 [l0] [] h Q := Rn_nx pg8 rfl rfl
theorem sX6_read_132 : Rn r 8 132 [some (vR z)] [] h Q ↔ Rn r 8 133 [some (vR z)] [vR z] h Q := Rn_nx pg8 rfl rfl
theorem sX6_read_133 (hk : hK h a0 = 15) : Rn r 8 133 [l0] [vR (some a0)] h Q ↔ Rn r 8 136 [l0] [vI (hI h a0 52)] h Q := Rn_nx pg8 rfl (if_pos ⟨(hk ▸ Nat.le_refl _), (hk ▸ Nat.le_refl _)⟩)
theorem sX6_read_136 : Rn r 8 136 [l0] [vI x0] h Q ↔ Rn r 8 137 [l0] [vI (-1), vI x0] h Q := Rn_nx pg8 rfl rfl
theorem sX6_read_137 : Rn r 8 137 [l0] [vI x0, vI x1] h Q ↔ if x1 = x0 then Rn r 8 158 [l0] [] h Q else Rn r 8 140 [l0] [] h Q := Rn_if pg8 rfl rfl rfl
theorem sX6_read_140 : Rn r 8 140 [some (vR z)] [] h Q ↔ Rn r 8 141 [some (vR z)] [vR z] h Q := Rn_nx pg8 rfl rfl
theorem sX6_read_141 : Rn r 8 141 [l0] [vR z0] h Q ↔ Rn r 8 142 [l0] [vI 1, vR z0] h Q := Rn_nx pg8 rfl rfl
theorem sX6_read_142 : Rn r 8 142 [some (vR z)] [vI x0, vR z1] h Q ↔ Rn r 8 143 [some (vR z)] [vR z, vI x0, vR z1] h Q := Rn_nx pg8 rfl rfl
theorem sX6_read_143 (hk : hK h a0 = 15) : Rn r 8 143 [l0] [vR (some a0), vI x1, vR z2] h Q ↔ Rn r 8 146 [l0] [vI (hI h a0 2), vI x1, vR z2] h Q := Rn_nx pg8 rfl (if_pos ⟨(hk ▸ Nat.le_refl _), (hk ▸ Nat.le_refl _)⟩)
theorem sX6_read_146 : Rn r 8 146 [l0] [vI x0, vI x1, vR z2] h Q ↔ Rn r 8 147 [l0] [vI (x1 - x0), vR z2] h Q := Rn_nx pg8 rfl rfl
theorem sX6_read_147 (hk : hK h a1 = 15) : Rn r 8 147 [l0] [vI x0, vR (some a1)] h Q ↔ Rn r 8 150 [l0] [] (putI h a1 2 x0) Q := Rn_nx pg8 rfl ((if_pos ⟨(hk ▸ Nat.le_refl _), (hk ▸ Nat.le_refl _)⟩).trans rfl)
theorem sX6_read_150 : Rn r 8 150 [l0] [] h Q ↔ Rn r 8 152 [l0] [vI (-10)] h Q := Rn_nx pg8 rfl rfl
theorem sX6_read_152 : Rn r 8 152 [some (vR z)] [vI x0] h Q ↔ Rn r 8 153 [some (vR z)] [vR z, vI x0] h Q := Rn_nx pg8 rfl rfl
theorem sX6_read_153 (hk : hK h a0 = 15) : Rn r 8 153 [l0] [vR (some a0), vI x1] h Q ↔ Rn r 8 156 [l0] [vI (hI h a0 52), vI x1] h Q := Rn_nx pg8 rfl (if_pos ⟨(hk ▸ Nat.le_refl _), (hk ▸ Nat.le_refl _)⟩)
theorem sX6_read_156 : Rn r 8 156 [l0] [vI x0, vI x1] h Q ↔ Rn r 8 157 [l0] [vI (x1 - x0)] h Q := Rn_nx pg8 rfl rfl
theorem sX6_read_157 : Rn r 8 157 [l0] [vI x0] h Q ↔ Q (Sum.inl (some (vI x0))) h := Rn_end pg8 rfl rfl
theorem sX6_read_158 : Rn r 8 158 [some (vR z)] [] h Q ↔ Rn r 8 159 [some (vR z)] [vR z] h Q := Rn_nx pg8 rfl rfl
theorem sX6_read_159 (hk : hK h a0 = 15) : Rn r 8 159 [l0] [vR (some a0)] h Q ↔ Cl r 42 [vR (some a0)] h (Kt r 8 162 [l0] [] Q) := Rn_call pg8 rfl (by simp only [am_exec, am_inv, am_pop, am_lk, hk]; rfl) pg42 rfl rfl rfl
theorem sX6_read_162 : Rn r 8 162 [some (vR z)] [] h Q ↔ Rn r 8 163 [some (vR z)] [vR z] h Q := Rn_nx pg8 rfl rfl
theorem sX6_read_163 (hk : hK h a0 = 15) : Rn r 8 163 [l0] [vR (some a0)] h Q ↔ Rn r 8 166 [l0] [vR (hR h a0 9)] h Q := Rn_nx pg8 rfl (if_pos ⟨(hk ▸ Nat.le_refl _), (hk ▸ Nat.le_refl _)⟩)
theorem sX6_read_166 : Rn r 8 166 [some (vR z)] [vR z0] h Q ↔ Rn r 8 167 [some (vR z)] [vR z, vR z0] h Q := Rn_nx pg8 rfl rfl
theorem sX6_read_167 (hk : hK h a0 = 15) : Rn r 8 167 [l0] [vR (some a0), vR z1] h Q ↔ Rn r 8 170 [l0] [vI (hI h a0 2), vR z1] h Q := Rn_nx pg8 rfl (if_pos ⟨(hk ▸ Nat.le_refl _), (hk ▸ Nat.le_refl _)⟩)
theorem sX6_read_170 (hk : 40 ≤ hK h a1) (hk2 : hK h a1 ≤ 41) (hx : ¬ (x0 < 0 ∨ hL h a1 ≤ x0.toNatClampNeg)) : Rn r 8 170 [l0] [vI x0, vR (some a1)] h Q ↔ Rn r 8 171 [l0] [vI (hI h a1 x0.toNatClampNeg)] h Q := Rn_nx pg8 rfl ((if_pos ⟨hk, hk2⟩).trans (if_neg hx))
theorem sX6_read_171 : Rn r 8 171 [l0] [vI x0] h Q ↔ Q (Sum.inl (some (vI x0))) h := Rn_end pg8 rfl rfl
/-! 9 ThrowRules.told(I)I -/
theorem eX0_told : Cl r 9 [vR z0, vI x1] h Q ↔ Rn r 9 0 [some (vR z0), some (vI x1)] [] h Q := Cl_in pg9 rfl
theorem sX0_told_0 : Rn r 9 0 [l0, some (vI x)] [] h Q ↔ Rn r 9 1 [l0, some (vI x)] [vI x] h Q := Rn_nx pg9 rfl rfl
theorem sX0_told_1 : Rn r 9 1 [l0, l1] [vI x0] h Q ↔ Rn r 9 (if x0 = 0 then 36 else if x0 = 1 then 47 else if x0 = 2 then 58 else if x0 = 3 then 69 else if x0 = 4 then 80 else 85) [l0, l1] [] h Q := Rn_nx pg9 rfl rfl
theorem sX0_told_36 : Rn r 9 36 [some (vR z), l1] [] h Q ↔ Rn r 9 37 [some (vR z), l1] [vR z] h Q := Rn_nx pg9 rfl rfl
theorem sX0_told_37 (hk : hK h a0 = 1) : Rn r 9 37 [l0, l1] [vR (some a0)] h Q ↔ Rn r 9 40 [l0, l1] [vR (hR h a0 3)] h Q := Rn_nx pg9 rfl (if_pos ⟨(hk ▸ Nat.le_refl _), (hk ▸ Nat.le_refl _)⟩)
theorem sX0_told_40 (hk : hK h a0 = 5) : Rn r 9 40 [l0, l1] [vR (some a0)] h Q ↔ Rn r 9 43 [l0, l1] [vR (hR h a0 0)] h Q := Rn_nx pg9 rfl (if_pos ⟨(hk ▸ Nat.le_refl _), (hk ▸ Nat.le_refl _)⟩)
theorem sX0_told_43 (hk : hK h a0 = 4) : Rn r 9 43 [l0, l1] [vR (some a0)] h Q ↔ Cl r 34 [vR (some a0)] h (Kt r 9 46 [l0, l1] [] Q) := Rn_call pg9 rfl (by simp only [am_exec, am_inv, am_pop, am_lk, hk]; rfl) pg34 rfl rfl rfl
theorem sX0_told_46 : Rn r 9 46 [l0, l1] [vI x0] h Q ↔ Q (Sum.inl (some (vI x0))) h := Rn_end pg9 rfl rfl
theorem sX0_told_47 : Rn r 9 47 [some (vR z), l1] [] h Q ↔ Rn r 9 48 [some (vR z), l1] [vR z] h Q := Rn_nx pg9 rfl rfl
theorem sX0_told_48 (hk : hK h a0 = 1) : Rn r 9 48 [l0, l1] [vR (some a0)] h Q ↔ Rn r 9 51 [l0, l1] [vR (hR h a0 3)] h Q := Rn_nx pg9 rfl (if_pos ⟨(hk ▸ Nat.le_refl _), (hk ▸ Nat.le_refl _)⟩)
theorem sX0_told_51 (hk : hK h a0 = 5) : Rn r 9 51 [l0, l1] [vR (some a0)] h Q ↔ Rn r 9 54 [l0, l1] [vR (hR h a0 2)] h Q := Rn_nx pg9 rfl (if_pos ⟨(hk ▸ Nat.le_refl _), (hk ▸ Nat.le_refl _)⟩)
theorem sX0_told_54 (hk : hK h a0 = 4) : Rn r 9 54 [l0, l1] [vR (some a0)] h Q ↔ Cl r 34 [vR (some a0)] h (Kt r 9 57 [l0, l1] [] Q) := Rn_call pg9 rfl (by simp only [am_exec, am_inv, am_pop, am_lk, hk]; rfl) pg34 rfl rfl rfl
theorem sX0_told_57 : Rn r 9 57 [l0, l1] [vI x0] h Q ↔ Q (Sum.inl (some (vI x0))) h := Rn_end pg9 rfl rfl
theorem sX0_told_58 : Rn r 9 58 [some (vR z), l1] [] h Q ↔ Rn r 9 59 [some (vR z), l1] [vR z] h Q := Rn_nx pg9 rfl rfl
theorem sX0_told_59 (hk : hK h a0 = 1) : Rn r 9 59 [l0, l1] [vR (some a0)] h Q ↔ Rn r 9 62 [l0, l1] [vR (hR h a0 3)] h Q := Rn_nx pg9 rfl (if_pos ⟨(hk ▸ Nat.le_refl _), (hk ▸ Nat.le_refl _)⟩)
theorem sX0_told_62 (hk : hK h a0 = 5) : Rn r 9 62 [l0, l1] [vR (some a0)] h Q ↔ Rn r 9 65 [l0, l1] [vR (hR h a0 4)] h Q := Rn_nx pg9 rfl (if_pos ⟨(hk ▸ Nat.le_refl _), (hk ▸ Nat.le_refl _)⟩)
theorem sX0_told_65 (hk : hK h a0 = 4) : Rn r 9 65 [l0, l1] [vR (some a0)] h Q ↔ Cl r 34 [vR (some a0)] h (Kt r 9 68 [l0, l1] [] Q) := Rn_call pg9 rfl (by simp only [am_exec, am_inv, am_pop, am_lk, hk]; rfl) pg34 rfl rfl rfl
theorem sX0_told_68 : Rn r 9 68 [l0, l1] [vI x0] h Q ↔ Q (Sum.inl (some (vI x0))) h := Rn_end pg9 rfl rfl
theorem sX0_told_69 : Rn r 9 69 [some (vR z), l1] [] h Q ↔ Rn r 9 70 [some (vR z), l1] [vR z] h Q := Rn_nx pg9 rfl rfl
theorem sX0_told_70 (hk : hK h a0 = 1) : Rn r 9 70 [l0, l1] [vR (some a0)] h Q ↔ Rn r 9 73 [l0, l1] [vR (hR h a0 3)] h Q := Rn_nx pg9 rfl (if_pos ⟨(hk ▸ Nat.le_refl _), (hk ▸ Nat.le_refl _)⟩)
theorem sX0_told_73 (hk : hK h a0 = 5) : Rn r 9 73 [l0, l1] [vR (some a0)] h Q ↔ Rn r 9 76 [l0, l1] [vR (hR h a0 5)] h Q := Rn_nx pg9 rfl (if_pos ⟨(hk ▸ Nat.le_refl _), (hk ▸ Nat.le_refl _)⟩)
theorem sX0_told_76 (hk : hK h a0 = 4) : Rn r 9 76 [l0, l1] [vR (some a0)] h Q ↔ Cl r 34 [vR (some a0)] h (Kt r 9 79 [l0, l1] [] Q) := Rn_call pg9 rfl (by simp only [am_exec, am_inv, am_pop, am_lk, hk]; rfl) pg34 rfl rfl rfl
theorem sX0_told_79 : Rn r 9 79 [l0, l1] [vI x0] h Q ↔ Q (Sum.inl (some (vI x0))) h := Rn_end pg9 rfl rfl
theorem sX0_told_80 : Rn r 9 80 [some (vR z), l1] [] h Q ↔ Rn r 9 81 [some (vR z), l1] [vR z] h Q := Rn_nx pg9 rfl rfl
theorem sX0_told_81 (hk : hK h a0 = 1) : Rn r 9 81 [l0, l1] [vR (some a0)] h Q ↔ Rn r 9 84 [l0, l1] [vI (hI h a0 1)] h Q := Rn_nx pg9 rfl (if_pos ⟨(hk ▸ Nat.le_refl _), (hk ▸ Nat.le_refl _)⟩)
theorem sX0_told_84 : Rn r 9 84 [l0, l1] [vI x0] h Q ↔ Q (Sum.inl (some (vI x0))) h := Rn_end pg9 rfl rfl
theorem sX0_told_85 : Rn r 9 85 [l0, l1] [] h Q ↔ Rn r 9 87 [l0, l1] [vI (-3)] h Q := Rn_nx pg9 rfl rfl
theorem sX0_told_87 : Rn r 9 87 [l0, l1] [vI x0] h Q ↔ Q (Sum.inl (some (vI x0))) h := Rn_end pg9 rfl rfl
/-! 10 ThrowRulesModel.told(I)I -/
theorem eX6_told : Cl r 10 [vR z0, vI x1] h Q ↔ Rn r 10 0 [some (vR z0), some (vI x1)] [] h Q := Cl_in pg10 rfl
theorem sX6_told_0 : Rn r 10 0 [l0, some (vI x)] [] h Q ↔ Rn r 10 1 [l0, some (vI x)] [vI x] h Q := Rn_nx pg10 rfl rfl
theorem sX6_told_1 : Rn r 10 1 [l0, l1] [vI x0] h Q ↔ if x0 ≠ 0 then Rn r 10 16 [l0, l1] [] h Q else Rn r 10 4 [l0, l1] [] h Q := Rn_if pg10 rfl rfl rfl
theorem sX6_told_4 : Rn r 10 4 [some (vR z), l1] [] h Q ↔ Rn r 10 5 [some (vR z), l1] [vR z] h Q := Rn_nx pg10 rfl rfl
theorem sX6_told_5 (hk : hK h a0 = 15) : Rn r 10 5 [l0, l1] [vR (some a0)] h Q ↔ Rn r 10 8 [l0, l1] [vR (hR h a0 3)] h Q := Rn_nx pg10 rfl (if_pos ⟨(hk ▸ Nat.le_refl _), (hk ▸ Nat.le_refl _)⟩)
theorem sX6_told_8 : Rn r 10 8 [some (vR z), l1] [vR z0] h Q ↔ Rn r 10 9 [some (vR z), l1] [vR z, vR z0] h Q := Rn_nx pg10 rfl rfl
theorem sX6_told_9 (hk : hK h a0 = 15) : Rn r 10 9 [l0, l1] [vR (some a0), vR z1] h Q ↔ Rn r 10 12 [l0, l1] [vI (hI h a0 2), vR z1] h Q := Rn_nx pg10 rfl (if_pos ⟨(hk ▸ Nat.le_refl _), (hk ▸ Nat.le_refl _)⟩)
theorem sX6_told_12 (hk : 40 ≤ hK h a1) (hk2 : hK h a1 ≤ 41) (hx : ¬ (x0 < 0 ∨ hL h a1 ≤ x0.toNatClampNeg)) : Rn r 10 12 [l0, l1] [vI x0, vR (some a1)] h Q ↔ Rn r 10 13 [l0, l1] [vI (hI h a1 x0.toNatClampNeg)] h Q := Rn_nx pg10 rfl ((if_pos ⟨hk, hk2⟩).trans (if_neg hx))
theorem sX6_told_13 : Rn r 10 13 [l0, l1] [vI x0] h Q ↔ Rn r 10 76 [l0, l1] [vI x0] h Q := Rn_nx pg10 rfl rfl
theorem sX6_told_16 : Rn r 10 16 [l0, some (vI x)] [] h Q ↔ Rn r 10 17 [l0, some (vI x)] [vI x] h Q := Rn_nx pg10 rfl rfl
theorem sX6_told_17 : Rn r 10 17 [l0, l1] [vI x0] h Q ↔ Rn r 10 18 [l0, l1] [vI 1, vI x0] h Q := Rn_nx pg10 rfl rfl
theorem sX6_told_18 : Rn r 10 18 [l0, l1] [vI x0, vI x1] h Q ↔ if x1 ≠ x0 then Rn r 10 33 [l0, l1] [] h Q else Rn r 10 21 [l0, l1] [] h Q := Rn_if pg10 rfl rfl rfl
theorem sX6_told_21 : Rn r 10 21 [some (vR z), l1] [] h Q ↔ Rn r 10 22 [some (vR z), l1] [vR z] h Q := Rn_nx pg10 rfl rfl
theorem sX6_told_22 (hk : hK h a0 = 15) : Rn r 10 22 [l0, l1] [vR (some a0)] h Q ↔ Rn r 10 25 [l0, l1] [vR (hR h a0 9)] h Q := Rn_nx pg10 rfl (if_pos ⟨(hk ▸ Nat.le_refl _), (hk ▸ Nat.le_refl _)⟩)
theorem sX6_told_25 : Rn r 10 25 [some (vR z), l1] [vR z0] h Q ↔ Rn r 10 26 [some (vR z), l1] [vR z, vR z0] h Q := Rn_nx pg10 rfl rfl
theorem sX6_told_26 (hk : hK h a0 = 15) : Rn r 10 26 [l0, l1] [vR (some a0), vR z1] h Q ↔ Rn r 10 29 [l0, l1] [vI (hI h a0 2), vR z1] h Q := Rn_nx pg10 rfl (if_pos ⟨(hk ▸ Nat.le_refl _), (hk ▸ Nat.le_refl _)⟩)
theorem sX6_told_29 (hk : 40 ≤ hK h a1) (hk2 : hK h a1 ≤ 41) (hx : ¬ (x0 < 0 ∨ hL h a1 ≤ x0.toNatClampNeg)) : Rn r 10 29 [l0, l1] [vI x0, vR (some a1)] h Q ↔ Rn r 10 30 [l0, l1] [vI (hI h a1 x0.toNatClampNeg)] h Q := Rn_nx pg10 rfl ((if_pos ⟨hk, hk2⟩).trans (if_neg hx))
theorem sX6_told_30 : Rn r 10 30 [l0, l1] [vI x0] h Q ↔ Rn r 10 76 [l0, l1] [vI x0] h Q := Rn_nx pg10 rfl rfl
theorem sX6_told_33 : Rn r 10 33 [l0, some (vI x)] [] h Q ↔ Rn r 10 34 [l0, some (vI x)] [vI x] h Q := Rn_nx pg10 rfl rfl
theorem sX6_told_34 : Rn r 10 34 [l0, l1] [vI x0] h Q ↔ Rn r 10 35 [l0, l1] [vI 2, vI x0] h Q := Rn_nx pg10 rfl rfl
theorem sX6_told_35 : Rn r 10 35 [l0, l1] [vI x0, vI x1] h Q ↔ if x1 ≠ x0 then Rn r 10 50 [l0, l1] [] h Q else Rn r 10 38 [l0, l1] [] h Q := Rn_if pg10 rfl rfl rfl
theorem sX6_told_38 : Rn r 10 38 [some (vR z), l1] [] h Q ↔ Rn r 10 39 [some (vR z), l1] [vR z] h Q := Rn_nx pg10 rfl rfl
theorem sX6_told_39 (hk : hK h a0 = 15) : Rn r 10 39 [l0, l1] [vR (some a0)] h Q ↔ Rn r 10 42 [l0, l1] [vR (hR h a0 19)] h Q := Rn_nx pg10 rfl (if_pos ⟨(hk ▸ Nat.le_refl _), (hk ▸ Nat.le_refl _)⟩)
theorem sX6_told_42 : Rn r 10 42 [some (vR z), l1] [vR z0] h Q ↔ Rn r 10 43 [some (vR z), l1] [vR z, vR z0] h Q := Rn_nx pg10 rfl rfl
theorem sX6_told_43 (hk : hK h a0 = 15) : Rn r 10 43 [l0, l1] [vR (some a0), vR z1] h Q ↔ Rn r 10 46 [l0, l1] [vI (hI h a0 2), vR z1] h Q := Rn_nx pg10 rfl (if_pos ⟨(hk ▸ Nat.le_refl _), (hk ▸ Nat.le_refl _)⟩)
theorem sX6_told_46 (hk : 40 ≤ hK h a1) (hk2 : hK h a1 ≤ 41) (hx : ¬ (x0 < 0 ∨ hL h a1 ≤ x0.toNatClampNeg)) : Rn r 10 46 [l0, l1] [vI x0, vR (some a1)] h Q ↔ Rn r 10 47 [l0, l1] [vI (hI h a1 x0.toNatClampNeg)] h Q := Rn_nx pg10 rfl ((if_pos ⟨hk, hk2⟩).trans (if_neg hx))
theorem sX6_told_47 : Rn r 10 47 [l0, l1] [vI x0] h Q ↔ Rn r 10 76 [l0, l1] [vI x0] h Q := Rn_nx pg10 rfl rfl
theorem sX6_told_50 : Rn r 10 50 [l0, some (vI x)] [] h Q ↔ Rn r 10 51 [l0, some (vI x)] [vI x] h Q := Rn_nx pg10 rfl rfl
theorem sX6_told_51 : Rn r 10 51 [l0, l1] [vI x0] h Q ↔ Rn r 10 52 [l0, l1] [vI 3, vI x0] h Q := Rn_nx pg10 rfl rfl
theorem sX6_told_52 : Rn r 10 52 [l0, l1] [vI x0, vI x1] h Q ↔ if x1 ≠ x0 then Rn r 10 62 [l0, l1] [] h Q else Rn r 10 55 [l0, l1] [] h Q := Rn_if pg10 rfl rfl rfl
theorem sX6_told_55 : Rn r 10 55 [some (vR z), l1] [] h Q ↔ Rn r 10 56 [some (vR z), l1] [vR z] h Q := Rn_nx pg10 rfl rfl
theorem sX6_told_56 (hk : hK h a0 = 15) : Rn r 10 56 [l0, l1] [vR (some a0)] h Q ↔ Rn r 10 59 [l0, l1] [vI (hI h a0 60)] h Q := Rn_nx pg10 rfl (if_pos ⟨(hk ▸ Nat.le_refl _), (hk ▸ Nat.le_refl _)⟩)
theorem sX6_told_59 : Rn r 10 59 [l0, l1] [vI x0] h Q ↔ Rn r 10 76 [l0, l1] [vI x0] h Q := Rn_nx pg10 rfl rfl
theorem sX6_told_62 : Rn r 10 62 [l0, some (vI x)] [] h Q ↔ Rn r 10 63 [l0, some (vI x)] [vI x] h Q := Rn_nx pg10 rfl rfl
theorem sX6_told_63 : Rn r 10 63 [l0, l1] [vI x0] h Q ↔ Rn r 10 64 [l0, l1] [vI 4, vI x0] h Q := Rn_nx pg10 rfl rfl
theorem sX6_told_64 : Rn r 10 64 [l0, l1] [vI x0, vI x1] h Q ↔ if x1 ≠ x0 then Rn r 10 74 [l0, l1] [] h Q else Rn r 10 67 [l0, l1] [] h Q := Rn_if pg10 rfl rfl rfl
theorem sX6_told_67 : Rn r 10 67 [some (vR z), l1] [] h Q ↔ Rn r 10 68 [some (vR z), l1] [vR z] h Q := Rn_nx pg10 rfl rfl
theorem sX6_told_68 (hk : hK h a0 = 15) : Rn r 10 68 [l0, l1] [vR (some a0)] h Q ↔ Rn r 10 71 [l0, l1] [vI (hI h a0 1)] h Q := Rn_nx pg10 rfl (if_pos ⟨(hk ▸ Nat.le_refl _), (hk ▸ Nat.le_refl _)⟩)
theorem sX6_told_71 : Rn r 10 71 [l0, l1] [vI x0] h Q ↔ Rn r 10 76 [l0, l1] [vI x0] h Q := Rn_nx pg10 rfl rfl
theorem sX6_told_74 : Rn r 10 74 [l0, l1] [] h Q ↔ Rn r 10 76 [l0, l1] [vI (-3)] h Q := Rn_nx pg10 rfl rfl
theorem sX6_told_76 : Rn r 10 76 [l0, l1] [vI x0] h Q ↔ Q (Sum.inl (some (vI x0))) h := Rn_end pg10 rfl rfl
/-! 11 ThrowRules.mistake(II)I -/
theorem eX0_mistake : Cl r 11 [vR z0, vI x1, vI x2] h Q ↔ Rn r 11 0 [some (vR z0), some (vI x1), some (vI x2), none] [] h Q := Cl_in pg11 rfl
theorem sX0_mistake_0 : Rn r 11 0 [l0, some (vI x), l2, l3] [] h Q ↔ Rn r 11 1 [l0, some (vI x), l2, l3] [vI x] h Q := Rn_nx pg11 rfl rfl
theorem sX0_mistake_1 : Rn r 11 1 [l0, l1, l2, l3] [vI x0] h Q ↔ Rn r 11 2 [l0, l1, l2, l3] [vI 0, vI x0] h Q := Rn_nx pg11 rfl rfl
theorem sX0_mistake_2 : Rn r 11 2 [some (vR z), l1, l2, l3] [vI x0, vI x1] h Q ↔ Rn r 11 3 [some (vR z), l1, l2, l3] [vR z, vI x0, vI x1] h Q := Rn_nx pg11 rfl rfl
theorem sX0_mistake_3 (hk : hK h a0 = 1) : Rn r 11 3 [l0, l1, l2, l3] [vR (some a0), vI x1, vI x2] h Q ↔ Rn r 11 6 [l0, l1, l2, l3] [vR (hR h a0 3), vI x1, vI x2] h Q := Rn_nx pg11 rfl (if_pos ⟨(hk ▸ Nat.le_refl _), (hk ▸ Nat.le_refl _)⟩)
theorem sX0_mistake_6 (hk : hK h a0 = 5) : Rn r 11 6 [l0, l1, l2, l3] [vR (some a0), vI x1, vI x2] h Q ↔ Rn r 11 9 [l0, l1, l2, l3] [vR (hR h a0 5), vI x1, vI x2] h Q := Rn_nx pg11 rfl (if_pos ⟨(hk ▸ Nat.le_refl _), (hk ▸ Nat.le_refl _)⟩)
theorem sX0_mistake_9 (hk : hK h a0 = 4) : Rn r 11 9 [l0, l1, l2, l3] [vR (some a0), vI x1, vI x2] h Q ↔ Cl r 34 [vR (some a0)] h (Kt r 11 12 [l0, l1, l2, l3] [vI x1, vI x2] Q) := Rn_call pg11 rfl (by simp only [am_exec, am_inv, am_pop, am_lk, hk]; rfl) pg34 rfl rfl rfl
theorem sX0_mistake_12 : Rn r 11 12 [l0, l1, l2, l3] [vI x0, vI x1, vI x2] h Q ↔ Rn r 11 13 [l0, l1, l2, l3] [vI 1, vI x0, vI x1, vI x2] h Q := Rn_nx pg11 rfl rfl
theorem sX0_mistake_13 : Rn r 11 13 [l0, l1, l2, l3] [vI x0, vI x1, vI x2, vI x3] h Q ↔ Rn r 11 14 [l0, l1, l2, l3] [vI (x1 - x0), vI x2, vI x3] h Q := Rn_nx pg11 rfl rfl
theorem sX0_mistake_14 : Rn r 11 14 [l0, l1, l2, l3] [vI x0, vI x1, vI x2] h Q ↔ Cl r 32 [vI x2, vI x1, vI x0] h (Kt r 11 17 [l0, l1, l2, l3] [] Q) := Rn_call pg11 rfl rfl pg32 rfl rfl rfl
theorem sX0_mistake_17 : Rn r 11 17 [l0, l1, l2, l3] [vI x0] h Q ↔ if x0 = 0 then Rn r 11 29 [l0, l1, l2, l3] [] h Q else Rn r 11 20 [l0, l1, l2, l3] [] h Q := Rn_if pg11 rfl rfl rfl
theorem sX0_mistake_20 : Rn r 11 20 [l0, l1, some (vI x), l3] [] h Q ↔ Rn r 11 21 [l0, l1, some (vI x), l3] [vI x] h Q := Rn_nx pg11 rfl rfl
theorem sX0_mistake_21 : Rn r 11 21 [l0, l1, l2, l3] [vI x0] h Q ↔ Rn r 11 22 [l0, l1, l2, l3] [vI 0, vI x0] h Q := Rn_nx pg11 rfl rfl
theorem sX0_mistake_22 : Rn r 11 22 [l0, l1, l2, l3] [vI x0, vI x1] h Q ↔ Rn r 11 23 [l0, l1, l2, l3] [vI 2, vI x0, vI x1] h Q := Rn_nx pg11 rfl rfl
theorem sX0_mistake_23 : Rn r 11 23 [l0, l1, l2, l3] [vI x0, vI x1, vI x2] h Q ↔ Cl r 32 [vI x2, vI x1, vI x0] h (Kt r 11 26 [l0, l1, l2, l3] [] Q) := Rn_call pg11 rfl rfl pg32 rfl rfl rfl
theorem sX0_mistake_26 : Rn r 11 26 [l0, l1, l2, l3] [vI x0] h Q ↔ if x0 ≠ 0 then Rn r 11 32 [l0, l1, l2, l3] [] h Q else Rn r 11 29 [l0, l1, l2, l3] [] h Q := Rn_if pg11 rfl rfl rfl
theorem sX0_mistake_29 : Rn r 11 29 [l0, l1, l2, l3] [] h Q ↔ Rn r 11 31 [l0, l1, l2, l3] [vI (-3)] h Q := Rn_nx pg11 rfl rfl
theorem sX0_mistake_31 : Rn r 11 31 [l0, l1, l2, l3] [vI x0] h Q ↔ Q (Sum.inl (some (vI x0))) h := Rn_end pg11 rfl rfl
theorem sX0_mistake_32 : Rn r 11 32 [some (vR z), l1, l2, l3] [] h Q ↔ Rn r 11 33 [some (vR z), l1, l2, l3] [vR z] h Q := Rn_nx pg11 rfl rfl
theorem sX0_mistake_33 (hk : hK h a0 = 1) : Rn r 11 33 [l0, l1, l2, l3] [vR (some a0)] h Q ↔ Rn r 11 36 [l0, l1, l2, l3] [vR (hR h a0 3)] h Q := Rn_nx pg11 rfl (if_pos ⟨(hk ▸ Nat.le_refl _), (hk ▸ Nat.le_refl _)⟩)
theorem sX0_mistake_36 (hk : hK h a0 = 5) : Rn r 11 36 [l0, l1, l2, l3] [vR (some a0)] h Q ↔ Rn r 11 39 [l0, l1, l2, l3] [vR (hR h a0 5)] h Q := Rn_nx pg11 rfl (if_pos ⟨(hk ▸ Nat.le_refl _), (hk ▸ Nat.le_refl _)⟩)
theorem sX0_mistake_39 : Rn r 11 39 [l0, some (vI x), l2, l3] [vR z0] h Q ↔ Rn r 11 40 [l0, some (vI x), l2, l3] [vI x, vR z0] h Q := Rn_nx pg11 rfl rfl
theorem sX0_mistake_40 (hk : hK h a1 = 4) : Rn r 11 40 [l0, l1, l2, l3] [vI x0, vR (some a1)] h Q ↔ Cl r 43 [vR (some a1), vI x0] h (Kt r 11 43 [l0, l1, l2, l3] [] Q) := Rn_call pg11 rfl (by simp only [am_exec, am_inv, am_pop, am_lk, hk]; rfl) pg43 rfl rfl rfl
theorem sX0_mistake_43_n : Rn r 11 43 [l0, l1, l2, l3] [vR none] h Q ↔ Rn r 11 46 [l0, l1, l2, l3] [vR none] h Q := Rn_nx pg11 rfl rfl
theorem sX0_mistake_43 (hk : hK h a0 ∈ [17]) : Rn r 11 43 [l0, l1, l2, l3] [vR (some a0)] h Q ↔ Rn r 11 46 [l0, l1, l2, l3] [vR (some a0)] h Q := Rn_nx pg11 rfl (if_pos hk)
theorem sX0_mistake_46 : Rn r 11 46 [l0, l1, l2, l3] [vR z0] h Q ↔ Rn r 11 47 [l0, l1, l2, some (vR z0)] [] h Q := Rn_nx pg11 rfl rfl
theorem sX0_mistake_47 : Rn r 11 47 [l0, l1, some (vI x), l3] [] h Q ↔ Rn r 11 48 [l0, l1, some (vI x), l3] [vI x] h Q := Rn_nx pg11 rfl rfl
theorem sX0_mistake_48 : Rn r 11 48 [l0, l1, l2, l3] [vI x0] h Q ↔ if x0 ≠ 0 then Rn r 11 58 [l0, l1, l2, l3] [] h Q else Rn r 11 51 [l0, l1, l2, l3] [] h Q := Rn_if pg11 rfl rfl rfl
theorem sX0_mistake_51 : Rn r 11 51 [l0, l1, l2, some (vR z)] [] h Q ↔ Rn r 11 52 [l0, l1, l2, some (vR z)] [vR z] h Q := Rn_nx pg11 rfl rfl
theorem sX0_mistake_52 (hk : hK h a0 = 17) : Rn r 11 52 [l0, l1, l2, l3] [vR (some a0)] h Q ↔ Rn r 11 55 [l0, l1, l2, l3] [vI (hI h a0 0)] h Q := Rn_nx pg11 rfl (if_pos ⟨(hk ▸ Nat.le_refl _), (hk ▸ Nat.le_refl _)⟩)
theorem sX0_mistake_55 : Rn r 11 55 [l0, l1, l2, l3] [vI x0] h Q ↔ Rn r 11 74 [l0, l1, l2, l3] [vI x0] h Q := Rn_nx pg11 rfl rfl
theorem sX0_mistake_58 : Rn r 11 58 [l0, l1, some (vI x), l3] [] h Q ↔ Rn r 11 59 [l0, l1, some (vI x), l3] [vI x] h Q := Rn_nx pg11 rfl rfl
theorem sX0_mistake_59 : Rn r 11 59 [l0, l1, l2, l3] [vI x0] h Q ↔ Rn r 11 60 [l0, l1, l2, l3] [vI 1, vI x0] h Q := Rn_nx pg11 rfl rfl
theorem sX0_mistake_60 : Rn r 11 60 [l0, l1, l2, l3] [vI x0, vI x1] h Q ↔ if x1 ≠ x0 then Rn r 11 70 [l0, l1, l2, l3] [] h Q else Rn r 11 63 [l0, l1, l2, l3] [] h Q := Rn_if pg11 rfl rfl rfl
theorem sX0_mistake_63 : Rn r 11 63 [l0, l1, l2, some (vR z)] [] h Q ↔ Rn r 11 64 [l0, l1, l2, some (vR z)] [vR z] h Q := Rn_nx pg11 rfl rfl
theorem sX0_mistake_64 (hk : hK h a0 = 17) : Rn r 11 64 [l0, l1, l2, l3] [vR (some a0)] h Q ↔ Rn r 11 67 [l0, l1, l2, l3] [vI (hI h a0 1)] h Q := Rn_nx pg11 rfl (if_pos ⟨(hk ▸ Nat.le_refl _), (hk ▸ Nat.le_refl _)⟩)
theorem sX0_mistake_67 : Rn r 11 67 [l0, l1, l2, l3] [vI x0] h Q ↔ Rn r 11 74 [l0, l1, l2, l3] [vI x0] h Q := Rn_nx pg11 rfl rfl
theorem sX0_mistake_70 : Rn r 11 70 [l0, l1, l2, some (vR z)] [] h Q ↔ Rn r 11 71 [l0, l1, l2, some (vR z)] [vR z] h Q := Rn_nx pg11 rfl rfl
theorem sX0_mistake_71 (hk : hK h a0 = 17) : Rn r 11 71 [l0, l1, l2, l3] [vR (some a0)] h Q ↔ Rn r 11 74 [l0, l1, l2, l3] [vI (hI h a0 2)] h Q := Rn_nx pg11 rfl (if_pos ⟨(hk ▸ Nat.le_refl _), (hk ▸ Nat.le_refl _)⟩)
theorem sX0_mistake_74 : Rn r 11 74 [l0, l1, l2, l3] [vI x0] h Q ↔ Q (Sum.inl (some (vI x0))) h := Rn_end pg11 rfl rfl
/-! 12 ThrowRulesModel.mistake(II)I -/
theorem eX6_mistake : Cl r 12 [vR z0, vI x1, vI x2] h Q ↔ Rn r 12 0 [some (vR z0), some (vI x1), some (vI x2)] [] h Q := Cl_in pg12 rfl
theorem sX6_mistake_0 : Rn r 12 0 [l0, some (vI x), l2] [] h Q ↔ Rn r 12 1 [l0, some (vI x), l2] [vI x] h Q := Rn_nx pg12 rfl rfl
theorem sX6_mistake_1 : Rn r 12 1 [l0, l1, l2] [vI x0] h Q ↔ if x0 < 0 then Rn r 12 12 [l0, l1, l2] [] h Q else Rn r 12 4 [l0, l1, l2] [] h Q := Rn_if pg12 rfl rfl rfl
theorem sX6_mistake_4 : Rn r 12 4 [l0, some (vI x), l2] [] h Q ↔ Rn r 12 5 [l0, some (vI x), l2] [vI x] h Q := Rn_nx pg12 rfl rfl
theorem sX6_mistake_5 : Rn r 12 5 [some (vR z), l1, l2] [vI x0] h Q ↔ Rn r 12 6 [some (vR z), l1, l2] [vR z, vI x0] h Q := Rn_nx pg12 rfl rfl
theorem sX6_mistake_6 (hk : hK h a0 = 15) : Rn r 12 6 [l0, l1, l2] [vR (some a0), vI x1] h Q ↔ Rn r 12 9 [l0, l1, l2] [vI (hI h a0 60), vI x1] h Q := Rn_nx pg12 rfl (if_pos ⟨(hk ▸ Nat.le_refl _), (hk ▸ Nat.le_refl _)⟩)
theorem sX6_mistake_9 : Rn r 12 9 [l0, l1, l2] [vI x0, vI x1] h Q ↔ if x1 < x0 then Rn r 12 15 [l0, l1, l2] [] h Q else Rn r 12 12 [l0, l1, l2] [] h Q := Rn_if pg12 rfl rfl rfl
theorem sX6_mistake_12 : Rn r 12 12 [l0, l1, l2] [] h Q ↔ Rn r 12 14 [l0, l1, l2] [vI (-3)] h Q := Rn_nx pg12 rfl rfl
theorem sX6_mistake_14 : Rn r 12 14 [l0, l1, l2] [vI x0] h Q ↔ Q (Sum.inl (some (vI x0))) h := Rn_end pg12 rfl rfl
theorem sX6_mistake_15 : Rn r 12 15 [l0, l1, some (vI x)] [] h Q ↔ Rn r 12 16 [l0, l1, some (vI x)] [vI x] h Q := Rn_nx pg12 rfl rfl
theorem sX6_mistake_16 : Rn r 12 16 [l0, l1, l2] [vI x0] h Q ↔ if x0 ≠ 0 then Rn r 12 28 [l0, l1, l2] [] h Q else Rn r 12 19 [l0, l1, l2] [] h Q := Rn_if pg12 rfl rfl rfl
theorem sX6_mistake_19 : Rn r 12 19 [some (vR z), l1, l2] [] h Q ↔ Rn r 12 20 [some (vR z), l1, l2] [vR z] h Q := Rn_nx pg12 rfl rfl
theorem sX6_mistake_20 (hk : hK h a0 = 15) : Rn r 12 20 [l0, l1, l2] [vR (some a0)] h Q ↔ Rn r 12 23 [l0, l1, l2] [vR (hR h a0 61)] h Q := Rn_nx pg12 rfl (if_pos ⟨(hk ▸ Nat.le_refl _), (hk ▸ Nat.le_refl _)⟩)
theorem sX6_mistake_23 : Rn r 12 23 [l0, some (vI x), l2] [vR z0] h Q ↔ Rn r 12 24 [l0, some (vI x), l2] [vI x, vR z0] h Q := Rn_nx pg12 rfl rfl
theorem sX6_mistake_24 (hk : 40 ≤ hK h a1) (hk2 : hK h a1 ≤ 41) (hx : ¬ (x0 < 0 ∨ hL h a1 ≤ x0.toNatClampNeg)) : Rn r 12 24 [l0, l1, l2] [vI x0, vR (some a1)] h Q ↔ Rn r 12 25 [l0, l1, l2] [vI (hI h a1 x0.toNatClampNeg)] h Q := Rn_nx pg12 rfl ((if_pos ⟨hk, hk2⟩).trans (if_neg hx))
theorem sX6_mistake_25 : Rn r 12 25 [l0, l1, l2] [vI x0] h Q ↔ Rn r 12 58 [l0, l1, l2] [vI x0] h Q := Rn_nx pg12 rfl rfl
theorem sX6_mistake_28 : Rn r 12 28 [l0, l1, some (vI x)] [] h Q ↔ Rn r 12 29 [l0, l1, some (vI x)] [vI x] h Q := Rn_nx pg12 rfl rfl
theorem sX6_mistake_29 : Rn r 12 29 [l0, l1, l2] [vI x0] h Q ↔ Rn r 12 30 [l0, l1, l2] [vI 1, vI x0] h Q := Rn_nx pg12 rfl rfl
theorem sX6_mistake_30 : Rn r 12 30 [l0, l1, l2] [vI x0, vI x1] h Q ↔ if x1 ≠ x0 then Rn r 12 42 [l0, l1, l2] [] h Q else Rn r 12 33 [l0, l1, l2] [] h Q := Rn_if pg12 rfl rfl rfl
theorem sX6_mistake_33 : Rn r 12 33 [some (vR z), l1, l2] [] h Q ↔ Rn r 12 34 [some (vR z), l1, l2] [vR z] h Q := Rn_nx pg12 rfl rfl
theorem sX6_mistake_34 (hk : hK h a0 = 15) : Rn r 12 34 [l0, l1, l2] [vR (some a0)] h Q ↔ Rn r 12 37 [l0, l1, l2] [vR (hR h a0 62)] h Q := Rn_nx pg12 rfl (if_pos ⟨(hk ▸ Nat.le_refl _), (hk ▸ Nat.le_refl _)⟩)
theorem sX6_mistake_37 : Rn r 12 37 [l0, some (vI x), l2] [vR z0] h Q ↔ Rn r 12 38 [l0, some (vI x), l2] [vI x, vR z0] h Q := Rn_nx pg12 rfl rfl
theorem sX6_mistake_38 (hk : 40 ≤ hK h a1) (hk2 : hK h a1 ≤ 41) (hx : ¬ (x0 < 0 ∨ hL h a1 ≤ x0.toNatClampNeg)) : Rn r 12 38 [l0, l1, l2] [vI x0, vR (some a1)] h Q ↔ Rn r 12 39 [l0, l1, l2] [vI (hI h a1 x0.toNatClampNeg)] h Q := Rn_nx pg12 rfl ((if_pos ⟨hk, hk2⟩).trans (if_neg hx))
theorem sX6_mistake_39 : Rn r 12 39 [l0, l1, l2] [vI x0] h Q ↔ Rn r 12 58 [l0, l1, l2] [vI x0] h Q := Rn_nx pg12 rfl rfl
theorem sX6_mistake_42 : Rn r 12 42 [l0, l1, some (vI x)] [] h Q ↔ Rn r 12 43 [l0, l1, some (vI x)] [vI x] h Q := Rn_nx pg12 rfl rfl
theorem sX6_mistake_43 : Rn r 12 43 [l0, l1, l2] [vI x0] h Q ↔ Rn r 12 44 [l0, l1, l2] [vI 2, vI x0] h Q := Rn_nx pg12 rfl rfl
theorem sX6_mistake_44 : Rn r 12 44 [l0, l1, l2] [vI x0, vI x1] h Q ↔ if x1 ≠ x0 then Rn r 12 56 [l0, l1, l2] [] h Q else Rn r 12 47 [l0, l1, l2] [] h Q := Rn_if pg12 rfl rfl rfl
theorem sX6_mistake_47 : Rn r 12 47 [some (vR z), l1, l2] [] h Q ↔ Rn r 12 48 [some (vR z), l1, l2] [vR z] h Q := Rn_nx pg12 rfl rfl
theorem sX6_mistake_48 (hk : hK h a0 = 15) : Rn r 12 48 [l0, l1, l2] [vR (some a0)] h Q ↔ Rn r 12 51 [l0, l1, l2] [vR (hR h a0 63)] h Q := Rn_nx pg12 rfl (if_pos ⟨(hk ▸ Nat.le_refl _), (hk ▸ Nat.le_refl _)⟩)
theorem sX6_mistake_51 : Rn r 12 51 [l0, some (vI x), l2] [vR z0] h Q ↔ Rn r 12 52 [l0, some (vI x), l2] [vI x, vR z0] h Q := Rn_nx pg12 rfl rfl
theorem sX6_mistake_52 (hk : 40 ≤ hK h a1) (hk2 : hK h a1 ≤ 41) (hx : ¬ (x0 < 0 ∨ hL h a1 ≤ x0.toNatClampNeg)) : Rn r 12 52 [l0, l1, l2] [vI x0, vR (some a1)] h Q ↔ Rn r 12 53 [l0, l1, l2] [vI (hI h a1 x0.toNatClampNeg)] h Q := Rn_nx pg12 rfl ((if_pos ⟨hk, hk2⟩).trans (if_neg hx))
theorem sX6_mistake_53 : Rn r 12 53 [l0, l1, l2] [vI x0] h Q ↔ Rn r 12 58 [l0, l1, l2] [vI x0] h Q := Rn_nx pg12 rfl rfl
theorem sX6_mistake_56 : Rn r 12 56 [l0, l1, l2] [] h Q ↔ Rn r 12 58 [l0, l1, l2] [vI (-3)] h Q := Rn_nx pg12 rfl rfl
theorem sX6_mistake_58 : Rn r 12 58 [l0, l1, l2] [vI x0] h Q ↔ Q (Sum.inl (some (vI x0))) h := Rn_end pg12 rfl rfl
/-! 13 ThrowRules.kind(II)I -/
theorem eX0_kind : Cl r 13 [vR z0, vI x1, vI x2] h Q ↔ Rn r 13 0 [some (vR z0), some (vI x1), some (vI x2), none] [] h Q := Cl_in pg13 rfl
theorem sX0_kind_0 : Rn r 13 0 [l0, some (vI x), l2, l3] [] h Q ↔ Rn r 13 1 [l0, some (vI x), l2, l3] [vI x] h Q := Rn_nx pg13 rfl rfl
theorem sX0_kind_1 : Rn r 13 1 [l0, l1, l2, l3] [vI x0] h Q ↔ Rn r 13 2 [l0, l1, l2, l3] [vI 0, vI x0] h Q := Rn_nx pg13 rfl rfl
theorem sX0_kind_2 : Rn r 13 2 [some (vR z), l1, l2, l3] [vI x0, vI x1] h Q ↔ Rn r 13 3 [some (vR z), l1, l2, l3] [vR z, vI x0, vI x1] h Q := Rn_nx pg13 rfl rfl
theorem sX0_kind_3 (hk : hK h a0 = 1) : Rn r 13 3 [l0, l1, l2, l3] [vR (some a0), vI x1, vI x2] h Q ↔ Rn r 13 6 [l0, l1, l2, l3] [vR (hR h a0 3), vI x1, vI x2] h Q := Rn_nx pg13 rfl (if_pos ⟨(hk ▸ Nat.le_refl _), (hk ▸ Nat.le_refl _)⟩)
theorem sX0_kind_6 (hk : hK h a0 = 5) : Rn r 13 6 [l0, l1, l2, l3] [vR (some a0), vI x1, vI x2] h Q ↔ Rn r 13 9 [l0, l1, l2, l3] [vR (hR h a0 0), vI x1, vI x2] h Q := Rn_nx pg13 rfl (if_pos ⟨(hk ▸ Nat.le_refl _), (hk ▸ Nat.le_refl _)⟩)
theorem sX0_kind_9 (hk : hK h a0 = 4) : Rn r 13 9 [l0, l1, l2, l3] [vR (some a0), vI x1, vI x2] h Q ↔ Cl r 34 [vR (some a0)] h (Kt r 13 12 [l0, l1, l2, l3] [vI x1, vI x2] Q) := Rn_call pg13 rfl (by simp only [am_exec, am_inv, am_pop, am_lk, hk]; rfl) pg34 rfl rfl rfl
theorem sX0_kind_12 : Rn r 13 12 [l0, l1, l2, l3] [vI x0, vI x1, vI x2] h Q ↔ Rn r 13 13 [l0, l1, l2, l3] [vI 1, vI x0, vI x1, vI x2] h Q := Rn_nx pg13 rfl rfl
theorem sX0_kind_13 : Rn r 13 13 [l0, l1, l2, l3] [vI x0, vI x1, vI x2, vI x3] h Q ↔ Rn r 13 14 [l0, l1, l2, l3] [vI (x1 - x0), vI x2, vI x3] h Q := Rn_nx pg13 rfl rfl
theorem sX0_kind_14 : Rn r 13 14 [l0, l1, l2, l3] [vI x0, vI x1, vI x2] h Q ↔ Cl r 32 [vI x2, vI x1, vI x0] h (Kt r 13 17 [l0, l1, l2, l3] [] Q) := Rn_call pg13 rfl rfl pg32 rfl rfl rfl
theorem sX0_kind_17 : Rn r 13 17 [l0, l1, l2, l3] [vI x0] h Q ↔ if x0 = 0 then Rn r 13 29 [l0, l1, l2, l3] [] h Q else Rn r 13 20 [l0, l1, l2, l3] [] h Q := Rn_if pg13 rfl rfl rfl
theorem sX0_kind_20 : Rn r 13 20 [l0, l1, some (vI x), l3] [] h Q ↔ Rn r 13 21 [l0, l1, some (vI x), l3] [vI x] h Q := Rn_nx pg13 rfl rfl
theorem sX0_kind_21 : Rn r 13 21 [l0, l1, l2, l3] [vI x0] h Q ↔ Rn r 13 22 [l0, l1, l2, l3] [vI 0, vI x0] h Q := Rn_nx pg13 rfl rfl
theorem sX0_kind_22 : Rn r 13 22 [l0, l1, l2, l3] [vI x0, vI x1] h Q ↔ Rn r 13 23 [l0, l1, l2, l3] [vI 2, vI x0, vI x1] h Q := Rn_nx pg13 rfl rfl
theorem sX0_kind_23 : Rn r 13 23 [l0, l1, l2, l3] [vI x0, vI x1, vI x2] h Q ↔ Cl r 32 [vI x2, vI x1, vI x0] h (Kt r 13 26 [l0, l1, l2, l3] [] Q) := Rn_call pg13 rfl rfl pg32 rfl rfl rfl
theorem sX0_kind_26 : Rn r 13 26 [l0, l1, l2, l3] [vI x0] h Q ↔ if x0 ≠ 0 then Rn r 13 32 [l0, l1, l2, l3] [] h Q else Rn r 13 29 [l0, l1, l2, l3] [] h Q := Rn_if pg13 rfl rfl rfl
theorem sX0_kind_29 : Rn r 13 29 [l0, l1, l2, l3] [] h Q ↔ Rn r 13 31 [l0, l1, l2, l3] [vI (-3)] h Q := Rn_nx pg13 rfl rfl
theorem sX0_kind_31 : Rn r 13 31 [l0, l1, l2, l3] [vI x0] h Q ↔ Q (Sum.inl (some (vI x0))) h := Rn_end pg13 rfl rfl
theorem sX0_kind_32 : Rn r 13 32 [some (vR z), l1, l2, l3] [] h Q ↔ Rn r 13 33 [some (vR z), l1, l2, l3] [vR z] h Q := Rn_nx pg13 rfl rfl
theorem sX0_kind_33 (hk : hK h a0 = 1) : Rn r 13 33 [l0, l1, l2, l3] [vR (some a0)] h Q ↔ Rn r 13 36 [l0, l1, l2, l3] [vR (hR h a0 3)] h Q := Rn_nx pg13 rfl (if_pos ⟨(hk ▸ Nat.le_refl _), (hk ▸ Nat.le_refl _)⟩)
theorem sX0_kind_36 (hk : hK h a0 = 5) : Rn r 13 36 [l0, l1, l2, l3] [vR (some a0)] h Q ↔ Rn r 13 39 [l0, l1, l2, l3] [vR (hR h a0 0)] h Q := Rn_nx pg13 rfl (if_pos ⟨(hk ▸ Nat.le_refl _), (hk ▸ Nat.le_refl _)⟩)
theorem sX0_kind_39 : Rn r 13 39 [l0, some (vI x), l2, l3] [vR z0] h Q ↔ Rn r 13 40 [l0, some (vI x), l2, l3] [vI x, vR z0] h Q := Rn_nx pg13 rfl rfl
theorem sX0_kind_40 (hk : hK h a1 = 4) : Rn r 13 40 [l0, l1, l2, l3] [vI x0, vR (some a1)] h Q ↔ Cl r 43 [vR (some a1), vI x0] h (Kt r 13 43 [l0, l1, l2, l3] [] Q) := Rn_call pg13 rfl (by simp only [am_exec, am_inv, am_pop, am_lk, hk]; rfl) pg43 rfl rfl rfl
theorem sX0_kind_43_n : Rn r 13 43 [l0, l1, l2, l3] [vR none] h Q ↔ Rn r 13 46 [l0, l1, l2, l3] [vR none] h Q := Rn_nx pg13 rfl rfl
theorem sX0_kind_43 (hk : hK h a0 ∈ [7]) : Rn r 13 43 [l0, l1, l2, l3] [vR (some a0)] h Q ↔ Rn r 13 46 [l0, l1, l2, l3] [vR (some a0)] h Q := Rn_nx pg13 rfl (if_pos hk)
theorem sX0_kind_46 : Rn r 13 46 [l0, l1, l2, l3] [vR z0] h Q ↔ Rn r 13 47 [l0, l1, l2, some (vR z0)] [] h Q := Rn_nx pg13 rfl rfl
theorem sX0_kind_47 : Rn r 13 47 [l0, l1, some (vI x), l3] [] h Q ↔ Rn r 13 48 [l0, l1, some (vI x), l3] [vI x] h Q := Rn_nx pg13 rfl rfl
theorem sX0_kind_48 : Rn r 13 48 [l0, l1, l2, l3] [vI x0] h Q ↔ if x0 ≠ 0 then Rn r 13 72 [l0, l1, l2, l3] [] h Q else Rn r 13 51 [l0, l1, l2, l3] [] h Q := Rn_if pg13 rfl rfl rfl
theorem sX0_kind_51 : Rn r 13 51 [l0, l1, l2, some (vR z)] [] h Q ↔ Rn r 13 52 [l0, l1, l2, some (vR z)] [vR z] h Q := Rn_nx pg13 rfl rfl
theorem sX0_kind_52 (hk : hK h a0 = 7) : Rn r 13 52 [l0, l1, l2, l3] [vR (some a0)] h Q ↔ Rn r 13 55 [l0, l1, l2, l3] [vR (hR h a0 2)] h Q := Rn_nx pg13 rfl (if_pos ⟨(hk ▸ Nat.le_refl _), (hk ▸ Nat.le_refl _)⟩)
theorem sX0_kind_55 : Rn r 13 55 [l0, l1, l2, l3] [vR z0] h Q ↔ if z0 ≠ none then Rn r 13 62 [l0, l1, l2, l3] [] h Q else Rn r 13 58 [l0, l1, l2, l3] [] h Q := Rn_if pg13 rfl rfl rfl
theorem sX0_kind_58 : Rn r 13 58 [l0, l1, l2, l3] [] h Q ↔ Rn r 13 59 [l0, l1, l2, l3] [vI (-1)] h Q := Rn_nx pg13 rfl rfl
theorem sX0_kind_59 : Rn r 13 59 [l0, l1, l2, l3] [vI x0] h Q ↔ Rn r 13 100 [l0, l1, l2, l3] [vI x0] h Q := Rn_nx pg13 rfl rfl
theorem sX0_kind_62 : Rn r 13 62 [l0, l1, l2, some (vR z)] [] h Q ↔ Rn r 13 63 [l0, l1, l2, some (vR z)] [vR z] h Q := Rn_nx pg13 rfl rfl
theorem sX0_kind_63 (hk : hK h a0 = 7) : Rn r 13 63 [l0, l1, l2, l3] [vR (some a0)] h Q ↔ Rn r 13 66 [l0, l1, l2, l3] [vR (hR h a0 2)] h Q := Rn_nx pg13 rfl (if_pos ⟨(hk ▸ Nat.le_refl _), (hk ▸ Nat.le_refl _)⟩)
theorem sX0_kind_66 (hk : hK h a0 = 7) : Rn r 13 66 [l0, l1, l2, l3] [vR (some a0)] h Q ↔ Rn r 13 69 [l0, l1, l2, l3] [vI (hI h a0 1)] h Q := Rn_nx pg13 rfl (if_pos ⟨(hk ▸ Nat.le_refl _), (hk ▸ Nat.le_refl _)⟩)
theorem sX0_kind_69 : Rn r 13 69 [l0, l1, l2, l3] [vI x0] h Q ↔ Rn r 13 100 [l0, l1, l2, l3] [vI x0] h Q := Rn_nx pg13 rfl rfl
theorem sX0_kind_72 : Rn r 13 72 [l0, l1, some (vI x), l3] [] h Q ↔ Rn r 13 73 [l0, l1, some (vI x), l3] [vI x] h Q := Rn_nx pg13 rfl rfl
theorem sX0_kind_73 : Rn r 13 73 [l0, l1, l2, l3] [vI x0] h Q ↔ Rn r 13 74 [l0, l1, l2, l3] [vI 1, vI x0] h Q := Rn_nx pg13 rfl rfl
theorem sX0_kind_74 : Rn r 13 74 [l0, l1, l2, l3] [vI x0, vI x1] h Q ↔ if x1 ≠ x0 then Rn r 13 96 [l0, l1, l2, l3] [] h Q else Rn r 13 77 [l0, l1, l2, l3] [] h Q := Rn_if pg13 rfl rfl rfl
theorem sX0_kind_77 : Rn r 13 77 [some (vR z), l1, l2, l3] [] h Q ↔ Rn r 13 78 [some (vR z), l1, l2, l3] [vR z] h Q := Rn_nx pg13 rfl rfl
theorem sX0_kind_78 (hk : hK h a0 = 1) : Rn r 13 78 [l0, l1, l2, l3] [vR (some a0)] h Q ↔ Rn r 13 81 [l0, l1, l2, l3] [vR (hR h a0 3)] h Q := Rn_nx pg13 rfl (if_pos ⟨(hk ▸ Nat.le_refl _), (hk ▸ Nat.le_refl _)⟩)
theorem sX0_kind_81 : Rn r 13 81 [l0, l1, l2, some (vR z)] [vR z0] h Q ↔ Rn r 13 82 [l0, l1, l2, some (vR z)] [vR z, vR z0] h Q := Rn_nx pg13 rfl rfl
theorem sX0_kind_82 (hk : hK h a1 = 5) : Rn r 13 82 [l0, l1, l2, l3] [vR z0, vR (some a1)] h Q ↔ Cl r 44 [vR (some a1), vR z0] h (Kt r 13 85 [l0, l1, l2, l3] [] Q) := Rn_call pg13 rfl (by simp only [am_exec, am_inv, am_pop, am_lk, hk]; rfl) pg44 rfl rfl rfl
theorem sX0_kind_85 : Rn r 13 85 [l0, l1, l2, l3] [vI x0] h Q ↔ if x0 = 0 then Rn r 13 92 [l0, l1, l2, l3] [] h Q else Rn r 13 88 [l0, l1, l2, l3] [] h Q := Rn_if pg13 rfl rfl rfl
theorem sX0_kind_88 : Rn r 13 88 [l0, l1, l2, l3] [] h Q ↔ Rn r 13 89 [l0, l1, l2, l3] [vI 1] h Q := Rn_nx pg13 rfl rfl
theorem sX0_kind_89 : Rn r 13 89 [l0, l1, l2, l3] [vI x0] h Q ↔ Rn r 13 100 [l0, l1, l2, l3] [vI x0] h Q := Rn_nx pg13 rfl rfl
theorem sX0_kind_92 : Rn r 13 92 [l0, l1, l2, l3] [] h Q ↔ Rn r 13 93 [l0, l1, l2, l3] [vI 0] h Q := Rn_nx pg13 rfl rfl
theorem sX0_kind_93 : Rn r 13 93 [l0, l1, l2, l3] [vI x0] h Q ↔ Rn r 13 100 [l0, l1, l2, l3] [vI x0] h Q := Rn_nx pg13 rfl rfl
theorem sX0_kind_96 : Rn r 13 96 [l0, l1, l2, some (vR z)] [] h Q ↔ Rn r 13 97 [l0, l1, l2, some (vR z)] [vR z] h Q := Rn_nx pg13 rfl rfl
theorem sX0_kind_97 (hk : hK h a0 = 7) : Rn r 13 97 [l0, l1, l2, l3] [vR (some a0)] h Q ↔ Rn r 13 100 [l0, l1, l2, l3] [vI (hI h a0 3)] h Q := Rn_nx pg13 rfl (if_pos ⟨(hk ▸ Nat.le_refl _), (hk ▸ Nat.le_refl _)⟩)
theorem sX0_kind_100 : Rn r 13 100 [l0, l1, l2, l3] [vI x0] h Q ↔ Q (Sum.inl (some (vI x0))) h := Rn_end pg13 rfl rfl
/-! 14 ThrowRulesModel.kind(II)I -/
theorem eX6_kind : Cl r 14 [vR z0, vI x1, vI x2] h Q ↔ Rn r 14 0 [some (vR z0), some (vI x1), some (vI x2)] [] h Q := Cl_in pg14 rfl
theorem sX6_kind_0 : Rn r 14 0 [l0, some (vI x), l2] [] h Q ↔ Rn r 14 1 [l0, some (vI x), l2] [vI x] h Q := Rn_nx pg14 rfl rfl
theorem sX6_kind_1 : Rn r 14 1 [l0, l1, l2] [vI x0] h Q ↔ if x0 < 0 then Rn r 14 17 [l0, l1, l2] [] h Q else Rn r 14 4 [l0, l1, l2] [] h Q := Rn_if pg14 rfl rfl rfl
theorem sX6_kind_4 : Rn r 14 4 [l0, some (vI x), l2] [] h Q ↔ Rn r 14 5 [l0, some (vI x), l2] [vI x] h Q := Rn_nx pg14 rfl rfl
theorem sX6_kind_5 : Rn r 14 5 [some (vR z), l1, l2] [vI x0] h Q ↔ Rn r 14 6 [some (vR z), l1, l2] [vR z, vI x0] h Q := Rn_nx pg14 rfl rfl
theorem sX6_kind_6 (hk : hK h a0 = 15) : Rn r 14 6 [l0, l1, l2] [vR (some a0), vI x1] h Q ↔ Rn r 14 9 [l0, l1, l2] [vR (hR h a0 3), vI x1] h Q := Rn_nx pg14 rfl (if_pos ⟨(hk ▸ Nat.le_refl _), (hk ▸ Nat.le_refl _)⟩)
theorem sX6_kind_9 : Rn r 14 9 [some (vR z), l1, l2] [vR z0, vI x1] h Q ↔ Rn r 14 10 [some (vR z), l1, l2] [vR z, vR z0, vI x1] h Q := Rn_nx pg14 rfl rfl
theorem sX6_kind_10 (hk : hK h a0 = 15) : Rn r 14 10 [l0, l1, l2] [vR (some a0), vR z1, vI x2] h Q ↔ Rn r 14 13 [l0, l1, l2] [vI (hI h a0 2), vR z1, vI x2] h Q := Rn_nx pg14 rfl (if_pos ⟨(hk ▸ Nat.le_refl _), (hk ▸ Nat.le_refl _)⟩)
theorem sX6_kind_13 (hk : 40 ≤ hK h a1) (hk2 : hK h a1 ≤ 41) (hx : ¬ (x0 < 0 ∨ hL h a1 ≤ x0.toNatClampNeg)) : Rn r 14 13 [l0, l1, l2] [vI x0, vR (some a1), vI x2] h Q ↔ Rn r 14 14 [l0, l1, l2] [vI (hI h a1 x0.toNatClampNeg), vI x2] h Q := Rn_nx pg14 rfl ((if_pos ⟨hk, hk2⟩).trans (if_neg hx))
theorem sX6_kind_14 : Rn r 14 14 [l0, l1, l2] [vI x0, vI x1] h Q ↔ if x1 < x0 then Rn r 14 20 [l0, l1, l2] [] h Q else Rn r 14 17 [l0, l1, l2] [] h Q := Rn_if pg14 rfl rfl rfl
theorem sX6_kind_17 : Rn r 14 17 [l0, l1, l2] [] h Q ↔ Rn r 14 19 [l0, l1, l2] [vI (-3)] h Q := Rn_nx pg14 rfl rfl
theorem sX6_kind_19 : Rn r 14 19 [l0, l1, l2] [vI x0] h Q ↔ Q (Sum.inl (some (vI x0))) h := Rn_end pg14 rfl rfl
theorem sX6_kind_20 : Rn r 14 20 [l0, l1, some (vI x)] [] h Q ↔ Rn r 14 21 [l0, l1, some (vI x)] [vI x] h Q := Rn_nx pg14 rfl rfl
theorem sX6_kind_21 : Rn r 14 21 [l0, l1, l2] [vI x0] h Q ↔ if x0 ≠ 0 then Rn r 14 32 [l0, l1, l2] [] h Q else Rn r 14 24 [l0, l1, l2] [] h Q := Rn_if pg14 rfl rfl rfl
theorem sX6_kind_24 : Rn r 14 24 [some (vR z), l1, l2] [] h Q ↔ Rn r 14 25 [some (vR z), l1, l2] [vR z] h Q := Rn_nx pg14 rfl rfl
theorem sX6_kind_25 : Rn r 14 25 [l0, some (vI x), l2] [vR z0] h Q ↔ Rn r 14 26 [l0, some (vI x), l2] [vI x, vR z0] h Q := Rn_nx pg14 rfl rfl
theorem sX6_kind_26 (hk : hK h a1 = 15) : Rn r 14 26 [l0, l1, l2] [vI x0, vR (some a1)] h Q ↔ Cl r 45 [vR (some a1), vI x0] h (Kt r 14 29 [l0, l1, l2] [] Q) := Rn_call pg14 rfl (by simp only [am_exec, am_inv, am_pop, am_lk, hk]; rfl) pg45 rfl rfl rfl
theorem sX6_kind_29 : Rn r 14 29 [l0, l1, l2] [vI x0] h Q ↔ Rn r 14 77 [l0, l1, l2] [vI x0] h Q := Rn_nx pg14 rfl rfl
theorem sX6_kind_32 : Rn r 14 32 [l0, l1, some (vI x)] [] h Q ↔ Rn r 14 33 [l0, l1, some (vI x)] [vI x] h Q := Rn_nx pg14 rfl rfl
theorem sX6_kind_33 : Rn r 14 33 [l0, l1, l2] [vI x0] h Q ↔ Rn r 14 34 [l0, l1, l2] [vI 1, vI x0] h Q := Rn_nx pg14 rfl rfl
theorem sX6_kind_34 : Rn r 14 34 [l0, l1, l2] [vI x0, vI x1] h Q ↔ if x1 ≠ x0 then Rn r 14 53 [l0, l1, l2] [] h Q else Rn r 14 37 [l0, l1, l2] [] h Q := Rn_if pg14 rfl rfl rfl
theorem sX6_kind_37 : Rn r 14 37 [some (vR z), l1, l2] [] h Q ↔ Rn r 14 38 [some (vR z), l1, l2] [vR z] h Q := Rn_nx pg14 rfl rfl
theorem sX6_kind_38 : Rn r 14 38 [l0, some (vI x), l2] [vR z0] h Q ↔ Rn r 14 39 [l0, some (vI x), l2] [vI x, vR z0] h Q := Rn_nx pg14 rfl rfl
theorem sX6_kind_39 (hk : hK h a1 = 15) : Rn r 14 39 [l0, l1, l2] [vI x0, vR (some a1)] h Q ↔ Cl r 46 [vR (some a1), vI x0] h (Kt r 14 42 [l0, l1, l2] [] Q) := Rn_call pg14 rfl (by simp only [am_exec, am_inv, am_pop, am_lk, hk]; rfl) pg46 rfl rfl rfl
theorem sX6_kind_42 : Rn r 14 42 [l0, l1, l2] [vI x0] h Q ↔ if x0 = 0 then Rn r 14 49 [l0, l1, l2] [] h Q else Rn r 14 45 [l0, l1, l2] [] h Q := Rn_if pg14 rfl rfl rfl
theorem sX6_kind_45 : Rn r 14 45 [l0, l1, l2] [] h Q ↔ Rn r 14 46 [l0, l1, l2] [vI 1] h Q := Rn_nx pg14 rfl rfl
theorem sX6_kind_46 : Rn r 14 46 [l0, l1, l2] [vI x0] h Q ↔ Rn r 14 77 [l0, l1, l2] [vI x0] h Q := Rn_nx pg14 rfl rfl
theorem sX6_kind_49 : Rn r 14 49 [l0, l1, l2] [] h Q ↔ Rn r 14 50 [l0, l1, l2] [vI 0] h Q := Rn_nx pg14 rfl rfl
theorem sX6_kind_50 : Rn r 14 50 [l0, l1, l2] [vI x0] h Q ↔ Rn r 14 77 [l0, l1, l2] [vI x0] h Q := Rn_nx pg14 rfl rfl
theorem sX6_kind_53 : Rn r 14 53 [l0, l1, some (vI x)] [] h Q ↔ Rn r 14 54 [l0, l1, some (vI x)] [vI x] h Q := Rn_nx pg14 rfl rfl
theorem sX6_kind_54 : Rn r 14 54 [l0, l1, l2] [vI x0] h Q ↔ Rn r 14 55 [l0, l1, l2] [vI 2, vI x0] h Q := Rn_nx pg14 rfl rfl
theorem sX6_kind_55 : Rn r 14 55 [l0, l1, l2] [vI x0, vI x1] h Q ↔ if x1 ≠ x0 then Rn r 14 75 [l0, l1, l2] [] h Q else Rn r 14 58 [l0, l1, l2] [] h Q := Rn_if pg14 rfl rfl rfl
theorem sX6_kind_58 : Rn r 14 58 [some (vR z), l1, l2] [] h Q ↔ Rn r 14 59 [some (vR z), l1, l2] [vR z] h Q := Rn_nx pg14 rfl rfl
theorem sX6_kind_59 (hk : hK h a0 = 15) : Rn r 14 59 [l0, l1, l2] [vR (some a0)] h Q ↔ Rn r 14 62 [l0, l1, l2] [vR (hR h a0 5)] h Q := Rn_nx pg14 rfl (if_pos ⟨(hk ▸ Nat.le_refl _), (hk ▸ Nat.le_refl _)⟩)
theorem sX6_kind_62 : Rn r 14 62 [some (vR z), l1, l2] [vR z0] h Q ↔ Rn r 14 63 [some (vR z), l1, l2] [vR z, vR z0] h Q := Rn_nx pg14 rfl rfl
theorem sX6_kind_63 (hk : hK h a0 = 15) : Rn r 14 63 [l0, l1, l2] [vR (some a0), vR z1] h Q ↔ Rn r 14 66 [l0, l1, l2] [vI (hI h a0 2), vR z1] h Q := Rn_nx pg14 rfl (if_pos ⟨(hk ▸ Nat.le_refl _), (hk ▸ Nat.le_refl _)⟩)
theorem sX6_kind_66 : Rn r 14 66 [l0, l1, l2] [vI x0, vR z1] h Q ↔ Rn r 14 68 [l0, l1, l2] [vI 16, vI x0, vR z1] h Q := Rn_nx pg14 rfl rfl
theorem sX6_kind_68 : Rn r 14 68 [l0, l1, l2] [vI x0, vI x1, vR z2] h Q ↔ Rn r 14 69 [l0, l1, l2] [vI (x1 * x0), vR z2] h Q := Rn_nx pg14 rfl rfl
theorem sX6_kind_69 : Rn r 14 69 [l0, some (vI x), l2] [vI x0, vR z1] h Q ↔ Rn r 14 70 [l0, some (vI x), l2] [vI x, vI x0, vR z1] h Q := Rn_nx pg14 rfl rfl
theorem sX6_kind_70 : Rn r 14 70 [l0, l1, l2] [vI x0, vI x1, vR z2] h Q ↔ Rn r 14 71 [l0, l1, l2] [vI (x1 + x0), vR z2] h Q := Rn_nx pg14 rfl rfl
theorem sX6_kind_71 (hk : 40 ≤ hK h a1) (hk2 : hK h a1 ≤ 41) (hx : ¬ (x0 < 0 ∨ hL h a1 ≤ x0.toNatClampNeg)) : Rn r 14 71 [l0, l1, l2] [vI x0, vR (some a1)] h Q ↔ Rn r 14 72 [l0, l1, l2] [vI (hI h a1 x0.toNatClampNeg)] h Q := Rn_nx pg14 rfl ((if_pos ⟨hk, hk2⟩).trans (if_neg hx))
theorem sX6_kind_72 : Rn r 14 72 [l0, l1, l2] [vI x0] h Q ↔ Rn r 14 77 [l0, l1, l2] [vI x0] h Q := Rn_nx pg14 rfl rfl
theorem sX6_kind_75 : Rn r 14 75 [l0, l1, l2] [] h Q ↔ Rn r 14 77 [l0, l1, l2] [vI (-3)] h Q := Rn_nx pg14 rfl rfl
theorem sX6_kind_77 : Rn r 14 77 [l0, l1, l2] [vI x0] h Q ↔ Q (Sum.inl (some (vI x0))) h := Rn_end pg14 rfl rfl
/-! 15 ThrowRules.below(II)Z -/
theorem eX0_below : Cl r 15 [vR z0, vI x1, vI x2] h Q ↔ Rn r 15 0 [some (vR z0), some (vI x1), some (vI x2), none] [] h Q := Cl_in pg15 rfl
theorem sX0_below_0 : Rn r 15 0 [some (vR z), l1, l2, l3] [] h Q ↔ Rn r 15 1 [some (vR z), l1, l2, l3] [vR z] h Q := Rn_nx pg15 rfl rfl
theorem sX0_below_1 (hk : hK h a0 = 1) : Rn r 15 1 [l0, l1, l2, l3] [vR (some a0)] h Q ↔ Rn r 15 4 [l0, l1, l2, l3] [vR (hR h a0 3)] h Q := Rn_nx pg15 rfl (if_pos ⟨(hk ▸ Nat.le_refl _), (hk ▸ Nat.le_refl _)⟩)
theorem sX0_below_4 (hk : hK h a0 = 5) : Rn r 15 4 [l0, l1, l2, l3] [vR (some a0)] h Q ↔ Rn r 15 7 [l0, l1, l2, l3] [vR (hR h a0 0)] h Q := Rn_nx pg15 rfl (if_pos ⟨(hk ▸ Nat.le_refl _), (hk ▸ Nat.le_refl _)⟩)
theorem sX0_below_7 (hk : hK h a0 = 4) : Rn r 15 7 [l0, l1, l2, l3] [vR (some a0)] h Q ↔ Cl r 34 [vR (some a0)] h (Kt r 15 10 [l0, l1, l2, l3] [] Q) := Rn_call pg15 rfl (by simp only [am_exec, am_inv, am_pop, am_lk, hk]; rfl) pg34 rfl rfl rfl
theorem sX0_below_10 : Rn r 15 10 [l0, l1, l2, l3] [vI x0] h Q ↔ Rn r 15 11 [l0, l1, l2, l3] [vI 1, vI x0] h Q := Rn_nx pg15 rfl rfl
theorem sX0_below_11 : Rn r 15 11 [l0, l1, l2, l3] [vI x0, vI x1] h Q ↔ Rn r 15 12 [l0, l1, l2, l3] [vI (x1 - x0)] h Q := Rn_nx pg15 rfl rfl
theorem sX0_below_12 : Rn r 15 12 [l0, l1, l2, l3] [vI x0] h Q ↔ Rn r 15 13 [l0, l1, l2, some (vI x0)] [] h Q := Rn_nx pg15 rfl rfl
theorem sX0_below_13 : Rn r 15 13 [l0, some (vI x), l2, l3] [] h Q ↔ Rn r 15 14 [l0, some (vI x), l2, l3] [vI x] h Q := Rn_nx pg15 rfl rfl
theorem sX0_below_14 : Rn r 15 14 [l0, l1, l2, l3] [vI x0] h Q ↔ Rn r 15 15 [l0, l1, l2, l3] [vI 0, vI x0] h Q := Rn_nx pg15 rfl rfl
theorem sX0_below_15 : Rn r 15 15 [l0, l1, l2, some (vI x)] [vI x0, vI x1] h Q ↔ Rn r 15 16 [l0, l1, l2, some (vI x)] [vI x, vI x0, vI x1] h Q := Rn_nx pg15 rfl rfl
theorem sX0_below_16 : Rn r 15 16 [l0, l1, l2, l3] [vI x0, vI x1, vI x2] h Q ↔ Cl r 32 [vI x2, vI x1, vI x0] h (Kt r 15 19 [l0, l1, l2, l3] [] Q) := Rn_call pg15 rfl rfl pg32 rfl rfl rfl
theorem sX0_below_19 : Rn r 15 19 [l0, l1, l2, l3] [vI x0] h Q ↔ if x0 = 0 then Rn r 15 69 [l0, l1, l2, l3] [] h Q else Rn r 15 22 [l0, l1, l2, l3] [] h Q := Rn_if pg15 rfl rfl rfl
theorem sX0_below_22 : Rn r 15 22 [l0, l1, some (vI x), l3] [] h Q ↔ Rn r 15 23 [l0, l1, some (vI x), l3] [vI x] h Q := Rn_nx pg15 rfl rfl
theorem sX0_below_23 : Rn r 15 23 [l0, l1, l2, l3] [vI x0] h Q ↔ Rn r 15 24 [l0, l1, l2, l3] [vI 0, vI x0] h Q := Rn_nx pg15 rfl rfl
theorem sX0_below_24 : Rn r 15 24 [l0, l1, l2, some (vI x)] [vI x0, vI x1] h Q ↔ Rn r 15 25 [l0, l1, l2, some (vI x)] [vI x, vI x0, vI x1] h Q := Rn_nx pg15 rfl rfl
theorem sX0_below_25 : Rn r 15 25 [l0, l1, l2, l3] [vI x0, vI x1, vI x2] h Q ↔ Cl r 32 [vI x2, vI x1, vI x0] h (Kt r 15 28 [l0, l1, l2, l3] [] Q) := Rn_call pg15 rfl rfl pg32 rfl rfl rfl
theorem sX0_below_28 : Rn r 15 28 [l0, l1, l2, l3] [vI x0] h Q ↔ if x0 = 0 then Rn r 15 69 [l0, l1, l2, l3] [] h Q else Rn r 15 31 [l0, l1, l2, l3] [] h Q := Rn_if pg15 rfl rfl rfl
theorem sX0_below_31 : Rn r 15 31 [some (vR z), l1, l2, l3] [] h Q ↔ Rn r 15 32 [some (vR z), l1, l2, l3] [vR z] h Q := Rn_nx pg15 rfl rfl
theorem sX0_below_32 (hk : hK h a0 = 1) : Rn r 15 32 [l0, l1, l2, l3] [vR (some a0)] h Q ↔ Rn r 15 35 [l0, l1, l2, l3] [vR (hR h a0 3)] h Q := Rn_nx pg15 rfl (if_pos ⟨(hk ▸ Nat.le_refl _), (hk ▸ Nat.le_refl _)⟩)
theorem sX0_below_35 (hk : hK h a0 = 5) : Rn r 15 35 [l0, l1, l2, l3] [vR (some a0)] h Q ↔ Rn r 15 38 [l0, l1, l2, l3] [vR (hR h a0 0)] h Q := Rn_nx pg15 rfl (if_pos ⟨(hk ▸ Nat.le_refl _), (hk ▸ Nat.le_refl _)⟩)
theorem sX0_below_38 : Rn r 15 38 [l0, some (vI x), l2, l3] [vR z0] h Q ↔ Rn r 15 39 [l0, some (vI x), l2, l3] [vI x, vR z0] h Q := Rn_nx pg15 rfl rfl
theorem sX0_below_39 (hk : hK h a1 = 4) : Rn r 15 39 [l0, l1, l2, l3] [vI x0, vR (some a1)] h Q ↔ Cl r 43 [vR (some a1), vI x0] h (Kt r 15 42 [l0, l1, l2, l3] [] Q) := Rn_call pg15 rfl (by simp only [am_exec, am_inv, am_pop, am_lk, hk]; rfl) pg43 rfl rfl rfl
theorem sX0_below_42_n : Rn r 15 42 [l0, l1, l2, l3] [vR none] h Q ↔ Rn r 15 45 [l0, l1, l2, l3] [vR none] h Q := Rn_nx pg15 rfl rfl
theorem sX0_below_42 (hk : hK h a0 ∈ [7]) : Rn r 15 42 [l0, l1, l2, l3] [vR (some a0)] h Q ↔ Rn r 15 45 [l0, l1, l2, l3] [vR (some a0)] h Q := Rn_nx pg15 rfl (if_pos hk)
theorem sX0_below_45 : Rn r 15 45 [some (vR z), l1, l2, l3] [vR z0] h Q ↔ Rn r 15 46 [some (vR z), l1, l2, l3] [vR z, vR z0] h Q := Rn_nx pg15 rfl rfl
theorem sX0_below_46 (hk : hK h a0 = 1) : Rn r 15 46 [l0, l1, l2, l3] [vR (some a0), vR z1] h Q ↔ Rn r 15 49 [l0, l1, l2, l3] [vR (hR h a0 3), vR z1] h Q := Rn_nx pg15 rfl (if_pos ⟨(hk ▸ Nat.le_refl _), (hk ▸ Nat.le_refl _)⟩)
theorem sX0_below_49 (hk : hK h a0 = 5) : Rn r 15 49 [l0, l1, l2, l3] [vR (some a0), vR z1] h Q ↔ Rn r 15 52 [l0, l1, l2, l3] [vR (hR h a0 0), vR z1] h Q := Rn_nx pg15 rfl (if_pos ⟨(hk ▸ Nat.le_refl _), (hk ▸ Nat.le_refl _)⟩)
theorem sX0_below_52 : Rn r 15 52 [l0, l1, some (vI x), l3] [vR z0, vR z1] h Q ↔ Rn r 15 53 [l0, l1, some (vI x), l3] [vI x, vR z0, vR z1] h Q := Rn_nx pg15 rfl rfl
theorem sX0_below_53 (hk : hK h a1 = 4) : Rn r 15 53 [l0, l1, l2, l3] [vI x0, vR (some a1), vR z2] h Q ↔ Cl r 43 [vR (some a1), vI x0] h (Kt r 15 56 [l0, l1, l2, l3] [vR z2] Q) := Rn_call pg15 rfl (by simp only [am_exec, am_inv, am_pop, am_lk, hk]; rfl) pg43 rfl rfl rfl
theorem sX0_below_56_n : Rn r 15 56 [l0, l1, l2, l3] [vR none, vR z1] h Q ↔ Rn r 15 59 [l0, l1, l2, l3] [vR none, vR z1] h Q := Rn_nx pg15 rfl rfl
theorem sX0_below_56 (hk : hK h a0 ∈ [7]) : Rn r 15 56 [l0, l1, l2, l3] [vR (some a0), vR z1] h Q ↔ Rn r 15 59 [l0, l1, l2, l3] [vR (some a0), vR z1] h Q := Rn_nx pg15 rfl (if_pos hk)
theorem sX0_below_59 (hk : hK h a1 = 7) : Rn r 15 59 [l0, l1, l2, l3] [vR z0, vR (some a1)] h Q ↔ Cl r 47 [vR (some a1), vR z0] h (Kt r 15 62 [l0, l1, l2, l3] [] Q) := Rn_call pg15 rfl (by simp only [am_exec, am_inv, am_pop, am_lk, hk]; rfl) pg47 rfl rfl rfl
theorem sX0_below_62 : Rn r 15 62 [l0, l1, l2, l3] [vI x0] h Q ↔ if x0 = 0 then Rn r 15 69 [l0, l1, l2, l3] [] h Q else Rn r 15 65 [l0, l1, l2, l3] [] h Q := Rn_if pg15 rfl rfl rfl
theorem sX0_below_65 : Rn r 15 65 [l0, l1, l2, l3] [] h Q ↔ Rn r 15 66 [l0, l1, l2, l3] [vI 1] h Q := Rn_nx pg15 rfl rfl
theorem sX0_below_66 : Rn r 15 66 [l0, l1, l2, l3] [vI x0] h Q ↔ Rn r 15 70 [l0, l1, l2, l3] [vI x0] h Q := Rn_nx pg15 rfl rfl
theorem sX0_below_69 : Rn r 15 69 [l0, l1, l2, l3] [] h Q ↔ Rn r 15 70 [l0, l1, l2, l3] [vI 0] h Q := Rn_nx pg15 rfl rfl
theorem sX0_below_70 (hf : am_fit 4 x0 = true) : Rn r 15 70 [l0, l1, l2, l3] [vI x0] h Q ↔ Q (Sum.inl (some (vI x0))) h := Rn_end pg15 rfl (if_pos hf)
/-! 16 ThrowRulesModel.below(II)Z -/
theorem eX6_below : Cl r 16 [vR z0, vI x1, vI x2] h Q ↔ Rn r 16 0 [some (vR z0), some (vI x1), some (vI x2)] [] h Q := Cl_in pg16 rfl
theorem sX6_below_0 : Rn r 16 0 [l0, some (vI x), l2] [] h Q ↔ Rn r 16 1 [l0, some (vI x), l2] [vI x] h Q := Rn_nx pg16 rfl rfl
theorem sX6_below_1 : Rn r 16 1 [l0, l1, l2] [vI x0] h Q ↔ if x0 < 0 then Rn r 16 47 [l0, l1, l2] [] h Q else Rn r 16 4 [l0, l1, l2] [] h Q := Rn_if pg16 rfl rfl rfl
theorem sX6_below_4 : Rn r 16 4 [l0, some (vI x), l2] [] h Q ↔ Rn r 16 5 [l0, some (vI x), l2] [vI x] h Q := Rn_nx pg16 rfl rfl
theorem sX6_below_5 : Rn r 16 5 [some (vR z), l1, l2] [vI x0] h Q ↔ Rn r 16 6 [some (vR z), l1, l2] [vR z, vI x0] h Q := Rn_nx pg16 rfl rfl
theorem sX6_below_6 (hk : hK h a0 = 15) : Rn r 16 6 [l0, l1, l2] [vR (some a0), vI x1] h Q ↔ Rn r 16 9 [l0, l1, l2] [vR (hR h a0 3), vI x1] h Q := Rn_nx pg16 rfl (if_pos ⟨(hk ▸ Nat.le_refl _), (hk ▸ Nat.le_refl _)⟩)
theorem sX6_below_9 : Rn r 16 9 [some (vR z), l1, l2] [vR z0, vI x1] h Q ↔ Rn r 16 10 [some (vR z), l1, l2] [vR z, vR z0, vI x1] h Q := Rn_nx pg16 rfl rfl
theorem sX6_below_10 (hk : hK h a0 = 15) : Rn r 16 10 [l0, l1, l2] [vR (some a0), vR z1, vI x2] h Q ↔ Rn r 16 13 [l0, l1, l2] [vI (hI h a0 2), vR z1, vI x2] h Q := Rn_nx pg16 rfl (if_pos ⟨(hk ▸ Nat.le_refl _), (hk ▸ Nat.le_refl _)⟩)
theorem sX6_below_13 (hk : 40 ≤ hK h a1) (hk2 : hK h a1 ≤ 41) (hx : ¬ (x0 < 0 ∨ hL h a1 ≤ x0.toNatClampNeg)) : Rn r 16 13 [l0, l1, l2] [vI x0, vR (some a1), vI x2] h Q ↔ Rn r 16 14 [l0, l1, l2] [vI (hI h a1 x0.toNatClampNeg), vI x2] h Q := Rn_nx pg16 rfl ((if_pos ⟨hk, hk2⟩).trans (if_neg hx))
theorem sX6_below_14 : Rn r 16 14 [l0, l1, l2] [vI x0, vI x1] h Q ↔ if x0 ≤ x1 then Rn r 16 47 [l0, l1, l2] [] h Q else Rn r 16 17 [l0, l1, l2] [] h Q := Rn_if pg16 rfl rfl rfl
theorem sX6_below_17 : Rn r 16 17 [l0, l1, some (vI x)] [] h Q ↔ Rn r 16 18 [l0, l1, some (vI x)] [vI x] h Q := Rn_nx pg16 rfl rfl
theorem sX6_below_18 : Rn r 16 18 [l0, l1, l2] [vI x0] h Q ↔ if x0 < 0 then Rn r 16 47 [l0, l1, l2] [] h Q else Rn r 16 21 [l0, l1, l2] [] h Q := Rn_if pg16 rfl rfl rfl
theorem sX6_below_21 : Rn r 16 21 [l0, l1, some (vI x)] [] h Q ↔ Rn r 16 22 [l0, l1, some (vI x)] [vI x] h Q := Rn_nx pg16 rfl rfl
theorem sX6_below_22 : Rn r 16 22 [some (vR z), l1, l2] [vI x0] h Q ↔ Rn r 16 23 [some (vR z), l1, l2] [vR z, vI x0] h Q := Rn_nx pg16 rfl rfl
theorem sX6_below_23 (hk : hK h a0 = 15) : Rn r 16 23 [l0, l1, l2] [vR (some a0), vI x1] h Q ↔ Rn r 16 26 [l0, l1, l2] [vR (hR h a0 3), vI x1] h Q := Rn_nx pg16 rfl (if_pos ⟨(hk ▸ Nat.le_refl _), (hk ▸ Nat.le_refl _)⟩)
theorem sX6_below_26 : Rn r 16 26 [some (vR z), l1, l2] [vR z0, vI x1] h Q ↔ Rn r 16 27 [some (vR z), l1, l2] [vR z, vR z0, vI x1] h Q := Rn_nx pg16 rfl rfl
theorem sX6_below_27 (hk : hK h a0 = 15) : Rn r 16 27 [l0, l1, l2] [vR (some a0), vR z1, vI x2] h Q ↔ Rn r 16 30 [l0, l1, l2] [vI (hI h a0 2), vR z1, vI x2] h Q := Rn_nx pg16 rfl (if_pos ⟨(hk ▸ Nat.le_refl _), (hk ▸ Nat.le_refl _)⟩)
theorem sX6_below_30 (hk : 40 ≤ hK h a1) (hk2 : hK h a1 ≤ 41) (hx : ¬ (x0 < 0 ∨ hL h a1 ≤ x0.toNatClampNeg)) : Rn r 16 30 [l0, l1, l2] [vI x0, vR (some a1), vI x2] h Q ↔ Rn r 16 31 [l0, l1, l2] [vI (hI h a1 x0.toNatClampNeg), vI x2] h Q := Rn_nx pg16 rfl ((if_pos ⟨hk, hk2⟩).trans (if_neg hx))
theorem sX6_below_31 : Rn r 16 31 [l0, l1, l2] [vI x0, vI x1] h Q ↔ if x0 ≤ x1 then Rn r 16 47 [l0, l1, l2] [] h Q else Rn r 16 34 [l0, l1, l2] [] h Q := Rn_if pg16 rfl rfl rfl
theorem sX6_below_34 : Rn r 16 34 [some (vR z), l1, l2] [] h Q ↔ Rn r 16 35 [some (vR z), l1, l2] [vR z] h Q := Rn_nx pg16 rfl rfl
theorem sX6_below_35 : Rn r 16 35 [l0, some (vI x), l2] [vR z0] h Q ↔ Rn r 16 36 [l0, some (vI x), l2] [vI x, vR z0] h Q := Rn_nx pg16 rfl rfl
theorem sX6_below_36 : Rn r 16 36 [l0, l1, some (vI x)] [vI x0, vR z1] h Q ↔ Rn r 16 37 [l0, l1, some (vI x)] [vI x, vI x0, vR z1] h Q := Rn_nx pg16 rfl rfl
theorem sX6_below_37 (hk : hK h a2 = 15) : Rn r 16 37 [l0, l1, l2] [vI x0, vI x1, vR (some a2)] h Q ↔ Cl r 48 [vR (some a2), vI x1, vI x0] h (Kt r 16 40 [l0, l1, l2] [] Q) := Rn_call pg16 rfl (by simp only [am_exec, am_inv, am_pop, am_lk, hk]; rfl) pg48 rfl rfl rfl
theorem sX6_below_40 : Rn r 16 40 [l0, l1, l2] [vI x0] h Q ↔ if x0 = 0 then Rn r 16 47 [l0, l1, l2] [] h Q else Rn r 16 43 [l0, l1, l2] [] h Q := Rn_if pg16 rfl rfl rfl
theorem sX6_below_43 : Rn r 16 43 [l0, l1, l2] [] h Q ↔ Rn r 16 44 [l0, l1, l2] [vI 1] h Q := Rn_nx pg16 rfl rfl
theorem sX6_below_44 : Rn r 16 44 [l0, l1, l2] [vI x0] h Q ↔ Rn r 16 48 [l0, l1, l2] [vI x0] h Q := Rn_nx pg16 rfl rfl
theorem sX6_below_47 : Rn r 16 47 [l0, l1, l2] [] h Q ↔ Rn r 16 48 [l0, l1, l2] [vI 0] h Q := Rn_nx pg16 rfl rfl
theorem sX6_below_48 (hf : am_fit 4 x0 = true) : Rn r 16 48 [l0, l1, l2] [vI x0] h Q ↔ Q (Sum.inl (some (vI x0))) h := Rn_end pg16 rfl (if_pos hf)
/-! 17 ThrowRules.method(II)I -/
theorem eX0_method : Cl r 17 [vR z0, vI x1, vI x2] h Q ↔ Rn r 17 0 [some (vR z0), some (vI x1), some (vI x2), none] [] h Q := Cl_in pg17 rfl
theorem sX0_method_0 : Rn r 17 0 [l0, some (vI x), l2, l3] [] h Q ↔ Rn r 17 1 [l0, some (vI x), l2, l3] [vI x] h Q := Rn_nx pg17 rfl rfl
theorem sX0_method_1 : Rn r 17 1 [l0, l1, l2, l3] [vI x0] h Q ↔ Rn r 17 2 [l0, l1, l2, l3] [vI 0, vI x0] h Q := Rn_nx pg17 rfl rfl
theorem sX0_method_2 : Rn r 17 2 [some (vR z), l1, l2, l3] [vI x0, vI x1] h Q ↔ Rn r 17 3 [some (vR z), l1, l2, l3] [vR z, vI x0, vI x1] h Q := Rn_nx pg17 rfl rfl
theorem sX0_method_3 (hk : hK h a0 = 1) : Rn r 17 3 [l0, l1, l2, l3] [vR (some a0), vI x1, vI x2] h Q ↔ Rn r 17 6 [l0, l1, l2, l3] [vR (hR h a0 3), vI x1, vI x2] h Q := Rn_nx pg17 rfl (if_pos ⟨(hk ▸ Nat.le_refl _), (hk ▸ Nat.le_refl _)⟩)
theorem sX0_method_6 (hk : hK h a0 = 5) : Rn r 17 6 [l0, l1, l2, l3] [vR (some a0), vI x1, vI x2] h Q ↔ Rn r 17 9 [l0, l1, l2, l3] [vR (hR h a0 2), vI x1, vI x2] h Q := Rn_nx pg17 rfl (if_pos ⟨(hk ▸ Nat.le_refl _), (hk ▸ Nat.le_refl _)⟩)
theorem sX0_method_9 (hk : hK h a0 = 4) : Rn r 17 9 [l0, l1, l2, l3] [vR (some a0), vI x1, vI x2] h Q ↔ Cl r 34 [vR (some a0)] h (Kt r 17 12 [l0, l1, l2, l3] [vI x1, vI x2] Q) := Rn_call pg17 rfl (by simp only [am_exec, am_inv, am_pop, am_lk, hk]; rfl) pg34 rfl rfl rfl
theorem sX0_method_12 : Rn r 17 12 [l0, l1, l2, l3] [vI x0, vI x1, vI x2] h Q ↔ Rn r 17 13 [l0, l1, l2, l3] [vI 1, vI x0, vI x1, vI x2] h Q := Rn_nx pg17 rfl rfl
theorem sX0_method_13 : Rn r 17 13 [l0, l1, l2, l3] [vI x0, vI x1, vI x2, vI x3] h Q ↔ Rn r 17 14 [l0, l1, l2, l3] [vI (x1 - x0), vI x2, vI x3] h Q := Rn_nx pg17 rfl rfl
theorem sX0_method_14 : Rn r 17 14 [l0, l1, l2, l3] [vI x0, vI x1, vI x2] h Q ↔ Cl r 32 [vI x2, vI x1, vI x0] h (Kt r 17 17 [l0, l1, l2, l3] [] Q) := Rn_call pg17 rfl rfl pg32 rfl rfl rfl
theorem sX0_method_17 : Rn r 17 17 [l0, l1, l2, l3] [vI x0] h Q ↔ if x0 ≠ 0 then Rn r 17 23 [l0, l1, l2, l3] [] h Q else Rn r 17 20 [l0, l1, l2, l3] [] h Q := Rn_if pg17 rfl rfl rfl
theorem sX0_method_20 : Rn r 17 20 [l0, l1, l2, l3] [] h Q ↔ Rn r 17 22 [l0, l1, l2, l3] [vI (-3)] h Q := Rn_nx pg17 rfl rfl
theorem sX0_method_22 : Rn r 17 22 [l0, l1, l2, l3] [vI x0] h Q ↔ Q (Sum.inl (some (vI x0))) h := Rn_end pg17 rfl rfl
theorem sX0_method_23 : Rn r 17 23 [some (vR z), l1, l2, l3] [] h Q ↔ Rn r 17 24 [some (vR z), l1, l2, l3] [vR z] h Q := Rn_nx pg17 rfl rfl
theorem sX0_method_24 (hk : hK h a0 = 1) : Rn r 17 24 [l0, l1, l2, l3] [vR (some a0)] h Q ↔ Rn r 17 27 [l0, l1, l2, l3] [vR (hR h a0 3)] h Q := Rn_nx pg17 rfl (if_pos ⟨(hk ▸ Nat.le_refl _), (hk ▸ Nat.le_refl _)⟩)
theorem sX0_method_27 (hk : hK h a0 = 5) : Rn r 17 27 [l0, l1, l2, l3] [vR (some a0)] h Q ↔ Rn r 17 30 [l0, l1, l2, l3] [vR (hR h a0 2)] h Q := Rn_nx pg17 rfl (if_pos ⟨(hk ▸ Nat.le_refl _), (hk ▸ Nat.le_refl _)⟩)
theorem sX0_method_30 : Rn r 17 30 [l0, some (vI x), l2, l3] [vR z0] h Q ↔ Rn r 17 31 [l0, some (vI x), l2, l3] [vI x, vR z0] h Q := Rn_nx pg17 rfl rfl
theorem sX0_method_31 (hk : hK h a1 = 4) : Rn r 17 31 [l0, l1, l2, l3] [vI x0, vR (some a1)] h Q ↔ Cl r 43 [vR (some a1), vI x0] h (Kt r 17 34 [l0, l1, l2, l3] [] Q) := Rn_call pg17 rfl (by simp only [am_exec, am_inv, am_pop, am_lk, hk]; rfl) pg43 rfl rfl rfl
theorem sX0_method_34_n : Rn r 17 34 [l0, l1, l2, l3] [vR none] h Q ↔ Rn r 17 37 [l0, l1, l2, l3] [vR none] h Q := Rn_nx pg17 rfl rfl
theorem sX0_method_34 (hk : hK h a0 ∈ [18]) : Rn r 17 34 [l0, l1, l2, l3] [vR (some a0)] h Q ↔ Rn r 17 37 [l0, l1, l2, l3] [vR (some a0)] h Q := Rn_nx pg17 rfl (if_pos hk)
theorem sX0_method_37 : Rn r 17 37 [l0, l1, l2, l3] [vR z0] h Q ↔ Rn r 17 38 [l0, l1, l2, some (vR z0)] [] h Q := Rn_nx pg17 rfl rfl
theorem sX0_method_38 : Rn r 17 38 [l0, l1, some (vI x), l3] [] h Q ↔ Rn r 17 39 [l0, l1, some (vI x), l3] [vI x] h Q := Rn_nx pg17 rfl rfl
theorem sX0_method_39 : Rn r 17 39 [l0, l1, l2, l3] [vI x0] h Q ↔ Rn r 17 (if x0 = 0 then 80 else if x0 = 1 then 85 else if x0 = 2 then 98 else if x0 = 3 then 117 else if x0 = 4 then 129 else if x0 = 5 then 152 else if x0 = 6 then 165 else 184) [l0, l1, l2, l3] [] h Q := Rn_nx pg17 rfl rfl
theorem sX0_method_80 : Rn r 17 80 [l0, l1, l2, some (vR z)] [] h Q ↔ Rn r 17 81 [l0, l1, l2, some (vR z)] [vR z] h Q := Rn_nx pg17 rfl rfl
theorem sX0_method_81 (hk : hK h a0 = 18) : Rn r 17 81 [l0, l1, l2, l3] [vR (some a0)] h Q ↔ Rn r 17 84 [l0, l1, l2, l3] [vI (hI h a0 2)] h Q := Rn_nx pg17 rfl (if_pos ⟨(hk ▸ Nat.le_refl _), (hk ▸ Nat.le_refl _)⟩)
theorem sX0_method_84 : Rn r 17 84 [l0, l1, l2, l3] [vI x0] h Q ↔ Q (Sum.inl (some (vI x0))) h := Rn_end pg17 rfl rfl
theorem sX0_method_85 : Rn r 17 85 [l0, l1, l2, some (vR z)] [] h Q ↔ Rn r 17 86 [l0, l1, l2, some (vR z)] [vR z] h Q := Rn_nx pg17 rfl rfl
theorem sX0_method_86 (hk : hK h a0 = 18) : Rn r 17 86 [l0, l1, l2, l3] [vR (some a0)] h Q ↔ Rn r 17 89 [l0, l1, l2, l3] [vR (hR h a0 8)] h Q := Rn_nx pg17 rfl (if_pos ⟨(hk ▸ Nat.le_refl _), (hk ▸ Nat.le_refl _)⟩)
theorem sX0_method_89 : Rn r 17 89 [l0, l1, l2, l3] [vR z0] h Q ↔ if z0 ≠ none then Rn r 17 96 [l0, l1, l2, l3] [] h Q else Rn r 17 92 [l0, l1, l2, l3] [] h Q := Rn_if pg17 rfl rfl rfl
theorem sX0_method_92 : Rn r 17 92 [l0, l1, l2, l3] [] h Q ↔ Rn r 17 93 [l0, l1, l2, l3] [vI 0] h Q := Rn_nx pg17 rfl rfl
theorem sX0_method_93 : Rn r 17 93 [l0, l1, l2, l3] [vI x0] h Q ↔ Rn r 17 97 [l0, l1, l2, l3] [vI x0] h Q := Rn_nx pg17 rfl rfl
theorem sX0_method_96 : Rn r 17 96 [l0, l1, l2, l3] [] h Q ↔ Rn r 17 97 [l0, l1, l2, l3] [vI 1] h Q := Rn_nx pg17 rfl rfl
theorem sX0_method_97 : Rn r 17 97 [l0, l1, l2, l3] [vI x0] h Q ↔ Q (Sum.inl (some (vI x0))) h := Rn_end pg17 rfl rfl
theorem sX0_method_98 : Rn r 17 98 [l0, l1, l2, some (vR z)] [] h Q ↔ Rn r 17 99 [l0, l1, l2, some (vR z)] [vR z] h Q := Rn_nx pg17 rfl rfl
theorem sX0_method_99 (hk : hK h a0 = 18) : Rn r 17 99 [l0, l1, l2, l3] [vR (some a0)] h Q ↔ Rn r 17 102 [l0, l1, l2, l3] [vR (hR h a0 8)] h Q := Rn_nx pg17 rfl (if_pos ⟨(hk ▸ Nat.le_refl _), (hk ▸ Nat.le_refl _)⟩)
theorem sX0_method_102 : Rn r 17 102 [l0, l1, l2, l3] [vR z0] h Q ↔ if z0 ≠ none then Rn r 17 109 [l0, l1, l2, l3] [] h Q else Rn r 17 105 [l0, l1, l2, l3] [] h Q := Rn_if pg17 rfl rfl rfl
theorem sX0_method_105 : Rn r 17 105 [l0, l1, l2, l3] [] h Q ↔ Rn r 17 106 [l0, l1, l2, l3] [vI 0] h Q := Rn_nx pg17 rfl rfl
theorem sX0_method_106 : Rn r 17 106 [l0, l1, l2, l3] [vI x0] h Q ↔ Rn r 17 116 [l0, l1, l2, l3] [vI x0] h Q := Rn_nx pg17 rfl rfl
theorem sX0_method_109 : Rn r 17 109 [l0, l1, l2, some (vR z)] [] h Q ↔ Rn r 17 110 [l0, l1, l2, some (vR z)] [vR z] h Q := Rn_nx pg17 rfl rfl
theorem sX0_method_110 (hk : hK h a0 = 18) : Rn r 17 110 [l0, l1, l2, l3] [vR (some a0)] h Q ↔ Rn r 17 113 [l0, l1, l2, l3] [vR (hR h a0 8)] h Q := Rn_nx pg17 rfl (if_pos ⟨(hk ▸ Nat.le_refl _), (hk ▸ Nat.le_refl _)⟩)
theorem sX0_method_113 (hk : hK h a0 = 21) : Rn r 17 113 [l0, l1, l2, l3] [vR (some a0)] h Q ↔ Rn r 17 116 [l0, l1, l2, l3] [vI (hI h a0 2)] h Q := Rn_nx pg17 rfl (if_pos ⟨(hk ▸ Nat.le_refl _), (hk ▸ Nat.le_refl _)⟩)
theorem sX0_method_116 : Rn r 17 116 [l0, l1, l2, l3] [vI x0] h Q ↔ Q (Sum.inl (some (vI x0))) h := Rn_end pg17 rfl rfl
theorem sX0_method_117 : Rn r 17 117 [some (vR z), l1, l2, l3] [] h Q ↔ Rn r 17 118 [some (vR z), l1, l2, l3] [vR z] h Q := Rn_nx pg17 rfl rfl
theorem sX0_method_118 (hk : hK h a0 = 1) : Rn r 17 118 [l0, l1, l2, l3] [vR (some a0)] h Q ↔ Rn r 17 121 [l0, l1, l2, l3] [vR (hR h a0 3)] h Q := Rn_nx pg17 rfl (if_pos ⟨(hk ▸ Nat.le_refl _), (hk ▸ Nat.le_refl _)⟩)
theorem sX0_method_121 : Rn r 17 121 [l0, l1, l2, some (vR z)] [vR z0] h Q ↔ Rn r 17 122 [l0, l1, l2, some (vR z)] [vR z, vR z0] h Q := Rn_nx pg17 rfl rfl
theorem sX0_method_122 (hk : hK h a0 = 18) : Rn r 17 122 [l0, l1, l2, l3] [vR (some a0), vR z1] h Q ↔ Rn r 17 125 [l0, l1, l2, l3] [vR (hR h a0 7), vR z1] h Q := Rn_nx pg17 rfl (if_pos ⟨(hk ▸ Nat.le_refl _), (hk ▸ Nat.le_refl _)⟩)
theorem sX0_method_125 (hk : hK h a1 = 5) : Rn r 17 125 [l0, l1, l2, l3] [vR z0, vR (some a1)] h Q ↔ Cl r 49 [vR (some a1), vR z0] h (Kt r 17 128 [l0, l1, l2, l3] [] Q) := Rn_call pg17 rfl (by simp only [am_exec, am_inv, am_pop, am_lk, hk]; rfl) pg49 rfl rfl rfl
theorem sX0_method_128 : Rn r 17 128 [l0, l1, l2, l3] [vI x0] h Q ↔ Q (Sum.inl (some (vI x0))) h := Rn_end pg17 rfl rfl
theorem sX0_method_129 : Rn r 17 129 [l0, l1, l2, some (vR z)] [] h Q ↔ Rn r 17 130 [l0, l1, l2, some (vR z)] [vR z] h Q := Rn_nx pg17 rfl rfl
theorem sX0_method_130 (hk : hK h a0 = 18) : Rn r 17 130 [l0, l1, l2, l3] [vR (some a0)] h Q ↔ Rn r 17 133 [l0, l1, l2, l3] [vR (hR h a0 8)] h Q := Rn_nx pg17 rfl (if_pos ⟨(hk ▸ Nat.le_refl _), (hk ▸ Nat.le_refl _)⟩)
theorem sX0_method_133 : Rn r 17 133 [l0, l1, l2, l3] [vR z0] h Q ↔ if z0 = none then Rn r 17 150 [l0, l1, l2, l3] [] h Q else Rn r 17 136 [l0, l1, l2, l3] [] h Q := Rn_if pg17 rfl rfl rfl
theorem sX0_method_136 : Rn r 17 136 [l0, l1, l2, some (vR z)] [] h Q ↔ Rn r 17 137 [l0, l1, l2, some (vR z)] [vR z] h Q := Rn_nx pg17 rfl rfl
theorem sX0_method_137 (hk : hK h a0 = 18) : Rn r 17 137 [l0, l1, l2, l3] [vR (some a0)] h Q ↔ Rn r 17 140 [l0, l1, l2, l3] [vR (hR h a0 8)] h Q := Rn_nx pg17 rfl (if_pos ⟨(hk ▸ Nat.le_refl _), (hk ▸ Nat.le_refl _)⟩)
theorem sX0_method_140 (hk : hK h a0 = 21) : Rn r 17 140 [l0, l1, l2, l3] [vR (some a0)] h Q ↔ Rn r 17 143 [l0, l1, l2, l3] [vI (hI h a0 3)] h Q := Rn_nx pg17 rfl (if_pos ⟨(hk ▸ Nat.le_refl _), (hk ▸ Nat.le_refl _)⟩)
theorem sX0_method_143 : Rn r 17 143 [l0, l1, l2, l3] [vI x0] h Q ↔ if x0 = 0 then Rn r 17 150 [l0, l1, l2, l3] [] h Q else Rn r 17 146 [l0, l1, l2, l3] [] h Q := Rn_if pg17 rfl rfl rfl
theorem sX0_method_146 : Rn r 17 146 [l0, l1, l2, l3] [] h Q ↔ Rn r 17 147 [l0, l1, l2, l3] [vI 1] h Q := Rn_nx pg17 rfl rfl
theorem sX0_method_147 : Rn r 17 147 [l0, l1, l2, l3] [vI x0] h Q ↔ Rn r 17 151 [l0, l1, l2, l3] [vI x0] h Q := Rn_nx pg17 rfl rfl
theorem sX0_method_150 : Rn r 17 150 [l0, l1, l2, l3] [] h Q ↔ Rn r 17 151 [l0, l1, l2, l3] [vI 0] h Q := Rn_nx pg17 rfl rfl
theorem sX0_method_151 : Rn r 17 151 [l0, l1, l2, l3] [vI x0] h Q ↔ Q (Sum.inl (some (vI x0))) h := Rn_end pg17 rfl rfl
theorem sX0_method_152 : Rn r 17 152 [l0, l1, l2, some (vR z)] [] h Q ↔ Rn r 17 153 [l0, l1, l2, some (vR z)] [vR z] h Q := Rn_nx pg17 rfl rfl
theorem sX0_method_153 (hk : hK h a0 = 18) : Rn r 17 153 [l0, l1, l2, l3] [vR (some a0)] h Q ↔ Rn r 17 156 [l0, l1, l2, l3] [vI (hI h a0 3)] h Q := Rn_nx pg17 rfl (if_pos ⟨(hk ▸ Nat.le_refl _), (hk ▸ Nat.le_refl _)⟩)
theorem sX0_method_156 : Rn r 17 156 [l0, l1, l2, l3] [vI x0] h Q ↔ if x0 = 0 then Rn r 17 163 [l0, l1, l2, l3] [] h Q else Rn r 17 159 [l0, l1, l2, l3] [] h Q := Rn_if pg17 rfl rfl rfl
theorem sX0_method_159 : Rn r 17 159 [l0, l1, l2, l3] [] h Q ↔ Rn r 17 160 [l0, l1, l2, l3] [vI 1] h Q := Rn_nx pg17 rfl rfl
theorem sX0_method_160 : Rn r 17 160 [l0, l1, l2, l3] [vI x0] h Q ↔ Rn r 17 164 [l0, l1, l2, l3] [vI x0] h Q := Rn_nx pg17 rfl rfl
theorem sX0_method_163 : Rn r 17 163 [l0, l1, l2, l3] [] h Q ↔ Rn r 17 164 [l0, l1, l2, l3] [vI 0] h Q := Rn_nx pg17 rfl rfl
theorem sX0_method_164 : Rn r 17 164 [l0, l1, l2, l3] [vI x0] h Q ↔ Q (Sum.inl (some (vI x0))) h := Rn_end pg17 rfl rfl
theorem sX0_method_165 : Rn r 17 165 [l0, l1, l2, some (vR z)] [] h Q ↔ Rn r 17 166 [l0, l1, l2, some (vR z)] [vR z] h Q := Rn_nx pg17 rfl rfl
theorem sX0_method_166 (hk : hK h a0 = 18) : Rn r 17 166 [l0, l1, l2, l3] [vR (some a0)] h Q ↔ Rn r 17 169 [l0, l1, l2, l3] [vR (hR h a0 6)] h Q := Rn_nx pg17 rfl (if_pos ⟨(hk ▸ Nat.le_refl _), (hk ▸ Nat.le_refl _)⟩)
theorem sX0_method_169 : Rn r 17 169 [l0, l1, l2, l3] [vR z0] h Q ↔ if z0 ≠ none then Rn r 17 176 [l0, l1, l2, l3] [] h Q else Rn r 17 172 [l0, l1, l2, l3] [] h Q := Rn_if pg17 rfl rfl rfl
theorem sX0_method_172 : Rn r 17 172 [l0, l1, l2, l3] [] h Q ↔ Rn r 17 173 [l0, l1, l2, l3] [vI (-1)] h Q := Rn_nx pg17 rfl rfl
theorem sX0_method_173 : Rn r 17 173 [l0, l1, l2, l3] [vI x0] h Q ↔ Rn r 17 183 [l0, l1, l2, l3] [vI x0] h Q := Rn_nx pg17 rfl rfl
theorem sX0_method_176 : Rn r 17 176 [l0, l1, l2, some (vR z)] [] h Q ↔ Rn r 17 177 [l0, l1, l2, some (vR z)] [vR z] h Q := Rn_nx pg17 rfl rfl
theorem sX0_method_177 (hk : hK h a0 = 18) : Rn r 17 177 [l0, l1, l2, l3] [vR (some a0)] h Q ↔ Rn r 17 180 [l0, l1, l2, l3] [vR (hR h a0 6)] h Q := Rn_nx pg17 rfl (if_pos ⟨(hk ▸ Nat.le_refl _), (hk ▸ Nat.le_refl _)⟩)
theorem sX0_method_180 (hk : hK h a0 = 18) : Rn r 17 180 [l0, l1, l2, l3] [vR (some a0)] h Q ↔ Rn r 17 183 [l0, l1, l2, l3] [vI (hI h a0 1)] h Q := Rn_nx pg17 rfl (if_pos ⟨(hk ▸ Nat.le_refl _), (hk ▸ Nat.le_refl _)⟩)
theorem sX0_method_183 : Rn r 17 183 [l0, l1, l2, l3] [vI x0] h Q ↔ Q (Sum.inl (some (vI x0))) h := Rn_end pg17 rfl rfl
theorem sX0_method_184 : Rn r 17 184 [l0, l1, l2, l3] [] h Q ↔ Rn r 17 186 [l0, l1, l2, l3] [vI (-3)] h Q := Rn_nx pg17 rfl rfl
theorem sX0_method_186 : Rn r 17 186 [l0, l1, l2, l3] [vI x0] h Q ↔ Q (Sum.inl (some (vI x0))) h := Rn_end pg17 rfl rfl
/-! 18 ThrowRulesModel.method(II)I -/
theorem eX6_method : Cl r 18 [vR z0, vI x1, vI x2] h Q ↔ Rn r 18 0 [some (vR z0), some (vI x1), some (vI x2), none] [] h Q := Cl_in pg18 rfl
theorem sX6_method_0 : Rn r 18 0 [l0, some (vI x), l2, l3] [] h Q ↔ Rn r 18 1 [l0, some (vI x), l2, l3] [vI x] h Q := Rn_nx pg18 rfl rfl
theorem sX6_method_1 : Rn r 18 1 [l0, l1, l2, l3] [vI x0] h Q ↔ if x0 < 0 then Rn r 18 17 [l0, l1, l2, l3] [] h Q else Rn r 18 4 [l0, l1, l2, l3] [] h Q := Rn_if pg18 rfl rfl rfl
theorem sX6_method_4 : Rn r 18 4 [l0, some (vI x), l2, l3] [] h Q ↔ Rn r 18 5 [l0, some (vI x), l2, l3] [vI x] h Q := Rn_nx pg18 rfl rfl
theorem sX6_method_5 : Rn r 18 5 [some (vR z), l1, l2, l3] [vI x0] h Q ↔ Rn r 18 6 [some (vR z), l1, l2, l3] [vR z, vI x0] h Q := Rn_nx pg18 rfl rfl
theorem sX6_method_6 (hk : hK h a0 = 15) : Rn r 18 6 [l0, l1, l2, l3] [vR (some a0), vI x1] h Q ↔ Rn r 18 9 [l0, l1, l2, l3] [vR (hR h a0 9), vI x1] h Q := Rn_nx pg18 rfl (if_pos ⟨(hk ▸ Nat.le_refl _), (hk ▸ Nat.le_refl _)⟩)
theorem sX6_method_9 : Rn r 18 9 [some (vR z), l1, l2, l3] [vR z0, vI x1] h Q ↔ Rn r 18 10 [some (vR z), l1, l2, l3] [vR z, vR z0, vI x1] h Q := Rn_nx pg18 rfl rfl
theorem sX6_method_10 (hk : hK h a0 = 15) : Rn r 18 10 [l0, l1, l2, l3] [vR (some a0), vR z1, vI x2] h Q ↔ Rn r 18 13 [l0, l1, l2, l3] [vI (hI h a0 2), vR z1, vI x2] h Q := Rn_nx pg18 rfl (if_pos ⟨(hk ▸ Nat.le_refl _), (hk ▸ Nat.le_refl _)⟩)
theorem sX6_method_13 (hk : 40 ≤ hK h a1) (hk2 : hK h a1 ≤ 41) (hx : ¬ (x0 < 0 ∨ hL h a1 ≤ x0.toNatClampNeg)) : Rn r 18 13 [l0, l1, l2, l3] [vI x0, vR (some a1), vI x2] h Q ↔ Rn r 18 14 [l0, l1, l2, l3] [vI (hI h a1 x0.toNatClampNeg), vI x2] h Q := Rn_nx pg18 rfl ((if_pos ⟨hk, hk2⟩).trans (if_neg hx))
theorem sX6_method_14 : Rn r 18 14 [l0, l1, l2, l3] [vI x0, vI x1] h Q ↔ if x1 < x0 then Rn r 18 20 [l0, l1, l2, l3] [] h Q else Rn r 18 17 [l0, l1, l2, l3] [] h Q := Rn_if pg18 rfl rfl rfl
theorem sX6_method_17 : Rn r 18 17 [l0, l1, l2, l3] [] h Q ↔ Rn r 18 19 [l0, l1, l2, l3] [vI (-3)] h Q := Rn_nx pg18 rfl rfl
theorem sX6_method_19 : Rn r 18 19 [l0, l1, l2, l3] [vI x0] h Q ↔ Q (Sum.inl (some (vI x0))) h := Rn_end pg18 rfl rfl
theorem sX6_method_20 : Rn r 18 20 [some (vR z), l1, l2, l3] [] h Q ↔ Rn r 18 21 [some (vR z), l1, l2, l3] [vR z] h Q := Rn_nx pg18 rfl rfl
theorem sX6_method_21 (hk : hK h a0 = 15) : Rn r 18 21 [l0, l1, l2, l3] [vR (some a0)] h Q ↔ Rn r 18 24 [l0, l1, l2, l3] [vI (hI h a0 2)] h Q := Rn_nx pg18 rfl (if_pos ⟨(hk ▸ Nat.le_refl _), (hk ▸ Nat.le_refl _)⟩)
theorem sX6_method_24 : Rn r 18 24 [l0, l1, l2, l3] [vI x0] h Q ↔ Rn r 18 26 [l0, l1, l2, l3] [vI 12, vI x0] h Q := Rn_nx pg18 rfl rfl
theorem sX6_method_26 : Rn r 18 26 [l0, l1, l2, l3] [vI x0, vI x1] h Q ↔ Rn r 18 27 [l0, l1, l2, l3] [vI (x1 * x0)] h Q := Rn_nx pg18 rfl rfl
theorem sX6_method_27 : Rn r 18 27 [l0, some (vI x), l2, l3] [vI x0] h Q ↔ Rn r 18 28 [l0, some (vI x), l2, l3] [vI x, vI x0] h Q := Rn_nx pg18 rfl rfl
theorem sX6_method_28 : Rn r 18 28 [l0, l1, l2, l3] [vI x0, vI x1] h Q ↔ Rn r 18 29 [l0, l1, l2, l3] [vI (x1 + x0)] h Q := Rn_nx pg18 rfl rfl
theorem sX6_method_29 : Rn r 18 29 [l0, l1, l2, l3] [vI x0] h Q ↔ Rn r 18 30 [l0, l1, l2, some (vI x0)] [] h Q := Rn_nx pg18 rfl rfl
theorem sX6_method_30 : Rn r 18 30 [l0, l1, some (vI x), l3] [] h Q ↔ Rn r 18 31 [l0, l1, some (vI x), l3] [vI x] h Q := Rn_nx pg18 rfl rfl
theorem sX6_method_31 : Rn r 18 31 [l0, l1, l2, l3] [vI x0] h Q ↔ Rn r 18 (if x0 = 0 then 72 else if x0 = 1 then 79 else if x0 = 2 then 95 else if x0 = 3 then 106 else if x0 = 4 then 112 else if x0 = 5 then 131 else if x0 = 6 then 146 else 172) [l0, l1, l2, l3] [] h Q := Rn_nx pg18 rfl rfl
theorem sX6_method_72 : Rn r 18 72 [some (vR z), l1, l2, l3] [] h Q ↔ Rn r 18 73 [some (vR z), l1, l2, l3] [vR z] h Q := Rn_nx pg18 rfl rfl
theorem sX6_method_73 (hk : hK h a0 = 15) : Rn r 18 73 [l0, l1, l2, l3] [vR (some a0)] h Q ↔ Rn r 18 76 [l0, l1, l2, l3] [vR (hR h a0 11)] h Q := Rn_nx pg18 rfl (if_pos ⟨(hk ▸ Nat.le_refl _), (hk ▸ Nat.le_refl _)⟩)
theorem sX6_method_76 : Rn r 18 76 [l0, l1, l2, some (vI x)] [vR z0] h Q ↔ Rn r 18 77 [l0, l1, l2, some (vI x)] [vI x, vR z0] h Q := Rn_nx pg18 rfl rfl
theorem sX6_method_77 (hk : 40 ≤ hK h a1) (hk2 : hK h a1 ≤ 41) (hx : ¬ (x0 < 0 ∨ hL h a1 ≤ x0.toNatClampNeg)) : Rn r 18 77 [l0, l1, l2, l3] [vI x0, vR (some a1)] h Q ↔ Rn r 18 78 [l0, l1, l2, l3] [vI (hI h a1 x0.toNatClampNeg)] h Q := Rn_nx pg18 rfl ((if_pos ⟨hk, hk2⟩).trans (if_neg hx))
theorem sX6_method_78 : Rn r 18 78 [l0, l1, l2, l3] [vI x0] h Q ↔ Q (Sum.inl (some (vI x0))) h := Rn_end pg18 rfl rfl
theorem sX6_method_79 : Rn r 18 79 [some (vR z), l1, l2, l3] [] h Q ↔ Rn r 18 80 [some (vR z), l1, l2, l3] [vR z] h Q := Rn_nx pg18 rfl rfl
theorem sX6_method_80 (hk : hK h a0 = 15) : Rn r 18 80 [l0, l1, l2, l3] [vR (some a0)] h Q ↔ Rn r 18 83 [l0, l1, l2, l3] [vR (hR h a0 18)] h Q := Rn_nx pg18 rfl (if_pos ⟨(hk ▸ Nat.le_refl _), (hk ▸ Nat.le_refl _)⟩)
theorem sX6_method_83 : Rn r 18 83 [l0, l1, l2, some (vI x)] [vR z0] h Q ↔ Rn r 18 84 [l0, l1, l2, some (vI x)] [vI x, vR z0] h Q := Rn_nx pg18 rfl rfl
theorem sX6_method_84 (hk : 40 ≤ hK h a1) (hk2 : hK h a1 ≤ 41) (hx : ¬ (x0 < 0 ∨ hL h a1 ≤ x0.toNatClampNeg)) : Rn r 18 84 [l0, l1, l2, l3] [vI x0, vR (some a1)] h Q ↔ Rn r 18 85 [l0, l1, l2, l3] [vI (hI h a1 x0.toNatClampNeg)] h Q := Rn_nx pg18 rfl ((if_pos ⟨hk, hk2⟩).trans (if_neg hx))
theorem sX6_method_85 : Rn r 18 85 [l0, l1, l2, l3] [vI x0] h Q ↔ Rn r 18 86 [l0, l1, l2, l3] [vI (-1), vI x0] h Q := Rn_nx pg18 rfl rfl
theorem sX6_method_86 : Rn r 18 86 [l0, l1, l2, l3] [vI x0, vI x1] h Q ↔ if x1 ≠ x0 then Rn r 18 93 [l0, l1, l2, l3] [] h Q else Rn r 18 89 [l0, l1, l2, l3] [] h Q := Rn_if pg18 rfl rfl rfl
theorem sX6_method_89 : Rn r 18 89 [l0, l1, l2, l3] [] h Q ↔ Rn r 18 90 [l0, l1, l2, l3] [vI 0] h Q := Rn_nx pg18 rfl rfl
theorem sX6_method_90 : Rn r 18 90 [l0, l1, l2, l3] [vI x0] h Q ↔ Rn r 18 94 [l0, l1, l2, l3] [vI x0] h Q := Rn_nx pg18 rfl rfl
theorem sX6_method_93 : Rn r 18 93 [l0, l1, l2, l3] [] h Q ↔ Rn r 18 94 [l0, l1, l2, l3] [vI 1] h Q := Rn_nx pg18 rfl rfl
theorem sX6_method_94 : Rn r 18 94 [l0, l1, l2, l3] [vI x0] h Q ↔ Q (Sum.inl (some (vI x0))) h := Rn_end pg18 rfl rfl
theorem sX6_method_95 : Rn r 18 95 [some (vR z), l1, l2, l3] [] h Q ↔ Rn r 18 96 [some (vR z), l1, l2, l3] [vR z] h Q := Rn_nx pg18 rfl rfl
theorem sX6_method_96 : Rn r 18 96 [some (vR z), l1, l2, l3] [vR z0] h Q ↔ Rn r 18 97 [some (vR z), l1, l2, l3] [vR z, vR z0] h Q := Rn_nx pg18 rfl rfl
theorem sX6_method_97 (hk : hK h a0 = 15) : Rn r 18 97 [l0, l1, l2, l3] [vR (some a0), vR z1] h Q ↔ Rn r 18 100 [l0, l1, l2, l3] [vR (hR h a0 18), vR z1] h Q := Rn_nx pg18 rfl (if_pos ⟨(hk ▸ Nat.le_refl _), (hk ▸ Nat.le_refl _)⟩)
theorem sX6_method_100 : Rn r 18 100 [l0, l1, l2, some (vI x)] [vR z0, vR z1] h Q ↔ Rn r 18 101 [l0, l1, l2, some (vI x)] [vI x, vR z0, vR z1] h Q := Rn_nx pg18 rfl rfl
theorem sX6_method_101 (hk : 40 ≤ hK h a1) (hk2 : hK h a1 ≤ 41) (hx : ¬ (x0 < 0 ∨ hL h a1 ≤ x0.toNatClampNeg)) : Rn r 18 101 [l0, l1, l2, l3] [vI x0, vR (some a1), vR z2] h Q ↔ Rn r 18 102 [l0, l1, l2, l3] [vI (hI h a1 x0.toNatClampNeg), vR z2] h Q := Rn_nx pg18 rfl ((if_pos ⟨hk, hk2⟩).trans (if_neg hx))
theorem sX6_method_102 (hk : hK h a1 = 15) : Rn r 18 102 [l0, l1, l2, l3] [vI x0, vR (some a1)] h Q ↔ Cl r 50 [vR (some a1), vI x0] h (Kt r 18 105 [l0, l1, l2, l3] [] Q) := Rn_call pg18 rfl (by simp only [am_exec, am_inv, am_pop, am_lk, hk]; rfl) pg50 rfl rfl rfl
theorem sX6_method_105 : Rn r 18 105 [l0, l1, l2, l3] [vI x0] h Q ↔ Q (Sum.inl (some (vI x0))) h := Rn_end pg18 rfl rfl
theorem sX6_method_106 : Rn r 18 106 [some (vR z), l1, l2, l3] [] h Q ↔ Rn r 18 107 [some (vR z), l1, l2, l3] [vR z] h Q := Rn_nx pg18 rfl rfl
theorem sX6_method_107 : Rn r 18 107 [l0, some (vI x), l2, l3] [vR z0] h Q ↔ Rn r 18 108 [l0, some (vI x), l2, l3] [vI x, vR z0] h Q := Rn_nx pg18 rfl rfl
theorem sX6_method_108 (hk : hK h a1 = 15) : Rn r 18 108 [l0, l1, l2, l3] [vI x0, vR (some a1)] h Q ↔ Cl r 51 [vR (some a1), vI x0] h (Kt r 18 111 [l0, l1, l2, l3] [] Q) := Rn_call pg18 rfl (by simp only [am_exec, am_inv, am_pop, am_lk, hk]; rfl) pg51 rfl rfl rfl
theorem sX6_method_111 : Rn r 18 111 [l0, l1, l2, l3] [vI x0] h Q ↔ Q (Sum.inl (some (vI x0))) h := Rn_end pg18 rfl rfl
theorem sX6_method_112 : Rn r 18 112 [some (vR z), l1, l2, l3] [] h Q ↔ Rn r 18 113 [some (vR z), l1, l2, l3] [vR z] h Q := Rn_nx pg18 rfl rfl
theorem sX6_method_113 : Rn r 18 113 [some (vR z), l1, l2, l3] [vR z0] h Q ↔ Rn r 18 114 [some (vR z), l1, l2, l3] [vR z, vR z0] h Q := Rn_nx pg18 rfl rfl
theorem sX6_method_114 (hk : hK h a0 = 15) : Rn r 18 114 [l0, l1, l2, l3] [vR (some a0), vR z1] h Q ↔ Rn r 18 117 [l0, l1, l2, l3] [vR (hR h a0 18), vR z1] h Q := Rn_nx pg18 rfl (if_pos ⟨(hk ▸ Nat.le_refl _), (hk ▸ Nat.le_refl _)⟩)
theorem sX6_method_117 : Rn r 18 117 [l0, l1, l2, some (vI x)] [vR z0, vR z1] h Q ↔ Rn r 18 118 [l0, l1, l2, some (vI x)] [vI x, vR z0, vR z1] h Q := Rn_nx pg18 rfl rfl
theorem sX6_method_118 (hk : 40 ≤ hK h a1) (hk2 : hK h a1 ≤ 41) (hx : ¬ (x0 < 0 ∨ hL h a1 ≤ x0.toNatClampNeg)) : Rn r 18 118 [l0, l1, l2, l3] [vI x0, vR (some a1), vR z2] h Q ↔ Rn r 18 119 [l0, l1, l2, l3] [vI (hI h a1 x0.toNatClampNeg), vR z2] h Q := Rn_nx pg18 rfl ((if_pos ⟨hk, hk2⟩).trans (if_neg hx))
theorem sX6_method_119 (hk : hK h a1 = 15) : Rn r 18 119 [l0, l1, l2, l3] [vI x0, vR (some a1)] h Q ↔ Cl r 52 [vR (some a1), vI x0] h (Kt r 18 122 [l0, l1, l2, l3] [] Q) := Rn_call pg18 rfl (by simp only [am_exec, am_inv, am_pop, am_lk, hk]; rfl) pg52 rfl rfl rfl
theorem sX6_method_122 : Rn r 18 122 [l0, l1, l2, l3] [vI x0] h Q ↔ if x0 = 0 then Rn r 18 129 [l0, l1, l2, l3] [] h Q else Rn r 18 125 [l0, l1, l2, l3] [] h Q := Rn_if pg18 rfl rfl rfl
theorem sX6_method_125 : Rn r 18 125 [l0, l1, l2, l3] [] h Q ↔ Rn r 18 126 [l0, l1, l2, l3] [vI 1] h Q := Rn_nx pg18 rfl rfl
theorem sX6_method_126 : Rn r 18 126 [l0, l1, l2, l3] [vI x0] h Q ↔ Rn r 18 130 [l0, l1, l2, l3] [vI x0] h Q := Rn_nx pg18 rfl rfl
theorem sX6_method_129 : Rn r 18 129 [l0, l1, l2, l3] [] h Q ↔ Rn r 18 130 [l0, l1, l2, l3] [vI 0] h Q := Rn_nx pg18 rfl rfl
theorem sX6_method_130 : Rn r 18 130 [l0, l1, l2, l3] [vI x0] h Q ↔ Q (Sum.inl (some (vI x0))) h := Rn_end pg18 rfl rfl
theorem sX6_method_131 : Rn r 18 131 [some (vR z), l1, l2, l3] [] h Q ↔ Rn r 18 132 [some (vR z), l1, l2, l3] [vR z] h Q := Rn_nx pg18 rfl rfl
theorem sX6_method_132 (hk : hK h a0 = 15) : Rn r 18 132 [l0, l1, l2, l3] [vR (some a0)] h Q ↔ Rn r 18 135 [l0, l1, l2, l3] [vR (hR h a0 14)] h Q := Rn_nx pg18 rfl (if_pos ⟨(hk ▸ Nat.le_refl _), (hk ▸ Nat.le_refl _)⟩)
theorem sX6_method_135 : Rn r 18 135 [l0, l1, l2, some (vI x)] [vR z0] h Q ↔ Rn r 18 136 [l0, l1, l2, some (vI x)] [vI x, vR z0] h Q := Rn_nx pg18 rfl rfl
theorem sX6_method_136 (hk : 43 ≤ hK h a1) (hk2 : hK h a1 ≤ 45) (hx : ¬ (x0 < 0 ∨ hL h a1 ≤ x0.toNatClampNeg)) : Rn r 18 136 [l0, l1, l2, l3] [vI x0, vR (some a1)] h Q ↔ Rn r 18 137 [l0, l1, l2, l3] [vI (hI h a1 x0.toNatClampNeg)] h Q := Rn_nx pg18 rfl ((if_pos ⟨hk, hk2⟩).trans (if_neg hx))
theorem sX6_method_137 : Rn r 18 137 [l0, l1, l2, l3] [vI x0] h Q ↔ if x0 = 0 then Rn r 18 144 [l0, l1, l2, l3] [] h Q else Rn r 18 140 [l0, l1, l2, l3] [] h Q := Rn_if pg18 rfl rfl rfl
theorem sX6_method_140 : Rn r 18 140 [l0, l1, l2, l3] [] h Q ↔ Rn r 18 141 [l0, l1, l2, l3] [vI 1] h Q := Rn_nx pg18 rfl rfl
theorem sX6_method_141 : Rn r 18 141 [l0, l1, l2, l3] [vI x0] h Q ↔ Rn r 18 145 [l0, l1, l2, l3] [vI x0] h Q := Rn_nx pg18 rfl rfl
theorem sX6_method_144 : Rn r 18 144 [l0, l1, l2, l3] [] h Q ↔ Rn r 18 145 [l0, l1, l2, l3] [vI 0] h Q := Rn_nx pg18 rfl rfl
theorem sX6_method_145 : Rn r 18 145 [l0, l1, l2, l3] [vI x0] h Q ↔ Q (Sum.inl (some (vI x0))) h := Rn_end pg18 rfl rfl
theorem sX6_method_146 : Rn r 18 146 [some (vR z), l1, l2, l3] [] h Q ↔ Rn r 18 147 [some (vR z), l1, l2, l3] [vR z] h Q := Rn_nx pg18 rfl rfl
theorem sX6_method_147 (hk : hK h a0 = 15) : Rn r 18 147 [l0, l1, l2, l3] [vR (some a0)] h Q ↔ Rn r 18 150 [l0, l1, l2, l3] [vR (hR h a0 12)] h Q := Rn_nx pg18 rfl (if_pos ⟨(hk ▸ Nat.le_refl _), (hk ▸ Nat.le_refl _)⟩)
theorem sX6_method_150 : Rn r 18 150 [l0, l1, l2, some (vI x)] [vR z0] h Q ↔ Rn r 18 151 [l0, l1, l2, some (vI x)] [vI x, vR z0] h Q := Rn_nx pg18 rfl rfl
theorem sX6_method_151 (hk : hK h a1 = 42) (hx : ¬ (x0 < 0 ∨ hL h a1 ≤ x0.toNatClampNeg)) : Rn r 18 151 [l0, l1, l2, l3] [vI x0, vR (some a1)] h Q ↔ Rn r 18 152 [l0, l1, l2, l3] [vL (hJ h a1 x0.toNatClampNeg)] h Q := Rn_nx pg18 rfl ((if_pos ⟨(hk ▸ Nat.le_refl _), (hk ▸ Nat.le_refl _)⟩).trans (if_neg hx))
theorem sX6_method_152 : Rn r 18 152 [l0, l1, l2, l3] [vL y0] h Q ↔ Rn r 18 153 [l0, l1, l2, l3] [vL 0, vL y0] h Q := Rn_nx pg18 rfl rfl
theorem sX6_method_153 : Rn r 18 153 [l0, l1, l2, l3] [vL y0, vL y1] h Q ↔ Rn r 18 154 [l0, l1, l2, l3] [vI (lg_cmp y1 y0)] h Q := Rn_nx pg18 rfl rfl
theorem sX6_method_154 : Rn r 18 154 [l0, l1, l2, l3] [vI x0] h Q ↔ if x0 ≠ 0 then Rn r 18 161 [l0, l1, l2, l3] [] h Q else Rn r 18 157 [l0, l1, l2, l3] [] h Q := Rn_if pg18 rfl rfl rfl
theorem sX6_method_157 : Rn r 18 157 [l0, l1, l2, l3] [] h Q ↔ Rn r 18 158 [l0, l1, l2, l3] [vI (-1)] h Q := Rn_nx pg18 rfl rfl
theorem sX6_method_158 : Rn r 18 158 [l0, l1, l2, l3] [vI x0] h Q ↔ Rn r 18 171 [l0, l1, l2, l3] [vI x0] h Q := Rn_nx pg18 rfl rfl
theorem sX6_method_161 : Rn r 18 161 [some (vR z), l1, l2, l3] [] h Q ↔ Rn r 18 162 [some (vR z), l1, l2, l3] [vR z] h Q := Rn_nx pg18 rfl rfl
theorem sX6_method_162 : Rn r 18 162 [some (vR z), l1, l2, l3] [vR z0] h Q ↔ Rn r 18 163 [some (vR z), l1, l2, l3] [vR z, vR z0] h Q := Rn_nx pg18 rfl rfl
theorem sX6_method_163 (hk : hK h a0 = 15) : Rn r 18 163 [l0, l1, l2, l3] [vR (some a0), vR z1] h Q ↔ Rn r 18 166 [l0, l1, l2, l3] [vR (hR h a0 12), vR z1] h Q := Rn_nx pg18 rfl (if_pos ⟨(hk ▸ Nat.le_refl _), (hk ▸ Nat.le_refl _)⟩)
theorem sX6_method_166 : Rn r 18 166 [l0, l1, l2, some (vI x)] [vR z0, vR z1] h Q ↔ Rn r 18 167 [l0, l1, l2, some (vI x)] [vI x, vR z0, vR z1] h Q := Rn_nx pg18 rfl rfl
theorem sX6_method_167 (hk : hK h a1 = 42) (hx : ¬ (x0 < 0 ∨ hL h a1 ≤ x0.toNatClampNeg)) : Rn r 18 167 [l0, l1, l2, l3] [vI x0, vR (some a1), vR z2] h Q ↔ Rn r 18 168 [l0, l1, l2, l3] [vL (hJ h a1 x0.toNatClampNeg), vR z2] h Q := Rn_nx pg18 rfl ((if_pos ⟨(hk ▸ Nat.le_refl _), (hk ▸ Nat.le_refl _)⟩).trans (if_neg hx))
theorem sX6_method_168 (hk : hK h a1 = 15) : Rn r 18 168 [l0, l1, l2, l3] [vL y0, vR (some a1)] h Q ↔ Cl r 53 [vR (some a1), vL y0] h (Kt r 18 171 [l0, l1, l2, l3] [] Q) := Rn_call pg18 rfl (by simp only [am_exec, am_inv, am_pop, am_lk, hk]; rfl) pg53 rfl rfl rfl
theorem sX6_method_171 : Rn r 18 171 [l0, l1, l2, l3] [vI x0] h Q ↔ Q (Sum.inl (some (vI x0))) h := Rn_end pg18 rfl rfl
theorem sX6_method_172 : Rn r 18 172 [l0, l1, l2, l3] [] h Q ↔ Rn r 18 174 [l0, l1, l2, l3] [vI (-3)] h Q := Rn_nx pg18 rfl rfl
theorem sX6_method_174 : Rn r 18 174 [l0, l1, l2, l3] [vI x0] h Q ↔ Q (Sum.inl (some (vI x0))) h := Rn_end pg18 rfl rfl
/-! 19 ThrowRules.statement(II)I -/
theorem eX0_statement : Cl r 19 [vR z0, vI x1, vI x2] h Q ↔ Rn r 19 0 [some (vR z0), some (vI x1), some (vI x2), none] [] h Q := Cl_in pg19 rfl
theorem sX0_statement_0 : Rn r 19 0 [l0, some (vI x), l2, l3] [] h Q ↔ Rn r 19 1 [l0, some (vI x), l2, l3] [vI x] h Q := Rn_nx pg19 rfl rfl
theorem sX0_statement_1 : Rn r 19 1 [l0, l1, l2, l3] [vI x0] h Q ↔ Rn r 19 2 [l0, l1, l2, l3] [vI 0, vI x0] h Q := Rn_nx pg19 rfl rfl
theorem sX0_statement_2 : Rn r 19 2 [some (vR z), l1, l2, l3] [vI x0, vI x1] h Q ↔ Rn r 19 3 [some (vR z), l1, l2, l3] [vR z, vI x0, vI x1] h Q := Rn_nx pg19 rfl rfl
theorem sX0_statement_3 (hk : hK h a0 = 1) : Rn r 19 3 [l0, l1, l2, l3] [vR (some a0), vI x1, vI x2] h Q ↔ Rn r 19 6 [l0, l1, l2, l3] [vR (hR h a0 3), vI x1, vI x2] h Q := Rn_nx pg19 rfl (if_pos ⟨(hk ▸ Nat.le_refl _), (hk ▸ Nat.le_refl _)⟩)
theorem sX0_statement_6 (hk : hK h a0 = 5) : Rn r 19 6 [l0, l1, l2, l3] [vR (some a0), vI x1, vI x2] h Q ↔ Rn r 19 9 [l0, l1, l2, l3] [vR (hR h a0 4), vI x1, vI x2] h Q := Rn_nx pg19 rfl (if_pos ⟨(hk ▸ Nat.le_refl _), (hk ▸ Nat.le_refl _)⟩)
theorem sX0_statement_9 (hk : hK h a0 = 4) : Rn r 19 9 [l0, l1, l2, l3] [vR (some a0), vI x1, vI x2] h Q ↔ Cl r 34 [vR (some a0)] h (Kt r 19 12 [l0, l1, l2, l3] [vI x1, vI x2] Q) := Rn_call pg19 rfl (by simp only [am_exec, am_inv, am_pop, am_lk, hk]; rfl) pg34 rfl rfl rfl
theorem sX0_statement_12 : Rn r 19 12 [l0, l1, l2, l3] [vI x0, vI x1, vI x2] h Q ↔ Rn r 19 13 [l0, l1, l2, l3] [vI 1, vI x0, vI x1, vI x2] h Q := Rn_nx pg19 rfl rfl
theorem sX0_statement_13 : Rn r 19 13 [l0, l1, l2, l3] [vI x0, vI x1, vI x2, vI x3] h Q ↔ Rn r 19 14 [l0, l1, l2, l3] [vI (x1 - x0), vI x2, vI x3] h Q := Rn_nx pg19 rfl rfl
theorem sX0_statement_14 : Rn r 19 14 [l0, l1, l2, l3] [vI x0, vI x1, vI x2] h Q ↔ Cl r 32 [vI x2, vI x1, vI x0] h (Kt r 19 17 [l0, l1, l2, l3] [] Q) := Rn_call pg19 rfl rfl pg32 rfl rfl rfl
theorem sX0_statement_17 : Rn r 19 17 [l0, l1, l2, l3] [vI x0] h Q ↔ if x0 ≠ 0 then Rn r 19 23 [l0, l1, l2, l3] [] h Q else Rn r 19 20 [l0, l1, l2, l3] [] h Q := Rn_if pg19 rfl rfl rfl
theorem sX0_statement_20 : Rn r 19 20 [l0, l1, l2, l3] [] h Q ↔ Rn r 19 22 [l0, l1, l2, l3] [vI (-3)] h Q := Rn_nx pg19 rfl rfl
theorem sX0_statement_22 : Rn r 19 22 [l0, l1, l2, l3] [vI x0] h Q ↔ Q (Sum.inl (some (vI x0))) h := Rn_end pg19 rfl rfl
theorem sX0_statement_23 : Rn r 19 23 [some (vR z), l1, l2, l3] [] h Q ↔ Rn r 19 24 [some (vR z), l1, l2, l3] [vR z] h Q := Rn_nx pg19 rfl rfl
theorem sX0_statement_24 (hk : hK h a0 = 1) : Rn r 19 24 [l0, l1, l2, l3] [vR (some a0)] h Q ↔ Rn r 19 27 [l0, l1, l2, l3] [vR (hR h a0 3)] h Q := Rn_nx pg19 rfl (if_pos ⟨(hk ▸ Nat.le_refl _), (hk ▸ Nat.le_refl _)⟩)
theorem sX0_statement_27 (hk : hK h a0 = 5) : Rn r 19 27 [l0, l1, l2, l3] [vR (some a0)] h Q ↔ Rn r 19 30 [l0, l1, l2, l3] [vR (hR h a0 4)] h Q := Rn_nx pg19 rfl (if_pos ⟨(hk ▸ Nat.le_refl _), (hk ▸ Nat.le_refl _)⟩)
theorem sX0_statement_30 : Rn r 19 30 [l0, some (vI x), l2, l3] [vR z0] h Q ↔ Rn r 19 31 [l0, some (vI x), l2, l3] [vI x, vR z0] h Q := Rn_nx pg19 rfl rfl
theorem sX0_statement_31 (hk : hK h a1 = 4) : Rn r 19 31 [l0, l1, l2, l3] [vI x0, vR (some a1)] h Q ↔ Cl r 43 [vR (some a1), vI x0] h (Kt r 19 34 [l0, l1, l2, l3] [] Q) := Rn_call pg19 rfl (by simp only [am_exec, am_inv, am_pop, am_lk, hk]; rfl) pg43 rfl rfl rfl
theorem sX0_statement_34_n : Rn r 19 34 [l0, l1, l2, l3] [vR none] h Q ↔ Rn r 19 37 [l0, l1, l2, l3] [vR none] h Q := Rn_nx pg19 rfl rfl
theorem sX0_statement_34 (hk : hK h a0 ∈ [30, 31, 32, 33, 34, 35, 36, 37, 38]) : Rn r 19 34 [l0, l1, l2, l3] [vR (some a0)] h Q ↔ Rn r 19 37 [l0, l1, l2, l3] [vR (some a0)] h Q := Rn_nx pg19 rfl (if_pos hk)
theorem sX0_statement_37 : Rn r 19 37 [l0, l1, l2, l3] [vR z0] h Q ↔ Rn r 19 38 [l0, l1, l2, some (vR z0)] [] h Q := Rn_nx pg19 rfl rfl
theorem sX0_statement_38 : Rn r 19 38 [l0, l1, some (vI x), l3] [] h Q ↔ Rn r 19 39 [l0, l1, some (vI x), l3] [vI x] h Q := Rn_nx pg19 rfl rfl
theorem sX0_statement_39 : Rn r 19 39 [l0, l1, l2, l3] [vI x0] h Q ↔ Rn r 19 (if x0 = 0 then 72 else if x0 = 1 then 77 else if x0 = 2 then 82 else if x0 = 3 then 87 else if x0 = 4 then 100 else 108) [l0, l1, l2, l3] [] h Q := Rn_nx pg19 rfl rfl
theorem sX0_statement_72 : Rn r 19 72 [l0, l1, l2, some (vR z)] [] h Q ↔ Rn r 19 73 [l0, l1, l2, some (vR z)] [vR z] h Q := Rn_nx pg19 rfl rfl
theorem sX0_statement_73_k30 (hk : hK h a0 = 30) : Rn r 19 73 [l0, l1, l2, l3] [vR (some a0)] h Q ↔ Cl r 54 [vR (some a0)] h (Kt r 19 76 [l0, l1, l2, l3] [] Q) := Rn_call pg19 rfl (by simp only [am_exec, am_inv, am_pop, am_lk, hk]; rfl) pg54 rfl rfl rfl
theorem sX0_statement_73_k31 (hk : hK h a0 = 31) : Rn r 19 73 [l0, l1, l2, l3] [vR (some a0)] h Q ↔ Cl r 55 [vR (some a0)] h (Kt r 19 76 [l0, l1, l2, l3] [] Q) := Rn_call pg19 rfl (by simp only [am_exec, am_inv, am_pop, am_lk, hk]; rfl) pg55 rfl rfl rfl
theorem sX0_statement_73_k32 (hk : hK h a0 = 32) : Rn r 19 73 [l0, l1, l2, l3] [vR (some a0)] h Q ↔ Cl r 56 [vR (some a0)] h (Kt r 19 76 [l0, l1, l2, l3] [] Q) := Rn_call pg19 rfl (by simp only [am_exec, am_inv, am_pop, am_lk, hk]; rfl) pg56 rfl rfl rfl
theorem sX0_statement_73_k33 (hk : hK h a0 = 33) : Rn r 19 73 [l0, l1, l2, l3] [vR (some a0)] h Q ↔ Cl r 57 [vR (some a0)] h (Kt r 19 76 [l0, l1, l2, l3] [] Q) := Rn_call pg19 rfl (by simp only [am_exec, am_inv, am_pop, am_lk, hk]; rfl) pg57 rfl rfl rfl
theorem sX0_statement_73_k34 (hk : hK h a0 = 34) : Rn r 19 73 [l0, l1, l2, l3] [vR (some a0)] h Q ↔ Cl r 58 [vR (some a0)] h (Kt r 19 76 [l0, l1, l2, l3] [] Q) := Rn_call pg19 rfl (by simp only [am_exec, am_inv, am_pop, am_lk, hk]; rfl) pg58 rfl rfl rfl
theorem sX0_statement_73_k35 (hk : hK h a0 = 35) : Rn r 19 73 [l0, l1, l2, l3] [vR (some a0)] h Q ↔ Cl r 59 [vR (some a0)] h (Kt r 19 76 [l0, l1, l2, l3] [] Q) := Rn_call pg19 rfl (by simp only [am_exec, am_inv, am_pop, am_lk, hk]; rfl) pg59 rfl rfl rfl
theorem sX0_statement_73_k36 (hk : hK h a0 = 36) : Rn r 19 73 [l0, l1, l2, l3] [vR (some a0)] h Q ↔ Cl r 60 [vR (some a0)] h (Kt r 19 76 [l0, l1, l2, l3] [] Q) := Rn_call pg19 rfl (by simp only [am_exec, am_inv, am_pop, am_lk, hk]; rfl) pg60 rfl rfl rfl
theorem sX0_statement_73_k37 (hk : hK h a0 = 37) : Rn r 19 73 [l0, l1, l2, l3] [vR (some a0)] h Q ↔ Cl r 61 [vR (some a0)] h (Kt r 19 76 [l0, l1, l2, l3] [] Q) := Rn_call pg19 rfl (by simp only [am_exec, am_inv, am_pop, am_lk, hk]; rfl) pg61 rfl rfl rfl
theorem sX0_statement_73_k38 (hk : hK h a0 = 38) : Rn r 19 73 [l0, l1, l2, l3] [vR (some a0)] h Q ↔ Cl r 62 [vR (some a0)] h (Kt r 19 76 [l0, l1, l2, l3] [] Q) := Rn_call pg19 rfl (by simp only [am_exec, am_inv, am_pop, am_lk, hk]; rfl) pg62 rfl rfl rfl
theorem sX0_statement_76 : Rn r 19 76 [l0, l1, l2, l3] [vI x0] h Q ↔ Q (Sum.inl (some (vI x0))) h := Rn_end pg19 rfl rfl
theorem sX0_statement_77 : Rn r 19 77 [l0, l1, l2, some (vR z)] [] h Q ↔ Rn r 19 78 [l0, l1, l2, some (vR z)] [vR z] h Q := Rn_nx pg19 rfl rfl
theorem sX0_statement_78 (hk : 30 ≤ hK h a0) (hk2 : hK h a0 ≤ 38) : Rn r 19 78 [l0, l1, l2, l3] [vR (some a0)] h Q ↔ Rn r 19 81 [l0, l1, l2, l3] [vI (hI h a0 1)] h Q := Rn_nx pg19 rfl (if_pos ⟨hk, hk2⟩)
theorem sX0_statement_81 : Rn r 19 81 [l0, l1, l2, l3] [vI x0] h Q ↔ Q (Sum.inl (some (vI x0))) h := Rn_end pg19 rfl rfl
theorem sX0_statement_82 : Rn r 19 82 [l0, l1, l2, some (vR z)] [] h Q ↔ Rn r 19 83 [l0, l1, l2, some (vR z)] [vR z] h Q := Rn_nx pg19 rfl rfl
theorem sX0_statement_83 (hk : 30 ≤ hK h a0) (hk2 : hK h a0 ≤ 38) : Rn r 19 83 [l0, l1, l2, l3] [vR (some a0)] h Q ↔ Rn r 19 86 [l0, l1, l2, l3] [vI (hI h a0 3)] h Q := Rn_nx pg19 rfl (if_pos ⟨hk, hk2⟩)
theorem sX0_statement_86 : Rn r 19 86 [l0, l1, l2, l3] [vI x0] h Q ↔ Q (Sum.inl (some (vI x0))) h := Rn_end pg19 rfl rfl
theorem sX0_statement_87 : Rn r 19 87 [l0, l1, l2, some (vR z)] [] h Q ↔ Rn r 19 88 [l0, l1, l2, some (vR z)] [vR z] h Q := Rn_nx pg19 rfl rfl
theorem sX0_statement_88 (hk : 30 ≤ hK h a0) (hk2 : hK h a0 ≤ 38) : Rn r 19 88 [l0, l1, l2, l3] [vR (some a0)] h Q ↔ Rn r 19 91 [l0, l1, l2, l3] [vI (hI h a0 4)] h Q := Rn_nx pg19 rfl (if_pos ⟨hk, hk2⟩)
theorem sX0_statement_91 : Rn r 19 91 [l0, l1, l2, l3] [vI x0] h Q ↔ if x0 = 0 then Rn r 19 98 [l0, l1, l2, l3] [] h Q else Rn r 19 94 [l0, l1, l2, l3] [] h Q := Rn_if pg19 rfl rfl rfl
theorem sX0_statement_94 : Rn r 19 94 [l0, l1, l2, l3] [] h Q ↔ Rn r 19 95 [l0, l1, l2, l3] [vI 1] h Q := Rn_nx pg19 rfl rfl
theorem sX0_statement_95 : Rn r 19 95 [l0, l1, l2, l3] [vI x0] h Q ↔ Rn r 19 99 [l0, l1, l2, l3] [vI x0] h Q := Rn_nx pg19 rfl rfl
theorem sX0_statement_98 : Rn r 19 98 [l0, l1, l2, l3] [] h Q ↔ Rn r 19 99 [l0, l1, l2, l3] [vI 0] h Q := Rn_nx pg19 rfl rfl
theorem sX0_statement_99 : Rn r 19 99 [l0, l1, l2, l3] [vI x0] h Q ↔ Q (Sum.inl (some (vI x0))) h := Rn_end pg19 rfl rfl
theorem sX0_statement_100 : Rn r 19 100 [l0, l1, l2, some (vR z)] [] h Q ↔ Rn r 19 101 [l0, l1, l2, some (vR z)] [vR z] h Q := Rn_nx pg19 rfl rfl
theorem sX0_statement_101 (hk : 30 ≤ hK h a0) (hk2 : hK h a0 ≤ 38) : Rn r 19 101 [l0, l1, l2, l3] [vR (some a0)] h Q ↔ Rn r 19 104 [l0, l1, l2, l3] [vR (hR h a0 2)] h Q := Rn_nx pg19 rfl (if_pos ⟨hk, hk2⟩)
theorem sX0_statement_104 (hk : hK h a0 = 18) : Rn r 19 104 [l0, l1, l2, l3] [vR (some a0)] h Q ↔ Rn r 19 107 [l0, l1, l2, l3] [vI (hI h a0 1)] h Q := Rn_nx pg19 rfl (if_pos ⟨(hk ▸ Nat.le_refl _), (hk ▸ Nat.le_refl _)⟩)
theorem sX0_statement_107 : Rn r 19 107 [l0, l1, l2, l3] [vI x0] h Q ↔ Q (Sum.inl (some (vI x0))) h := Rn_end pg19 rfl rfl
theorem sX0_statement_108 : Rn r 19 108 [l0, l1, l2, l3] [] h Q ↔ Rn r 19 110 [l0, l1, l2, l3] [vI (-3)] h Q := Rn_nx pg19 rfl rfl
theorem sX0_statement_110 : Rn r 19 110 [l0, l1, l2, l3] [vI x0] h Q ↔ Q (Sum.inl (some (vI x0))) h := Rn_end pg19 rfl rfl
/-! 20 ThrowRulesModel.statement(II)I -/
theorem eX6_statement : Cl r 20 [vR z0, vI x1, vI x2] h Q ↔ Rn r 20 0 [some (vR z0), some (vI x1), some (vI x2), none] [] h Q := Cl_in pg20 rfl
theorem sX6_statement_0 : Rn r 20 0 [l0, some (vI x), l2, l3] [] h Q ↔ Rn r 20 1 [l0, some (vI x), l2, l3] [vI x] h Q := Rn_nx pg20 rfl rfl
theorem sX6_statement_1 : Rn r 20 1 [l0, l1, l2, l3] [vI x0] h Q ↔ if x0 < 0 then Rn r 20 17 [l0, l1, l2, l3] [] h Q else Rn r 20 4 [l0, l1, l2, l3] [] h Q := Rn_if pg20 rfl rfl rfl
theorem sX6_statement_4 : Rn r 20 4 [l0, some (vI x), l2, l3] [] h Q ↔ Rn r 20 5 [l0, some (vI x), l2, l3] [vI x] h Q := Rn_nx pg20 rfl rfl
theorem sX6_statement_5 : Rn r 20 5 [some (vR z), l1, l2, l3] [vI x0] h Q ↔ Rn r 20 6 [some (vR z), l1, l2, l3] [vR z, vI x0] h Q := Rn_nx pg20 rfl rfl
theorem sX6_statement_6 (hk : hK h a0 = 15) : Rn r 20 6 [l0, l1, l2, l3] [vR (some a0), vI x1] h Q ↔ Rn r 20 9 [l0, l1, l2, l3] [vR (hR h a0 19), vI x1] h Q := Rn_nx pg20 rfl (if_pos ⟨(hk ▸ Nat.le_refl _), (hk ▸ Nat.le_refl _)⟩)
theorem sX6_statement_9 : Rn r 20 9 [some (vR z), l1, l2, l3] [vR z0, vI x1] h Q ↔ Rn r 20 10 [some (vR z), l1, l2, l3] [vR z, vR z0, vI x1] h Q := Rn_nx pg20 rfl rfl
theorem sX6_statement_10 (hk : hK h a0 = 15) : Rn r 20 10 [l0, l1, l2, l3] [vR (some a0), vR z1, vI x2] h Q ↔ Rn r 20 13 [l0, l1, l2, l3] [vI (hI h a0 2), vR z1, vI x2] h Q := Rn_nx pg20 rfl (if_pos ⟨(hk ▸ Nat.le_refl _), (hk ▸ Nat.le_refl _)⟩)
theorem sX6_statement_13 (hk : 40 ≤ hK h a1) (hk2 : hK h a1 ≤ 41) (hx : ¬ (x0 < 0 ∨ hL h a1 ≤ x0.toNatClampNeg)) : Rn r 20 13 [l0, l1, l2, l3] [vI x0, vR (some a1), vI x2] h Q ↔ Rn r 20 14 [l0, l1, l2, l3] [vI (hI h a1 x0.toNatClampNeg), vI x2] h Q := Rn_nx pg20 rfl ((if_pos ⟨hk, hk2⟩).trans (if_neg hx))
theorem sX6_statement_14 : Rn r 20 14 [l0, l1, l2, l3] [vI x0, vI x1] h Q ↔ if x1 < x0 then Rn r 20 20 [l0, l1, l2, l3] [] h Q else Rn r 20 17 [l0, l1, l2, l3] [] h Q := Rn_if pg20 rfl rfl rfl
theorem sX6_statement_17 : Rn r 20 17 [l0, l1, l2, l3] [] h Q ↔ Rn r 20 19 [l0, l1, l2, l3] [vI (-3)] h Q := Rn_nx pg20 rfl rfl
theorem sX6_statement_19 : Rn r 20 19 [l0, l1, l2, l3] [vI x0] h Q ↔ Q (Sum.inl (some (vI x0))) h := Rn_end pg20 rfl rfl
theorem sX6_statement_20 : Rn r 20 20 [some (vR z), l1, l2, l3] [] h Q ↔ Rn r 20 21 [some (vR z), l1, l2, l3] [vR z] h Q := Rn_nx pg20 rfl rfl
theorem sX6_statement_21 (hk : hK h a0 = 15) : Rn r 20 21 [l0, l1, l2, l3] [vR (some a0)] h Q ↔ Rn r 20 24 [l0, l1, l2, l3] [vI (hI h a0 2)] h Q := Rn_nx pg20 rfl (if_pos ⟨(hk ▸ Nat.le_refl _), (hk ▸ Nat.le_refl _)⟩)
theorem sX6_statement_24 : Rn r 20 24 [l0, l1, l2, l3] [vI x0] h Q ↔ Rn r 20 26 [l0, l1, l2, l3] [vI 120, vI x0] h Q := Rn_nx pg20 rfl rfl
theorem sX6_statement_26 : Rn r 20 26 [l0, l1, l2, l3] [vI x0, vI x1] h Q ↔ Rn r 20 27 [l0, l1, l2, l3] [vI (x1 * x0)] h Q := Rn_nx pg20 rfl rfl
theorem sX6_statement_27 : Rn r 20 27 [l0, some (vI x), l2, l3] [vI x0] h Q ↔ Rn r 20 28 [l0, some (vI x), l2, l3] [vI x, vI x0] h Q := Rn_nx pg20 rfl rfl
theorem sX6_statement_28 : Rn r 20 28 [l0, l1, l2, l3] [vI x0, vI x1] h Q ↔ Rn r 20 29 [l0, l1, l2, l3] [vI (x1 + x0)] h Q := Rn_nx pg20 rfl rfl
theorem sX6_statement_29 : Rn r 20 29 [l0, l1, l2, l3] [vI x0] h Q ↔ Rn r 20 30 [l0, l1, l2, some (vI x0)] [] h Q := Rn_nx pg20 rfl rfl
theorem sX6_statement_30 : Rn r 20 30 [l0, l1, some (vI x), l3] [] h Q ↔ Rn r 20 31 [l0, l1, some (vI x), l3] [vI x] h Q := Rn_nx pg20 rfl rfl
theorem sX6_statement_31 : Rn r 20 31 [l0, l1, l2, l3] [vI x0] h Q ↔ if x0 ≠ 0 then Rn r 20 43 [l0, l1, l2, l3] [] h Q else Rn r 20 34 [l0, l1, l2, l3] [] h Q := Rn_if pg20 rfl rfl rfl
theorem sX6_statement_34 : Rn r 20 34 [some (vR z), l1, l2, l3] [] h Q ↔ Rn r 20 35 [some (vR z), l1, l2, l3] [vR z] h Q := Rn_nx pg20 rfl rfl
theorem sX6_statement_35 (hk : hK h a0 = 15) : Rn r 20 35 [l0, l1, l2, l3] [vR (some a0)] h Q ↔ Rn r 20 38 [l0, l1, l2, l3] [vR (hR h a0 20)] h Q := Rn_nx pg20 rfl (if_pos ⟨(hk ▸ Nat.le_refl _), (hk ▸ Nat.le_refl _)⟩)
theorem sX6_statement_38 : Rn r 20 38 [l0, l1, l2, some (vI x)] [vR z0] h Q ↔ Rn r 20 39 [l0, l1, l2, some (vI x)] [vI x, vR z0] h Q := Rn_nx pg20 rfl rfl
theorem sX6_statement_39 (hk : 40 ≤ hK h a1) (hk2 : hK h a1 ≤ 41) (hx : ¬ (x0 < 0 ∨ hL h a1 ≤ x0.toNatClampNeg)) : Rn r 20 39 [l0, l1, l2, l3] [vI x0, vR (some a1)] h Q ↔ Rn r 20 40 [l0, l1, l2, l3] [vI (hI h a1 x0.toNatClampNeg)] h Q := Rn_nx pg20 rfl ((if_pos ⟨hk, hk2⟩).trans (if_neg hx))
theorem sX6_statement_40 : Rn r 20 40 [l0, l1, l2, l3] [vI x0] h Q ↔ Rn r 20 109 [l0, l1, l2, l3] [vI x0] h Q := Rn_nx pg20 rfl rfl
theorem sX6_statement_43 : Rn r 20 43 [l0, l1, some (vI x), l3] [] h Q ↔ Rn r 20 44 [l0, l1, some (vI x), l3] [vI x] h Q := Rn_nx pg20 rfl rfl
theorem sX6_statement_44 : Rn r 20 44 [l0, l1, l2, l3] [vI x0] h Q ↔ Rn r 20 45 [l0, l1, l2, l3] [vI 1, vI x0] h Q := Rn_nx pg20 rfl rfl
theorem sX6_statement_45 : Rn r 20 45 [l0, l1, l2, l3] [vI x0, vI x1] h Q ↔ if x1 ≠ x0 then Rn r 20 57 [l0, l1, l2, l3] [] h Q else Rn r 20 48 [l0, l1, l2, l3] [] h Q := Rn_if pg20 rfl rfl rfl
theorem sX6_statement_48 : Rn r 20 48 [some (vR z), l1, l2, l3] [] h Q ↔ Rn r 20 49 [some (vR z), l1, l2, l3] [vR z] h Q := Rn_nx pg20 rfl rfl
theorem sX6_statement_49 (hk : hK h a0 = 15) : Rn r 20 49 [l0, l1, l2, l3] [vR (some a0)] h Q ↔ Rn r 20 52 [l0, l1, l2, l3] [vR (hR h a0 21)] h Q := Rn_nx pg20 rfl (if_pos ⟨(hk ▸ Nat.le_refl _), (hk ▸ Nat.le_refl _)⟩)
theorem sX6_statement_52 : Rn r 20 52 [l0, l1, l2, some (vI x)] [vR z0] h Q ↔ Rn r 20 53 [l0, l1, l2, some (vI x)] [vI x, vR z0] h Q := Rn_nx pg20 rfl rfl
theorem sX6_statement_53 (hk : 40 ≤ hK h a1) (hk2 : hK h a1 ≤ 41) (hx : ¬ (x0 < 0 ∨ hL h a1 ≤ x0.toNatClampNeg)) : Rn r 20 53 [l0, l1, l2, l3] [vI x0, vR (some a1)] h Q ↔ Rn r 20 54 [l0, l1, l2, l3] [vI (hI h a1 x0.toNatClampNeg)] h Q := Rn_nx pg20 rfl ((if_pos ⟨hk, hk2⟩).trans (if_neg hx))
theorem sX6_statement_54 : Rn r 20 54 [l0, l1, l2, l3] [vI x0] h Q ↔ Rn r 20 109 [l0, l1, l2, l3] [vI x0] h Q := Rn_nx pg20 rfl rfl
theorem sX6_statement_57 : Rn r 20 57 [l0, l1, some (vI x), l3] [] h Q ↔ Rn r 20 58 [l0, l1, some (vI x), l3] [vI x] h Q := Rn_nx pg20 rfl rfl
theorem sX6_statement_58 : Rn r 20 58 [l0, l1, l2, l3] [vI x0] h Q ↔ Rn r 20 59 [l0, l1, l2, l3] [vI 2, vI x0] h Q := Rn_nx pg20 rfl rfl
theorem sX6_statement_59 : Rn r 20 59 [l0, l1, l2, l3] [vI x0, vI x1] h Q ↔ if x1 ≠ x0 then Rn r 20 71 [l0, l1, l2, l3] [] h Q else Rn r 20 62 [l0, l1, l2, l3] [] h Q := Rn_if pg20 rfl rfl rfl
theorem sX6_statement_62 : Rn r 20 62 [some (vR z), l1, l2, l3] [] h Q ↔ Rn r 20 63 [some (vR z), l1, l2, l3] [vR z] h Q := Rn_nx pg20 rfl rfl
theorem sX6_statement_63 (hk : hK h a0 = 15) : Rn r 20 63 [l0, l1, l2, l3] [vR (some a0)] h Q ↔ Rn r 20 66 [l0, l1, l2, l3] [vR (hR h a0 58)] h Q := Rn_nx pg20 rfl (if_pos ⟨(hk ▸ Nat.le_refl _), (hk ▸ Nat.le_refl _)⟩)
theorem sX6_statement_66 : Rn r 20 66 [l0, l1, l2, some (vI x)] [vR z0] h Q ↔ Rn r 20 67 [l0, l1, l2, some (vI x)] [vI x, vR z0] h Q := Rn_nx pg20 rfl rfl
theorem sX6_statement_67 (hk : 40 ≤ hK h a1) (hk2 : hK h a1 ≤ 41) (hx : ¬ (x0 < 0 ∨ hL h a1 ≤ x0.toNatClampNeg)) : Rn r 20 67 [l0, l1, l2, l3] [vI x0, vR (some a1)] h Q ↔ Rn r 20 68 [l0, l1, l2, l3] [vI (hI h a1 x0.toNatClampNeg)] h Q := Rn_nx pg20 rfl ((if_pos ⟨hk, hk2⟩).trans (if_neg hx))
theorem sX6_statement_68 : Rn r 20 68 [l0, l1, l2, l3] [vI x0] h Q ↔ Rn r 20 109 [l0, l1, l2, l3] [vI x0] h Q := Rn_nx pg20 rfl rfl
theorem sX6_statement_71 : Rn r 20 71 [l0, l1, some (vI x), l3] [] h Q ↔ Rn r 20 72 [l0, l1, some (vI x), l3] [vI x] h Q := Rn_nx pg20 rfl rfl
theorem sX6_statement_72 : Rn r 20 72 [l0, l1, l2, l3] [vI x0] h Q ↔ Rn r 20 73 [l0, l1, l2, l3] [vI 3, vI x0] h Q := Rn_nx pg20 rfl rfl
theorem sX6_statement_73 : Rn r 20 73 [l0, l1, l2, l3] [vI x0, vI x1] h Q ↔ if x1 ≠ x0 then Rn r 20 93 [l0, l1, l2, l3] [] h Q else Rn r 20 76 [l0, l1, l2, l3] [] h Q := Rn_if pg20 rfl rfl rfl
theorem sX6_statement_76 : Rn r 20 76 [some (vR z), l1, l2, l3] [] h Q ↔ Rn r 20 77 [some (vR z), l1, l2, l3] [vR z] h Q := Rn_nx pg20 rfl rfl
theorem sX6_statement_77 (hk : hK h a0 = 15) : Rn r 20 77 [l0, l1, l2, l3] [vR (some a0)] h Q ↔ Rn r 20 80 [l0, l1, l2, l3] [vR (hR h a0 59)] h Q := Rn_nx pg20 rfl (if_pos ⟨(hk ▸ Nat.le_refl _), (hk ▸ Nat.le_refl _)⟩)
theorem sX6_statement_80 : Rn r 20 80 [l0, l1, l2, some (vI x)] [vR z0] h Q ↔ Rn r 20 81 [l0, l1, l2, some (vI x)] [vI x, vR z0] h Q := Rn_nx pg20 rfl rfl
theorem sX6_statement_81 (hk : 43 ≤ hK h a1) (hk2 : hK h a1 ≤ 45) (hx : ¬ (x0 < 0 ∨ hL h a1 ≤ x0.toNatClampNeg)) : Rn r 20 81 [l0, l1, l2, l3] [vI x0, vR (some a1)] h Q ↔ Rn r 20 82 [l0, l1, l2, l3] [vI (hI h a1 x0.toNatClampNeg)] h Q := Rn_nx pg20 rfl ((if_pos ⟨hk, hk2⟩).trans (if_neg hx))
theorem sX6_statement_82 : Rn r 20 82 [l0, l1, l2, l3] [vI x0] h Q ↔ if x0 = 0 then Rn r 20 89 [l0, l1, l2, l3] [] h Q else Rn r 20 85 [l0, l1, l2, l3] [] h Q := Rn_if pg20 rfl rfl rfl
theorem sX6_statement_85 : Rn r 20 85 [l0, l1, l2, l3] [] h Q ↔ Rn r 20 86 [l0, l1, l2, l3] [vI 1] h Q := Rn_nx pg20 rfl rfl
theorem sX6_statement_86 : Rn r 20 86 [l0, l1, l2, l3] [vI x0] h Q ↔ Rn r 20 109 [l0, l1, l2, l3] [vI x0] h Q := Rn_nx pg20 rfl rfl
theorem sX6_statement_89 : Rn r 20 89 [l0, l1, l2, l3] [] h Q ↔ Rn r 20 90 [l0, l1, l2, l3] [vI 0] h Q := Rn_nx pg20 rfl rfl
theorem sX6_statement_90 : Rn r 20 90 [l0, l1, l2, l3] [vI x0] h Q ↔ Rn r 20 109 [l0, l1, l2, l3] [vI x0] h Q := Rn_nx pg20 rfl rfl
theorem sX6_statement_93 : Rn r 20 93 [l0, l1, some (vI x), l3] [] h Q ↔ Rn r 20 94 [l0, l1, some (vI x), l3] [vI x] h Q := Rn_nx pg20 rfl rfl
theorem sX6_statement_94 : Rn r 20 94 [l0, l1, l2, l3] [vI x0] h Q ↔ Rn r 20 95 [l0, l1, l2, l3] [vI 4, vI x0] h Q := Rn_nx pg20 rfl rfl
theorem sX6_statement_95 : Rn r 20 95 [l0, l1, l2, l3] [vI x0, vI x1] h Q ↔ if x1 ≠ x0 then Rn r 20 107 [l0, l1, l2, l3] [] h Q else Rn r 20 98 [l0, l1, l2, l3] [] h Q := Rn_if pg20 rfl rfl rfl
theorem sX6_statement_98 : Rn r 20 98 [some (vR z), l1, l2, l3] [] h Q ↔ Rn r 20 99 [some (vR z), l1, l2, l3] [vR z] h Q := Rn_nx pg20 rfl rfl
theorem sX6_statement_99 (hk : hK h a0 = 15) : Rn r 20 99 [l0, l1, l2, l3] [vR (some a0)] h Q ↔ Rn r 20 102 [l0, l1, l2, l3] [vR (hR h a0 23)] h Q := Rn_nx pg20 rfl (if_pos ⟨(hk ▸ Nat.le_refl _), (hk ▸ Nat.le_refl _)⟩)
theorem sX6_statement_102 : Rn r 20 102 [l0, l1, l2, some (vI x)] [vR z0] h Q ↔ Rn r 20 103 [l0, l1, l2, some (vI x)] [vI x, vR z0] h Q := Rn_nx pg20 rfl rfl
theorem sX6_statement_103 (hk : 40 ≤ hK h a1) (hk2 : hK h a1 ≤ 41) (hx : ¬ (x0 < 0 ∨ hL h a1 ≤ x0.toNatClampNeg)) : Rn r 20 103 [l0, l1, l2, l3] [vI x0, vR (some a1)] h Q ↔ Rn r 20 104 [l0, l1, l2, l3] [vI (hI h a1 x0.toNatClampNeg)] h Q := Rn_nx pg20 rfl ((if_pos ⟨hk, hk2⟩).trans (if_neg hx))
theorem sX6_statement_104 : Rn r 20 104 [l0, l1, l2, l3] [vI x0] h Q ↔ Rn r 20 109 [l0, l1, l2, l3] [vI x0] h Q := Rn_nx pg20 rfl rfl
theorem sX6_statement_107 : Rn r 20 107 [l0, l1, l2, l3] [] h Q ↔ Rn r 20 109 [l0, l1, l2, l3] [vI (-3)] h Q := Rn_nx pg20 rfl rfl
theorem sX6_statement_109 : Rn r 20 109 [l0, l1, l2, l3] [vI x0] h Q ↔ Q (Sum.inl (some (vI x0))) h := Rn_end pg20 rfl rfl
/-! 21 ThrowRules.find()I -/
theorem eX0_find : Cl r 21 [vR z0] h Q ↔ Rn r 21 0 [some (vR z0), none, none, none, none, none] [] h Q := Cl_in pg21 rfl
theorem sX0_find_0 : Rn r 21 0 [some (vR z), l1, l2, l3, l4, l5] [] h Q ↔ Rn r 21 1 [some (vR z), l1, l2, l3, l4, l5] [vR z] h Q := Rn_nx pg21 rfl rfl
theorem sX0_find_1 (hk : hK h a0 = 1) : Rn r 21 1 [l0, l1, l2, l3, l4, l5] [vR (some a0)] h Q ↔ Rn r 21 4 [l0, l1, l2, l3, l4, l5] [vI (hI h a0 1)] h Q := Rn_nx pg21 rfl (if_pos ⟨(hk ▸ Nat.le_refl _), (hk ▸ Nat.le_refl _)⟩)
theorem sX0_find_4 : Rn r 21 4 [l0, l1, l2, l3, l4, l5] [vI x0] h Q ↔ Rn r 21 5 [l0, some (vI x0), l2, l3, l4, l5] [] h Q := Rn_nx pg21 rfl rfl
theorem sX0_find_5 : Rn r 21 5 [some (vR z), l1, l2, l3, l4, l5] [] h Q ↔ Rn r 21 6 [some (vR z), l1, l2, l3, l4, l5] [vR z] h Q := Rn_nx pg21 rfl rfl
theorem sX0_find_6 : Rn r 21 6 [l0, l1, l2, l3, l4, l5] [vR z0] h Q ↔ Rn r 21 7 [l0, l1, l2, l3, l4, l5] [vI 0, vR z0] h Q := Rn_nx pg21 rfl rfl
theorem sX0_find_7 (hk : hK h a1 = 1) : Rn r 21 7 [l0, l1, l2, l3, l4, l5] [vI x0, vR (some a1)] h Q ↔ Rn r 21 10 [l0, l1, l2, l3, l4, l5] [] (putI h a1 1 x0) Q := Rn_nx pg21 rfl ((if_pos ⟨(hk ▸ Nat.le_refl _), (hk ▸ Nat.le_refl _)⟩).trans rfl)
theorem sX0_find_10 : Rn r 21 10 [l0, l1, l2, l3, l4, l5] [] h Q ↔ Rn r 21 13 [l0, l1, l2, l3, l4, l5] [vR (some (hN h))] (newC h 16 4) Q := Rn_nx pg21 rfl rfl
theorem sX0_find_13 : Rn r 21 13 [l0, l1, l2, l3, l4, l5] [vR z0] h Q ↔ Rn r 21 14 [l0, l1, l2, l3, l4, l5] [vR z0, vR z0] h Q := Rn_nx pg21 rfl rfl
theorem sX0_find_14 : Rn r 21 14 [l0, l1, l2, l3, l4, l5] [vR z0, vR z1] h Q ↔ Rn r 21 16 [l0, l1, l2, l3, l4, l5] [vI 8, vR z0, vR z1] h Q := Rn_nx pg21 rfl rfl
theorem sX0_find_16 (hk : 0 < hK h a1) (hk2 : hK h a1 < 40) : Rn r 21 16 [l0, l1, l2, l3, l4, l5] [vI x0, vR (some a1), vR z2] h Q ↔ Cl r 63 [vR (some a1), vI x0] h (Kt r 21 19 [l0, l1, l2, l3, l4, l5] [vR z2] Q) := Rn_call pg21 rfl (if_pos ⟨hk, hk2⟩) pg63 rfl rfl rfl
theorem sX0_find_19 : Rn r 21 19 [l0, l1, l2, l3, l4, l5] [vR z0] h Q ↔ Rn r 21 20 [l0, l1, some (vR z0), l3, l4, l5] [] h Q := Rn_nx pg21 rfl rfl
theorem sX0_find_20 : Rn r 21 20 [l0, l1, l2, l3, l4, l5] [] h Q ↔ Rn r 21 21 [l0, l1, l2, l3, l4, l5] [vI 0] h Q := Rn_nx pg21 rfl rfl
theorem sX0_find_21 : Rn r 21 21 [l0, l1, l2, l3, l4, l5] [vI x0] h Q ↔ Rn r 21 22 [l0, l1, l2, some (vI x0), l4, l5] [] h Q := Rn_nx pg21 rfl rfl
theorem sX0_find_22 : Rn r 21 22 [l0, l1, l2, some (vI x), l4, l5] [] h Q ↔ Rn r 21 23 [l0, l1, l2, some (vI x), l4, l5] [vI x] h Q := Rn_nx pg21 rfl rfl
theorem sX0_find_23 : Rn r 21 23 [l0, some (vI x), l2, l3, l4, l5] [vI x0] h Q ↔ Rn r 21 24 [l0, some (vI x), l2, l3, l4, l5] [vI x, vI x0] h Q := Rn_nx pg21 rfl rfl
theorem sX0_find_24 : Rn r 21 24 [l0, l1, l2, l3, l4, l5] [vI x0, vI x1] h Q ↔ if x0 ≤ x1 then Rn r 21 55 [l0, l1, l2, l3, l4, l5] [] h Q else Rn r 21 27 [l0, l1, l2, l3, l4, l5] [] h Q := Rn_if pg21 rfl rfl rfl
theorem sX0_find_27 : Rn r 21 27 [l0, l1, l2, some (vI x), l4, l5] [] h Q ↔ Rn r 21 28 [l0, l1, l2, some (vI x), l4, l5] [vI x] h Q := Rn_nx pg21 rfl rfl
theorem sX0_find_28 : Rn r 21 28 [l0, l1, l2, l3, l4, l5] [vI x0] h Q ↔ Rn r 21 30 [l0, l1, l2, l3, l4, l5] [vI 9, vI x0] h Q := Rn_nx pg21 rfl rfl
theorem sX0_find_30 : Rn r 21 30 [l0, l1, l2, l3, l4, l5] [vI x0, vI x1] h Q ↔ if x0 ≤ x1 then Rn r 21 55 [l0, l1, l2, l3, l4, l5] [] h Q else Rn r 21 33 [l0, l1, l2, l3, l4, l5] [] h Q := Rn_if pg21 rfl rfl rfl
theorem sX0_find_33 : Rn r 21 33 [l0, l1, some (vR z), l3, l4, l5] [] h Q ↔ Rn r 21 34 [l0, l1, some (vR z), l3, l4, l5] [vR z] h Q := Rn_nx pg21 rfl rfl
theorem sX0_find_34 : Rn r 21 34 [some (vR z), l1, l2, l3, l4, l5] [vR z0] h Q ↔ Rn r 21 35 [some (vR z), l1, l2, l3, l4, l5] [vR z, vR z0] h Q := Rn_nx pg21 rfl rfl
theorem sX0_find_35 (hk : hK h a0 = 1) : Rn r 21 35 [l0, l1, l2, l3, l4, l5] [vR (some a0), vR z1] h Q ↔ Rn r 21 38 [l0, l1, l2, l3, l4, l5] [vR (hR h a0 0), vR z1] h Q := Rn_nx pg21 rfl (if_pos ⟨(hk ▸ Nat.le_refl _), (hk ▸ Nat.le_refl _)⟩)
theorem sX0_find_38 : Rn r 21 38 [l0, l1, l2, some (vI x), l4, l5] [vR z0, vR z1] h Q ↔ Rn r 21 39 [l0, l1, l2, some (vI x), l4, l5] [vI x, vR z0, vR z1] h Q := Rn_nx pg21 rfl rfl
theorem sX0_find_39 (hk : 43 ≤ hK h a1) (hk2 : hK h a1 ≤ 45) (hx : ¬ (x0 < 0 ∨ hL h a1 ≤ x0.toNatClampNeg)) : Rn r 21 39 [l0, l1, l2, l3, l4, l5] [vI x0, vR (some a1), vR z2] h Q ↔ Rn r 21 40 [l0, l1, l2, l3, l4, l5] [vI (hI h a1 x0.toNatClampNeg), vR z2] h Q := Rn_nx pg21 rfl ((if_pos ⟨hk, hk2⟩).trans (if_neg hx))
theorem sX0_find_40 : Rn r 21 40 [l0, l1, l2, l3, l4, l5] [vI x0, vR z1] h Q ↔ Rn r 21 43 [l0, l1, l2, l3, l4, l5] [vI 255, vI x0, vR z1] h Q := Rn_nx pg21 rfl rfl
theorem sX0_find_43 : Rn r 21 43 [l0, l1, l2, l3, l4, l5] [vI x0, vI x1, vR z2] h Q ↔ Rn r 21 44 [l0, l1, l2, l3, l4, l5] [vI (x1 &&& x0), vR z2] h Q := Rn_nx pg21 rfl rfl
theorem sX0_find_44 : Rn r 21 44 [l0, l1, l2, l3, l4, l5] [vI x0, vR z1] h Q ↔ Rn r 21 45 [l0, l1, l2, l3, l4, l5] [vI (x0.toUInt32 % 65536).toInt32, vR z1] h Q := Rn_nx pg21 rfl rfl
theorem sX0_find_45 (hk : hK h a1 = 16) : Rn r 21 45 [l0, l1, l2, l3, l4, l5] [vI x0, vR (some a1)] h Q ↔ Cl r 64 [vR (some a1), vI x0] h (Kt r 21 48 [l0, l1, l2, l3, l4, l5] [] Q) := Rn_call pg21 rfl (by simp only [am_exec, am_inv, am_pop, am_lk, hk]; rfl) pg64 rfl rfl rfl
theorem sX0_find_48 : Rn r 21 48 [l0, l1, l2, l3, l4, l5] [vR z0] h Q ↔ Rn r 21 49 [l0, l1, l2, l3, l4, l5] [] h Q := Rn_nx pg21 rfl rfl
theorem sX0_find_49 : Rn r 21 49 [l0, l1, l2, some (vI x), l4, l5] [] h Q ↔ Rn r 21 52 [l0, l1, l2, some (vI (x + 1)), l4, l5] [] h Q := Rn_nx pg21 rfl rfl
theorem sX0_find_52 : Rn r 21 52 [l0, l1, l2, l3, l4, l5] [] h Q ↔ Rn r 21 22 [l0, l1, l2, l3, l4, l5] [] h Q := Rn_nx pg21 rfl rfl
theorem sX0_find_55 : Rn r 21 55 [l0, l1, some (vR z), l3, l4, l5] [] h Q ↔ Rn r 21 56 [l0, l1, some (vR z), l3, l4, l5] [vR z] h Q := Rn_nx pg21 rfl rfl
theorem sX0_find_56 (hk : hK h a0 = 16) : Rn r 21 56 [l0, l1, l2, l3, l4, l5] [vR (some a0)] h Q ↔ Cl r 65 [vR (some a0)] h (Kt r 21 59 [l0, l1, l2, l3, l4, l5] [] Q) := Rn_call pg21 rfl (by simp only [am_exec, am_inv, am_pop, am_lk, hk]; rfl) pg65 rfl rfl rfl
theorem sX0_find_59 : Rn r 21 59 [l0, l1, l2, l3, l4, l5] [vR z0] h Q ↔ Rn r 21 60 [l0, l1, l2, some (vR z0), l4, l5] [] h Q := Rn_nx pg21 rfl rfl
theorem sX0_find_60 : Rn r 21 60 [l0, some (vI x), l2, l3, l4, l5] [] h Q ↔ Rn r 21 61 [l0, some (vI x), l2, l3, l4, l5] [vI x] h Q := Rn_nx pg21 rfl rfl
theorem sX0_find_61 : Rn r 21 61 [l0, l1, l2, l3, l4, l5] [vI x0] h Q ↔ Rn r 21 63 [l0, l1, l2, l3, l4, l5] [vI 8, vI x0] h Q := Rn_nx pg21 rfl rfl
theorem sX0_find_63 : Rn r 21 63 [l0, l1, l2, l3, l4, l5] [vI x0, vI x1] h Q ↔ if x1 ≤ x0 then Rn r 21 70 [l0, l1, l2, l3, l4, l5] [] h Q else Rn r 21 66 [l0, l1, l2, l3, l4, l5] [] h Q := Rn_if pg21 rfl rfl rfl
theorem sX0_find_66 : Rn r 21 66 [l0, l1, l2, l3, l4, l5] [] h Q ↔ Rn r 21 67 [l0, l1, l2, l3, l4, l5] [vR none] h Q := Rn_nx pg21 rfl rfl
theorem sX0_find_67 : Rn r 21 67 [l0, l1, l2, l3, l4, l5] [vR z0] h Q ↔ Rn r 21 84 [l0, l1, l2, l3, l4, l5] [vR z0] h Q := Rn_nx pg21 rfl rfl
theorem sX0_find_70 : Rn r 21 70 [some (vR z), l1, l2, l3, l4, l5] [] h Q ↔ Rn r 21 71 [some (vR z), l1, l2, l3, l4, l5] [vR z] h Q := Rn_nx pg21 rfl rfl
theorem sX0_find_71 (hk : hK h a0 = 1) : Rn r 21 71 [l0, l1, l2, l3, l4, l5] [vR (some a0)] h Q ↔ Rn r 21 74 [l0, l1, l2, l3, l4, l5] [vR (hR h a0 3)] h Q := Rn_nx pg21 rfl (if_pos ⟨(hk ▸ Nat.le_refl _), (hk ▸ Nat.le_refl _)⟩)
theorem sX0_find_74 (hk : hK h a0 = 5) : Rn r 21 74 [l0, l1, l2, l3, l4, l5] [vR (some a0)] h Q ↔ Rn r 21 77 [l0, l1, l2, l3, l4, l5] [vR (hR h a0 1)] h Q := Rn_nx pg21 rfl (if_pos ⟨(hk ▸ Nat.le_refl _), (hk ▸ Nat.le_refl _)⟩)
theorem sX0_find_77 : Rn r 21 77 [l0, l1, l2, some (vR z), l4, l5] [vR z0] h Q ↔ Rn r 21 78 [l0, l1, l2, some (vR z), l4, l5] [vR z, vR z0] h Q := Rn_nx pg21 rfl rfl
theorem sX0_find_78 (hk : hK h a1 = 6) : Rn r 21 78 [l0, l1, l2, l3, l4, l5] [vR z0, vR (some a1)] h Q ↔ Cl r 66 [vR (some a1), vR z0] h (Kt r 21 81 [l0, l1, l2, l3, l4, l5] [] Q) := Rn_call pg21 rfl (by simp only [am_exec, am_inv, am_pop, am_lk, hk]; rfl) pg66 rfl rfl rfl
theorem sX0_find_81_n : Rn r 21 81 [l0, l1, l2, l3, l4, l5] [vR none] h Q ↔ Rn r 21 84 [l0, l1, l2, l3, l4, l5] [vR none] h Q := Rn_nx pg21 rfl rfl
theorem sX0_find_81 (hk : hK h a0 ∈ [7]) : Rn r 21 81 [l0, l1, l2, l3, l4, l5] [vR (some a0)] h Q ↔ Rn r 21 84 [l0, l1, l2, l3, l4, l5] [vR (some a0)] h Q := Rn_nx pg21 rfl (if_pos hk)
theorem sX0_find_84 : Rn r 21 84 [l0, l1, l2, l3, l4, l5] [vR z0] h Q ↔ Rn r 21 86 [l0, l1, l2, l3, some (vR z0), l5] [] h Q := Rn_nx pg21 rfl rfl
theorem sX0_find_86 : Rn r 21 86 [l0, some (vI x), l2, l3, l4, l5] [] h Q ↔ Rn r 21 87 [l0, some (vI x), l2, l3, l4, l5] [vI x] h Q := Rn_nx pg21 rfl rfl
theorem sX0_find_87 : Rn r 21 87 [l0, l1, l2, l3, l4, l5] [vI x0] h Q ↔ Rn r 21 89 [l0, l1, l2, l3, l4, l5] [vI 8, vI x0] h Q := Rn_nx pg21 rfl rfl
theorem sX0_find_89 : Rn r 21 89 [l0, l1, l2, l3, l4, l5] [vI x0, vI x1] h Q ↔ if x1 ≤ x0 then Rn r 21 96 [l0, l1, l2, l3, l4, l5] [] h Q else Rn r 21 92 [l0, l1, l2, l3, l4, l5] [] h Q := Rn_if pg21 rfl rfl rfl
theorem sX0_find_92 : Rn r 21 92 [l0, l1, l2, l3, l4, l5] [] h Q ↔ Rn r 21 93 [l0, l1, l2, l3, l4, l5] [vR none] h Q := Rn_nx pg21 rfl rfl
theorem sX0_find_93 : Rn r 21 93 [l0, l1, l2, l3, l4, l5] [vR z0] h Q ↔ Rn r 21 110 [l0, l1, l2, l3, l4, l5] [vR z0] h Q := Rn_nx pg21 rfl rfl
theorem sX0_find_96 : Rn r 21 96 [some (vR z), l1, l2, l3, l4, l5] [] h Q ↔ Rn r 21 97 [some (vR z), l1, l2, l3, l4, l5] [vR z] h Q := Rn_nx pg21 rfl rfl
theorem sX0_find_97 (hk : hK h a0 = 1) : Rn r 21 97 [l0, l1, l2, l3, l4, l5] [vR (some a0)] h Q ↔ Rn r 21 100 [l0, l1, l2, l3, l4, l5] [vR (hR h a0 3)] h Q := Rn_nx pg21 rfl (if_pos ⟨(hk ▸ Nat.le_refl _), (hk ▸ Nat.le_refl _)⟩)
theorem sX0_find_100 (hk : hK h a0 = 5) : Rn r 21 100 [l0, l1, l2, l3, l4, l5] [vR (some a0)] h Q ↔ Rn r 21 103 [l0, l1, l2, l3, l4, l5] [vR (hR h a0 3)] h Q := Rn_nx pg21 rfl (if_pos ⟨(hk ▸ Nat.le_refl _), (hk ▸ Nat.le_refl _)⟩)
theorem sX0_find_103 : Rn r 21 103 [l0, l1, l2, some (vR z), l4, l5] [vR z0] h Q ↔ Rn r 21 104 [l0, l1, l2, some (vR z), l4, l5] [vR z, vR z0] h Q := Rn_nx pg21 rfl rfl
theorem sX0_find_104 (hk : hK h a1 = 6) : Rn r 21 104 [l0, l1, l2, l3, l4, l5] [vR z0, vR (some a1)] h Q ↔ Cl r 66 [vR (some a1), vR z0] h (Kt r 21 107 [l0, l1, l2, l3, l4, l5] [] Q) := Rn_call pg21 rfl (by simp only [am_exec, am_inv, am_pop, am_lk, hk]; rfl) pg66 rfl rfl rfl
theorem sX0_find_107_n : Rn r 21 107 [l0, l1, l2, l3, l4, l5] [vR none] h Q ↔ Rn r 21 110 [l0, l1, l2, l3, l4, l5] [vR none] h Q := Rn_nx pg21 rfl rfl
theorem sX0_find_107 (hk : hK h a0 ∈ [18]) : Rn r 21 107 [l0, l1, l2, l3, l4, l5] [vR (some a0)] h Q ↔ Rn r 21 110 [l0, l1, l2, l3, l4, l5] [vR (some a0)] h Q := Rn_nx pg21 rfl (if_pos hk)
theorem sX0_find_110 : Rn r 21 110 [l0, l1, l2, l3, l4, l5] [vR z0] h Q ↔ Rn r 21 112 [l0, l1, l2, l3, l4, some (vR z0)] [] h Q := Rn_nx pg21 rfl rfl
theorem sX0_find_112 : Rn r 21 112 [l0, l1, l2, l3, some (vR z), l5] [] h Q ↔ Rn r 21 114 [l0, l1, l2, l3, some (vR z), l5] [vR z] h Q := Rn_nx pg21 rfl rfl
theorem sX0_find_114 : Rn r 21 114 [l0, l1, l2, l3, l4, l5] [vR z0] h Q ↔ if z0 = none then Rn r 21 128 [l0, l1, l2, l3, l4, l5] [] h Q else Rn r 21 117 [l0, l1, l2, l3, l4, l5] [] h Q := Rn_if pg21 rfl rfl rfl
theorem sX0_find_117 : Rn r 21 117 [l0, l1, l2, l3, l4, l5] [] h Q ↔ Rn r 21 119 [l0, l1, l2, l3, l4, l5] [vI 100] h Q := Rn_nx pg21 rfl rfl
theorem sX0_find_119 : Rn r 21 119 [l0, l1, l2, l3, some (vR z), l5] [vI x0] h Q ↔ Rn r 21 121 [l0, l1, l2, l3, some (vR z), l5] [vR z, vI x0] h Q := Rn_nx pg21 rfl rfl
theorem sX0_find_121 (hk : hK h a0 = 7) : Rn r 21 121 [l0, l1, l2, l3, l4, l5] [vR (some a0), vI x1] h Q ↔ Rn r 21 124 [l0, l1, l2, l3, l4, l5] [vI (hI h a0 1), vI x1] h Q := Rn_nx pg21 rfl (if_pos ⟨(hk ▸ Nat.le_refl _), (hk ▸ Nat.le_refl _)⟩)
theorem sX0_find_124 : Rn r 21 124 [l0, l1, l2, l3, l4, l5] [vI x0, vI x1] h Q ↔ Rn r 21 125 [l0, l1, l2, l3, l4, l5] [vI (x1 + x0)] h Q := Rn_nx pg21 rfl rfl
theorem sX0_find_125 : Rn r 21 125 [l0, l1, l2, l3, l4, l5] [vI x0] h Q ↔ Rn r 21 146 [l0, l1, l2, l3, l4, l5] [vI x0] h Q := Rn_nx pg21 rfl rfl
theorem sX0_find_128 : Rn r 21 128 [l0, l1, l2, l3, l4, some (vR z)] [] h Q ↔ Rn r 21 130 [l0, l1, l2, l3, l4, some (vR z)] [vR z] h Q := Rn_nx pg21 rfl rfl
theorem sX0_find_130 : Rn r 21 130 [l0, l1, l2, l3, l4, l5] [vR z0] h Q ↔ if z0 = none then Rn r 21 145 [l0, l1, l2, l3, l4, l5] [] h Q else Rn r 21 133 [l0, l1, l2, l3, l4, l5] [] h Q := Rn_if pg21 rfl rfl rfl
theorem sX0_find_133 : Rn r 21 133 [l0, l1, l2, l3, l4, l5] [] h Q ↔ Rn r 21 136 [l0, l1, l2, l3, l4, l5] [vI 200] h Q := Rn_nx pg21 rfl rfl
theorem sX0_find_136 : Rn r 21 136 [l0, l1, l2, l3, l4, some (vR z)] [vI x0] h Q ↔ Rn r 21 138 [l0, l1, l2, l3, l4, some (vR z)] [vR z, vI x0] h Q := Rn_nx pg21 rfl rfl
theorem sX0_find_138 (hk : hK h a0 = 18) : Rn r 21 138 [l0, l1, l2, l3, l4, l5] [vR (some a0), vI x1] h Q ↔ Rn r 21 141 [l0, l1, l2, l3, l4, l5] [vI (hI h a0 1), vI x1] h Q := Rn_nx pg21 rfl (if_pos ⟨(hk ▸ Nat.le_refl _), (hk ▸ Nat.le_refl _)⟩)
theorem sX0_find_141 : Rn r 21 141 [l0, l1, l2, l3, l4, l5] [vI x0, vI x1] h Q ↔ Rn r 21 142 [l0, l1, l2, l3, l4, l5] [vI (x1 + x0)] h Q := Rn_nx pg21 rfl rfl
theorem sX0_find_142 : Rn r 21 142 [l0, l1, l2, l3, l4, l5] [vI x0] h Q ↔ Rn r 21 146 [l0, l1, l2, l3, l4, l5] [vI x0] h Q := Rn_nx pg21 rfl rfl
theorem sX0_find_145 : Rn r 21 145 [l0, l1, l2, l3, l4, l5] [] h Q ↔ Rn r 21 146 [l0, l1, l2, l3, l4, l5] [vI (-1)] h Q := Rn_nx pg21 rfl rfl
theorem sX0_find_146 : Rn r 21 146 [l0, l1, l2, l3, l4, l5] [vI x0] h Q ↔ Q (Sum.inl (some (vI x0))) h := Rn_end pg21 rfl rfl
/-! 22 ThrowRulesModel.find()I -/
theorem eX6_find : Cl r 22 [vR z0] h Q ↔ Rn r 22 0 [some (vR z0), none, none, none, none, none] [] h Q := Cl_in pg22 rfl
theorem sX6_find_0 : Rn r 22 0 [l0, l1, l2, l3, l4, l5] [] h Q ↔ Rn r 22 1 [l0, l1, l2, l3, l4, l5] [vL 0] h Q := Rn_nx pg22 rfl rfl
theorem sX6_find_1 : Rn r 22 1 [l0, l1, l2, l3, l4, l5] [vL y0] h Q ↔ Rn r 22 2 [l0, some (vL y0), none, l3, l4, l5] [] h Q := Rn_nx pg22 rfl rfl
theorem sX6_find_2 : Rn r 22 2 [some (vR z), l1, l2, l3, l4, l5] [] h Q ↔ Rn r 22 3 [some (vR z), l1, l2, l3, l4, l5] [vR z] h Q := Rn_nx pg22 rfl rfl
theorem sX6_find_3 (hk : hK h a0 = 15) : Rn r 22 3 [l0, l1, l2, l3, l4, l5] [vR (some a0)] h Q ↔ Rn r 22 6 [l0, l1, l2, l3, l4, l5] [vI (hI h a0 1)] h Q := Rn_nx pg22 rfl (if_pos ⟨(hk ▸ Nat.le_refl _), (hk ▸ Nat.le_refl _)⟩)
theorem sX6_find_6 : Rn r 22 6 [l0, l1, l2, l3, l4, l5] [vI x0] h Q ↔ if x0 ≤ 0 then Rn r 22 22 [l0, l1, l2, l3, l4, l5] [] h Q else Rn r 22 9 [l0, l1, l2, l3, l4, l5] [] h Q := Rn_if pg22 rfl rfl rfl
theorem sX6_find_9 : Rn r 22 9 [some (vR z), l1, l2, l3, l4, l5] [] h Q ↔ Rn r 22 10 [some (vR z), l1, l2, l3, l4, l5] [vR z] h Q := Rn_nx pg22 rfl rfl
theorem sX6_find_10 (hk : hK h a0 = 15) : Rn r 22 10 [l0, l1, l2, l3, l4, l5] [vR (some a0)] h Q ↔ Rn r 22 13 [l0, l1, l2, l3, l4, l5] [vI (hI h a0 1)] h Q := Rn_nx pg22 rfl (if_pos ⟨(hk ▸ Nat.le_refl _), (hk ▸ Nat.le_refl _)⟩)
theorem sX6_find_13 : Rn r 22 13 [l0, l1, l2, l3, l4, l5] [vI x0] h Q ↔ Rn r 22 15 [l0, l1, l2, l3, l4, l5] [vI 8, vI x0] h Q := Rn_nx pg22 rfl rfl
theorem sX6_find_15 : Rn r 22 15 [l0, l1, l2, l3, l4, l5] [vI x0, vI x1] h Q ↔ if x0 < x1 then Rn r 22 22 [l0, l1, l2, l3, l4, l5] [] h Q else Rn r 22 18 [l0, l1, l2, l3, l4, l5] [] h Q := Rn_if pg22 rfl rfl rfl
theorem sX6_find_18 : Rn r 22 18 [l0, l1, l2, l3, l4, l5] [] h Q ↔ Rn r 22 19 [l0, l1, l2, l3, l4, l5] [vI 1] h Q := Rn_nx pg22 rfl rfl
theorem sX6_find_19 : Rn r 22 19 [l0, l1, l2, l3, l4, l5] [vI x0] h Q ↔ Rn r 22 23 [l0, l1, l2, l3, l4, l5] [vI x0] h Q := Rn_nx pg22 rfl rfl
theorem sX6_find_22 : Rn r 22 22 [l0, l1, l2, l3, l4, l5] [] h Q ↔ Rn r 22 23 [l0, l1, l2, l3, l4, l5] [vI 0] h Q := Rn_nx pg22 rfl rfl
theorem sX6_find_23 : Rn r 22 23 [l0, l1, l2, l3, l4, l5] [vI x0] h Q ↔ Rn r 22 24 [l0, l1, l2, some (vI x0), l4, l5] [] h Q := Rn_nx pg22 rfl rfl
theorem sX6_find_24 : Rn r 22 24 [l0, l1, l2, l3, l4, l5] [] h Q ↔ Rn r 22 25 [l0, l1, l2, l3, l4, l5] [vI 0] h Q := Rn_nx pg22 rfl rfl
theorem sX6_find_25 : Rn r 22 25 [l0, l1, l2, l3, l4, l5] [vI x0] h Q ↔ Rn r 22 27 [l0, l1, l2, l3, some (vI x0), l5] [] h Q := Rn_nx pg22 rfl rfl
theorem sX6_find_27 : Rn r 22 27 [l0, l1, l2, l3, some (vI x), l5] [] h Q ↔ Rn r 22 29 [l0, l1, l2, l3, some (vI x), l5] [vI x] h Q := Rn_nx pg22 rfl rfl
theorem sX6_find_29 : Rn r 22 29 [some (vR z), l1, l2, l3, l4, l5] [vI x0] h Q ↔ Rn r 22 30 [some (vR z), l1, l2, l3, l4, l5] [vR z, vI x0] h Q := Rn_nx pg22 rfl rfl
theorem sX6_find_30 (hk : hK h a0 = 15) : Rn r 22 30 [l0, l1, l2, l3, l4, l5] [vR (some a0), vI x1] h Q ↔ Rn r 22 33 [l0, l1, l2, l3, l4, l5] [vI (hI h a0 1), vI x1] h Q := Rn_nx pg22 rfl (if_pos ⟨(hk ▸ Nat.le_refl _), (hk ▸ Nat.le_refl _)⟩)
theorem sX6_find_33 : Rn r 22 33 [l0, l1, l2, l3, l4, l5] [vI x0, vI x1] h Q ↔ if x0 ≤ x1 then Rn r 22 71 [l0, l1, l2, l3, l4, l5] [] h Q else Rn r 22 36 [l0, l1, l2, l3, l4, l5] [] h Q := Rn_if pg22 rfl rfl rfl
theorem sX6_find_36 : Rn r 22 36 [l0, l1, l2, some (vI x), l4, l5] [] h Q ↔ Rn r 22 37 [l0, l1, l2, some (vI x), l4, l5] [vI x] h Q := Rn_nx pg22 rfl rfl
theorem sX6_find_37 : Rn r 22 37 [l0, l1, l2, l3, l4, l5] [vI x0] h Q ↔ if x0 = 0 then Rn r 22 71 [l0, l1, l2, l3, l4, l5] [] h Q else Rn r 22 40 [l0, l1, l2, l3, l4, l5] [] h Q := Rn_if pg22 rfl rfl rfl
theorem sX6_find_40 : Rn r 22 40 [some (vR z), l1, l2, l3, l4, l5] [] h Q ↔ Rn r 22 41 [some (vR z), l1, l2, l3, l4, l5] [vR z] h Q := Rn_nx pg22 rfl rfl
theorem sX6_find_41 (hk : hK h a0 = 15) : Rn r 22 41 [l0, l1, l2, l3, l4, l5] [vR (some a0)] h Q ↔ Rn r 22 44 [l0, l1, l2, l3, l4, l5] [vR (hR h a0 0)] h Q := Rn_nx pg22 rfl (if_pos ⟨(hk ▸ Nat.le_refl _), (hk ▸ Nat.le_refl _)⟩)
theorem sX6_find_44 : Rn r 22 44 [l0, l1, l2, l3, some (vI x), l5] [vR z0] h Q ↔ Rn r 22 46 [l0, l1, l2, l3, some (vI x), l5] [vI x, vR z0] h Q := Rn_nx pg22 rfl rfl
theorem sX6_find_46 (hk : 40 ≤ hK h a1) (hk2 : hK h a1 ≤ 41) (hx : ¬ (x0 < 0 ∨ hL h a1 ≤ x0.toNatClampNeg)) : Rn r 22 46 [l0, l1, l2, l3, l4, l5] [vI x0, vR (some a1)] h Q ↔ Rn r 22 47 [l0, l1, l2, l3, l4, l5] [vI (hI h a1 x0.toNatClampNeg)] h Q := Rn_nx pg22 rfl ((if_pos ⟨hk, hk2⟩).trans (if_neg hx))
theorem sX6_find_47 : Rn r 22 47 [l0, l1, l2, l3, l4, l5] [vI x0] h Q ↔ Cl r 67 [vI x0] h (Kt r 22 50 [l0, l1, l2, l3, l4, l5] [] Q) := Rn_call pg22 rfl rfl pg67 rfl rfl rfl
theorem sX6_find_50 : Rn r 22 50 [l0, l1, l2, l3, l4, l5] [vI x0] h Q ↔ Rn r 22 51 [l0, l1, l2, some (vI x0), l4, l5] [] h Q := Rn_nx pg22 rfl rfl
theorem sX6_find_51 : Rn r 22 51 [l0, some (vL y), l2, l3, l4, l5] [] h Q ↔ Rn r 22 52 [l0, some (vL y), l2, l3, l4, l5] [vL y] h Q := Rn_nx pg22 rfl rfl
theorem sX6_find_52 : Rn r 22 52 [l0, l1, l2, l3, l4, l5] [vL y0] h Q ↔ Rn r 22 54 [l0, l1, l2, l3, l4, l5] [vI 8, vL y0] h Q := Rn_nx pg22 rfl rfl
theorem sX6_find_54 : Rn r 22 54 [l0, l1, l2, l3, l4, l5] [vI x0, vL y1] h Q ↔ Rn r 22 55 [l0, l1, l2, l3, l4, l5] [vL (y1 <<< (x0.toInt64 &&& 63))] h Q := Rn_nx pg22 rfl rfl
theorem sX6_find_55 : Rn r 22 55 [some (vR z), l1, l2, l3, l4, l5] [vL y0] h Q ↔ Rn r 22 56 [some (vR z), l1, l2, l3, l4, l5] [vR z, vL y0] h Q := Rn_nx pg22 rfl rfl
theorem sX6_find_56 (hk : hK h a0 = 15) : Rn r 22 56 [l0, l1, l2, l3, l4, l5] [vR (some a0), vL y1] h Q ↔ Rn r 22 59 [l0, l1, l2, l3, l4, l5] [vR (hR h a0 0), vL y1] h Q := Rn_nx pg22 rfl (if_pos ⟨(hk ▸ Nat.le_refl _), (hk ▸ Nat.le_refl _)⟩)
theorem sX6_find_59 : Rn r 22 59 [l0, l1, l2, l3, some (vI x), l5] [vR z0, vL y1] h Q ↔ Rn r 22 61 [l0, l1, l2, l3, some (vI x), l5] [vI x, vR z0, vL y1] h Q := Rn_nx pg22 rfl rfl
theorem sX6_find_61 (hk : 40 ≤ hK h a1) (hk2 : hK h a1 ≤ 41) (hx : ¬ (x0 < 0 ∨ hL h a1 ≤ x0.toNatClampNeg)) : Rn r 22 61 [l0, l1, l2, l3, l4, l5] [vI x0, vR (some a1), vL y2] h Q ↔ Rn r 22 62 [l0, l1, l2, l3, l4, l5] [vI (hI h a1 x0.toNatClampNeg), vL y2] h Q := Rn_nx pg22 rfl ((if_pos ⟨hk, hk2⟩).trans (if_neg hx))
theorem sX6_find_62 : Rn r 22 62 [l0, l1, l2, l3, l4, l5] [vI x0, vL y1] h Q ↔ Rn r 22 63 [l0, l1, l2, l3, l4, l5] [vL x0.toInt64, vL y1] h Q := Rn_nx pg22 rfl rfl
theorem sX6_find_63 : Rn r 22 63 [l0, l1, l2, l3, l4, l5] [vL y0, vL y1] h Q ↔ Rn r 22 64 [l0, l1, l2, l3, l4, l5] [vL (y1 ||| y0)] h Q := Rn_nx pg22 rfl rfl
theorem sX6_find_64 : Rn r 22 64 [l0, l1, l2, l3, l4, l5] [vL y0] h Q ↔ Rn r 22 65 [l0, some (vL y0), none, l3, l4, l5] [] h Q := Rn_nx pg22 rfl rfl
theorem sX6_find_65 : Rn r 22 65 [l0, l1, l2, l3, some (vI x), l5] [] h Q ↔ Rn r 22 68 [l0, l1, l2, l3, some (vI (x + 1)), l5] [] h Q := Rn_nx pg22 rfl rfl
theorem sX6_find_68 : Rn r 22 68 [l0, l1, l2, l3, l4, l5] [] h Q ↔ Rn r 22 27 [l0, l1, l2, l3, l4, l5] [] h Q := Rn_nx pg22 rfl rfl
theorem sX6_find_71 : Rn r 22 71 [some (vR z), l1, l2, l3, l4, l5] [] h Q ↔ Rn r 22 72 [some (vR z), l1, l2, l3, l4, l5] [vR z] h Q := Rn_nx pg22 rfl rfl
theorem sX6_find_72 : Rn r 22 72 [l0, l1, l2, l3, l4, l5] [vR z0] h Q ↔ Rn r 22 73 [l0, l1, l2, l3, l4, l5] [vI 0, vR z0] h Q := Rn_nx pg22 rfl rfl
theorem sX6_find_73 (hk : hK h a1 = 15) : Rn r 22 73 [l0, l1, l2, l3, l4, l5] [vI x0, vR (some a1)] h Q ↔ Rn r 22 76 [l0, l1, l2, l3, l4, l5] [] (putI h a1 1 x0) Q := Rn_nx pg22 rfl ((if_pos ⟨(hk ▸ Nat.le_refl _), (hk ▸ Nat.le_refl _)⟩).trans rfl)
theorem sX6_find_76 : Rn r 22 76 [l0, l1, l2, some (vI x), l4, l5] [] h Q ↔ Rn r 22 77 [l0, l1, l2, some (vI x), l4, l5] [vI x] h Q := Rn_nx pg22 rfl rfl
theorem sX6_find_77 : Rn r 22 77 [l0, l1, l2, l3, l4, l5] [vI x0] h Q ↔ if x0 = 0 then Rn r 22 87 [l0, l1, l2, l3, l4, l5] [] h Q else Rn r 22 80 [l0, l1, l2, l3, l4, l5] [] h Q := Rn_if pg22 rfl rfl rfl
theorem sX6_find_80 : Rn r 22 80 [l0, some (vL y), l2, l3, l4, l5] [] h Q ↔ Rn r 22 81 [l0, some (vL y), l2, l3, l4, l5] [vL y] h Q := Rn_nx pg22 rfl rfl
theorem sX6_find_81 : Rn r 22 81 [l0, l1, l2, l3, l4, l5] [vL y0] h Q ↔ Cl r 68 [vL y0] h (Kt r 22 84 [l0, l1, l2, l3, l4, l5] [] Q) := Rn_call pg22 rfl rfl pg68 rfl rfl rfl
theorem sX6_find_84 : Rn r 22 84 [l0, l1, l2, l3, l4, l5] [vI x0] h Q ↔ if x0 = 0 then Rn r 22 89 [l0, l1, l2, l3, l4, l5] [] h Q else Rn r 22 87 [l0, l1, l2, l3, l4, l5] [] h Q := Rn_if pg22 rfl rfl rfl
theorem sX6_find_87 : Rn r 22 87 [l0, l1, l2, l3, l4, l5] [] h Q ↔ Rn r 22 88 [l0, l1, l2, l3, l4, l5] [vI (-1)] h Q := Rn_nx pg22 rfl rfl
theorem sX6_find_88 : Rn r 22 88 [l0, l1, l2, l3, l4, l5] [vI x0] h Q ↔ Q (Sum.inl (some (vI x0))) h := Rn_end pg22 rfl rfl
theorem sX6_find_89 : Rn r 22 89 [some (vR z), l1, l2, l3, l4, l5] [] h Q ↔ Rn r 22 90 [some (vR z), l1, l2, l3, l4, l5] [vR z] h Q := Rn_nx pg22 rfl rfl
theorem sX6_find_90 : Rn r 22 90 [l0, some (vL y), l2, l3, l4, l5] [vR z0] h Q ↔ Rn r 22 91 [l0, some (vL y), l2, l3, l4, l5] [vL y, vR z0] h Q := Rn_nx pg22 rfl rfl
theorem sX6_find_91 : Rn r 22 91 [l0, l1, l2, l3, l4, l5] [vL y0, vR z1] h Q ↔ Rn r 22 94 [l0, l1, l2, l3, l4, l5] [vI 2001, vL y0, vR z1] h Q := Rn_nx pg22 rfl rfl
theorem sX6_find_94 (hk : hK h a2 = 15) : Rn r 22 94 [l0, l1, l2, l3, l4, l5] [vI x0, vL y1, vR (some a2)] h Q ↔ Cl r 69 [vR (some a2), vL y1, vI x0] h (Kt r 22 97 [l0, l1, l2, l3, l4, l5] [] Q) := Rn_call pg22 rfl (by simp only [am_exec, am_inv, am_pop, am_lk, hk]; rfl) pg69 rfl rfl rfl
theorem sX6_find_97 : Rn r 22 97 [l0, l1, l2, l3, l4, l5] [vI x0] h Q ↔ Rn r 22 99 [l0, l1, l2, l3, some (vI x0), l5] [] h Q := Rn_nx pg22 rfl rfl
theorem sX6_find_99 : Rn r 22 99 [some (vR z), l1, l2, l3, l4, l5] [] h Q ↔ Rn r 22 100 [some (vR z), l1, l2, l3, l4, l5] [vR z] h Q := Rn_nx pg22 rfl rfl
theorem sX6_find_100 : Rn r 22 100 [l0, some (vL y), l2, l3, l4, l5] [vR z0] h Q ↔ Rn r 22 101 [l0, some (vL y), l2, l3, l4, l5] [vL y, vR z0] h Q := Rn_nx pg22 rfl rfl
theorem sX6_find_101 (hk : hK h a1 = 15) : Rn r 22 101 [l0, l1, l2, l3, l4, l5] [vL y0, vR (some a1)] h Q ↔ Cl r 53 [vR (some a1), vL y0] h (Kt r 22 104 [l0, l1, l2, l3, l4, l5] [] Q) := Rn_call pg22 rfl (by simp only [am_exec, am_inv, am_pop, am_lk, hk]; rfl) pg53 rfl rfl rfl
theorem sX6_find_104 : Rn r 22 104 [l0, l1, l2, l3, l4, l5] [vI x0] h Q ↔ Rn r 22 106 [l0, l1, l2, l3, l4, some (vI x0)] [] h Q := Rn_nx pg22 rfl rfl
theorem sX6_find_106 : Rn r 22 106 [l0, l1, l2, l3, some (vI x), l5] [] h Q ↔ Rn r 22 108 [l0, l1, l2, l3, some (vI x), l5] [vI x] h Q := Rn_nx pg22 rfl rfl
theorem sX6_find_108 : Rn r 22 108 [l0, l1, l2, l3, l4, l5] [vI x0] h Q ↔ Rn r 22 109 [l0, l1, l2, l3, l4, l5] [vI (-1), vI x0] h Q := Rn_nx pg22 rfl rfl
theorem sX6_find_109 : Rn r 22 109 [l0, l1, l2, l3, l4, l5] [vI x0, vI x1] h Q ↔ if x1 = x0 then Rn r 22 120 [l0, l1, l2, l3, l4, l5] [] h Q else Rn r 22 112 [l0, l1, l2, l3, l4, l5] [] h Q := Rn_if pg22 rfl rfl rfl
theorem sX6_find_112 : Rn r 22 112 [l0, l1, l2, l3, l4, l5] [] h Q ↔ Rn r 22 114 [l0, l1, l2, l3, l4, l5] [vI 100] h Q := Rn_nx pg22 rfl rfl
theorem sX6_find_114 : Rn r 22 114 [l0, l1, l2, l3, some (vI x), l5] [vI x0] h Q ↔ Rn r 22 116 [l0, l1, l2, l3, some (vI x), l5] [vI x, vI x0] h Q := Rn_nx pg22 rfl rfl
theorem sX6_find_116 : Rn r 22 116 [l0, l1, l2, l3, l4, l5] [vI x0, vI x1] h Q ↔ Rn r 22 117 [l0, l1, l2, l3, l4, l5] [vI (x1 + x0)] h Q := Rn_nx pg22 rfl rfl
theorem sX6_find_117 : Rn r 22 117 [l0, l1, l2, l3, l4, l5] [vI x0] h Q ↔ Rn r 22 136 [l0, l1, l2, l3, l4, l5] [vI x0] h Q := Rn_nx pg22 rfl rfl
theorem sX6_find_120 : Rn r 22 120 [l0, l1, l2, l3, l4, some (vI x)] [] h Q ↔ Rn r 22 122 [l0, l1, l2, l3, l4, some (vI x)] [vI x] h Q := Rn_nx pg22 rfl rfl
theorem sX6_find_122 : Rn r 22 122 [l0, l1, l2, l3, l4, l5] [vI x0] h Q ↔ Rn r 22 123 [l0, l1, l2, l3, l4, l5] [vI (-1), vI x0] h Q := Rn_nx pg22 rfl rfl
theorem sX6_find_123 : Rn r 22 123 [l0, l1, l2, l3, l4, l5] [vI x0, vI x1] h Q ↔ if x1 = x0 then Rn r 22 135 [l0, l1, l2, l3, l4, l5] [] h Q else Rn r 22 126 [l0, l1, l2, l3, l4, l5] [] h Q := Rn_if pg22 rfl rfl rfl
theorem sX6_find_126 : Rn r 22 126 [l0, l1, l2, l3, l4, l5] [] h Q ↔ Rn r 22 129 [l0, l1, l2, l3, l4, l5] [vI 200] h Q := Rn_nx pg22 rfl rfl
theorem sX6_find_129 : Rn r 22 129 [l0, l1, l2, l3, l4, some (vI x)] [vI x0] h Q ↔ Rn r 22 131 [l0, l1, l2, l3, l4, some (vI x)] [vI x, vI x0] h Q := Rn_nx pg22 rfl rfl
theorem sX6_find_131 : Rn r 22 131 [l0, l1, l2, l3, l4, l5] [vI x0, vI x1] h Q ↔ Rn r 22 132 [l0, l1, l2, l3, l4, l5] [vI (x1 + x0)] h Q := Rn_nx pg22 rfl rfl
theorem sX6_find_132 : Rn r 22 132 [l0, l1, l2, l3, l4, l5] [vI x0] h Q ↔ Rn r 22 136 [l0, l1, l2, l3, l4, l5] [vI x0] h Q := Rn_nx pg22 rfl rfl
theorem sX6_find_135 : Rn r 22 135 [l0, l1, l2, l3, l4, l5] [] h Q ↔ Rn r 22 136 [l0, l1, l2, l3, l4, l5] [vI (-1)] h Q := Rn_nx pg22 rfl rfl
theorem sX6_find_136 : Rn r 22 136 [l0, l1, l2, l3, l4, l5] [vI x0] h Q ↔ Q (Sum.inl (some (vI x0))) h := Rn_end pg22 rfl rfl
/-! 23 ThrowRules.walk(IJ)I -/
theorem eX0_walk : Cl r 23 [vR z0, vI x1, vL y2] h Q ↔ Rn r 23 0 [some (vR z0), some (vI x1), some (vL y2), none] [] h Q := Cl_in pg23 rfl
theorem sX0_walk_0 : Rn r 23 0 [l0, some (vI x), l2, l3] [] h Q ↔ Rn r 23 1 [l0, some (vI x), l2, l3] [vI x] h Q := Rn_nx pg23 rfl rfl
theorem sX0_walk_1 : Rn r 23 1 [l0, l1, l2, l3] [vI x0] h Q ↔ Rn r 23 2 [l0, l1, l2, l3] [vI 0, vI x0] h Q := Rn_nx pg23 rfl rfl
theorem sX0_walk_2 : Rn r 23 2 [some (vR z), l1, l2, l3] [vI x0, vI x1] h Q ↔ Rn r 23 3 [some (vR z), l1, l2, l3] [vR z, vI x0, vI x1] h Q := Rn_nx pg23 rfl rfl
theorem sX0_walk_3 (hk : hK h a0 = 1) : Rn r 23 3 [l0, l1, l2, l3] [vR (some a0), vI x1, vI x2] h Q ↔ Rn r 23 6 [l0, l1, l2, l3] [vR (hR h a0 3), vI x1, vI x2] h Q := Rn_nx pg23 rfl (if_pos ⟨(hk ▸ Nat.le_refl _), (hk ▸ Nat.le_refl _)⟩)
theorem sX0_walk_6 (hk : hK h a0 = 5) : Rn r 23 6 [l0, l1, l2, l3] [vR (some a0), vI x1, vI x2] h Q ↔ Rn r 23 9 [l0, l1, l2, l3] [vR (hR h a0 2), vI x1, vI x2] h Q := Rn_nx pg23 rfl (if_pos ⟨(hk ▸ Nat.le_refl _), (hk ▸ Nat.le_refl _)⟩)
theorem sX0_walk_9 (hk : hK h a0 = 4) : Rn r 23 9 [l0, l1, l2, l3] [vR (some a0), vI x1, vI x2] h Q ↔ Cl r 34 [vR (some a0)] h (Kt r 23 12 [l0, l1, l2, l3] [vI x1, vI x2] Q) := Rn_call pg23 rfl (by simp only [am_exec, am_inv, am_pop, am_lk, hk]; rfl) pg34 rfl rfl rfl
theorem sX0_walk_12 : Rn r 23 12 [l0, l1, l2, l3] [vI x0, vI x1, vI x2] h Q ↔ Rn r 23 13 [l0, l1, l2, l3] [vI 1, vI x0, vI x1, vI x2] h Q := Rn_nx pg23 rfl rfl
theorem sX0_walk_13 : Rn r 23 13 [l0, l1, l2, l3] [vI x0, vI x1, vI x2, vI x3] h Q ↔ Rn r 23 14 [l0, l1, l2, l3] [vI (x1 - x0), vI x2, vI x3] h Q := Rn_nx pg23 rfl rfl
theorem sX0_walk_14 : Rn r 23 14 [l0, l1, l2, l3] [vI x0, vI x1, vI x2] h Q ↔ Cl r 32 [vI x2, vI x1, vI x0] h (Kt r 23 17 [l0, l1, l2, l3] [] Q) := Rn_call pg23 rfl rfl pg32 rfl rfl rfl
theorem sX0_walk_17 : Rn r 23 17 [l0, l1, l2, l3] [vI x0] h Q ↔ if x0 = 0 then Rn r 23 40 [l0, l1, l2, l3] [] h Q else Rn r 23 20 [l0, l1, l2, l3] [] h Q := Rn_if pg23 rfl rfl rfl
theorem sX0_walk_20 : Rn r 23 20 [some (vR z), l1, l2, l3] [] h Q ↔ Rn r 23 21 [some (vR z), l1, l2, l3] [vR z] h Q := Rn_nx pg23 rfl rfl
theorem sX0_walk_21 (hk : hK h a0 = 1) : Rn r 23 21 [l0, l1, l2, l3] [vR (some a0)] h Q ↔ Rn r 23 24 [l0, l1, l2, l3] [vR (hR h a0 3)] h Q := Rn_nx pg23 rfl (if_pos ⟨(hk ▸ Nat.le_refl _), (hk ▸ Nat.le_refl _)⟩)
theorem sX0_walk_24 (hk : hK h a0 = 5) : Rn r 23 24 [l0, l1, l2, l3] [vR (some a0)] h Q ↔ Rn r 23 27 [l0, l1, l2, l3] [vR (hR h a0 2)] h Q := Rn_nx pg23 rfl (if_pos ⟨(hk ▸ Nat.le_refl _), (hk ▸ Nat.le_refl _)⟩)
theorem sX0_walk_27 : Rn r 23 27 [l0, some (vI x), l2, l3] [vR z0] h Q ↔ Rn r 23 28 [l0, some (vI x), l2, l3] [vI x, vR z0] h Q := Rn_nx pg23 rfl rfl
theorem sX0_walk_28 (hk : hK h a1 = 4) : Rn r 23 28 [l0, l1, l2, l3] [vI x0, vR (some a1)] h Q ↔ Cl r 43 [vR (some a1), vI x0] h (Kt r 23 31 [l0, l1, l2, l3] [] Q) := Rn_call pg23 rfl (by simp only [am_exec, am_inv, am_pop, am_lk, hk]; rfl) pg43 rfl rfl rfl
theorem sX0_walk_31_n : Rn r 23 31 [l0, l1, l2, l3] [vR none] h Q ↔ Rn r 23 34 [l0, l1, l2, l3] [vR none] h Q := Rn_nx pg23 rfl rfl
theorem sX0_walk_31 (hk : hK h a0 ∈ [18]) : Rn r 23 31 [l0, l1, l2, l3] [vR (some a0)] h Q ↔ Rn r 23 34 [l0, l1, l2, l3] [vR (some a0)] h Q := Rn_nx pg23 rfl (if_pos hk)
theorem sX0_walk_34 (hk : hK h a0 = 18) : Rn r 23 34 [l0, l1, l2, l3] [vR (some a0)] h Q ↔ Rn r 23 37 [l0, l1, l2, l3] [vR (hR h a0 8)] h Q := Rn_nx pg23 rfl (if_pos ⟨(hk ▸ Nat.le_refl _), (hk ▸ Nat.le_refl _)⟩)
theorem sX0_walk_37 : Rn r 23 37 [l0, l1, l2, l3] [vR z0] h Q ↔ if z0 ≠ none then Rn r 23 43 [l0, l1, l2, l3] [] h Q else Rn r 23 40 [l0, l1, l2, l3] [] h Q := Rn_if pg23 rfl rfl rfl
theorem sX0_walk_40 : Rn r 23 40 [l0, l1, l2, l3] [] h Q ↔ Rn r 23 42 [l0, l1, l2, l3] [vI (-3)] h Q := Rn_nx pg23 rfl rfl
theorem sX0_walk_42 : Rn r 23 42 [l0, l1, l2, l3] [vI x0] h Q ↔ Q (Sum.inl (some (vI x0))) h := Rn_end pg23 rfl rfl
theorem sX0_walk_43 : Rn r 23 43 [some (vR z), l1, l2, l3] [] h Q ↔ Rn r 23 44 [some (vR z), l1, l2, l3] [vR z] h Q := Rn_nx pg23 rfl rfl
theorem sX0_walk_44 (hk : hK h a0 = 1) : Rn r 23 44 [l0, l1, l2, l3] [vR (some a0)] h Q ↔ Rn r 23 47 [l0, l1, l2, l3] [vR (hR h a0 4)] h Q := Rn_nx pg23 rfl (if_pos ⟨(hk ▸ Nat.le_refl _), (hk ▸ Nat.le_refl _)⟩)
theorem sX0_walk_47 : Rn r 23 47 [some (vR z), l1, l2, l3] [vR z0] h Q ↔ Rn r 23 48 [some (vR z), l1, l2, l3] [vR z, vR z0] h Q := Rn_nx pg23 rfl rfl
theorem sX0_walk_48 (hk : hK h a0 = 1) : Rn r 23 48 [l0, l1, l2, l3] [vR (some a0), vR z1] h Q ↔ Rn r 23 51 [l0, l1, l2, l3] [vR (hR h a0 3), vR z1] h Q := Rn_nx pg23 rfl (if_pos ⟨(hk ▸ Nat.le_refl _), (hk ▸ Nat.le_refl _)⟩)
theorem sX0_walk_51 (hk : hK h a0 = 5) : Rn r 23 51 [l0, l1, l2, l3] [vR (some a0), vR z1] h Q ↔ Rn r 23 54 [l0, l1, l2, l3] [vR (hR h a0 2), vR z1] h Q := Rn_nx pg23 rfl (if_pos ⟨(hk ▸ Nat.le_refl _), (hk ▸ Nat.le_refl _)⟩)
theorem sX0_walk_54 : Rn r 23 54 [l0, some (vI x), l2, l3] [vR z0, vR z1] h Q ↔ Rn r 23 55 [l0, some (vI x), l2, l3] [vI x, vR z0, vR z1] h Q := Rn_nx pg23 rfl rfl
theorem sX0_walk_55 (hk : hK h a1 = 4) : Rn r 23 55 [l0, l1, l2, l3] [vI x0, vR (some a1), vR z2] h Q ↔ Cl r 43 [vR (some a1), vI x0] h (Kt r 23 58 [l0, l1, l2, l3] [vR z2] Q) := Rn_call pg23 rfl (by simp only [am_exec, am_inv, am_pop, am_lk, hk]; rfl) pg43 rfl rfl rfl
theorem sX0_walk_58_n : Rn r 23 58 [l0, l1, l2, l3] [vR none, vR z1] h Q ↔ Rn r 23 61 [l0, l1, l2, l3] [vR none, vR z1] h Q := Rn_nx pg23 rfl rfl
theorem sX0_walk_58 (hk : hK h a0 ∈ [18]) : Rn r 23 58 [l0, l1, l2, l3] [vR (some a0), vR z1] h Q ↔ Rn r 23 61 [l0, l1, l2, l3] [vR (some a0), vR z1] h Q := Rn_nx pg23 rfl (if_pos hk)
theorem sX0_walk_61 (hk : hK h a0 = 18) : Rn r 23 61 [l0, l1, l2, l3] [vR (some a0), vR z1] h Q ↔ Rn r 23 64 [l0, l1, l2, l3] [vR (hR h a0 8), vR z1] h Q := Rn_nx pg23 rfl (if_pos ⟨(hk ▸ Nat.le_refl _), (hk ▸ Nat.le_refl _)⟩)
theorem sX0_walk_64 : Rn r 23 64 [l0, l1, some (vL y), l3] [vR z0, vR z1] h Q ↔ Rn r 23 65 [l0, l1, some (vL y), l3] [vL y, vR z0, vR z1] h Q := Rn_nx pg23 rfl rfl
theorem sX0_walk_65 (hk : hK h a2 = 14) : Rn r 23 65 [l0, l1, l2, l3] [vL y0, vR z1, vR (some a2)] h Q ↔ Cl r 70 [vR (some a2), vR z1, vL y0] h (Kt r 23 68 [l0, l1, l2, l3] [] Q) := Rn_call pg23 rfl (by simp only [am_exec, am_inv, am_pop, am_lk, hk]; rfl) pg70 rfl rfl rfl
theorem sX0_walk_68 : Rn r 23 68 [l0, l1, l2, l3] [vI x0] h Q ↔ Q (Sum.inl (some (vI x0))) h := Rn_end pg23 rfl rfl
/-! 24 ThrowRulesModel.walk(IJ)I -/
theorem eX6_walk : Cl r 24 [vR z0, vI x1, vL y2] h Q ↔ Rn r 24 0 [some (vR z0), some (vI x1), some (vL y2), none, none, none] [] h Q := Cl_in pg24 rfl
theorem sX6_walk_0 : Rn r 24 0 [l0, some (vI x), l2, l3, l4, l5] [] h Q ↔ Rn r 24 1 [l0, some (vI x), l2, l3, l4, l5] [vI x] h Q := Rn_nx pg24 rfl rfl
theorem sX6_walk_1 : Rn r 24 1 [l0, l1, l2, l3, l4, l5] [vI x0] h Q ↔ if x0 < 0 then Rn r 24 35 [l0, l1, l2, l3, l4, l5] [] h Q else Rn r 24 4 [l0, l1, l2, l3, l4, l5] [] h Q := Rn_if pg24 rfl rfl rfl
theorem sX6_walk_4 : Rn r 24 4 [l0, some (vI x), l2, l3, l4, l5] [] h Q ↔ Rn r 24 5 [l0, some (vI x), l2, l3, l4, l5] [vI x] h Q := Rn_nx pg24 rfl rfl
theorem sX6_walk_5 : Rn r 24 5 [some (vR z), l1, l2, l3, l4, l5] [vI x0] h Q ↔ Rn r 24 6 [some (vR z), l1, l2, l3, l4, l5] [vR z, vI x0] h Q := Rn_nx pg24 rfl rfl
theorem sX6_walk_6 (hk : hK h a0 = 15) : Rn r 24 6 [l0, l1, l2, l3, l4, l5] [vR (some a0), vI x1] h Q ↔ Rn r 24 9 [l0, l1, l2, l3, l4, l5] [vR (hR h a0 9), vI x1] h Q := Rn_nx pg24 rfl (if_pos ⟨(hk ▸ Nat.le_refl _), (hk ▸ Nat.le_refl _)⟩)
theorem sX6_walk_9 : Rn r 24 9 [some (vR z), l1, l2, l3, l4, l5] [vR z0, vI x1] h Q ↔ Rn r 24 10 [some (vR z), l1, l2, l3, l4, l5] [vR z, vR z0, vI x1] h Q := Rn_nx pg24 rfl rfl
theorem sX6_walk_10 (hk : hK h a0 = 15) : Rn r 24 10 [l0, l1, l2, l3, l4, l5] [vR (some a0), vR z1, vI x2] h Q ↔ Rn r 24 13 [l0, l1, l2, l3, l4, l5] [vI (hI h a0 2), vR z1, vI x2] h Q := Rn_nx pg24 rfl (if_pos ⟨(hk ▸ Nat.le_refl _), (hk ▸ Nat.le_refl _)⟩)
theorem sX6_walk_13 (hk : 40 ≤ hK h a1) (hk2 : hK h a1 ≤ 41) (hx : ¬ (x0 < 0 ∨ hL h a1 ≤ x0.toNatClampNeg)) : Rn r 24 13 [l0, l1, l2, l3, l4, l5] [vI x0, vR (some a1), vI x2] h Q ↔ Rn r 24 14 [l0, l1, l2, l3, l4, l5] [vI (hI h a1 x0.toNatClampNeg), vI x2] h Q := Rn_nx pg24 rfl ((if_pos ⟨hk, hk2⟩).trans (if_neg hx))
theorem sX6_walk_14 : Rn r 24 14 [l0, l1, l2, l3, l4, l5] [vI x0, vI x1] h Q ↔ if x0 ≤ x1 then Rn r 24 35 [l0, l1, l2, l3, l4, l5] [] h Q else Rn r 24 17 [l0, l1, l2, l3, l4, l5] [] h Q := Rn_if pg24 rfl rfl rfl
theorem sX6_walk_17 : Rn r 24 17 [some (vR z), l1, l2, l3, l4, l5] [] h Q ↔ Rn r 24 18 [some (vR z), l1, l2, l3, l4, l5] [vR z] h Q := Rn_nx pg24 rfl rfl
theorem sX6_walk_18 (hk : hK h a0 = 15) : Rn r 24 18 [l0, l1, l2, l3, l4, l5] [vR (some a0)] h Q ↔ Rn r 24 21 [l0, l1, l2, l3, l4, l5] [vR (hR h a0 18)] h Q := Rn_nx pg24 rfl (if_pos ⟨(hk ▸ Nat.le_refl _), (hk ▸ Nat.le_refl _)⟩)
theorem sX6_walk_21 : Rn r 24 21 [some (vR z), l1, l2, l3, l4, l5] [vR z0] h Q ↔ Rn r 24 22 [some (vR z), l1, l2, l3, l4, l5] [vR z, vR z0] h Q := Rn_nx pg24 rfl rfl
theorem sX6_walk_22 (hk : hK h a0 = 15) : Rn r 24 22 [l0, l1, l2, l3, l4, l5] [vR (some a0), vR z1] h Q ↔ Rn r 24 25 [l0, l1, l2, l3, l4, l5] [vI (hI h a0 2), vR z1] h Q := Rn_nx pg24 rfl (if_pos ⟨(hk ▸ Nat.le_refl _), (hk ▸ Nat.le_refl _)⟩)
theorem sX6_walk_25 : Rn r 24 25 [l0, l1, l2, l3, l4, l5] [vI x0, vR z1] h Q ↔ Rn r 24 27 [l0, l1, l2, l3, l4, l5] [vI 12, vI x0, vR z1] h Q := Rn_nx pg24 rfl rfl
theorem sX6_walk_27 : Rn r 24 27 [l0, l1, l2, l3, l4, l5] [vI x0, vI x1, vR z2] h Q ↔ Rn r 24 28 [l0, l1, l2, l3, l4, l5] [vI (x1 * x0), vR z2] h Q := Rn_nx pg24 rfl rfl
theorem sX6_walk_28 : Rn r 24 28 [l0, some (vI x), l2, l3, l4, l5] [vI x0, vR z1] h Q ↔ Rn r 24 29 [l0, some (vI x), l2, l3, l4, l5] [vI x, vI x0, vR z1] h Q := Rn_nx pg24 rfl rfl
theorem sX6_walk_29 : Rn r 24 29 [l0, l1, l2, l3, l4, l5] [vI x0, vI x1, vR z2] h Q ↔ Rn r 24 30 [l0, l1, l2, l3, l4, l5] [vI (x1 + x0), vR z2] h Q := Rn_nx pg24 rfl rfl
theorem sX6_walk_30 (hk : 40 ≤ hK h a1) (hk2 : hK h a1 ≤ 41) (hx : ¬ (x0 < 0 ∨ hL h a1 ≤ x0.toNatClampNeg)) : Rn r 24 30 [l0, l1, l2, l3, l4, l5] [vI x0, vR (some a1)] h Q ↔ Rn r 24 31 [l0, l1, l2, l3, l4, l5] [vI (hI h a1 x0.toNatClampNeg)] h Q := Rn_nx pg24 rfl ((if_pos ⟨hk, hk2⟩).trans (if_neg hx))
theorem sX6_walk_31 : Rn r 24 31 [l0, l1, l2, l3, l4, l5] [vI x0] h Q ↔ Rn r 24 32 [l0, l1, l2, l3, l4, l5] [vI (-1), vI x0] h Q := Rn_nx pg24 rfl rfl
theorem sX6_walk_32 : Rn r 24 32 [l0, l1, l2, l3, l4, l5] [vI x0, vI x1] h Q ↔ if x1 ≠ x0 then Rn r 24 38 [l0, l1, l2, l3, l4, l5] [] h Q else Rn r 24 35 [l0, l1, l2, l3, l4, l5] [] h Q := Rn_if pg24 rfl rfl rfl
theorem sX6_walk_35 : Rn r 24 35 [l0, l1, l2, l3, l4, l5] [] h Q ↔ Rn r 24 37 [l0, l1, l2, l3, l4, l5] [vI (-3)] h Q := Rn_nx pg24 rfl rfl
theorem sX6_walk_37 : Rn r 24 37 [l0, l1, l2, l3, l4, l5] [vI x0] h Q ↔ Q (Sum.inl (some (vI x0))) h := Rn_end pg24 rfl rfl
theorem sX6_walk_38 : Rn r 24 38 [some (vR z), l1, l2, l3, l4, l5] [] h Q ↔ Rn r 24 39 [some (vR z), l1, l2, l3, l4, l5] [vR z] h Q := Rn_nx pg24 rfl rfl
theorem sX6_walk_39 : Rn r 24 39 [l0, l1, some (vL y), l3, l4, l5] [vR z0] h Q ↔ Rn r 24 40 [l0, l1, some (vL y), l3, l4, l5] [vL y, vR z0] h Q := Rn_nx pg24 rfl rfl
theorem sX6_walk_40 (hk : hK h a1 = 15) : Rn r 24 40 [l0, l1, l2, l3, l4, l5] [vL y0, vR (some a1)] h Q ↔ Rn r 24 43 [l0, l1, l2, l3, l4, l5] [] (putJ h a1 64 y0) Q := Rn_nx pg24 rfl ((if_pos ⟨(hk ▸ Nat.le_refl _), (hk ▸ Nat.le_refl _)⟩).trans rfl)
theorem sX6_walk_43 : Rn r 24 43 [some (vR z), l1, l2, l3, l4, l5] [] h Q ↔ Rn r 24 44 [some (vR z), l1, l2, l3, l4, l5] [vR z] h Q := Rn_nx pg24 rfl rfl
theorem sX6_walk_44 : Rn r 24 44 [l0, l1, l2, l3, l4, l5] [vR z0] h Q ↔ Rn r 24 45 [l0, l1, l2, l3, l4, l5] [vI 0, vR z0] h Q := Rn_nx pg24 rfl rfl
theorem sX6_walk_45 (hk : hK h a1 = 15) : Rn r 24 45 [l0, l1, l2, l3, l4, l5] [vI x0, vR (some a1)] h Q ↔ Rn r 24 48 [l0, l1, l2, l3, l4, l5] [] (putI h a1 65 x0) Q := Rn_nx pg24 rfl ((if_pos ⟨(hk ▸ Nat.le_refl _), (hk ▸ Nat.le_refl _)⟩).trans rfl)
theorem sX6_walk_48 : Rn r 24 48 [some (vR z), l1, l2, l3, l4, l5] [] h Q ↔ Rn r 24 49 [some (vR z), l1, l2, l3, l4, l5] [vR z] h Q := Rn_nx pg24 rfl rfl
theorem sX6_walk_49 : Rn r 24 49 [l0, l1, l2, l3, l4, l5] [vR z0] h Q ↔ Rn r 24 50 [l0, l1, l2, l3, l4, l5] [vI 0, vR z0] h Q := Rn_nx pg24 rfl rfl
theorem sX6_walk_50 (hk : hK h a1 = 15) : Rn r 24 50 [l0, l1, l2, l3, l4, l5] [vI x0, vR (some a1)] h Q ↔ Rn r 24 53 [l0, l1, l2, l3, l4, l5] [] (putI h a1 66 x0) Q := Rn_nx pg24 rfl ((if_pos ⟨(hk ▸ Nat.le_refl _), (hk ▸ Nat.le_refl _)⟩).trans rfl)
theorem sX6_walk_53 : Rn r 24 53 [some (vR z), l1, l2, l3, l4, l5] [] h Q ↔ Rn r 24 54 [some (vR z), l1, l2, l3, l4, l5] [vR z] h Q := Rn_nx pg24 rfl rfl
theorem sX6_walk_54 : Rn r 24 54 [l0, l1, l2, l3, l4, l5] [vR z0] h Q ↔ Rn r 24 55 [l0, l1, l2, l3, l4, l5] [vI 0, vR z0] h Q := Rn_nx pg24 rfl rfl
theorem sX6_walk_55 (hk : hK h a1 = 15) (hf : am_fit 4 x0 = true) : Rn r 24 55 [l0, l1, l2, l3, l4, l5] [vI x0, vR (some a1)] h Q ↔ Rn r 24 58 [l0, l1, l2, l3, l4, l5] [] (putI h a1 68 x0) Q := Rn_nx pg24 rfl ((if_pos ⟨(hk ▸ Nat.le_refl _), (hk ▸ Nat.le_refl _)⟩).trans (if_pos hf))
theorem sX6_walk_58 : Rn r 24 58 [some (vR z), l1, l2, l3, l4, l5] [] h Q ↔ Rn r 24 59 [some (vR z), l1, l2, l3, l4, l5] [vR z] h Q := Rn_nx pg24 rfl rfl
theorem sX6_walk_59 : Rn r 24 59 [l0, l1, l2, l3, l4, l5] [vR z0] h Q ↔ Rn r 24 60 [l0, l1, l2, l3, l4, l5] [vI 0, vR z0] h Q := Rn_nx pg24 rfl rfl
theorem sX6_walk_60 (hk : hK h a1 = 15) : Rn r 24 60 [l0, l1, l2, l3, l4, l5] [vI x0, vR (some a1)] h Q ↔ Rn r 24 63 [l0, l1, l2, l3, l4, l5] [] (putI h a1 69 x0) Q := Rn_nx pg24 rfl ((if_pos ⟨(hk ▸ Nat.le_refl _), (hk ▸ Nat.le_refl _)⟩).trans rfl)
theorem sX6_walk_63 : Rn r 24 63 [some (vR z), l1, l2, l3, l4, l5] [] h Q ↔ Rn r 24 64 [some (vR z), l1, l2, l3, l4, l5] [vR z] h Q := Rn_nx pg24 rfl rfl
theorem sX6_walk_64 : Rn r 24 64 [some (vR z), l1, l2, l3, l4, l5] [vR z0] h Q ↔ Rn r 24 65 [some (vR z), l1, l2, l3, l4, l5] [vR z, vR z0] h Q := Rn_nx pg24 rfl rfl
theorem sX6_walk_65 (hk : hK h a0 = 15) : Rn r 24 65 [l0, l1, l2, l3, l4, l5] [vR (some a0), vR z1] h Q ↔ Rn r 24 68 [l0, l1, l2, l3, l4, l5] [vR (hR h a0 18), vR z1] h Q := Rn_nx pg24 rfl (if_pos ⟨(hk ▸ Nat.le_refl _), (hk ▸ Nat.le_refl _)⟩)
theorem sX6_walk_68 : Rn r 24 68 [some (vR z), l1, l2, l3, l4, l5] [vR z0, vR z1] h Q ↔ Rn r 24 69 [some (vR z), l1, l2, l3, l4, l5] [vR z, vR z0, vR z1] h Q := Rn_nx pg24 rfl rfl
theorem sX6_walk_69 (hk : hK h a0 = 15) : Rn r 24 69 [l0, l1, l2, l3, l4, l5] [vR (some a0), vR z1, vR z2] h Q ↔ Rn r 24 72 [l0, l1, l2, l3, l4, l5] [vI (hI h a0 2), vR z1, vR z2] h Q := Rn_nx pg24 rfl (if_pos ⟨(hk ▸ Nat.le_refl _), (hk ▸ Nat.le_refl _)⟩)
theorem sX6_walk_72 : Rn r 24 72 [l0, l1, l2, l3, l4, l5] [vI x0, vR z1, vR z2] h Q ↔ Rn r 24 74 [l0, l1, l2, l3, l4, l5] [vI 12, vI x0, vR z1, vR z2] h Q := Rn_nx pg24 rfl rfl
theorem sX6_walk_74 : Rn r 24 74 [l0, l1, l2, l3, l4, l5] [vI x0, vI x1, vR z2, vR z3] h Q ↔ Rn r 24 75 [l0, l1, l2, l3, l4, l5] [vI (x1 * x0), vR z2, vR z3] h Q := Rn_nx pg24 rfl rfl
theorem sX6_walk_75 : Rn r 24 75 [l0, some (vI x), l2, l3, l4, l5] [vI x0, vR z1, vR z2] h Q ↔ Rn r 24 76 [l0, some (vI x), l2, l3, l4, l5] [vI x, vI x0, vR z1, vR z2] h Q := Rn_nx pg24 rfl rfl
theorem sX6_walk_76 : Rn r 24 76 [l0, l1, l2, l3, l4, l5] [vI x0, vI x1, vR z2, vR z3] h Q ↔ Rn r 24 77 [l0, l1, l2, l3, l4, l5] [vI (x1 + x0), vR z2, vR z3] h Q := Rn_nx pg24 rfl rfl
theorem sX6_walk_77 (hk : 40 ≤ hK h a1) (hk2 : hK h a1 ≤ 41) (hx : ¬ (x0 < 0 ∨ hL h a1 ≤ x0.toNatClampNeg)) : Rn r 24 77 [l0, l1, l2, l3, l4, l5] [vI x0, vR (some a1), vR z2] h Q ↔ Rn r 24 78 [l0, l1, l2, l3, l4, l5] [vI (hI h a1 x0.toNatClampNeg), vR z2] h Q := Rn_nx pg24 rfl ((if_pos ⟨hk, hk2⟩).trans (if_neg hx))
theorem sX6_walk_78 (hk : hK h a1 = 15) : Rn r 24 78 [l0, l1, l2, l3, l4, l5] [vI x0, vR (some a1)] h Q ↔ Cl r 71 [vR (some a1), vI x0] h (Kt r 24 81 [l0, l1, l2, l3, l4, l5] [] Q) := Rn_call pg24 rfl (by simp only [am_exec, am_inv, am_pop, am_lk, hk]; rfl) pg71 rfl rfl rfl
theorem sX6_walk_81 : Rn r 24 81 [some (vR z), l1, l2, l3, l4, l5] [] h Q ↔ Rn r 24 82 [some (vR z), l1, l2, l3, l4, l5] [vR z] h Q := Rn_nx pg24 rfl rfl
theorem sX6_walk_82 (hk : hK h a0 = 15) : Rn r 24 82 [l0, l1, l2, l3, l4, l5] [vR (some a0)] h Q ↔ Rn r 24 85 [l0, l1, l2, l3, l4, l5] [vI (hI h a0 69)] h Q := Rn_nx pg24 rfl (if_pos ⟨(hk ▸ Nat.le_refl _), (hk ▸ Nat.le_refl _)⟩)
theorem sX6_walk_85 : Rn r 24 85 [l0, l1, l2, l3, l4, l5] [vI x0] h Q ↔ if x0 ≤ 0 then Rn r 24 181 [l0, l1, l2, l3, l4, l5] [] h Q else Rn r 24 88 [l0, l1, l2, l3, l4, l5] [] h Q := Rn_if pg24 rfl rfl rfl
theorem sX6_walk_88 : Rn r 24 88 [some (vR z), l1, l2, l3, l4, l5] [] h Q ↔ Rn r 24 89 [some (vR z), l1, l2, l3, l4, l5] [vR z] h Q := Rn_nx pg24 rfl rfl
theorem sX6_walk_89 (hk : hK h a0 = 15) : Rn r 24 89 [l0, l1, l2, l3, l4, l5] [vR (some a0)] h Q ↔ Rn r 24 92 [l0, l1, l2, l3, l4, l5] [vI (hI h a0 68)] h Q := Rn_nx pg24 rfl (if_pos ⟨(hk ▸ Nat.le_refl _), (hk ▸ Nat.le_refl _)⟩)
theorem sX6_walk_92 : Rn r 24 92 [l0, l1, l2, l3, l4, l5] [vI x0] h Q ↔ if x0 ≠ 0 then Rn r 24 181 [l0, l1, l2, l3, l4, l5] [] h Q else Rn r 24 95 [l0, l1, l2, l3, l4, l5] [] h Q := Rn_if pg24 rfl rfl rfl
theorem sX6_walk_95 : Rn r 24 95 [some (vR z), l1, l2, l3, l4, l5] [] h Q ↔ Rn r 24 96 [some (vR z), l1, l2, l3, l4, l5] [vR z] h Q := Rn_nx pg24 rfl rfl
theorem sX6_walk_96 (hk : hK h a0 = 15) : Rn r 24 96 [l0, l1, l2, l3, l4, l5] [vR (some a0)] h Q ↔ Rn r 24 99 [l0, l1, l2, l3, l4, l5] [vI (hI h a0 69)] h Q := Rn_nx pg24 rfl (if_pos ⟨(hk ▸ Nat.le_refl _), (hk ▸ Nat.le_refl _)⟩)
theorem sX6_walk_99 : Rn r 24 99 [l0, l1, l2, l3, l4, l5] [vI x0] h Q ↔ Rn r 24 100 [l0, l1, l2, l3, l4, l5] [vI 1, vI x0] h Q := Rn_nx pg24 rfl rfl
theorem sX6_walk_100 : Rn r 24 100 [l0, l1, l2, l3, l4, l5] [vI x0, vI x1] h Q ↔ Rn r 24 101 [l0, l1, l2, l3, l4, l5] [vI (x1 - x0)] h Q := Rn_nx pg24 rfl rfl
theorem sX6_walk_101 : Rn r 24 101 [l0, l1, l2, l3, l4, l5] [vI x0] h Q ↔ Rn r 24 103 [l0, l1, l2, l3, some (vI x0), l5] [] h Q := Rn_nx pg24 rfl rfl
theorem sX6_walk_103 : Rn r 24 103 [some (vR z), l1, l2, l3, l4, l5] [] h Q ↔ Rn r 24 104 [some (vR z), l1, l2, l3, l4, l5] [vR z] h Q := Rn_nx pg24 rfl rfl
theorem sX6_walk_104 (hk : hK h a0 = 15) : Rn r 24 104 [l0, l1, l2, l3, l4, l5] [vR (some a0)] h Q ↔ Rn r 24 107 [l0, l1, l2, l3, l4, l5] [vR (hR h a0 71)] h Q := Rn_nx pg24 rfl (if_pos ⟨(hk ▸ Nat.le_refl _), (hk ▸ Nat.le_refl _)⟩)
theorem sX6_walk_107 : Rn r 24 107 [l0, l1, l2, l3, some (vI x), l5] [vR z0] h Q ↔ Rn r 24 109 [l0, l1, l2, l3, some (vI x), l5] [vI x, vR z0] h Q := Rn_nx pg24 rfl rfl
theorem sX6_walk_109 (hk : 40 ≤ hK h a1) (hk2 : hK h a1 ≤ 41) (hx : ¬ (x0 < 0 ∨ hL h a1 ≤ x0.toNatClampNeg)) : Rn r 24 109 [l0, l1, l2, l3, l4, l5] [vI x0, vR (some a1)] h Q ↔ Rn r 24 110 [l0, l1, l2, l3, l4, l5] [vI (hI h a1 x0.toNatClampNeg)] h Q := Rn_nx pg24 rfl ((if_pos ⟨hk, hk2⟩).trans (if_neg hx))
theorem sX6_walk_110 : Rn r 24 110 [l0, l1, l2, l3, l4, l5] [vI x0] h Q ↔ Rn r 24 112 [l0, l1, l2, l3, l4, some (vI x0)] [] h Q := Rn_nx pg24 rfl rfl
theorem sX6_walk_112 : Rn r 24 112 [some (vR z), l1, l2, l3, l4, l5] [] h Q ↔ Rn r 24 113 [some (vR z), l1, l2, l3, l4, l5] [vR z] h Q := Rn_nx pg24 rfl rfl
theorem sX6_walk_113 (hk : hK h a0 = 15) : Rn r 24 113 [l0, l1, l2, l3, l4, l5] [vR (some a0)] h Q ↔ Rn r 24 116 [l0, l1, l2, l3, l4, l5] [vI (hI h a0 66)] h Q := Rn_nx pg24 rfl (if_pos ⟨(hk ▸ Nat.le_refl _), (hk ▸ Nat.le_refl _)⟩)
theorem sX6_walk_116 : Rn r 24 116 [l0, l1, l2, l3, l4, l5] [vI x0] h Q ↔ if x0 ≠ 0 then Rn r 24 155 [l0, l1, l2, l3, l4, l5] [] h Q else Rn r 24 119 [l0, l1, l2, l3, l4, l5] [] h Q := Rn_if pg24 rfl rfl rfl
theorem sX6_walk_119 : Rn r 24 119 [l0, l1, l2, l3, l4, some (vI x)] [] h Q ↔ Rn r 24 121 [l0, l1, l2, l3, l4, some (vI x)] [vI x] h Q := Rn_nx pg24 rfl rfl
theorem sX6_walk_121 : Rn r 24 121 [l0, l1, l2, l3, l4, l5] [vI x0] h Q ↔ Rn r 24 122 [l0, l1, l2, l3, l4, l5] [vI (-1), vI x0] h Q := Rn_nx pg24 rfl rfl
theorem sX6_walk_122 : Rn r 24 122 [l0, l1, l2, l3, l4, l5] [vI x0, vI x1] h Q ↔ if x1 = x0 then Rn r 24 155 [l0, l1, l2, l3, l4, l5] [] h Q else Rn r 24 125 [l0, l1, l2, l3, l4, l5] [] h Q := Rn_if pg24 rfl rfl rfl
theorem sX6_walk_125 : Rn r 24 125 [some (vR z), l1, l2, l3, l4, l5] [] h Q ↔ Rn r 24 126 [some (vR z), l1, l2, l3, l4, l5] [vR z] h Q := Rn_nx pg24 rfl rfl
theorem sX6_walk_126 (hk : hK h a0 = 15) : Rn r 24 126 [l0, l1, l2, l3, l4, l5] [vR (some a0)] h Q ↔ Rn r 24 129 [l0, l1, l2, l3, l4, l5] [vR (hR h a0 71)] h Q := Rn_nx pg24 rfl (if_pos ⟨(hk ▸ Nat.le_refl _), (hk ▸ Nat.le_refl _)⟩)
theorem sX6_walk_129 : Rn r 24 129 [l0, l1, l2, l3, some (vI x), l5] [vR z0] h Q ↔ Rn r 24 131 [l0, l1, l2, l3, some (vI x), l5] [vI x, vR z0] h Q := Rn_nx pg24 rfl rfl
theorem sX6_walk_131 : Rn r 24 131 [some (vR z), l1, l2, l3, l4, l5] [vI x0, vR z1] h Q ↔ Rn r 24 132 [some (vR z), l1, l2, l3, l4, l5] [vR z, vI x0, vR z1] h Q := Rn_nx pg24 rfl rfl
theorem sX6_walk_132 (hk : hK h a0 = 15) : Rn r 24 132 [l0, l1, l2, l3, l4, l5] [vR (some a0), vI x1, vR z2] h Q ↔ Rn r 24 135 [l0, l1, l2, l3, l4, l5] [vR (hR h a0 24), vI x1, vR z2] h Q := Rn_nx pg24 rfl (if_pos ⟨(hk ▸ Nat.le_refl _), (hk ▸ Nat.le_refl _)⟩)
theorem sX6_walk_135 : Rn r 24 135 [l0, l1, l2, l3, l4, some (vI x)] [vR z0, vI x1, vR z2] h Q ↔ Rn r 24 137 [l0, l1, l2, l3, l4, some (vI x)] [vI x, vR z0, vI x1, vR z2] h Q := Rn_nx pg24 rfl rfl
theorem sX6_walk_137 (hk : 40 ≤ hK h a1) (hk2 : hK h a1 ≤ 41) (hx : ¬ (x0 < 0 ∨ hL h a1 ≤ x0.toNatClampNeg)) : Rn r 24 137 [l0, l1, l2, l3, l4, l5] [vI x0, vR (some a1), vI x2, vR z3] h Q ↔ Rn r 24 138 [l0, l1, l2, l3, l4, l5] [vI (hI h a1 x0.toNatClampNeg), vI x2, vR z3] h Q := Rn_nx pg24 rfl ((if_pos ⟨hk, hk2⟩).trans (if_neg hx))
theorem sX6_walk_138 (hk : hK h a2 = 40) (hx : ¬ (x1 < 0 ∨ hL h a2 ≤ x1.toNatClampNeg)) : Rn r 24 138 [l0, l1, l2, l3, l4, l5] [vI x0, vI x1, vR (some a2)] h Q ↔ Rn r 24 139 [l0, l1, l2, l3, l4, l5] [] (putI h a2 x1.toNatClampNeg x0) Q := Rn_nx pg24 rfl ((if_pos hk).trans (if_neg hx))
theorem sX6_walk_139 : Rn r 24 139 [some (vR z), l1, l2, l3, l4, l5] [] h Q ↔ Rn r 24 140 [some (vR z), l1, l2, l3, l4, l5] [vR z] h Q := Rn_nx pg24 rfl rfl
theorem sX6_walk_140 (hk : hK h a0 = 15) : Rn r 24 140 [l0, l1, l2, l3, l4, l5] [vR (some a0)] h Q ↔ Cl r 72 [vR (some a0)] h (Kt r 24 143 [l0, l1, l2, l3, l4, l5] [] Q) := Rn_call pg24 rfl (by simp only [am_exec, am_inv, am_pop, am_lk, hk]; rfl) pg72 rfl rfl rfl
theorem sX6_walk_143 : Rn r 24 143 [l0, l1, l2, l3, l4, l5] [vI x0] h Q ↔ if x0 = 0 then Rn r 24 178 [l0, l1, l2, l3, l4, l5] [] h Q else Rn r 24 146 [l0, l1, l2, l3, l4, l5] [] h Q := Rn_if pg24 rfl rfl rfl
theorem sX6_walk_146 : Rn r 24 146 [some (vR z), l1, l2, l3, l4, l5] [] h Q ↔ Rn r 24 147 [some (vR z), l1, l2, l3, l4, l5] [vR z] h Q := Rn_nx pg24 rfl rfl
theorem sX6_walk_147 : Rn r 24 147 [l0, l1, l2, l3, l4, some (vI x)] [vR z0] h Q ↔ Rn r 24 149 [l0, l1, l2, l3, l4, some (vI x)] [vI x, vR z0] h Q := Rn_nx pg24 rfl rfl
theorem sX6_walk_149 (hk : hK h a1 = 15) : Rn r 24 149 [l0, l1, l2, l3, l4, l5] [vI x0, vR (some a1)] h Q ↔ Cl r 73 [vR (some a1), vI x0] h (Kt r 24 152 [l0, l1, l2, l3, l4, l5] [] Q) := Rn_call pg24 rfl (by simp only [am_exec, am_inv, am_pop, am_lk, hk]; rfl) pg73 rfl rfl rfl
theorem sX6_walk_152 : Rn r 24 152 [l0, l1, l2, l3, l4, l5] [] h Q ↔ Rn r 24 178 [l0, l1, l2, l3, l4, l5] [] h Q := Rn_nx pg24 rfl rfl
theorem sX6_walk_155 : Rn r 24 155 [some (vR z), l1, l2, l3, l4, l5] [] h Q ↔ Rn r 24 156 [some (vR z), l1, l2, l3, l4, l5] [vR z] h Q := Rn_nx pg24 rfl rfl
theorem sX6_walk_156 : Rn r 24 156 [l0, l1, l2, l3, l4, l5] [vR z0] h Q ↔ Rn r 24 157 [l0, l1, l2, l3, l4, l5] [vR z0, vR z0] h Q := Rn_nx pg24 rfl rfl
theorem sX6_walk_157 (hk : hK h a0 = 15) : Rn r 24 157 [l0, l1, l2, l3, l4, l5] [vR (some a0), vR z1] h Q ↔ Rn r 24 160 [l0, l1, l2, l3, l4, l5] [vI (hI h a0 69), vR z1] h Q := Rn_nx pg24 rfl (if_pos ⟨(hk ▸ Nat.le_refl _), (hk ▸ Nat.le_refl _)⟩)
theorem sX6_walk_160 : Rn r 24 160 [l0, l1, l2, l3, l4, l5] [vI x0, vR z1] h Q ↔ Rn r 24 161 [l0, l1, l2, l3, l4, l5] [vI 1, vI x0, vR z1] h Q := Rn_nx pg24 rfl rfl
theorem sX6_walk_161 : Rn r 24 161 [l0, l1, l2, l3, l4, l5] [vI x0, vI x1, vR z2] h Q ↔ Rn r 24 162 [l0, l1, l2, l3, l4, l5] [vI (x1 - x0), vR z2] h Q := Rn_nx pg24 rfl rfl
theorem sX6_walk_162 (hk : hK h a1 = 15) : Rn r 24 162 [l0, l1, l2, l3, l4, l5] [vI x0, vR (some a1)] h Q ↔ Rn r 24 165 [l0, l1, l2, l3, l4, l5] [] (putI h a1 69 x0) Q := Rn_nx pg24 rfl ((if_pos ⟨(hk ▸ Nat.le_refl _), (hk ▸ Nat.le_refl _)⟩).trans rfl)
theorem sX6_walk_165 : Rn r 24 165 [some (vR z), l1, l2, l3, l4, l5] [] h Q ↔ Rn r 24 166 [some (vR z), l1, l2, l3, l4, l5] [vR z] h Q := Rn_nx pg24 rfl rfl
theorem sX6_walk_166 : Rn r 24 166 [some (vR z), l1, l2, l3, l4, l5] [vR z0] h Q ↔ Rn r 24 167 [some (vR z), l1, l2, l3, l4, l5] [vR z, vR z0] h Q := Rn_nx pg24 rfl rfl
theorem sX6_walk_167 (hk : hK h a0 = 15) : Rn r 24 167 [l0, l1, l2, l3, l4, l5] [vR (some a0), vR z1] h Q ↔ Rn r 24 170 [l0, l1, l2, l3, l4, l5] [vR (hR h a0 70), vR z1] h Q := Rn_nx pg24 rfl (if_pos ⟨(hk ▸ Nat.le_refl _), (hk ▸ Nat.le_refl _)⟩)
theorem sX6_walk_170 : Rn r 24 170 [l0, l1, l2, l3, some (vI x), l5] [vR z0, vR z1] h Q ↔ Rn r 24 172 [l0, l1, l2, l3, some (vI x), l5] [vI x, vR z0, vR z1] h Q := Rn_nx pg24 rfl rfl
theorem sX6_walk_172 (hk : 40 ≤ hK h a1) (hk2 : hK h a1 ≤ 41) (hx : ¬ (x0 < 0 ∨ hL h a1 ≤ x0.toNatClampNeg)) : Rn r 24 172 [l0, l1, l2, l3, l4, l5] [vI x0, vR (some a1), vR z2] h Q ↔ Rn r 24 173 [l0, l1, l2, l3, l4, l5] [vI (hI h a1 x0.toNatClampNeg), vR z2] h Q := Rn_nx pg24 rfl ((if_pos ⟨hk, hk2⟩).trans (if_neg hx))
theorem sX6_walk_173 : Rn r 24 173 [l0, l1, l2, l3, some (vI x), l5] [vI x0, vR z1] h Q ↔ Rn r 24 175 [l0, l1, l2, l3, some (vI x), l5] [vI x, vI x0, vR z1] h Q := Rn_nx pg24 rfl rfl
theorem sX6_walk_175 (hk : hK h a2 = 15) : Rn r 24 175 [l0, l1, l2, l3, l4, l5] [vI x0, vI x1, vR (some a2)] h Q ↔ Cl r 74 [vR (some a2), vI x1, vI x0] h (Kt r 24 178 [l0, l1, l2, l3, l4, l5] [] Q) := Rn_call pg24 rfl (by simp only [am_exec, am_inv, am_pop, am_lk, hk]; rfl) pg74 rfl rfl rfl
theorem sX6_walk_178 : Rn r 24 178 [l0, l1, l2, l3, l4, l5] [] h Q ↔ Rn r 24 81 [l0, l1, l2, l3, l4, l5] [] h Q := Rn_nx pg24 rfl rfl
theorem sX6_walk_181 : Rn r 24 181 [some (vR z), l1, l2, l3, l4, l5] [] h Q ↔ Rn r 24 182 [some (vR z), l1, l2, l3, l4, l5] [vR z] h Q := Rn_nx pg24 rfl rfl
theorem sX6_walk_182 (hk : hK h a0 = 15) : Rn r 24 182 [l0, l1, l2, l3, l4, l5] [vR (some a0)] h Q ↔ Rn r 24 185 [l0, l1, l2, l3, l4, l5] [vI (hI h a0 68)] h Q := Rn_nx pg24 rfl (if_pos ⟨(hk ▸ Nat.le_refl _), (hk ▸ Nat.le_refl _)⟩)
theorem sX6_walk_185 : Rn r 24 185 [l0, l1, l2, l3, l4, l5] [vI x0] h Q ↔ if x0 = 0 then Rn r 24 193 [l0, l1, l2, l3, l4, l5] [] h Q else Rn r 24 188 [l0, l1, l2, l3, l4, l5] [] h Q := Rn_if pg24 rfl rfl rfl
theorem sX6_walk_188 : Rn r 24 188 [l0, l1, l2, l3, l4, l5] [] h Q ↔ Rn r 24 190 [l0, l1, l2, l3, l4, l5] [vI (-2)] h Q := Rn_nx pg24 rfl rfl
theorem sX6_walk_190 : Rn r 24 190 [l0, l1, l2, l3, l4, l5] [vI x0] h Q ↔ Rn r 24 209 [l0, l1, l2, l3, l4, l5] [vI x0] h Q := Rn_nx pg24 rfl rfl
theorem sX6_walk_193 : Rn r 24 193 [some (vR z), l1, l2, l3, l4, l5] [] h Q ↔ Rn r 24 194 [some (vR z), l1, l2, l3, l4, l5] [vR z] h Q := Rn_nx pg24 rfl rfl
theorem sX6_walk_194 (hk : hK h a0 = 15) : Rn r 24 194 [l0, l1, l2, l3, l4, l5] [vR (some a0)] h Q ↔ Rn r 24 197 [l0, l1, l2, l3, l4, l5] [vI (hI h a0 66)] h Q := Rn_nx pg24 rfl (if_pos ⟨(hk ▸ Nat.le_refl _), (hk ▸ Nat.le_refl _)⟩)
theorem sX6_walk_197 : Rn r 24 197 [l0, l1, l2, l3, l4, l5] [vI x0] h Q ↔ Rn r 24 198 [l0, l1, l2, l3, l4, l5] [vI 1, vI x0] h Q := Rn_nx pg24 rfl rfl
theorem sX6_walk_198 : Rn r 24 198 [l0, l1, l2, l3, l4, l5] [vI x0, vI x1] h Q ↔ if x1 ≠ x0 then Rn r 24 208 [l0, l1, l2, l3, l4, l5] [] h Q else Rn r 24 201 [l0, l1, l2, l3, l4, l5] [] h Q := Rn_if pg24 rfl rfl rfl
theorem sX6_walk_201 : Rn r 24 201 [some (vR z), l1, l2, l3, l4, l5] [] h Q ↔ Rn r 24 202 [some (vR z), l1, l2, l3, l4, l5] [vR z] h Q := Rn_nx pg24 rfl rfl
theorem sX6_walk_202 (hk : hK h a0 = 15) : Rn r 24 202 [l0, l1, l2, l3, l4, l5] [vR (some a0)] h Q ↔ Rn r 24 205 [l0, l1, l2, l3, l4, l5] [vI (hI h a0 67)] h Q := Rn_nx pg24 rfl (if_pos ⟨(hk ▸ Nat.le_refl _), (hk ▸ Nat.le_refl _)⟩)
theorem sX6_walk_205 : Rn r 24 205 [l0, l1, l2, l3, l4, l5] [vI x0] h Q ↔ Rn r 24 209 [l0, l1, l2, l3, l4, l5] [vI x0] h Q := Rn_nx pg24 rfl rfl
theorem sX6_walk_208 : Rn r 24 208 [l0, l1, l2, l3, l4, l5] [] h Q ↔ Rn r 24 209 [l0, l1, l2, l3, l4, l5] [vI (-1)] h Q := Rn_nx pg24 rfl rfl
theorem sX6_walk_209 : Rn r 24 209 [l0, l1, l2, l3, l4, l5] [vI x0] h Q ↔ Q (Sum.inl (some (vI x0))) h := Rn_end pg24 rfl rfl
end ST0
